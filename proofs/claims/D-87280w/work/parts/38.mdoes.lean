/-! who sleeps longest; telling; what a job does next -/
def rflS (s : St) : Nat := sumN 8 (fun j => 2 - s j 2 - s j 6)
def LI1 (s : St) (L : nz_f2) : Prop := L 13 13 = n32 0 ∨ ∃ i, L 13 26 = n32 i ∧ i + rflS s ≤ 16
theorem sumN_ge {f : Nat → Nat} {j : Nat} : ∀ {n : Nat}, j < n → f j ≤ sumN n f := by
  intro n
  induction n with
  | zero => intro h; omega
  | succ n ih =>
    intro h
    rw [sumN]
    by_cases e : j = n
    · rw [e]; omega
    · have := ih (by omega); omega
theorem LI1.get {s : St} {L : nz_f2} (h : LI1 s L) {j : Nat} (hj : j < 8) (h1 : s j 2 + s j 6 ≤ 1) : L 13 13 ≠ n32 0 → ∃ i, i < 16 ∧ L 13 26 = n32 i := by
  intro hr
  rcases h with h | ⟨i, h2, h3⟩
  · exact absurd h hr
  · have : 2 - s j 2 - s j 6 ≤ rflS s := sumN_ge (f := fun j => 2 - s j 2 - s j 6) hj
    exact ⟨i, by omega, h2⟩
theorem rflS_upj {s : St} {j : Nat} {r : Nat → Nat} (hj : j < 8) : rflS (upj s j r) + (2 - s j 2 - s j 6) = rflS s + (2 - r 2 - r 6) := by
  have := sumN_upd (f := fun k => 2 - upj s j r k 2 - upj s j r k 6) (g := fun k => 2 - s k 2 - s k 6) (j := j) 8 hj (fun k _ hne => by simp only [upj_ne hne])
  simp only [upj_self] at this
  unfold rflS
  exact this
theorem LI1.upj {s : St} {L L' : nz_f2} {j : Nat} {r : Nat → Nat} (h : LI1 s L) (hj : j < 8) (e1 : L' 13 13 = L 13 13) (e2 : L' 13 26 = L 13 26) (hr : 2 - r 2 - r 6 ≤ 2 - s j 2 - s j 6) : LI1 (upj s j r) L' := by
  have := rflS_upj (s := s) (r := r) hj
  rcases h with h | ⟨i, h2, h3⟩
  · exact Or.inl (e1.trans h)
  · exact Or.inr ⟨i, e2.trans h2, by omega⟩
theorem incL_13 {L : nz_f2} {kd j b : Nat} (h : kd ≠ 13) : incL L kd j 13 b = L 13 b := by
  unfold incL
  cases decide (L 13 13 = n32 0)
  · exact u2_ne (Ne.symm h)
  · rfl
theorem LI1.ill {s : St} {L : nz_f2} {j kd : Nat} (h : LI1 s L) (hj : j < 8) (hk : kd ≠ 13) {X : St} (hX : ∀ a f, a ≠ j → X a f = s a f) (x2 : X j 2 = s j 2) (x6 : X j 6 = s j 6) : LI1 (goesS X j) (incL L kd j) ∧ LI1 (goesS X j) L := by
  rw [goes_upj hX]
  exact ⟨h.upj hj (incL_13 hk) (incL_13 hk) (by simp [x2, x6]), h.upj hj rfl rfl (by simp [x2, x6])⟩
theorem refL_13 {t s : St} {L : nz_f2} {j i b : Nat} (hb : b ≠ 26) : refL t s L j i 13 b = L 13 b := by
  unfold refL ringL
  rw [u2_ne (by decide), if_neg (by omega), u2_ne (by decide), u2_ne (by decide), u2_ne (by decide), u2_ne (by decide)]
  unfold nz_u2; rw [if_neg (by omega)]
theorem refL_26 {t s : St} {L : nz_f2} {j i : Nat} : refL t s L j i 13 26 = n32 (i + 1) := by
  unfold refL ringL
  rw [u2_ne (by decide), if_neg (by omega), u2_ne (by decide), u2_ne (by decide), u2_ne (by decide), u2_ne (by decide), u2_eq]
theorem LI1.comes {t s : St} {L : nz_f2} {j : Nat} (hI : INV t s) (h : LI1 s L) (hj : j < 8) (hm : s j 1 = 0 ∨ s j 1 = 2) : LI1 (comesS t s j) (comesL t s L j) := by
  obtain ⟨-, -, -, ⟨d1, d2, d3, d4⟩, -⟩ := hI.J hj
  have h6 : s j 6 = 0 := by
    rcases (by omega : s j 6 = 0 ∨ s j 6 = 1) with hh | hh
    · exact hh
    · have := d4 hh; omega
  unfold comesS comesL
  cases hr : refS t (coms s j) j with
  | false =>
    rw [Bool.false_and, cond_false, cond_false, coms_upj]
    exact h.upj hj rfl rfl (by simp)
  | true =>
    rw [Bool.true_and, cond_true]
    rcases h with h | ⟨i, h2, h3⟩
    · left
      rw [decide_eq_true h]; exact h
    · by_cases h0 : L 13 13 = n32 0
      · left; rw [decide_eq_true h0]; exact h0
      · right
        rw [decide_eq_false h0]
        have hge : 2 - s j 2 - s j 6 ≤ rflS s := sumN_ge (f := fun j => 2 - s j 2 - s j 6) hj
        have hix : nz_ix (L 13 26) = i := by rw [h2, n32_ix (by omega)]
        refine ⟨i + 1, ?_, ?_⟩
        · show refL t (coms s j) L j (nz_ix (L 13 26)) 13 26 = n32 (i + 1)
          rw [refL_26, hix]
        · cases hg : grdS t s j with
          | true =>
            have := rflS_upj (s := s) (r := fun f => if f = 0 then (if t 61 j < t 57 j then t 61 j else t 57 j) else if f = 1 ∨ f = 3 ∨ f = 4 then 0 else if f = 2 then 1 else s j f) hj
            unfold grdS at hg
            simp only [Bool.and_eq_true, decide_eq_true_eq] at hg
            have e : rflS (comesG t s j) + (2 - s j 2 - s j 6) = rflS s + (2 - 1 - s j 6) := this
            rw [cond_true]
            omega
          | false =>
            have := rflS_upj (s := s) (r := fun f => if f = 1 then 3 else if f = 2 ∨ f = 6 then 1 else if f = 3 ∨ f = 4 ∨ f = 5 ∨ (8 ≤ f ∧ f < 18) then 0 else s j f) hj
            have e : rflS (comesE s j) + (2 - s j 2 - s j 6) = rflS s + (2 - 1 - 1) := this
            rw [cond_false]
            omega
def slpF (t s : St) (m : Nat) : Nat → Option Nat
  | 0 => none
  | n + 1 => cond (decide (s n 1 = 2) && decide (onS t s n = m) && (match slpF t s m n with
    | none => true
    | some x => decide (s n 7 < s x 7))) (some n) (slpF t s m n)
def o2i (o : Option Nat) : Int32 := match o with
  | none => nm1
  | some k => n32 k
theorem slpF_some {t s : St} {m x : Nat} : ∀ {n : Nat}, slpF t s m n = some x → x < n ∧ s x 1 = 2 ∧ onS t s x = m := by
  intro n
  induction n with
  | zero => intro h; cases h
  | succ n ih =>
    intro h
    rw [slpF] at h
    cases hc : (decide (s n 1 = 2) && decide (onS t s n = m) && (match slpF t s m n with
      | none => true
      | some x => decide (s n 7 < s x 7))) with
    | true =>
      rw [hc] at h
      cases h
      simp only [Bool.and_eq_true, decide_eq_true_eq] at hc
      exact ⟨by omega, hc.1.1, hc.1.2⟩
    | false =>
      rw [hc] at h
      obtain ⟨a, b⟩ := ih h
      exact ⟨by omega, b⟩
abbrev Pr : Type := St × nz_f2
def comesP (t : St) (p : Pr) (k : Nat) : Pr := (comesS t p.1 k, comesL t p.1 p.2 k)
def tellP (t : St) (m : Nat) (all : Bool) : Nat → Pr → Pr
  | 0, p => p
  | n + 1, p => match slpF t p.1 m 8 with
    | none => p
    | some k => cond all (tellP t m all n (comesP t (p.1, incL p.2 70 k) k)) (comesP t (p.1, incL p.2 70 k) k)
section
variable {P : Nat × (Nat → Int32)} {d : Nat} {t s : St} {L Z : nz_f2} {C : nz_f5}
theorem o2i_m1 {o : Option Nat} (h : ∀ k, o = some k → k < 1000) : (o2i o = nm1) = (o = none) := by
  cases o with
  | none => simp [o2i]
  | some k =>
    have := h k rfl
    simp only [o2i]
    rw [l_eqm1 (by omega)]; simp
theorem m_sleeper {m : Nat} (hT : TV t) (hI : INV t s) (hd : 4 ≤ d) (hm : m < 10) (Q : Int32 → nz_h → Prop) : ctI P d 143 [mO, vi (n32 m)] (rowf t, rowf s, L, Z, C) Q = Q (o2i (slpF t s m 8)) (rowf t, rowf s, L, Z, C) := by
  obtain ⟨d, rfl⟩ := dge hd
  refine ctI_det (fun Q hq => sm143 ?_) Q
  have hB := hI.B
  have loop : ∀ n k, n + k = 8 → nzW P (d + 3) az_k143 4 [some mO, some (vi (n32 m)), some (vi (o2i (slpF t s m k))), some (vi (n32 k))] [] (rowf t, rowf s, L, Z, C) (nz_RI Q) := by
    intro n
    induction n with
    | zero =>
      intro k hk
      obtain rfl : k = 8 := by omega
      refine sg143_4 ?_
      simp (disch := first | omega | (refine Nat.lt_of_lt_of_le (hB _ _) ?_; omega)) only [decide_eq_true_eq, decide_eq_false_iff_not, L32, az01, b2i_01, b2i_n0, b2i_n1, Bool.and_true, true_and, and_true, Classical.not_not, Bool.not_eq_true, Bool.not_eq_false, n32_mul, n32_add, n32_ix, n32_ib, n32_lt, n32_le, n32_inj, l_hb, l_hb0, l_shl, l_wo, l_eqm1, l_m1eq]
      exact ⟨fun _ => hq, fun hc => by omega⟩
    | succ n ih =>
      intro k hk
      refine sg143_4 ?_
      have hk8 : k < 8 := by omega
      have h2 := ih (k + 1) (by omega)
      rw [slpF] at h2
      by_cases h1 : s k 1 = 2
      · have hA := hI.av hT hk8 (Or.inr h1)
        have hp := hA.1
        have hon : onS t s k < 1024 := hT.2.2.2.2.1 _
        by_cases hom : onS t s k = m
        · cases hsl : slpF t s m k with
          | none =>
            rw [hsl, decide_eq_true h1, decide_eq_true hom] at h2
            simp (disch := first | omega | (refine Nat.lt_of_lt_of_le (hB _ _) ?_; omega)) only [decide_eq_true_eq, decide_eq_false_iff_not, L32, az01, b2i_01, b2i_n0, b2i_n1, Bool.and_true, true_and, and_true, Classical.not_not, Bool.not_eq_true, Bool.not_eq_false, n32_mul, n32_add, n32_ix, n32_ib, n32_lt, n32_le, n32_inj, l_hb, l_hb0, l_shl, l_wo, l_eqm1, l_m1eq, m_getr, m_on hB, h1, hom, o2i, not_true_eq_false, false_implies]
            exact ⟨fun hc => by omega, fun _ _ _ _ => h2⟩
          | some x =>
            obtain ⟨hx1, hx2, hx3⟩ := slpF_some hsl
            rw [hsl, decide_eq_true h1, decide_eq_true hom] at h2
            simp (disch := first | omega | (refine Nat.lt_of_lt_of_le (hB _ _) ?_; omega)) only [decide_eq_true_eq, decide_eq_false_iff_not, L32, az01, b2i_01, b2i_n0, b2i_n1, Bool.and_true, true_and, and_true, Classical.not_not, Bool.not_eq_true, Bool.not_eq_false, n32_mul, n32_add, n32_ix, n32_ib, n32_lt, n32_le, n32_inj, l_hb, l_hb0, l_shl, l_wo, l_eqm1, l_m1eq, m_getr, m_on hB, h1, hom, o2i, not_true_eq_false, false_implies, show ¬ 8 ≤ k by omega, true_implies]
            dsimp only at h2
            refine fun _ _ => ⟨fun hle => ?_, fun hle => ?_⟩
            · rw [decide_eq_false (by omega)] at h2
              exact h2
            · rw [decide_eq_true (by omega)] at h2
              exact h2
        · rw [decide_eq_true h1, decide_eq_false hom] at h2
          simp (disch := first | omega | (refine Nat.lt_of_lt_of_le (hB _ _) ?_; omega)) only [decide_eq_true_eq, decide_eq_false_iff_not, L32, az01, b2i_01, b2i_n0, b2i_n1, Bool.and_true, true_and, and_true, Classical.not_not, Bool.not_eq_true, Bool.not_eq_false, n32_mul, n32_add, n32_ix, n32_ib, n32_lt, n32_le, n32_inj, l_hb, l_hb0, l_shl, l_wo, l_eqm1, l_m1eq, m_getr, m_on hB, h1, hom, not_true_eq_false, false_implies]
          exact ⟨fun hc => by omega, fun _ _ _ => h2⟩
      · rw [decide_eq_false h1] at h2
        simp (disch := first | omega | (refine Nat.lt_of_lt_of_le (hB _ _) ?_; omega)) only [decide_eq_true_eq, decide_eq_false_iff_not, L32, az01, b2i_01, b2i_n0, b2i_n1, Bool.and_true, true_and, and_true, Classical.not_not, Bool.not_eq_true, Bool.not_eq_false, n32_mul, n32_add, n32_ix, n32_ib, n32_lt, n32_le, n32_inj, l_hb, l_hb0, l_shl, l_wo, l_eqm1, l_m1eq, m_getr, h1]
        exact ⟨fun hc => by omega, fun _ => ⟨fun _ => h2, fun hc => hc.elim⟩⟩
  exact loop 8 0 rfl
end
