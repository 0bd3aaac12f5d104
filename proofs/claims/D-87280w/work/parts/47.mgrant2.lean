/-! grants: contracts -/
def lrnB (s : St) (j b : Nat) (L : nz_f2) (i : Nat) : Bool := hasS s j (i / 10) && b.testBit (i % 10) && !decide (i / 10 = i % 10) && decide (L 85 i = n32 0)
def lrn1 (s : St) (j b : Nat) (L : nz_f2) (i : Nat) : nz_f2 := cond (lrnB s j b L i) (nz_u2 (nz_u2 (nz_u2 (nz_u2 (nz_u2 (nz_u2 L 85 i (n32 1)) 81 (nz_ix (L 13 34)) (n32 (i / 10))) 82 (nz_ix (L 13 34)) (n32 (i % 10))) 83 (nz_ix (L 13 34)) (n32 j)) 84 (nz_ix (L 13 34)) (n32 (s j 0))) 13 34 (n32 (nz_ix (L 13 34) + 1))) L
def lrnN (s : St) (j b : Nat) (L : nz_f2) : Nat → nz_f2
  | 0 => L
  | i + 1 => lrn1 s j b (lrnN s j b L i) i
def ordB (L : nz_f2) (i : Nat) : Bool := !decide (L 85 i = n32 0)
def LI3 (L : nz_f2) : Prop := L 13 34 = n32 (cnt 100 (ordB L))
def LI2 (s : St) (L : nz_f2) : Prop := L 13 13 = n32 0 ∨ ∃ g, L 13 22 = n32 g ∧ g + remS s ≤ 360
def grantL (t s : St) (L : nz_f2) (j : Nat) : nz_f2 := cond (decide (L 13 13 = n32 0)) L
  (nz_u2 (nz_u2 (nz_u2 (nz_u2 (nz_u2 (lrnN s j (askS t s j) L 100) 72 (nz_ix (L 13 22)) (n32 j)) 73 (nz_ix (L 13 22)) (n32 (s j 0))) 74 (nz_ix (L 13 22)) (n32 (askS t s j))) 71 j (L 71 j + n32 1)) 13 22 (n32 (nz_ix (L 13 22) + 1)))
def tryP (t : St) : Nat → Pr → Pr
  | 0, p => p
  | k + 1, p => cond (triS t (tryP t k p).1 k) (cond (decide ((tryP t k p).1 k 3 + 1 < t 60 (20 * k + (tryP t k p).1 k 0))) (up (tryP t k p).1 k 3 ((tryP t k p).1 k 3 + 1), (tryP t k p).2) (passS (tryP t k p).1 k, incL (tryP t k p).2 69 k)) (tryP t k p)
def grantP (t : St) (p : Pr) (j : Nat) : Pr := tryP t 8 (getsS t p.1 j, grantL t p.1 p.2 j)
theorem lrn1_keep {s : St} {j b i a x : Nat} {L : nz_f2} (h : a ≠ 81 ∧ a ≠ 82 ∧ a ≠ 83 ∧ a ≠ 84 ∧ a ≠ 85 ∧ ¬ (a = 13 ∧ x = 34)) : lrn1 s j b L i a x = L a x := by
  unfold lrn1
  cases lrnB s j b L i with
  | false => rfl
  | true =>
    obtain ⟨h1, h2, h3, h4, h5, h6⟩ := h
    rw [cond_true]
    have : ∀ (f : nz_f2) v, nz_u2 f 13 34 v a x = f a x := fun f v => by unfold nz_u2; rw [if_neg h6]
    rw [this, u2_ne h4, u2_ne h3, u2_ne h2, u2_ne h1, u2_ne h5]
theorem lrnN_keep {s : St} {j b a x : Nat} {L : nz_f2} (h : a ≠ 81 ∧ a ≠ 82 ∧ a ≠ 83 ∧ a ≠ 84 ∧ a ≠ 85 ∧ ¬ (a = 13 ∧ x = 34)) : ∀ i, lrnN s j b L i a x = L a x := by
  intro i
  induction i with
  | zero => rfl
  | succ i ih => rw [lrnN, lrn1_keep h, ih]
theorem lrn1_LI3 {s : St} {j b i : Nat} {L : nz_f2} (hi : i < 100) (h : LI3 L) : LI3 (lrn1 s j b L i) := by
  unfold lrn1
  cases hb : lrnB s j b L i with
  | false => exact h
  | true =>
    have h0 : L 85 i = n32 0 := by unfold lrnB at hb; simp only [Bool.and_eq_true, decide_eq_true_eq] at hb; exact hb.2
    have hc := cnt_le 100 (ordB L)
    unfold LI3 at h ⊢
    rw [cond_true, u2_eq, h, n32_ix (by omega)]
    have e : ∀ k, ordB (nz_u2 (nz_u2 (nz_u2 (nz_u2 (nz_u2 (nz_u2 L 85 i (n32 1)) 81 (cnt 100 (ordB L)) (n32 (i / 10))) 82 (cnt 100 (ordB L)) (n32 (i % 10))) 83 (cnt 100 (ordB L)) (n32 j)) 84 (cnt 100 (ordB L)) (n32 (s j 0))) 13 34 (n32 (cnt 100 (ordB L) + 1))) k = if k = i then true else ordB L k := by
      intro k
      unfold ordB
      rw [u2_ne (by decide), u2_ne (by decide), u2_ne (by decide), u2_ne (by decide), u2_ne (by decide)]
      unfold nz_u2
      by_cases hk : k = i
      · rw [if_pos ⟨rfl, hk⟩, if_pos hk]; rfl
      · rw [if_neg (fun hh => hk hh.2), if_neg hk]
    have := cnt_upd (p := ordB (nz_u2 (nz_u2 (nz_u2 (nz_u2 (nz_u2 (nz_u2 L 85 i (n32 1)) 81 (cnt 100 (ordB L)) (n32 (i / 10))) 82 (cnt 100 (ordB L)) (n32 (i % 10))) 83 (cnt 100 (ordB L)) (n32 j)) 84 (cnt 100 (ordB L)) (n32 (s j 0))) 13 34 (n32 (cnt 100 (ordB L) + 1)))) (q := ordB L) (j := i) (by rw [e, if_pos rfl]) (by unfold ordB; rw [decide_eq_true h0]; rfl) 100 hi (fun k _ hne => by rw [e, if_neg hne])
    exact congrArg n32 this
theorem lrnN_LI3 {s : St} {j b : Nat} {L : nz_f2} (h : LI3 L) : ∀ i, i ≤ 100 → LI3 (lrnN s j b L i) := by
  intro i
  induction i with
  | zero => intro _; exact h
  | succ i ih => intro hi; exact lrn1_LI3 (by omega) (ih (by omega))
theorem grantL_keep {t s : St} {j a x : Nat} {L : nz_f2} (h : a ≠ 81 ∧ a ≠ 82 ∧ a ≠ 83 ∧ a ≠ 84 ∧ a ≠ 85 ∧ ¬ (a = 13 ∧ x = 34)) (h2 : a ≠ 71 ∧ a ≠ 72 ∧ a ≠ 73 ∧ a ≠ 74 ∧ ¬ (a = 13 ∧ x = 22)) : grantL t s L j a x = L a x := by
  unfold grantL
  cases decide (L 13 13 = n32 0) with
  | true => rfl
  | false =>
    obtain ⟨h3, h4, h5, h6, h7⟩ := h2
    rw [cond_false]
    have : ∀ (f : nz_f2) v, nz_u2 f 13 22 v a x = f a x := fun f v => by unfold nz_u2; rw [if_neg h7]
    rw [this, u2_ne h3, u2_ne h6, u2_ne h5, u2_ne h4]
    exact lrnN_keep h 100
section
variable {t s : St} {j : Nat} {L : nz_f2}
theorem try_upj : up s j 3 (s j 3 + 1) = upj s j (fun f => if f = 3 then s j 3 + 1 else s j f) := by funext a f; simp only [up, upj]; (repeat' split) <;> (first | rfl | omega | (exfalso; omega) | (simp_all; done) | (simp_all; omega))
theorem INV_try (hT : TV t) (h : INV t s) (hj : j < 8) (ht : triS t s j = true) (hw : s j 3 + 1 < t 60 (20 * j + s j 0)) : INV t (up s j 3 (s j 3 + 1)) ∧ mu (up s j 3 (s j 3 + 1)) = mu s ∧ remS (up s j 3 (s j 3 + 1)) = remS s := by
  rw [try_upj]
  have ht' := ht
  unfold triS at ht
  simp only [Bool.and_eq_true, decide_eq_true_eq] at ht
  have hw9 := hT.2.2.2.2.2.2.1 (20 * j + s j 0) ht.2
  obtain ⟨R, hR⟩ : ∃ R : Nat → Nat, R = (fun f => if f = 3 then s j 3 + 1 else s j f) := ⟨_, rfl⟩
  have ef : ∀ f, f ≠ 3 → R f = s j f := fun f hf => by rw [hR]; simp only []; rw [if_neg hf]
  have e3 : R 3 = s j 3 + 1 := by rw [hR]; simp
  rw [← hR]
  have hJ := h.J hj
  have eo : opR t j R = opR t j (s j) := by unfold opR; rw [ef 0 (by decide)]
  have en : onR t j R = onR t j (s j) := by unfold onR; rw [ef 0 (by decide)]
  have eh : ∀ m, hasR R m = hasR (s j) m := fun m => by unfold hasR; rw [ef _ (by omega), ef 5 (by decide)]
  have et : triR t j R = triR t j (s j) := by unfold triR; rw [eo, ef 1 (by decide), ef 4 (by decide)]
  have etr : triR t j (s j) = true := ht'
  have hm : muR R = muR (s j) := by unfold muR; rw [ef 0 (by decide), ef 1 (by decide), ef 2 (by decide)]
  refine ⟨INV_upj h hj ?_ (XJ_sub h hj (fun m _ hh => by rw [ef _ (by omega)] at hh; exact hh) (fun m _ hh => by rw [eh] at hh; exact hh)) (by rw [ef 1 (by decide)]; omega) (by omega) (fun f => ?_), ?_, ?_⟩
  · obtain ⟨⟨a1, a2, a3, a4⟩, b, ⟨c1, c2, c3⟩, ⟨d1, d2, d3, d4⟩, ⟨f1, f2⟩, g1, g2, g3⟩ := hJ
    refine ⟨⟨by rw [ef 1 (by decide)]; exact a1, by rw [ef 0 (by decide)]; exact a2, by rw [ef 1 (by decide), ef 0 (by decide)]; exact a3, by rw [ef 5 (by decide)]; exact a4⟩, fun m hm hh => by rw [ef _ (by omega)] at hh; rw [ef 5 (by decide)]; exact b m hm hh, ⟨fun h1 h4 => ?_, fun hh => ?_, by rw [ef 1 (by decide), ef 4 (by decide)]; exact c3⟩, ⟨fun hh => by rw [ef 1 (by decide)] at hh; omega, by rw [ef 2 (by decide)]; exact d2, by rw [ef 6 (by decide)]; exact d3, by rw [ef 6 (by decide), ef 1 (by decide)]; exact d4⟩, ⟨fun m hm => by rw [ef _ (by omega), ef 0 (by decide), ef 2 (by decide)]; exact f1 m hm, by rw [ef 4 (by decide), ef 0 (by decide), ef 2 (by decide)]; exact f2⟩, by omega, fun hh => (by rw [et, etr] at hh; cases hh), fun _ => by rw [e3, ef 0 (by decide)]; exact hw⟩
    · exact askOK_congr (ef 0 (by decide)) (ef 5 (by decide)) (fun m _ => ef _ (by omega)) (hT.2.2.2.2.2.1 _) (c1 ht.1.1 ht.1.2)
    · rw [ef 1 (by decide), ef 4 (by decide)] at hh; omega
  · by_cases hf : f = 3
    · rw [hf, e3]; omega
    · rw [ef f hf]; exact h.B j f
  · have := mu_upj (s := s) (r := R) hj; omega
  · have := remS_upj (s := s) (r := R) hj
    rw [ef 0 (by decide), ef 2 (by decide)] at this
    omega
theorem LI1.try1 (h : LI1 s L) (hj : j < 8) : LI1 (up s j 3 (s j 3 + 1)) L := by
  rw [try_upj]; exact h.upj hj rfl rfl (by simp)
theorem tryP_row {p : Pr} : ∀ n k, n ≤ k → (tryP t n p).1 k = p.1 k := by
  intro n
  induction n with
  | zero => intro k _; rfl
  | succ n ih =>
    intro k hk
    rw [tryP]
    cases triS t (tryP t n p).1 n with
    | false => exact ih k (by omega)
    | true =>
      rw [cond_true]
      cases decide ((tryP t n p).1 n 3 + 1 < t 60 (20 * n + (tryP t n p).1 n 0)) with
      | true => show up (tryP t n p).1 n 3 ((tryP t n p).1 n 3 + 1) k = p.1 k; rw [try_upj, upj_ne (by omega)]; exact ih k (by omega)
      | false => show passS (tryP t n p).1 n k = p.1 k; rw [passS_ne (by omega)]; exact ih k (by omega)
theorem tryP_inv (hT : TV t) {p : Pr} (h1 : INV t p.1) (h2 : LI1 p.1 p.2) : ∀ n, n ≤ 8 → INV t (tryP t n p).1 ∧ LI1 (tryP t n p).1 (tryP t n p).2 ∧ mu (tryP t n p).1 ≤ mu p.1 ∧ remS (tryP t n p).1 ≤ remS p.1 := by
  intro n
  induction n with
  | zero => intro _; exact ⟨h1, h2, Nat.le_refl _, Nat.le_refl _⟩
  | succ n ih =>
    intro hn
    obtain ⟨a1, a2, a3, a4⟩ := ih (by omega)
    rw [tryP]
    cases ht : triS t (tryP t n p).1 n with
    | false => exact ⟨a1, a2, a3, a4⟩
    | true =>
      rw [cond_true]
      cases hw : decide ((tryP t n p).1 n 3 + 1 < t 60 (20 * n + (tryP t n p).1 n 0)) with
      | true =>
        obtain ⟨b1, b2, b3⟩ := INV_try hT a1 (by omega : n < 8) ht (of_decide_eq_true hw)
        exact ⟨b1, a2.try1 (by omega), by rw [cond_true, b2]; exact a3, by rw [cond_true, b3]; exact a4⟩
      | false =>
        obtain ⟨b1, b2⟩ := INV_pass hT a1 (by omega : n < 8) ht
        exact ⟨b1, a2.pass (by omega), by rw [cond_false]; exact Nat.le_trans (Nat.le_of_lt b2) a3, by rw [cond_false]; exact Nat.le_trans (rem_pass (by omega)) a4⟩
theorem tryP_keep {p : Pr} {a b : Nat} (h : a ≠ 69) : ∀ n, (tryP t n p).2 a b = p.2 a b := by
  intro n
  induction n with
  | zero => rfl
  | succ n ih =>
    rw [tryP]
    cases triS t (tryP t n p).1 n with
    | false => exact ih
    | true =>
      rw [cond_true]
      cases decide ((tryP t n p).1 n 3 + 1 < t 60 (20 * n + (tryP t n p).1 n 0)) with
      | true => exact ih
      | false => exact (incL_keep h).trans ih
theorem gets_rem (hj : j < 8) (h0 : s j 0 < 22) : remS (getsS t s j) + 1 ≤ remS s ∧ mu (getsS t s j) < mu s ∨ getF t s j 2 ≠ s j 2 ∨ s j 1 ≠ 1 := by
  by_cases h2 : getF t s j 2 = s j 2
  · by_cases h1 : s j 1 = 1
    · left
      obtain ⟨R, hR⟩ : ∃ R : Nat → Nat, R = (fun f => if f = 1 ∨ f = 3 ∨ f = 4 then 0 else if f = 0 then s j 0 + 1 else getF t s j f) := ⟨_, rfl⟩
      have e : getsS t s j = upj s j R := by unfold getsS; rw [hR]
      have r0 : R 0 = s j 0 + 1 := by rw [hR]; simp
      have r1 : R 1 = 0 := by rw [hR]; simp
      have r2 : R 2 = s j 2 := by rw [hR]; simp [h2]
      rw [e]
      have a := remS_upj (s := s) (r := R) hj
      have b := mu_upj (s := s) (r := R) hj
      have c : muR R < muR (s j) := by unfold muR mwt; rw [r0, r1, r2, h1]; simp; omega
      rw [r0, r2] at a
      exact ⟨by omega, by omega⟩
    · right; right; exact h1
  · right; left; exact h2
end
section
variable {P : Nat × (Nat → Int32)} {d : Nat} {t s : St} {L Z : nz_f2} {C : nz_f5} {j : Nat}
theorem m_learns {b : Nat} (hB : ∀ j f, s j f < 1000000) (hd : 6 ≤ d) (hj : j < 8) (hb : b < 1024) (h3 : LI3 L) (Q : nz_h → Prop) : ctV P d 156 [mO, vi (n32 j), vi (n32 b)] (rowf t, rowf s, L, Z, C) Q = Q (rowf t, rowf s, lrnN s j b L 100, Z, C) := by
  obtain ⟨d, rfl⟩ := dge hd
  refine ctV_det (fun Q hq => sm156 ?_) Q
  have inner : ∀ m, m < 10 → (∀ l4, nzW P (d + 5) az_k156 2 [some mO, some (vi (n32 j)), some (vi (n32 b)), some (vi (n32 (m + 1))), l4] [] (rowf t, rowf s, lrnN s j b L (10 * (m + 1)), Z, C) (nz_RV Q)) → ∀ x n, x + n = 10 → nzW P (d + 5) az_k156 11 [some mO, some (vi (n32 j)), some (vi (n32 b)), some (vi (n32 m)), some (vi (n32 n))] [] (rowf t, rowf s, lrnN s j b L (10 * m + n), Z, C) (nz_RV Q) := by
    intro m hm nxt x
    induction x with
    | zero =>
      intro n hn
      obtain rfl : n = 10 := by omega
      refine sg156_11 ?_
      simp (disch := omega) only [decide_eq_true_eq, decide_eq_false_iff_not, L32, az01, b2i_01, b2i_n0, b2i_n1, Bool.and_true, true_and, and_true, Classical.not_not, Bool.not_eq_true, Bool.not_eq_false, n32_mul, n32_add, n32_ix, n32_ib, n32_lt, n32_le, n32_inj, l_hb, l_hb0, l_shl, l_wo, l_eqm1, l_m1eq]
      exact ⟨fun _ => nxt _, fun hc => by omega⟩
    | succ x ih =>
      intro n hn
      have hn10 : n < 10 := by omega
      have hl3 := lrnN_LI3 (s := s) (j := j) (b := b) h3 (10 * m + n) (by omega)
      have h2 := ih (n + 1) (by omega)
      rw [show 10 * m + (n + 1) = (10 * m + n) + 1 by omega, lrnN] at h2
      generalize lrnN s j b L (10 * m + n) = L1 at hl3 h2
      have hc := cnt_le 100 (ordB L1)
      unfold LI3 at hl3
      have ediv : (10 * m + n) / 10 = m := by omega
      have emod : (10 * m + n) % 10 = n := by omega
      unfold lrn1 at h2
      rw [hl3, n32_ix (by omega), ediv, emod] at h2
      refine sg156_11 ?_
      have hs0 := hB j 0
      have fx : ∀ q : Bool, lrnB s j b L1 (10 * m + n) = q → q = lrnB s j b L1 (10 * m + n) := fun q h => h.symm
      have eB : lrnB s j b L1 (10 * m + n) = (hasS s j m && b.testBit n && !decide (m = n) && decide (L1 85 (10 * m + n) = n32 0)) := by unfold lrnB; rw [ediv, emod]
      simp (disch := first | omega | (refine Nat.lt_of_lt_of_le (hB _ _) ?_; omega)) only [decide_eq_true_eq, decide_eq_false_iff_not, L32, az01, b2i_01, b2i_n0, b2i_n1, Bool.and_true, true_and, and_true, Classical.not_not, Bool.not_eq_true, Bool.not_eq_false, n32_mul, n32_add, n32_ix, n32_ib, n32_lt, n32_le, n32_inj, l_hb, l_hb0, l_shl, l_wo, l_eqm1, l_m1eq, m_has hB]
      refine ⟨fun hc => by omega, fun _ => ⟨fun h4 => ?_, fun h4 => ⟨fun h5 => ?_, fun h5 => ⟨fun h6 => ?_, fun h6 => ⟨by omega, fun h7 => ?_, fun h7 => ?_⟩⟩⟩⟩⟩
      · rw [eB, h4] at h2; exact h2
      · rw [eB, h4, h5] at h2; exact h2
      · rw [eB, h4, h5, decide_eq_true h6] at h2; exact h2
      · by_cases hfull : cnt 100 (ordB L1) < 100
        · rw [eB, h4, h5, decide_eq_false h6, decide_eq_true h7] at h2
          simp (disch := first | omega | decide) only [decide_eq_true_eq, decide_eq_false_iff_not, L32, az01, b2i_01, b2i_n0, b2i_n1, Bool.and_true, true_and, and_true, Classical.not_not, Bool.not_eq_true, Bool.not_eq_false, n32_mul, n32_add, n32_ix, n32_ib, n32_lt, n32_le, n32_inj, l_hb, l_hb0, l_shl, l_wo, l_eqm1, l_m1eq, uL_row, u2_ne, hl3, m_getr, hj]
          exact ⟨by omega, by omega, by omega, by omega, by omega, h2⟩
        · exfalso
          have key : ∀ q, q ≤ 100 → cnt q (ordB L1) + (if 10 * m + n < q then 1 else 0) ≤ q := by
            intro q
            induction q with
            | zero => intro _; simp [cnt]
            | succ q ihq =>
              intro hq
              have := ihq (by omega)
              rw [cnt]
              by_cases e : 10 * m + n = q
              · have ho : ordB L1 q = false := by unfold ordB; rw [← e, decide_eq_true h7]; rfl
                rw [ho, if_pos (by omega)]
                rw [if_neg (by omega)] at this
                simp; omega
              · by_cases hlt : 10 * m + n < q
                · rw [if_pos (by omega)]; rw [if_pos hlt] at this
                  cases ordB L1 q <;> simp <;> omega
                · rw [if_neg (by omega)]; rw [if_neg hlt] at this
                  cases ordB L1 q <;> simp <;> omega
          have := key 100 (Nat.le_refl _)
          rw [if_pos (by omega)] at this
          omega
      · rw [eB, decide_eq_false h7, Bool.and_false] at h2; exact h2
  have outer : ∀ x m, x + m = 10 → ∀ l4, nzW P (d + 5) az_k156 2 [some mO, some (vi (n32 j)), some (vi (n32 b)), some (vi (n32 m)), l4] [] (rowf t, rowf s, lrnN s j b L (10 * m), Z, C) (nz_RV Q) := by
    intro x
    induction x with
    | zero =>
      intro m hm l4
      obtain rfl : m = 10 := by omega
      refine sg156_2 ?_
      simp (disch := omega) only [decide_eq_true_eq, decide_eq_false_iff_not, L32, az01, b2i_01, b2i_n0, b2i_n1, Bool.and_true, true_and, and_true, Classical.not_not, Bool.not_eq_true, Bool.not_eq_false, n32_mul, n32_add, n32_ix, n32_ib, n32_lt, n32_le, n32_inj, l_hb, l_hb0, l_shl, l_wo, l_eqm1, l_m1eq]
      exact ⟨fun _ => hq, fun hc => by omega⟩
    | succ x ih =>
      intro m hm l4
      refine sg156_2 ?_
      simp (disch := omega) only [decide_eq_true_eq, decide_eq_false_iff_not, L32, az01, b2i_01, b2i_n0, b2i_n1, Bool.and_true, true_and, and_true, Classical.not_not, Bool.not_eq_true, Bool.not_eq_false, n32_mul, n32_add, n32_ix, n32_ib, n32_lt, n32_le, n32_inj, l_hb, l_hb0, l_shl, l_wo, l_eqm1, l_m1eq]
      refine ⟨fun hc => by omega, fun _ => ?_⟩
      exact inner m (by omega) (fun l4 => ih (m + 1) (by omega) l4) 10 0 rfl
  exact outer 10 0 rfl none
theorem m_grants (hT : TV t) (hI : INV t s) (hL : LI1 s L) (hL2 : LI2 s L) (hL3 : LI3 L) (hd : 8 ≤ d) (hj : j < 8) (h1 : s j 1 = 1) (hc : canS t s j = true) (Q : nz_h → Prop) : ctV P d 155 [mO, vi (n32 j)] (rowf t, rowf s, L, Z, C) Q = Q (rowf t, rowf (grantP t (s, L) j).1, (grantP t (s, L) j).2, Z, C) := by
  obtain ⟨d, rfl⟩ := dge hd
  refine ctV_det (fun Q hq => sm155 ?_) Q
  have hB := hI.B
  have hA := hI.av hT hj (Or.inl h1)
  have hp := hA.1
  have hon := hA.on hT
  have hask := askS_lt (hA.askO hT)
  have hG := INV_gets hT hI hj h1 hc
  have g2' : getF t s j 2 = s j 2 := by
    unfold getF
    cases atlS t s j <;> cases decide (0 < s j 4) <;> cases decide (opS t s j = 9) <;> simp
    all_goals (intro hh; omega)
  have g6' : getF t s j 6 = s j 6 := by
    unfold getF
    cases atlS t s j <;> cases decide (0 < s j 4) <;> cases decide (opS t s j = 9) <;> simp
    all_goals (intro hh; omega)
  have hLG : LI1 (getsS t s j) (grantL t s L j) := by
    refine hL.upj hj (grantL_keep (by decide) (by decide)) (grantL_keep (by decide) (by decide)) ?_
    simp [g2', g6']
  have loop : ∀ x k, x + k = 8 → ∀ l1, nzW P (d + 7) az_k155 81 [some mO, l1, some (vi (n32 k))] [] (rowf t, rowf (tryP t k (getsS t s j, grantL t s L j)).1, (tryP t k (getsS t s j, grantL t s L j)).2, Z, C) (nz_RV Q) := by
    intro x
    induction x with
    | zero =>
      intro k hk l1
      obtain rfl : k = 8 := by omega
      refine sg155_81 ?_
      simp (disch := omega) only [decide_eq_true_eq, decide_eq_false_iff_not, L32, az01, b2i_01, b2i_n0, b2i_n1, Bool.and_true, true_and, and_true, Classical.not_not, Bool.not_eq_true, Bool.not_eq_false, n32_mul, n32_add, n32_ix, n32_ib, n32_lt, n32_le, n32_inj, l_hb, l_hb0, l_shl, l_wo, l_eqm1, l_m1eq]
      exact ⟨fun _ => hq, fun hc => by omega⟩
    | succ x ih =>
      intro k hk l1
      have hk8 : k < 8 := by omega
      obtain ⟨b1, b2, b3, b4⟩ := tryP_inv hT (p := (getsS t s j, grantL t s L j)) hG hLG k (by omega)
      have h2 := ih (k + 1) (by omega) l1
      rw [tryP] at h2
      generalize tryP t k (getsS t s j, grantL t s L j) = p at b1 b2 b3 b4 h2
      have hB2 := b1.B
      have hp2 : p.1 k 1 = 1 → p.1 k 0 < 20 := fun h => (b1.av hT hk8 (Or.inl h)).1
      refine sg155_81 ?_
      by_cases ht : triS t p.1 k = true
      · have ht' := ht
        unfold triS at ht'
        simp only [Bool.and_eq_true, decide_eq_true_eq] at ht'
        have hpk := hp2 ht'.1.1
        have hw := hT.2.2.2.2.2.2.1 (20 * k + p.1 k 0) ht'.2
        have hb3 := hB2 k 3
        have e3 : up p.1 k 3 (p.1 k 3 + 1) k 3 = p.1 k 3 + 1 := by unfold up; rw [if_pos ⟨rfl, rfl⟩]
        have e0 : up p.1 k 3 (p.1 k 3 + 1) k 0 = p.1 k 0 := by unfold up; rw [if_neg (by omega)]
        have ep : passS (up p.1 k 3 (p.1 k 3 + 1)) k = passS p.1 k := by unfold passS; funext a f; simp only [up, upj]; (repeat' split) <;> (first | rfl | omega | (exfalso; omega) | (simp_all; done) | (simp_all; omega))
        rw [ht, cond_true] at h2
        simp (disch := first | omega | (refine Nat.lt_of_lt_of_le (hB2 _ _) ?_; omega)) only [decide_eq_true_eq, decide_eq_false_iff_not, L32, az01, b2i_01, b2i_n0, b2i_n1, Bool.and_true, true_and, and_true, Classical.not_not, Bool.not_eq_true, Bool.not_eq_false, n32_mul, n32_add, n32_ix, n32_ib, n32_lt, n32_le, n32_inj, l_hb, l_hb0, l_shl, l_wo, l_eqm1, l_m1eq, m_tries hB2 hT, hp2, implies_true, m_getr, m_setr, rowf_at, m_passes, e3, e0, ep, ht]
        refine ⟨fun hc => by omega, fun _ => ⟨fun _ => ⟨by omega, fun hlt => ?_, fun hlt => ?_⟩, fun hc => (by cases hc)⟩⟩
        · rw [decide_eq_true hlt] at h2; exact h2
        · rw [decide_eq_false hlt] at h2; exact h2
      · have htf : triS t p.1 k = false := by simpa using ht
        rw [htf, cond_false] at h2
        simp (disch := first | omega | (refine Nat.lt_of_lt_of_le (hB2 _ _) ?_; omega)) only [decide_eq_true_eq, decide_eq_false_iff_not, L32, az01, b2i_01, b2i_n0, b2i_n1, Bool.and_true, true_and, and_true, Classical.not_not, Bool.not_eq_true, Bool.not_eq_false, n32_mul, n32_add, n32_ix, n32_ib, n32_lt, n32_le, n32_inj, l_hb, l_hb0, l_shl, l_wo, l_eqm1, l_m1eq, m_tries hB2 hT, hp2, implies_true, htf]
        exact ⟨fun hc => by omega, fun _ => ⟨fun hc => (hc trivial).elim, fun _ => h2⟩⟩
  have l0 := loop 8 0 rfl
  rw [tryP] at l0
  simp only at l0
  by_cases h0 : L 13 13 = n32 0
  · unfold grantL at l0
    rw [decide_eq_true h0] at l0
    simp (disch := first | omega | (refine Nat.lt_of_lt_of_le (hB _ _) ?_; omega)) only [decide_eq_true_eq, decide_eq_false_iff_not, L32, az01, b2i_01, b2i_n0, b2i_n1, Bool.and_true, true_and, and_true, Classical.not_not, Bool.not_eq_true, Bool.not_eq_false, n32_mul, n32_add, n32_ix, n32_ib, n32_lt, n32_le, n32_inj, l_hb, l_hb0, l_shl, l_wo, l_eqm1, l_m1eq, h0, m_gets hB hT, hA]
    exact ⟨fun _ => l0 _, fun hc => (hc trivial).elim⟩
  · obtain ⟨g, hg1, hg2⟩ := hL2.resolve_left h0
    have hgr := (gets_rem (t := t) (s := s) hj (by omega)).resolve_right (fun hh => hh.elim (fun x => x g2') (fun x => x h1))
    unfold grantL at l0
    rw [decide_eq_false h0, hg1, n32_ix (by omega)] at l0
    have k13 : lrnN s j (askS t s j) L 100 13 22 = n32 g := (lrnN_keep (by decide) 100).trans hg1
    have k71 : lrnN s j (askS t s j) L 100 71 j = L 71 j := lrnN_keep (by simp) 100
    simp (disch := first | omega | (refine Nat.lt_of_lt_of_le (hB _ _) ?_; omega) | decide) only [decide_eq_true_eq, decide_eq_false_iff_not, L32, az01, b2i_01, b2i_n0, b2i_n1, Bool.and_true, true_and, and_true, Classical.not_not, Bool.not_eq_true, Bool.not_eq_false, n32_mul, n32_add, n32_ix, n32_ib, n32_lt, n32_le, n32_inj, l_hb, l_hb0, l_shl, l_wo, l_eqm1, l_m1eq, h0, m_asked hB hT, m_learns hB, hL3, k13, uL_row, u2_ne, m_getr, m_gets hB hT, hA, k71, hj]
    refine ⟨fun hc => hc.elim, fun _ => ⟨by omega, by omega, by omega, l0 _⟩⟩
end
