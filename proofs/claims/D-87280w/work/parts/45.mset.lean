/-! till nobody goes on -/
def passP (t : St) : Nat → Pr → Pr
  | 0, p => p
  | k + 1, p => cond (triS t (passP t k p).1 k) (passS (passP t k p).1 k, incL (passP t k p).2 69 k) (passP t k p)
def gojB (s : St) (j : Nat) : Bool := decide (s j 1 = 0)
def nxtP (t : St) (p : Pr) : Option Pr := match fst 8 0 (gojB p.1) with
  | some j => some (doP t p j)
  | none => cond (anyB 8 (mayS t p.1)) none (cond (anyB 8 (triS t p.1)) (some (passP t 8 p)) none)
def setN (t : St) : Nat → Pr → Pr
  | 0, p => p
  | n + 1, p => match nxtP t p with
    | none => p
    | some q => setN t n q
section
variable {t s : St} {L : nz_f2} {j : Nat}
theorem INV_pass (hT : TV t) (h : INV t s) (hj : j < 8) (ht : triS t s j = true) : INV t (passS s j) ∧ mu (passS s j) < mu s := by
  unfold triS at ht
  simp only [Bool.and_eq_true, decide_eq_true_eq] at ht
  have h1 := ht.1.1
  have hA := h.av hT hj (Or.inl h1)
  have hp := hA.1
  obtain ⟨⟨a1, a2, a3, a4⟩, b, -, -, ⟨f1, f2⟩, -⟩ := h.J hj
  have e8 : ∀ m, (if 8 + m = 1 ∨ 8 + m = 3 then 0 else if 8 + m = 0 then s j 0 + 2 else s j (8 + m)) = s j (8 + m) := fun m => by
    rw [if_neg (by omega), if_neg (by omega)]
  constructor
  · refine INV_go (r' := fun f => if f = 1 ∨ f = 3 then 0 else if f = 0 then s j 0 + 2 else s j f) h hj (Or.inr h1) rfl ⟨by simp, by simp; omega⟩ rfl rfl (by simp; exact ht.1.2) rfl a4 (fun m hm hh => ?_) (fun m hm => ?_) (XJ_sub (r' := fun f => if f = 1 ∨ f = 3 then 0 else if f = 0 then s j 0 + 2 else s j f) h hj (fun m hm hh => ?_) (fun m hm hh => ?_)) (fun f => ?_)
    · simp only [e8] at hh; exact b m hm hh
    · simp only [e8]; exact Or.inl (by omega)
    · simp only [e8] at hh; exact hh
    · simp only [hasR, e8] at hh; exact hh
    · have := h.B j f
      split; · omega
      split <;> omega
  · have := mu_upj (s := s) (r := fun f => if f = 1 ∨ f = 3 then 0 else if f = 0 then s j 0 + 2 else s j f) hj
    have h2 : muR (fun f => if f = 1 ∨ f = 3 then 0 else if f = 0 then s j 0 + 2 else s j f) < muR (s j) := by
      unfold muR mwt; simp [h1]; omega
    have e : mu (passS s j) = mu (upj s j (fun f => if f = 1 ∨ f = 3 then 0 else if f = 0 then s j 0 + 2 else s j f)) := rfl
    omega
theorem LI1.pass (h : LI1 s L) (hj : j < 8) : LI1 (passS s j) (incL L 69 j) := h.upj hj (incL_13 (by decide)) (incL_13 (by decide)) (by simp)
theorem passS_ne {k : Nat} (h : k ≠ j) : passS s j k = s k := upj_ne h
theorem triS_row {s' : St} (h : s' j = s j) : triS t s' j = triS t s j := by unfold triS opS; rw [h]
theorem passP_row {p : Pr} : ∀ n k, n ≤ k → (passP t n p).1 k = p.1 k := by
  intro n
  induction n with
  | zero => intro k _; rfl
  | succ n ih =>
    intro k hk
    rw [passP]
    cases triS t (passP t n p).1 n with
    | true => rw [cond_true]; show passS (passP t n p).1 n k = p.1 k; rw [passS_ne (by omega)]; exact ih k (by omega)
    | false => exact ih k (by omega)
theorem passP_inv (hT : TV t) {p : Pr} (h1 : INV t p.1) (h2 : LI1 p.1 p.2) : ∀ n, n ≤ 8 → INV t (passP t n p).1 ∧ LI1 (passP t n p).1 (passP t n p).2 ∧ mu (passP t n p).1 ≤ mu p.1 ∧ (anyB n (triS t p.1) = true → mu (passP t n p).1 < mu p.1) := by
  intro n
  induction n with
  | zero => intro _; exact ⟨h1, h2, Nat.le_refl _, fun h => by cases h⟩
  | succ n ih =>
    intro hn
    obtain ⟨a1, a2, a3, a4⟩ := ih (by omega)
    have er : triS t (passP t n p).1 n = triS t p.1 n := triS_row (passP_row n n (Nat.le_refl _))
    rw [passP]
    cases ht : triS t (passP t n p).1 n with
    | true =>
      obtain ⟨b1, b2⟩ := INV_pass hT a1 (by omega : n < 8) ht
      exact ⟨b1, a2.pass (by omega), by simp only [cond_true]; omega, fun _ => by simp only [cond_true]; omega⟩
    | false =>
      refine ⟨a1, a2, a3, fun h => a4 ?_⟩
      rw [anyB_F (by rw [← er]; exact ht)] at h
      exact h
end
section
variable {P : Nat × (Nat → Int32)} {d : Nat} {t : St} {L Z : nz_f2} {C : nz_f5}
theorem INV.mayB {s : St} (hT : TV t) (h : INV t s) {j : Nat} (hj : j < 8) (h1 : s j 1 = 1) (hc : canS t s j = true) : ∀ a f, getsS t s j a f < 1000000 := (INV_gets hT h hj h1 hc).B
theorem m_mayI {s : St} {j : Nat} (hT : TV t) (hI : INV t s) (hd : 10 ≤ d) (hj : j < 8) {Q : Int32 → nz_h → Prop} (hq : ∀ Z', Q (b2i (mayS t s j)) (rowf t, rowf s, L, Z', C)) : ctI P d 147 [mO, vi (n32 j)] (rowf t, rowf s, L, Z, C) Q := by
  by_cases h1 : s j 1 = 1
  · cases hc : canS t s j with
    | true => exact m_may hI.B hT hd hj (fun h => hI.av hT hj (Or.inl h)) (INV.mayB hT hI hj h1 hc) hq
    | false =>
      obtain ⟨d, rfl⟩ := dge hd
      have hB := hI.B
      have hA := hI.av hT hj (Or.inl h1)
      refine sm147 ?_
      simp (disch := first | omega | (refine Nat.lt_of_lt_of_le (hB _ _) ?_; omega)) only [decide_eq_true_eq, decide_eq_false_iff_not, L32, az01, b2i_01, b2i_n0, b2i_n1, Bool.and_true, true_and, and_true, Classical.not_not, Bool.not_eq_true, Bool.not_eq_false, n32_mul, n32_add, n32_ix, n32_ib, n32_lt, n32_le, n32_inj, l_hb, l_hb0, l_shl, l_wo, l_eqm1, l_m1eq, m_asks hB, m_can hB hT, hA, h1, hc]
      exact ⟨fun hx => (hx trivial).elim, fun _ => ⟨fun hx => (hx trivial).elim, fun _ => ans0 (hq _) (by unfold mayS; simp [hc])⟩⟩
  · obtain ⟨d, rfl⟩ := dge hd
    have hB := hI.B
    refine sm147 ?_
    simp (disch := first | omega | (refine Nat.lt_of_lt_of_le (hB _ _) ?_; omega)) only [decide_eq_true_eq, decide_eq_false_iff_not, L32, az01, b2i_01, b2i_n0, b2i_n1, Bool.and_true, true_and, and_true, Classical.not_not, Bool.not_eq_true, Bool.not_eq_false, n32_mul, n32_add, n32_ix, n32_ib, n32_lt, n32_le, n32_inj, l_hb, l_hb0, l_shl, l_wo, l_eqm1, l_m1eq, m_asks hB, h1]
    exact ⟨fun _ => ans0 (hq _) (by unfold mayS; simp [h1]), fun hc => hc.elim⟩
theorem m_mayMany {s : St} (hT : TV t) (hI : INV t s) (hd : 11 ≤ d) {Q : Int32 → nz_h → Prop} (hq : ∀ Z', Q (n32 (cnt 8 (mayS t s))) (rowf t, rowf s, L, Z', C)) : ctI P d 146 [mO] (rowf t, rowf s, L, Z, C) Q := by
  obtain ⟨d, rfl⟩ := dge hd
  refine sm146 ?_
  have loop : ∀ n k Z, n + k = 8 → nzW P (d + 10) az_k146 4 [some mO, some (vi (n32 (cnt k (mayS t s)))), some (vi (n32 k))] [] (rowf t, rowf s, L, Z, C) (nz_RI Q) := by
    intro n
    induction n with
    | zero =>
      intro k Z hk
      obtain rfl : k = 8 := by omega
      refine sg146_4 ?_
      simp (disch := omega) only [decide_eq_true_eq, decide_eq_false_iff_not, L32, az01, b2i_01, b2i_n0, b2i_n1, Bool.and_true, true_and, and_true, Classical.not_not, Bool.not_eq_true, Bool.not_eq_false, n32_mul, n32_add, n32_ix, n32_ib, n32_lt, n32_le, n32_inj, l_hb, l_hb0, l_shl, l_wo, l_eqm1, l_m1eq]
      exact ⟨fun _ => hq _, fun hc => by omega⟩
    | succ n ih =>
      intro k Z hk
      refine sg146_4 ?_
      simp (disch := omega) only [decide_eq_true_eq, decide_eq_false_iff_not, L32, az01, b2i_01, b2i_n0, b2i_n1, Bool.and_true, true_and, and_true, Classical.not_not, Bool.not_eq_true, Bool.not_eq_false, n32_mul, n32_add, n32_ix, n32_ib, n32_lt, n32_le, n32_inj, l_hb, l_hb0, l_shl, l_wo, l_eqm1, l_m1eq]
      refine ⟨fun hc => by omega, fun _ => m_mayI hT hI (by omega) (by omega) (fun Z' => ?_)⟩
      have h2 := ih (k + 1) Z' (by omega)
      simp (disch := omega) only [decide_eq_true_eq, decide_eq_false_iff_not, L32, az01, b2i_01, b2i_n0, b2i_n1, Bool.and_true, true_and, and_true, Classical.not_not, Bool.not_eq_true, Bool.not_eq_false, n32_mul, n32_add, n32_ix, n32_ib, n32_lt, n32_le, n32_inj, l_hb, l_hb0, l_shl, l_wo, l_eqm1, l_m1eq]
      refine ⟨fun hb => ?_, fun hb => ?_⟩
      · rw [cnt, hb] at h2; exact h2
      · rw [cnt, hb] at h2; exact h2
  exact loop 8 0 Z rfl
theorem m_least {s : St} (hT : TV t) (hI : INV t s) (hd : 11 ≤ d) {Q : Int32 → nz_h → Prop} (hq : ∀ Z', Q (o2i (fst 8 0 (mayS t s))) (rowf t, rowf s, L, Z', C)) : ctI P d 154 [mO] (rowf t, rowf s, L, Z, C) Q := by
  obtain ⟨d, rfl⟩ := dge hd
  refine sm154 ?_
  have loop : ∀ n k Z, n + k = 8 → (∀ Z', Q (o2i (fst n k (mayS t s))) (rowf t, rowf s, L, Z', C)) → nzW P (d + 10) az_k154 2 [some mO, some (vi (n32 k))] [] (rowf t, rowf s, L, Z, C) (nz_RI Q) := by
    intro n
    induction n with
    | zero =>
      intro k Z hk hqq
      obtain rfl : k = 8 := by omega
      refine sg154_2 ?_
      simp (disch := omega) only [decide_eq_true_eq, decide_eq_false_iff_not, L32, az01, b2i_01, b2i_n0, b2i_n1, Bool.and_true, true_and, and_true, Classical.not_not, Bool.not_eq_true, Bool.not_eq_false, n32_mul, n32_add, n32_ix, n32_ib, n32_lt, n32_le, n32_inj, l_hb, l_hb0, l_shl, l_wo, l_eqm1, l_m1eq]
      exact ⟨fun _ => hqq _, fun hc => by omega⟩
    | succ n ih =>
      intro k Z hk hqq
      refine sg154_2 ?_
      simp (disch := omega) only [decide_eq_true_eq, decide_eq_false_iff_not, L32, az01, b2i_01, b2i_n0, b2i_n1, Bool.and_true, true_and, and_true, Classical.not_not, Bool.not_eq_true, Bool.not_eq_false, n32_mul, n32_add, n32_ix, n32_ib, n32_lt, n32_le, n32_inj, l_hb, l_hb0, l_shl, l_wo, l_eqm1, l_m1eq]
      refine ⟨fun hc => by omega, fun _ => m_mayI hT hI (by omega) (by omega) (fun Z' => ?_)⟩
      simp (disch := omega) only [decide_eq_true_eq, decide_eq_false_iff_not, L32, az01, b2i_01, b2i_n0, b2i_n1, Bool.and_true, true_and, and_true, Classical.not_not, Bool.not_eq_true, Bool.not_eq_false, n32_mul, n32_add, n32_ix, n32_ib, n32_lt, n32_le, n32_inj, l_hb, l_hb0, l_shl, l_wo, l_eqm1, l_m1eq]
      rw [fst] at hqq
      refine ⟨fun hb => ih (k + 1) Z' (by omega) (fun Z2 => ?_), fun hb => ?_⟩
      · have := hqq Z2; rw [hb] at this; exact this
      · have := hqq Z'; rw [hb] at this; exact this
  exact loop 8 0 Z rfl hq
theorem m_goOn (hT : TV t) (hd : 18 ≤ d) {Q : nz_h → Prop} {n : Nat} {p : Pr} (hI : INV t p.1) (hL : LI1 p.1 p.2) (hn : mu p.1 < n)
    (hq : ∀ (p' : Pr) n' Z', setN t n p = setN t n' p' → INV t p'.1 → LI1 p'.1 p'.2 → mu p'.1 < n' → n' ≤ n → fst 8 0 (gojB p'.1) = none → Q (rowf t, rowf p'.1, p'.2, Z', C)) : ctV P d 117 [mO] (rowf t, rowf p.1, p.2, Z, C) Q := by
  obtain ⟨d, rfl⟩ := dge hd
  refine sm117 ?_
  have main : ∀ n (p : Pr) Z, INV t p.1 → LI1 p.1 p.2 → mu p.1 < n → (∀ (p' : Pr) n' Z', setN t n p = setN t n' p' → INV t p'.1 → LI1 p'.1 p'.2 → mu p'.1 < n' → n' ≤ n → fst 8 0 (gojB p'.1) = none → Q (rowf t, rowf p'.1, p'.2, Z', C)) → ∀ l2, nzW P (d + 17) az_k117 2 [some mO, some (vi (n32 1)), l2] [] (rowf t, rowf p.1, p.2, Z, C) (nz_RV Q) := by
    intro n
    induction n with
    | zero => intro p Z _ _ h; omega
    | succ n ih =>
      intro p Z hI hL hn hq l2
      refine sg117_2 ?_
      simp (disch := omega) only [decide_eq_true_eq, decide_eq_false_iff_not, L32, az01, b2i_01, b2i_n0, b2i_n1, Bool.and_true, true_and, and_true, Classical.not_not, Bool.not_eq_true, Bool.not_eq_false, n32_mul, n32_add, n32_ix, n32_ib, n32_lt, n32_le, n32_inj, l_hb, l_hb0, l_shl, l_wo, l_eqm1, l_m1eq]
      refine ⟨fun hc => by omega, fun _ => ?_⟩
      have scan : ∀ m k, m + k = 8 → fst m k (gojB p.1) = fst 8 0 (gojB p.1) → nzW P (d + 17) az_k117 10 [some mO, some (vi (n32 0)), some (vi (n32 k))] [] (rowf t, rowf p.1, p.2, Z, C) (nz_RV Q) := by
        intro m
        induction m with
        | zero =>
          intro k hk hf
          obtain rfl : k = 8 := by omega
          refine sg117_10 ?_
          simp (disch := omega) only [decide_eq_true_eq, decide_eq_false_iff_not, L32, az01, b2i_01, b2i_n0, b2i_n1, Bool.and_true, true_and, and_true, Classical.not_not, Bool.not_eq_true, Bool.not_eq_false, n32_mul, n32_add, n32_ix, n32_ib, n32_lt, n32_le, n32_inj, l_hb, l_hb0, l_shl, l_wo, l_eqm1, l_m1eq]
          refine ⟨fun _ => ?_, fun hc => by omega⟩
          refine sg117_2 ?_
          simp (disch := omega) only [decide_eq_true_eq, decide_eq_false_iff_not, L32, az01, b2i_01, b2i_n0, b2i_n1, Bool.and_true, true_and, and_true, Classical.not_not, Bool.not_eq_true, Bool.not_eq_false, n32_mul, n32_add, n32_ix, n32_ib, n32_lt, n32_le, n32_inj, l_hb, l_hb0, l_shl, l_wo, l_eqm1, l_m1eq]
          exact ⟨fun _ => hq p (n + 1) Z rfl hI hL hn (Nat.le_refl _) hf.symm, fun hc => (hc trivial).elim⟩
        | succ m ihm =>
          intro k hk hf
          have hk8 : k < 8 := by omega
          refine sg117_10 ?_
          have hB := hI.B
          have hf : cond (gojB p.1 k) (some k) (fst m (k + 1) (gojB p.1)) = fst 8 0 (gojB p.1) := hf
          simp (disch := first | omega | (refine Nat.lt_of_lt_of_le (hB _ _) ?_; omega)) only [decide_eq_true_eq, decide_eq_false_iff_not, L32, az01, b2i_01, b2i_n0, b2i_n1, Bool.and_true, true_and, and_true, Classical.not_not, Bool.not_eq_true, Bool.not_eq_false, n32_mul, n32_add, n32_ix, n32_ib, n32_lt, n32_le, n32_inj, l_hb, l_hb0, l_shl, l_wo, l_eqm1, l_m1eq, m_getr]
          refine ⟨fun hc => by omega, fun _ => ⟨fun hc => (hc trivial).elim, fun _ => ⟨fun h0 => ?_, fun h0 => ?_⟩⟩⟩
          · have hg : gojB p.1 k = true := decide_eq_true h0
            rw [hg] at hf
            obtain ⟨a1, a2, a3⟩ := do_keeps hT hI hL hk8 h0
            have a3 : mu (doP t p k).1 < mu p.1 := a3
            refine m_does hT hI hL (by omega) hk8 h0 (fun Z' => ?_)
            have h2 : ∀ l2, nzW P (d + 17) az_k117 2 [some mO, some (vi (n32 1)), l2] [] (rowf t, rowf (doP t p k).1, (doP t p k).2, Z', C) (nz_RV Q) := by
              refine ih (doP t p k) Z' a1 a2 (by omega) (fun p' n' Z2 e b1 b2 b3 b4 b5 => hq p' n' Z2 ?_ b1 b2 b3 (by omega) b5)
              rw [setN]
              have : nxtP t p = some (doP t p k) := by unfold nxtP; rw [← hf]; rfl
              rw [this]; exact e
            refine sg117_10 ?_
            simp (disch := omega) only [decide_eq_true_eq, decide_eq_false_iff_not, L32, az01, b2i_01, b2i_n0, b2i_n1, Bool.and_true, true_and, and_true, Classical.not_not, Bool.not_eq_true, Bool.not_eq_false, n32_mul, n32_add, n32_ix, n32_ib, n32_lt, n32_le, n32_inj, l_hb, l_hb0, l_shl, l_wo, l_eqm1, l_m1eq]
            exact ⟨fun _ => h2 _, fun _ => ⟨fun _ => h2 _, fun hc => by omega⟩⟩
          · have hg : gojB p.1 k = false := decide_eq_false h0
            rw [hg] at hf
            exact ihm (k + 1) (by omega) hf
      exact scan 8 0 rfl rfl
  exact main n p Z hI hL hn hq none
theorem m_toState (hT : TV t) (hd : 19 ≤ d) {Q : nz_h → Prop} {n : Nat} {p : Pr} (hI : INV t p.1) (hL : LI1 p.1 p.2) (hn : mu p.1 < n)
    (hq : ∀ Z', INV t (setN t n p).1 → LI1 (setN t n p).1 (setN t n p).2 → Q (rowf t, rowf (setN t n p).1, (setN t n p).2, Z', C)) : ctV P d 116 [mO] (rowf t, rowf p.1, p.2, Z, C) Q := by
  obtain ⟨d, rfl⟩ := dge hd
  refine sm116 ?_
  have stop : ∀ (p : Pr) Z, Q (rowf t, rowf p.1, p.2, Z, C) → ∀ l2, nzW P (d + 18) az_k116 2 [some mO, some (vi (n32 0)), l2] [] (rowf t, rowf p.1, p.2, Z, C) (nz_RV Q) := by
    intro p Z h l2
    refine sg116_2 ?_
    simp (disch := omega) only [decide_eq_true_eq, decide_eq_false_iff_not, L32, az01, b2i_01, b2i_n0, b2i_n1, Bool.and_true, true_and, and_true, Classical.not_not, Bool.not_eq_true, Bool.not_eq_false, n32_mul, n32_add, n32_ix, n32_ib, n32_lt, n32_le, n32_inj, l_hb, l_hb0, l_shl, l_wo, l_eqm1, l_m1eq]
    exact ⟨fun _ => h, fun hc => (hc trivial).elim⟩
  have main : ∀ n (p : Pr) Z, INV t p.1 → LI1 p.1 p.2 → mu p.1 < n → (∀ Z', INV t (setN t n p).1 → LI1 (setN t n p).1 (setN t n p).2 → Q (rowf t, rowf (setN t n p).1, (setN t n p).2, Z', C)) → ∀ l2, nzW P (d + 18) az_k116 2 [some mO, some (vi (n32 1)), l2] [] (rowf t, rowf p.1, p.2, Z, C) (nz_RV Q) := by
    intro n
    induction n using Nat.strongRecOn with
    | ind n ih =>
      intro p Z hI hL hn hq l2
      refine sg116_2 ?_
      simp (disch := omega) only [decide_eq_true_eq, decide_eq_false_iff_not, L32, az01, b2i_01, b2i_n0, b2i_n1, Bool.and_true, true_and, and_true, Classical.not_not, Bool.not_eq_true, Bool.not_eq_false, n32_mul, n32_add, n32_ix, n32_ib, n32_lt, n32_le, n32_inj, l_hb, l_hb0, l_shl, l_wo, l_eqm1, l_m1eq]
      refine ⟨fun hc => by omega, fun _ => ?_⟩
      refine m_goOn hT (by omega) hI hL hn (fun p' n' Z' e i1 i2 i3 i4 i5 => ?_)
      refine m_mayMany hT i1 (by omega) (fun Z2 => ?_)
      have hc := cnt_le 8 (mayS t p'.1)
      simp (disch := omega) only [decide_eq_true_eq, decide_eq_false_iff_not, L32, az01, b2i_01, b2i_n0, b2i_n1, Bool.and_true, true_and, and_true, Classical.not_not, Bool.not_eq_true, Bool.not_eq_false, n32_mul, n32_add, n32_ix, n32_ib, n32_lt, n32_le, n32_inj, l_hb, l_hb0, l_shl, l_wo, l_eqm1, l_m1eq]
      rw [e] at hq
      obtain ⟨n2, rfl⟩ : ∃ x, n' = x + 1 := ⟨n' - 1, by omega⟩
      rw [setN] at hq
      unfold nxtP at hq
      rw [i5] at hq
      simp only at hq
      refine ⟨fun h0 => ?_, fun h0 => ?_⟩
      · have hno : anyB 8 (mayS t p'.1) = false := by
          cases hh : anyB 8 (mayS t p'.1) with
          | false => rfl
          | true => have := cnt_any.mpr hh; omega
        rw [hno, cond_false] at hq
        have loop : ∀ m k, m + k = 8 → nzW P (d + 18) az_k116 24 [some mO, some (vi (b2i (anyB k (triS t p'.1)))), some (vi (n32 k))] [] (rowf t, rowf (passP t k p').1, (passP t k p').2, Z2, C) (nz_RV Q) := by
          intro m
          induction m with
          | zero =>
            intro k hk
            obtain rfl : k = 8 := by omega
            refine sg116_24 ?_
            simp (disch := omega) only [decide_eq_true_eq, decide_eq_false_iff_not, L32, az01, b2i_01, b2i_n0, b2i_n1, Bool.and_true, true_and, and_true, Classical.not_not, Bool.not_eq_true, Bool.not_eq_false, n32_mul, n32_add, n32_ix, n32_ib, n32_lt, n32_le, n32_inj, l_hb, l_hb0, l_shl, l_wo, l_eqm1, l_m1eq]
            refine ⟨fun _ => ?_, fun hc => by omega⟩
            obtain ⟨b1, b2, b3, b4⟩ := passP_inv hT i1 i2 8 (Nat.le_refl _)
            cases ha : anyB 8 (triS t p'.1) with
            | true =>
              rw [ha] at hq
              exact ih n2 (by omega) (passP t 8 p') Z2 b1 b2 (by have := b4 ha; omega) hq _
            | false =>
              rw [ha] at hq
              have : passP t 8 p' = p' := by
                have key : ∀ k, k ≤ 8 → passP t k p' = p' := by
                  intro k
                  induction k with
                  | zero => intro _; rfl
                  | succ k ihk =>
                    intro hk
                    rw [passP, ihk (by omega)]
                    have : triS t p'.1 k = false := by
                      cases hh : triS t p'.1 k with
                      | false => rfl
                      | true => have := (anyB_iff (n := 8)).mpr ⟨k, by omega, hh⟩; rw [ha] at this; cases this
                    rw [this]; rfl
                exact key 8 (Nat.le_refl _)
              rw [this]
              exact stop p' Z2 (hq Z2 i1 i2) _
          | succ m ihm =>
            intro k hk
            have hk8 : k < 8 := by omega
            obtain ⟨b1, b2, b3, b4⟩ := passP_inv hT i1 i2 k (by omega)
            have hB := b1.B
            have er : triS t (passP t k p').1 k = triS t p'.1 k := triS_row (passP_row k k (Nat.le_refl _))
            have hp : (passP t k p').1 k 1 = 1 → (passP t k p').1 k 0 < 20 := fun h => (b1.av hT hk8 (Or.inl h)).1
            have h2 := ihm (k + 1) (by omega)
            rw [passP, anyB] at h2
            refine sg116_24 ?_
            simp (disch := first | omega | (refine Nat.lt_of_lt_of_le (hB _ _) ?_; omega)) only [decide_eq_true_eq, decide_eq_false_iff_not, L32, az01, b2i_01, b2i_n0, b2i_n1, Bool.and_true, true_and, and_true, Classical.not_not, Bool.not_eq_true, Bool.not_eq_false, n32_mul, n32_add, n32_ix, n32_ib, n32_lt, n32_le, n32_inj, l_hb, l_hb0, l_shl, l_wo, l_eqm1, l_m1eq, m_tries hB hT, hp, implies_true, m_passes, er]
            refine ⟨fun hc => by omega, fun _ => ⟨fun ht => ?_, fun ht => ?_⟩⟩
            · rw [er, ht, Bool.or_true] at h2; exact h2
            · rw [er, ht, Bool.or_false] at h2; exact h2
        exact loop 8 0 rfl
      · have hyes : anyB 8 (mayS t p'.1) = true := cnt_any.mp (by omega)
        rw [hyes, cond_true] at hq
        exact stop p' Z2 (hq Z2 i1 i2) _
  exact main n p Z hI hL hn hq none
end
