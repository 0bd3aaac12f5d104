/-! the reference's leaves: what they answer -/
abbrev mO : nz_V := vr (13, 0, 0, 0)
def rowf (s : Nat → Nat → Nat) : nz_f2 := fun j f => n32 (s j f)
def up (s : Nat → Nat → Nat) (j f v : Nat) : Nat → Nat → Nat := fun j' f' => if j' = j ∧ f' = f then v else s j' f'
theorem rowf_up (s : Nat → Nat → Nat) (j f v : Nat) : nz_u2 (rowf s) j f (n32 v) = rowf (up s j f v) := by
  funext a b
  unfold nz_u2 rowf up
  by_cases h : a = j ∧ b = f
  · rw [if_pos h, if_pos h]
  · rw [if_neg h, if_neg h]
theorem uS_row {T L Z : nz_f2} {C : nz_f5} (s : Nat → Nat → Nat) (j f v : Nat) : nz_uS (T, rowf s, L, Z, C) j f (n32 v) = (T, rowf (up s j f v), L, Z, C) := by
  unfold nz_uS; rw [rowf_up]
theorem up_at (s : Nat → Nat → Nat) (j f v j' f' : Nat) : up s j f v j' f' = if j' = j ∧ f' = f then v else s j' f' := rfl
section
variable {P : Nat × (Nat → Int32)} {d : Nat} {h : nz_h}
theorem m_get {j f : Nat} (hd : 2 ≤ d) (hj : j < 8) (hf : f < 18) (Q : Int32 → nz_h → Prop) : ctI P d 118 [mO, vi (n32 j), vi (n32 f)] h Q = Q (h.2.1 j f) h := by
  obtain ⟨d, rfl⟩ := dge hd
  refine ctI_det (fun Q hq => sm118 ?_) Q
  simp (disch := omega) only [decide_eq_true_eq, decide_eq_false_iff_not, L32, az01, b2i_01, b2i_n0, b2i_n1, Bool.and_true, true_and, and_true, Classical.not_not, Bool.not_eq_true, Bool.not_eq_false, n32_mul, n32_add, n32_ix, n32_ib, n32_lt, n32_le, n32_inj, l_hb, l_hb0, l_shl, l_wo, l_eqm1, l_m1eq]
  rw [show (18 * j + f) / 18 = j by omega, show (18 * j + f) % 18 = f by omega]
  exact ⟨by omega, hq⟩
theorem m_set {j f : Nat} {v : Int32} (hd : 2 ≤ d) (hj : j < 8) (hf : f < 18) (Q : nz_h → Prop) : ctV P d 122 [mO, vi (n32 j), vi (n32 f), vi v] h Q = Q (nz_uS h j f v) := by
  obtain ⟨d, rfl⟩ := dge hd
  refine ctV_det (fun Q hq => sm122 ?_) Q
  simp (disch := omega) only [decide_eq_true_eq, decide_eq_false_iff_not, L32, az01, b2i_01, b2i_n0, b2i_n1, Bool.and_true, true_and, and_true, Classical.not_not, Bool.not_eq_true, Bool.not_eq_false, n32_mul, n32_add, n32_ix, n32_ib, n32_lt, n32_le, n32_inj, l_hb, l_hb0, l_shl, l_wo, l_eqm1, l_m1eq]
  rw [show (18 * j + f) / 18 = j by omega, show (18 * j + f) % 18 = f by omega]
  exact ⟨by omega, hq⟩
theorem m_times {j m : Nat} (hd : 3 ≤ d) (hj : j < 8) (hm : m < 10) (Q : Int32 → nz_h → Prop) : ctI P d 125 [mO, vi (n32 j), vi (n32 m)] h Q = Q (h.2.1 j (8 + m)) h := by
  obtain ⟨d, rfl⟩ := dge hd
  refine ctI_det (fun Q hq => sm125 ?_) Q
  simp (disch := omega) only [decide_eq_true_eq, decide_eq_false_iff_not, L32, az01, b2i_01, b2i_n0, b2i_n1, Bool.and_true, true_and, and_true, Classical.not_not, Bool.not_eq_true, Bool.not_eq_false, n32_mul, n32_add, n32_ix, n32_ib, n32_lt, n32_le, n32_inj, l_hb, l_hb0, l_shl, l_wo, l_eqm1, l_m1eq, m_get]
  exact hq
theorem ans0 {Q : Int32 → nz_h → Prop} {b : Bool} {h : nz_h} (hq : Q (b2i b) h) (e : b = false) : Q (n32 0) h := by subst e; exact hq
theorem ans1 {Q : Int32 → nz_h → Prop} {b : Bool} {h : nz_h} (hq : Q (b2i b) h) (e : b = true) : Q (n32 1) h := by subst e; exact hq
theorem bits_T {n : Nat} {p : Nat → Bool} (h : p n = true) : bits n p ||| 2 ^ n = bits (n + 1) p := by rw [bits, h]; rfl
theorem bits_F {n : Nat} {p : Nat → Bool} (h : p n = false) : bits n p = bits (n + 1) p := by rw [bits, h, cond_false, Nat.or_zero]
abbrev St : Type := Nat → Nat → Nat
/-- what is told is in its bounds -/
def TV (t : St) : Prop := (∀ m, t 55 m < 100) ∧ (∀ m, t 56 m < 9) ∧ (∀ j, t 57 j ≤ 20) ∧ (∀ i, t 58 i < 10) ∧ (∀ i, t 59 i < 1024) ∧ (∀ i, t 58 i ≠ 9 → t 59 i < 10) ∧ (∀ i, t 58 i = 8 → 1 ≤ t 60 i ∧ t 60 i < 10) ∧ (∀ j, t 61 j < 20 ∨ t 61 j = 4294967295) ∧ (∀ j, t 62 j < 1024) ∧ t 13 8 < 4 ∧ (∀ i, t 63 i < 8) ∧ t 13 10 ≤ 100 ∧ (∀ i, t 58 i = 9 → 1 ≤ t 59 i)
def hasS (s : St) (j m : Nat) : Bool := decide (0 < s j (8 + m)) || (s j 5).testBit m
def hadS (s : St) (j : Nat) : Nat := bits 10 (hasS s j)
def opS (t s : St) (j : Nat) : Nat := t 58 (20 * j + s j 0)
def onS (t s : St) (j : Nat) : Nat := t 59 (20 * j + s j 0)
def atlS (t s : St) (j : Nat) : Bool := decide (s j 4 = 0) && decide (opS t s j = 2)
def onlyS (t s : St) (j : Nat) : Bool := decide (0 < s j 4) || !decide (opS t s j = 9)
def askS (t s : St) (j : Nat) : Nat := cond (onlyS t s j) (2 ^ onS t s j) (bits 10 (fun m => (onS t s j).testBit m && decide (s j (8 + m) = 0)))
def triS (t s : St) (j : Nat) : Bool := decide (s j 1 = 1) && decide (s j 4 = 0) && decide (opS t s j = 8)
variable {t s : St} {L Z : nz_f2} {C : nz_f5}
theorem m_asks {j : Nat} (hB : ∀ j f, s j f < 1000000) (hd : 3 ≤ d) (hj : j < 8) (Q : Int32 → nz_h → Prop) : ctI P d 134 [mO, vi (n32 j)] (rowf t, rowf s, L, Z, C) Q = Q (b2i (decide (s j 1 = 1))) (rowf t, rowf s, L, Z, C) := by
  obtain ⟨d, rfl⟩ := dge hd
  refine ctI_det (fun Q hq => sm134 ?_) Q
  simp (disch := first | omega | (refine Nat.lt_of_lt_of_le (hB _ _) ?_; omega)) only [decide_eq_true_eq, decide_eq_false_iff_not, L32, az01, b2i_01, b2i_n0, b2i_n1, Bool.and_true, true_and, and_true, Classical.not_not, Bool.not_eq_true, Bool.not_eq_false, n32_mul, n32_add, n32_ix, n32_ib, n32_lt, n32_le, n32_inj, l_hb, l_hb0, l_shl, l_wo, l_eqm1, l_m1eq, m_get, rowf]
  repeat' (first | (refine ⟨fun _ => ?_, fun _ => ?_⟩) | fail)
  all_goals first | contradiction | exact ans0 hq (by simp [*, ]) | exact ans1 hq (by simp [*, ])
theorem m_isLeft {j : Nat} (hB : ∀ j f, s j f < 1000000) (hd : 3 ≤ d) (hj : j < 8) (Q : Int32 → nz_h → Prop) : ctI P d 151 [mO, vi (n32 j)] (rowf t, rowf s, L, Z, C) Q = Q (b2i (!decide (s j 1 = 3))) (rowf t, rowf s, L, Z, C) := by
  obtain ⟨d, rfl⟩ := dge hd
  refine ctI_det (fun Q hq => sm151 ?_) Q
  simp (disch := first | omega | (refine Nat.lt_of_lt_of_le (hB _ _) ?_; omega)) only [decide_eq_true_eq, decide_eq_false_iff_not, L32, az01, b2i_01, b2i_n0, b2i_n1, Bool.and_true, true_and, and_true, Classical.not_not, Bool.not_eq_true, Bool.not_eq_false, n32_mul, n32_add, n32_ix, n32_ib, n32_lt, n32_le, n32_inj, l_hb, l_hb0, l_shl, l_wo, l_eqm1, l_m1eq, m_get, rowf]
  repeat' (first | (refine ⟨fun _ => ?_, fun _ => ?_⟩) | fail)
  all_goals first | contradiction | exact ans0 hq (by simp [*, ]) | exact ans1 hq (by simp [*, ])
theorem m_on {j : Nat} (hB : ∀ j f, s j f < 1000000) (hd : 3 ≤ d) (hj : j < 8) (hp : s j 0 < 20) (Q : Int32 → nz_h → Prop) : ctI P d 123 [mO, vi (n32 j)] (rowf t, rowf s, L, Z, C) Q = Q (n32 (onS t s j)) (rowf t, rowf s, L, Z, C) := by
  obtain ⟨d, rfl⟩ := dge hd
  refine ctI_det (fun Q hq => sm123 ?_) Q
  simp (disch := first | omega | (refine Nat.lt_of_lt_of_le (hB _ _) ?_; omega)) only [decide_eq_true_eq, decide_eq_false_iff_not, L32, az01, b2i_01, b2i_n0, b2i_n1, Bool.and_true, true_and, and_true, Classical.not_not, Bool.not_eq_true, Bool.not_eq_false, n32_mul, n32_add, n32_ix, n32_ib, n32_lt, n32_le, n32_inj, l_hb, l_hb0, l_shl, l_wo, l_eqm1, l_m1eq, m_get, rowf]
  exact ⟨by omega, hq⟩
theorem m_op {j : Nat} (hB : ∀ j f, s j f < 1000000) (hd : 3 ≤ d) (hj : j < 8) (hp : s j 0 < 20) (Q : Int32 → nz_h → Prop) : ctI P d 124 [mO, vi (n32 j)] (rowf t, rowf s, L, Z, C) Q = Q (n32 (opS t s j)) (rowf t, rowf s, L, Z, C) := by
  obtain ⟨d, rfl⟩ := dge hd
  refine ctI_det (fun Q hq => sm124 ?_) Q
  simp (disch := first | omega | (refine Nat.lt_of_lt_of_le (hB _ _) ?_; omega)) only [decide_eq_true_eq, decide_eq_false_iff_not, L32, az01, b2i_01, b2i_n0, b2i_n1, Bool.and_true, true_and, and_true, Classical.not_not, Bool.not_eq_true, Bool.not_eq_false, n32_mul, n32_add, n32_ix, n32_ib, n32_lt, n32_le, n32_inj, l_hb, l_hb0, l_shl, l_wo, l_eqm1, l_m1eq, m_get, rowf]
  exact ⟨by omega, hq⟩
theorem m_looks {j m : Nat} (hB : ∀ j f, s j f < 1000000) (hd : 3 ≤ d) (hj : j < 8) (hm : m < 10) (Q : Int32 → nz_h → Prop) : ctI P d 127 [mO, vi (n32 j), vi (n32 m)] (rowf t, rowf s, L, Z, C) Q = Q (b2i ((s j 5).testBit m)) (rowf t, rowf s, L, Z, C) := by
  obtain ⟨d, rfl⟩ := dge hd
  refine ctI_det (fun Q hq => sm127 ?_) Q
  simp (disch := first | omega | (refine Nat.lt_of_lt_of_le (hB _ _) ?_; omega)) only [decide_eq_true_eq, decide_eq_false_iff_not, L32, az01, b2i_01, b2i_n0, b2i_n1, Bool.and_true, true_and, and_true, Classical.not_not, Bool.not_eq_true, Bool.not_eq_false, n32_mul, n32_add, n32_ix, n32_ib, n32_lt, n32_le, n32_inj, l_hb, l_hb0, l_shl, l_wo, l_eqm1, l_m1eq, m_get, rowf]
  repeat' (first | (refine ⟨fun _ => ?_, fun _ => ?_⟩) | fail)
  all_goals first | contradiction | exact ans0 hq (by simp [*, ]) | exact ans1 hq (by simp [*, ])
theorem m_has {j m : Nat} (hB : ∀ j f, s j f < 1000000) (hd : 4 ≤ d) (hj : j < 8) (hm : m < 10) (Q : Int32 → nz_h → Prop) : ctI P d 132 [mO, vi (n32 j), vi (n32 m)] (rowf t, rowf s, L, Z, C) Q = Q (b2i (hasS s j m)) (rowf t, rowf s, L, Z, C) := by
  obtain ⟨d, rfl⟩ := dge hd
  refine ctI_det (fun Q hq => sm132 ?_) Q
  simp (disch := first | omega | (refine Nat.lt_of_lt_of_le (hB _ _) ?_; omega)) only [decide_eq_true_eq, decide_eq_false_iff_not, L32, az01, b2i_01, b2i_n0, b2i_n1, Bool.and_true, true_and, and_true, Classical.not_not, Bool.not_eq_true, Bool.not_eq_false, n32_mul, n32_add, n32_ix, n32_ib, n32_lt, n32_le, n32_inj, l_hb, l_hb0, l_shl, l_wo, l_eqm1, l_m1eq, m_times, m_looks hB, rowf]
  repeat' (first | (refine ⟨fun _ => ?_, fun _ => ?_⟩) | fail)
  all_goals first | contradiction | exact ans0 hq (by simp [*, hasS]) | exact ans1 hq (by simp [*, hasS])
theorem m_had {j : Nat} (hB : ∀ j f, s j f < 1000000) (hd : 5 ≤ d) (hj : j < 8) (Q : Int32 → nz_h → Prop) : ctI P d 137 [mO, vi (n32 j)] (rowf t, rowf s, L, Z, C) Q = Q (n32 (hadS s j)) (rowf t, rowf s, L, Z, C) := by
  obtain ⟨d, rfl⟩ := dge hd
  refine ctI_det (fun Q hq => sm137 ?_) Q
  have loop : ∀ n m, n + m = 10 → nzW P (d + 4) az_k137 4 [some mO, some (vi (n32 j)), some (vi (n32 (bits m (hasS s j)))), some (vi (n32 m))] [] (rowf t, rowf s, L, Z, C) (nz_RI Q) := by
    intro n
    induction n with
    | zero =>
      intro m hm
      obtain rfl : m = 10 := by omega
      refine sg137_4 ?_
      simp (disch := first | omega | (refine Nat.lt_of_lt_of_le (hB _ _) ?_; omega)) only [decide_eq_true_eq, decide_eq_false_iff_not, L32, az01, b2i_01, b2i_n0, b2i_n1, Bool.and_true, true_and, and_true, Classical.not_not, Bool.not_eq_true, Bool.not_eq_false, n32_mul, n32_add, n32_ix, n32_ib, n32_lt, n32_le, n32_inj, l_hb, l_hb0, l_shl, l_wo, l_eqm1, l_m1eq]
      exact ⟨fun _ => hq, fun hc => by omega⟩
    | succ n ih =>
      intro m hm
      refine sg137_4 ?_
      simp (disch := first | omega | (refine Nat.lt_of_lt_of_le (hB _ _) ?_; omega)) only [decide_eq_true_eq, decide_eq_false_iff_not, L32, az01, b2i_01, b2i_n0, b2i_n1, Bool.and_true, true_and, and_true, Classical.not_not, Bool.not_eq_true, Bool.not_eq_false, n32_mul, n32_add, n32_ix, n32_ib, n32_lt, n32_le, n32_inj, l_hb, l_hb0, l_shl, l_wo, l_eqm1, l_m1eq, m_has hB, n32_or, Nat.or_zero]
      refine ⟨fun hc => by omega, fun hc => ⟨fun hb => ?_, fun hb => ?_⟩⟩
      · rw [bits_F hb]; exact ih (m + 1) (by omega)
      · rw [bits_T hb]; exact ih (m + 1) (by omega)
  exact loop 10 0 rfl
theorem m_atl {j : Nat} (hB : ∀ j f, s j f < 1000000) (hT : TV t) (hd : 4 ≤ d) (hj : j < 8) (hp : s j 0 < 20) (Q : Int32 → nz_h → Prop) : ctI P d 136 [mO, vi (n32 j)] (rowf t, rowf s, L, Z, C) Q = Q (b2i (atlS t s j)) (rowf t, rowf s, L, Z, C) := by
  obtain ⟨d, rfl⟩ := dge hd
  refine ctI_det (fun Q hq => sm136 ?_) Q
  have ho : opS t s j < 10 := hT.2.2.2.1 _
  simp (disch := first | omega | (refine Nat.lt_of_lt_of_le (hB _ _) ?_; omega)) only [decide_eq_true_eq, decide_eq_false_iff_not, L32, az01, b2i_01, b2i_n0, b2i_n1, Bool.and_true, true_and, and_true, Classical.not_not, Bool.not_eq_true, Bool.not_eq_false, n32_mul, n32_add, n32_ix, n32_ib, n32_lt, n32_le, n32_inj, l_hb, l_hb0, l_shl, l_wo, l_eqm1, l_m1eq, m_get, m_op hB, rowf]
  repeat' (first | (refine ⟨fun _ => ?_, fun _ => ?_⟩) | fail)
  all_goals first | contradiction | exact ans0 hq (by simp [*, atlS]) | exact ans1 hq (by simp [*, atlS])
theorem m_tries {j : Nat} (hB : ∀ j f, s j f < 1000000) (hT : TV t) (hd : 4 ≤ d) (hj : j < 8) (hp : s j 1 = 1 → s j 0 < 20) (Q : Int32 → nz_h → Prop) : ctI P d 152 [mO, vi (n32 j)] (rowf t, rowf s, L, Z, C) Q = Q (b2i (triS t s j)) (rowf t, rowf s, L, Z, C) := by
  obtain ⟨d, rfl⟩ := dge hd
  refine ctI_det (fun Q hq => sm152 ?_) Q
  have ho : opS t s j < 10 := hT.2.2.2.1 _
  by_cases h1 : s j 1 = 1
  · have hp := hp h1
    simp (disch := first | omega | (refine Nat.lt_of_lt_of_le (hB _ _) ?_; omega)) only [decide_eq_true_eq, decide_eq_false_iff_not, L32, az01, b2i_01, b2i_n0, b2i_n1, Bool.and_true, true_and, and_true, Classical.not_not, Bool.not_eq_true, Bool.not_eq_false, n32_mul, n32_add, n32_ix, n32_ib, n32_lt, n32_le, n32_inj, l_hb, l_hb0, l_shl, l_wo, l_eqm1, l_m1eq, m_get, m_op hB, rowf, m_asks hB]
    repeat' (first | (refine ⟨fun _ => ?_, fun _ => ?_⟩) | fail)
    all_goals first | contradiction | exact ans0 hq (by simp [*, triS]) | exact ans1 hq (by simp [*, triS])
  · simp (disch := first | omega | (refine Nat.lt_of_lt_of_le (hB _ _) ?_; omega)) only [decide_eq_true_eq, decide_eq_false_iff_not, L32, az01, b2i_01, b2i_n0, b2i_n1, Bool.and_true, true_and, and_true, Classical.not_not, Bool.not_eq_true, Bool.not_eq_false, n32_mul, n32_add, n32_ix, n32_ib, n32_lt, n32_le, n32_inj, l_hb, l_hb0, l_shl, l_wo, l_eqm1, l_m1eq, m_asks hB, h1]
    refine ⟨fun _ => ?_, fun hc => hc.elim⟩
    exact ans0 hq (by simp [triS, h1])
end
