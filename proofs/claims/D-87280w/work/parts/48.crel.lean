/-! the system's shop against the row: the relation; its leaves -/
def mchS (t : St) (i : Nat) : Nat := if t 58 i = 9 then t 59 i else 2 ^ t 59 i
def RT (o : Nat) (t : St) (C : nz_f5) : Prop :=
  (∀ m, m < 10 → C 7 o m 0 0 = n32 (t 55 m) ∧ C 7 o m 0 1 = n32 (t 56 m)) ∧
  (∀ j, j < 8 → C 8 o j 0 0 = n32 j ∧ C 8 o j 0 2 = n32 (t 57 j) ∧ C 8 o j 0 3 = n32 (t 61 j) ∧ C 8 o j 0 4 = n32 (t 62 j)) ∧
  (∀ j p, j < 8 → p < t 57 j → C 9 o j p 0 = n32 (t 58 (20 * j + p)) ∧ C 9 o j p 1 = n32 (mchS t (20 * j + p)) ∧ C 9 o j p 2 = n32 (t 60 (20 * j + p))) ∧
  C 1 o 0 0 5 = n32 (t 13 8)
def RJ (o : Nat) (t s : St) (C : nz_f5) (j : Nat) : Prop :=
  C 8 o j 0 6 = n32 (s j 1) ∧ C 8 o j 0 7 = n32 (s j 5) ∧ (∀ m, m < 10 → C 35 o j 0 m = n32 (s j (8 + m))) ∧
  (s j 1 ≠ 3 → C 8 o j 0 12 = b2i (decide (s j 1 = 1) && decide (0 < s j 4)) ∧ C 8 o j 0 13 = n32 (s j 2)) ∧
  (s j 1 = 1 ∨ s j 1 = 2 → C 8 o j 0 5 = n32 (s j 0)) ∧
  (s j 1 = 1 → C 8 o j 0 11 = b2i (atlS t s j) ∧ C 8 o j 0 8 = n32 (askS t s j) ∧ C 8 o j 0 9 = n32 (s j 3)) ∧
  (0 < s j 4 → C 8 o j 0 10 = n32 (s j 4)) ∧
  (s j 1 = 0 → ∃ q, q < 22 ∧ C 8 o j 0 5 = n32 q ∧ (s j 0 < t 57 j → q = s j 0) ∧ (t 57 j ≤ s j 0 → t 57 j ≤ q))
def QL (t s : St) (m : Nat) (q : List Nat) : Prop := (∀ x, x ∈ q ↔ x < 8 ∧ s x 1 = 2 ∧ onS t s x = m) ∧ q.Pairwise (fun a b => s a 7 < s b 7)
def RQ (o : Nat) (t s : St) (C : nz_f5) (m : Nat) : Prop := ∃ q : List Nat, QL t s m q ∧ C 28 o 0 0 m = n32 q.length ∧ ∀ (k x : Nat), q[k]? = some x → C 97 o m 0 k = n32 x
def RC (o : Nat) (t s : St) (C : nz_f5) : Prop := RT o t C ∧ (∀ j, j < 8 → RJ o t s C j) ∧ ∀ m, m < 10 → RQ o t s C m
section
variable {P : Nat × (Nat → Int32)} {d o : Nat} {t s : St} {h : nz_h}
abbrev jO (o j : Nat) : nz_V := vr (8, o, j, 0)
abbrev sO (o : Nat) : nz_V := vr (1, o, 0, 0)
theorem c_has {a k : Nat} (ha : a < 2147483648) (hk : k < 32) (hd : 2 ≤ d) (Q : Int32 → nz_h → Prop) : ctI P d 16 [vi (n32 a), vi (n32 k)] h Q = Q (b2i (a.testBit k)) h := by
  obtain ⟨d, rfl⟩ := dge hd
  refine ctI_det (fun Q hq => sm16 ?_) Q
  simp (disch := omega) only [decide_eq_true_eq, decide_eq_false_iff_not, L32, az01, b2i_01, b2i_n0, b2i_n1, Bool.and_true, true_and, and_true, Classical.not_not, Bool.not_eq_true, Bool.not_eq_false, n32_mul, n32_add, n32_ix, n32_ib, n32_lt, n32_le, n32_inj, l_hb, l_hb0, l_shl, l_wo, l_eqm1, l_m1eq]
  repeat' (first | (refine ⟨fun _ => ?_, fun _ => ?_⟩) | fail)
  all_goals first | contradiction | exact ans0 hq (by simp [*, ]) | exact ans1 hq (by simp [*, ])
theorem c_lowest {a x : Nat} (ha : a < 1024) (hx : fst 10 0 a.testBit = some x) (hd : 3 ≤ d) (Q : Int32 → nz_h → Prop) : ctI P d 15 [vi (n32 a)] h Q = Q (n32 x) h := by
  obtain ⟨d, rfl⟩ := dge hd
  refine ctI_det (fun Q hq => sm15 ?_) Q
  have loop : ∀ n m, n + m = 10 → fst n m a.testBit = some x → nzW P (d + 2) az_k15 2 [some (vi (n32 a)), some (vi (n32 m))] [] h (nz_RI Q) := by
    intro n
    induction n with
    | zero => intro m _ hf; cases hf
    | succ n ih =>
      intro m hm hf
      refine sg15_2 ?_
      rw [fst] at hf
      simp (disch := omega) only [decide_eq_true_eq, decide_eq_false_iff_not, L32, az01, b2i_01, b2i_n0, b2i_n1, Bool.and_true, true_and, and_true, Classical.not_not, Bool.not_eq_true, Bool.not_eq_false, n32_mul, n32_add, n32_ix, n32_ib, n32_lt, n32_le, n32_inj, l_hb, l_hb0, l_shl, l_wo, l_eqm1, l_m1eq, c_has]
      refine ⟨fun hb => ?_, fun hb => ?_⟩
      · rw [hb] at hf; cases hf; exact hq
      · rw [hb] at hf; exact ih (m + 1) (by omega) hf
  exact loop 10 0 rfl hx
theorem c_uses {j m : Nat} (hB : ∀ j f, s j f < 1000000) (hR : RC o t s h.2.2.2.2) (hd : 2 ≤ d) (hj : j < 8) (hm : m < 10) (Q : Int32 → nz_h → Prop) : ctI P d 80 [jO o j, vi (n32 m)] h Q = Q (b2i (decide (0 < s j (8 + m)))) h := by
  obtain ⟨d, rfl⟩ := dge hd
  refine ctI_det (fun Q hq => sm80 ?_) Q
  have e := (hR.2.1 j hj).2.2.1 m hm
  simp (disch := first | omega | (refine Nat.lt_of_lt_of_le (hB _ _) ?_; omega)) only [decide_eq_true_eq, decide_eq_false_iff_not, L32, az01, b2i_01, b2i_n0, b2i_n1, Bool.and_true, true_and, and_true, Classical.not_not, Bool.not_eq_true, Bool.not_eq_false, n32_mul, n32_add, n32_ix, n32_ib, n32_lt, n32_le, n32_inj, l_hb, l_hb0, l_shl, l_wo, l_eqm1, l_m1eq, e]
  refine ⟨hm, fun h0 => ans0 hq (decide_eq_false (by omega)), fun h0 => ans1 hq (decide_eq_true (by omega))⟩
theorem c_used {j : Nat} (hB : ∀ j f, s j f < 1000000) (hR : RC o t s h.2.2.2.2) (hd : 2 ≤ d) (hj : j < 8) (Q : Int32 → nz_h → Prop) : ctI P d 82 [jO o j] h Q = Q (n32 (bits 10 (fun m => decide (0 < s j (8 + m))))) h := by
  obtain ⟨d, rfl⟩ := dge hd
  refine ctI_det (fun Q hq => sm82 ?_) Q
  have loop : ∀ n m, n + m = 10 → nzW P (d + 1) az_k82 4 [some (jO o j), some (vi (n32 (bits m (fun m => decide (0 < s j (8 + m)))))), some (vi (n32 m))] [] h (nz_RI Q) := by
    intro n
    induction n with
    | zero =>
      intro m hm
      obtain rfl : m = 10 := by omega
      refine sg82_4 ?_
      simp (disch := first | omega | (refine Nat.lt_of_lt_of_le (hB _ _) ?_; omega)) only [decide_eq_true_eq, decide_eq_false_iff_not, L32, az01, b2i_01, b2i_n0, b2i_n1, Bool.and_true, true_and, and_true, Classical.not_not, Bool.not_eq_true, Bool.not_eq_false, n32_mul, n32_add, n32_ix, n32_ib, n32_lt, n32_le, n32_inj, l_hb, l_hb0, l_shl, l_wo, l_eqm1, l_m1eq]
      exact ⟨fun _ => hq, fun hc => by omega⟩
    | succ n ih =>
      intro m hm
      have hm10 : m < 10 := by omega
      have e := (hR.2.1 j hj).2.2.1 m hm10
      refine sg82_4 ?_
      simp (disch := first | omega | (refine Nat.lt_of_lt_of_le (hB _ _) ?_; omega)) only [decide_eq_true_eq, decide_eq_false_iff_not, L32, az01, b2i_01, b2i_n0, b2i_n1, Bool.and_true, true_and, and_true, Classical.not_not, Bool.not_eq_true, Bool.not_eq_false, n32_mul, n32_add, n32_ix, n32_ib, n32_lt, n32_le, n32_inj, l_hb, l_hb0, l_shl, l_wo, l_eqm1, l_m1eq, e, n32_or]
      refine ⟨fun hc => by omega, fun _ => ⟨hm10, fun h0 => ?_, fun h0 => ?_⟩⟩
      · rw [bits_F (p := fun m => decide (0 < s j (8 + m))) (decide_eq_false (by omega))]; exact ih (m + 1) (by omega)
      · rw [bits_T (p := fun m => decide (0 < s j (8 + m))) (decide_eq_true (by omega))]; exact ih (m + 1) (by omega)
  exact loop 10 0 rfl
theorem had_or {j : Nat} (h5 : s j 5 < 1024) : bits 10 (fun m => decide (0 < s j (8 + m))) ||| s j 5 = hadS s j := by
  apply Nat.eq_of_testBit_eq
  intro i
  unfold hadS
  rw [Nat.testBit_or, bits_bit, bits_bit]
  by_cases hi : i < 10
  · rw [decide_eq_true hi]; rfl
  · rw [decide_eq_false hi, Nat.testBit_lt_two_pow (Nat.lt_of_lt_of_le h5 (by
      have : 2 ^ 10 ≤ 2 ^ i := Nat.pow_le_pow_right (by decide) (by omega)
      omega))]; rfl
theorem c_having {j : Nat} (hI : INV t s) (hR : RC o t s h.2.2.2.2) (hd : 3 ≤ d) (hj : j < 8) (Q : Int32 → nz_h → Prop) : ctI P d 81 [jO o j] h Q = Q (n32 (hadS s j)) h := by
  obtain ⟨d, rfl⟩ := dge hd
  refine ctI_det (fun Q hq => sm81 ?_) Q
  have hB := hI.B
  have e := (hR.2.1 j hj).2.1
  simp (disch := first | omega | (refine Nat.lt_of_lt_of_le (hB _ _) ?_; omega)) only [decide_eq_true_eq, decide_eq_false_iff_not, L32, az01, b2i_01, b2i_n0, b2i_n1, Bool.and_true, true_and, and_true, Classical.not_not, Bool.not_eq_true, Bool.not_eq_false, n32_mul, n32_add, n32_ix, n32_ib, n32_lt, n32_le, n32_inj, l_hb, l_hb0, l_shl, l_wo, l_eqm1, l_m1eq, c_used hB hR, e, n32_or, had_or (hI.J hj).1.2.2.2]
  exact hq
theorem c_tries {j : Nat} (hT : TV t) (hI : INV t s) (hR : RC o t s h.2.2.2.2) (hd : 3 ≤ d) (hj : j < 8) (Q : Int32 → nz_h → Prop) : ctI P d 83 [jO o j] h Q = Q (b2i (triS t s j)) h := by
  obtain ⟨d, rfl⟩ := dge hd
  refine ctI_det (fun Q hq => sm83 ?_) Q
  have hB := hI.B
  obtain ⟨e6, e7, e35, e12, e5, e11, e10, e0⟩ := hR.2.1 j hj
  by_cases h1 : s j 1 = 1
  · have e12 := (e12 (by omega)).1
    have e5 := e5 (Or.inl h1)
    have hp := (hI.J hj).1.2.2.1 (Or.inl h1)
    have h57 := hT.2.2.1 j
    have e9 := (hR.1.2.2.1 j (s j 0) hj hp).1
    have ho : t 58 (20 * j + s j 0) < 10 := hT.2.2.2.1 _
    rw [h1] at e6 e12
    simp (disch := first | omega | (refine Nat.lt_of_lt_of_le (hB _ _) ?_; omega)) only [decide_eq_true_eq, decide_eq_false_iff_not, L32, az01, b2i_01, b2i_n0, b2i_n1, Bool.and_true, true_and, and_true, Classical.not_not, Bool.not_eq_true, Bool.not_eq_false, n32_mul, n32_add, n32_ix, n32_ib, n32_lt, n32_le, n32_inj, l_hb, l_hb0, l_shl, l_wo, l_eqm1, l_m1eq, e6, e12, e5, e9, Bool.true_and]
    refine ⟨fun hc => (hc trivial).elim, fun _ => ⟨fun h4 => ans0 hq ?_, fun h4 => ⟨by omega, fun h8 => ans0 hq ?_, fun h8 => ans1 hq ?_⟩⟩⟩
    · unfold triS; simp at h4; simp [show ¬ s j 4 = 0 by omega]
    · unfold triS opS; simp [h8]
    · unfold triS opS; simp at h4; simp [h1, h8, show s j 4 = 0 by omega]
  · simp (disch := first | omega | (refine Nat.lt_of_lt_of_le (hB _ _) ?_; omega)) only [decide_eq_true_eq, decide_eq_false_iff_not, L32, az01, b2i_01, b2i_n0, b2i_n1, Bool.and_true, true_and, and_true, Classical.not_not, Bool.not_eq_true, Bool.not_eq_false, n32_mul, n32_add, n32_ix, n32_ib, n32_lt, n32_le, n32_inj, l_hb, l_hb0, l_shl, l_wo, l_eqm1, l_m1eq, e6, h1]
    exact ⟨fun _ => ans0 hq (by unfold triS; simp [h1]), fun hc => hc.elim⟩
theorem c_user {m : Nat} (hB : ∀ j f, s j f < 1000000) (hR : RC o t s h.2.2.2.2) (hd : 3 ≤ d) (hm : m < 10) (Q : Int32 → nz_h → Prop) : ctI P d 42 [sO o, vi (n32 m)] h Q = Q (o2i (fst 8 0 (fun k => decide (0 < s k (8 + m))))) h := by
  obtain ⟨d, rfl⟩ := dge hd
  refine ctI_det (fun Q hq => sm42 ?_) Q
  have loop : ∀ n k, n + k = 8 → Q (o2i (fst n k (fun k => decide (0 < s k (8 + m))))) h → ∀ l0 l5, nzW P (d + 2) az_k42 11 [l0, some (vi (n32 m)), some (vr (26, o, 0, 0)), some (vi (n32 8)), some (vi (n32 k)), l5] [] h (nz_RI Q) := by
    intro n
    induction n with
    | zero =>
      intro k hk hqq l0 l5
      obtain rfl : k = 8 := by omega
      refine sg42_11 ?_
      simp (disch := first | omega | (refine Nat.lt_of_lt_of_le (hB _ _) ?_; omega)) only [decide_eq_true_eq, decide_eq_false_iff_not, L32, az01, b2i_01, b2i_n0, b2i_n1, Bool.and_true, true_and, and_true, Classical.not_not, Bool.not_eq_true, Bool.not_eq_false, n32_mul, n32_add, n32_ix, n32_ib, n32_lt, n32_le, n32_inj, l_hb, l_hb0, l_shl, l_wo, l_eqm1, l_m1eq]
      exact ⟨fun _ => hqq, fun hc => by omega⟩
    | succ n ih =>
      intro k hk hqq l0 l5
      have hk8 : k < 8 := by omega
      have e0 := (hR.1.2.1 k hk8).1
      rw [fst] at hqq
      refine sg42_11 ?_
      simp (disch := first | omega | (refine Nat.lt_of_lt_of_le (hB _ _) ?_; omega)) only [decide_eq_true_eq, decide_eq_false_iff_not, L32, az01, b2i_01, b2i_n0, b2i_n1, Bool.and_true, true_and, and_true, Classical.not_not, Bool.not_eq_true, Bool.not_eq_false, n32_mul, n32_add, n32_ix, n32_ib, n32_lt, n32_le, n32_inj, l_hb, l_hb0, l_shl, l_wo, l_eqm1, l_m1eq, c_uses hB hR, e0]
      refine ⟨fun hc => by omega, fun _ => ⟨hk8, fun hb => ?_, fun hb => ?_⟩⟩
      · rw [decide_eq_false hb] at hqq; exact ih (k + 1) (by omega) hqq _ _
      · rw [decide_eq_true hb] at hqq; exact hqq
  exact loop 8 0 rfl hq _ _
theorem c_looking {m : Nat} (hB : ∀ j f, s j f < 1000000) (hR : RC o t s h.2.2.2.2) (hd : 3 ≤ d) (hm : m < 10) (Q : Int32 → nz_h → Prop) : ctI P d 43 [sO o, vi (n32 m)] h Q = Q (n32 (bits 8 (fun k => (s k 5).testBit m))) h := by
  obtain ⟨d, rfl⟩ := dge hd
  refine ctI_det (fun Q hq => sm43 ?_) Q
  have loop : ∀ n k, n + k = 8 → ∀ l0 l6, nzW P (d + 2) az_k43 14 [l0, some (vi (n32 m)), some (vi (n32 (bits k (fun k => (s k 5).testBit m)))), some (vr (26, o, 0, 0)), some (vi (n32 8)), some (vi (n32 k)), l6] [] h (nz_RI Q) := by
    intro n
    induction n with
    | zero =>
      intro k hk l0 l6
      obtain rfl : k = 8 := by omega
      refine sg43_14 ?_
      simp (disch := first | omega | (refine Nat.lt_of_lt_of_le (hB _ _) ?_; omega)) only [decide_eq_true_eq, decide_eq_false_iff_not, L32, az01, b2i_01, b2i_n0, b2i_n1, Bool.and_true, true_and, and_true, Classical.not_not, Bool.not_eq_true, Bool.not_eq_false, n32_mul, n32_add, n32_ix, n32_ib, n32_lt, n32_le, n32_inj, l_hb, l_hb0, l_shl, l_wo, l_eqm1, l_m1eq]
      exact ⟨fun _ => hq, fun hc => by omega⟩
    | succ n ih =>
      intro k hk l0 l6
      have hk8 : k < 8 := by omega
      have e0 := (hR.1.2.1 k hk8).1
      have e7 := (hR.2.1 k hk8).2.1
      refine sg43_14 ?_
      simp (disch := first | omega | (refine Nat.lt_of_lt_of_le (hB _ _) ?_; omega)) only [decide_eq_true_eq, decide_eq_false_iff_not, L32, az01, b2i_01, b2i_n0, b2i_n1, Bool.and_true, true_and, and_true, Classical.not_not, Bool.not_eq_true, Bool.not_eq_false, n32_mul, n32_add, n32_ix, n32_ib, n32_lt, n32_le, n32_inj, l_hb, l_hb0, l_shl, l_wo, l_eqm1, l_m1eq, e7, c_has, e0, n32_or]
      refine ⟨fun hc => by omega, fun _ => ⟨hk8, fun hb => ?_, fun hb => ?_⟩⟩
      · rw [bits_F (p := fun k => (s k 5).testBit m) hb]; exact ih (k + 1) (by omega) _ _
      · rw [bits_T (p := fun k => (s k 5).testBit m) hb]; exact ih (k + 1) (by omega) _ _
  exact loop 8 0 rfl _ _
theorem pc_step : ∀ a, a < 256 → 0 < a → cnt 8 (a &&& (a - 1)).testBit + 1 = cnt 8 a.testBit := by decide +kernel
theorem c_many {a : Nat} (ha : a < 256) (hd : 2 ≤ d) (Q : Int32 → nz_h → Prop) : ctI P d 44 [vi (n32 a)] h Q = Q (n32 (cnt 8 a.testBit)) h := by
  obtain ⟨d, rfl⟩ := dge hd
  refine ctI_det (fun Q hq => sm44 ?_) Q
  have loop : ∀ n b c, cnt 8 b.testBit = n → b < 256 → c + n = cnt 8 a.testBit → ∀ l0, nzW P (d + 1) az_k44 4 [l0, some (vi (n32 c)), some (vi (n32 b))] [] h (nz_RI Q) := by
    intro n
    induction n with
    | zero =>
      intro b c hb hb2 hc l0
      have h0 : b = 0 := by
        rcases Nat.eq_zero_or_pos b with h | h
        · exact h
        · have := pc_step b hb2 h; omega
      refine sg44_4 ?_
      simp (disch := omega) only [decide_eq_true_eq, decide_eq_false_iff_not, L32, az01, b2i_01, b2i_n0, b2i_n1, Bool.and_true, true_and, and_true, Classical.not_not, Bool.not_eq_true, Bool.not_eq_false, n32_mul, n32_add, n32_ix, n32_ib, n32_lt, n32_le, n32_inj, l_hb, l_hb0, l_shl, l_wo, l_eqm1, l_m1eq, h0]
      refine ⟨fun _ => ?_, fun hc => (hc trivial).elim⟩
      rw [show c = cnt 8 a.testBit by omega]; exact hq
    | succ n ih =>
      intro b c hb hb2 hc l0
      have hpos : 0 < b := by
        rcases Nat.eq_zero_or_pos b with h | h
        · rw [h] at hb; simp [cnt] at hb
        · exact h
      have := pc_step b hb2 hpos
      refine sg44_4 ?_
      simp (disch := omega) only [decide_eq_true_eq, decide_eq_false_iff_not, L32, az01, b2i_01, b2i_n0, b2i_n1, Bool.and_true, true_and, and_true, Classical.not_not, Bool.not_eq_true, Bool.not_eq_false, n32_mul, n32_add, n32_ix, n32_ib, n32_lt, n32_le, n32_inj, l_hb, l_hb0, l_shl, l_wo, l_eqm1, l_m1eq, n32_sub, n32_and]
      refine ⟨fun hz => by omega, fun _ => ?_⟩
      exact ih (b &&& (b - 1)) (c + 1) (by omega) (Nat.and_lt_two_pow (n := 8) b (by omega)) (by omega) _
  exact loop _ a 0 rfl ha (by omega) _
end
