/-! who keeps whom; what a grant does -/
theorem l_and31 {m : Nat} (h : m < 32) : m &&& 31 = m := by
  rw [show (31 : Nat) = 2 ^ 5 - 1 from rfl, Nat.and_two_pow_sub_one_eq_mod]; exact Nat.mod_eq_of_lt h
theorem l_shl2 {m : Nat} (h : m < 32) : (n32 1 <<< n32 (m &&& 31)) = n32 (2 ^ m) := by
  rw [l_and31 h]
  have := l_shl h
  rw [n32_and, l_and31 h] at this
  exact this
def cnt : Nat → (Nat → Bool) → Nat
  | 0, _ => 0
  | n + 1, p => cnt n p + cond (p n) 1 0
def fst : Nat → Nat → (Nat → Bool) → Option Nat
  | 0, _, _ => none
  | n + 1, k, p => cond (p k) (some k) (fst n (k + 1) p)
def AV (t s : St) (j : Nat) : Prop := s j 0 < 20 ∧ (0 < s j 4 → opS t s j = 5)
theorem AV.on {t s : St} {j : Nat} (hT : TV t) (h : AV t s j) : 0 < s j 4 → onS t s j < 10 := fun h4 => hT.2.2.2.2.2.1 _ (by have := h.2 h4; unfold opS at this; rw [this]; decide)
def usB (s : St) (j m k : Nat) : Bool := !decide (k = j) && decide (0 < s k (8 + m))
def lkB (s : St) (j m k : Nat) : Bool := !decide (k = j) && (s k 5).testBit m
def kpG (t s : St) (j m n k : Nat) : Nat := match fst n k (usB s j m) with
  | some k' => 2 ^ k'
  | none => if cnt 8 (lkB s j m) < t 56 m then 0 else bits 8 (lkB s j m)
def kpB (t s : St) (j k : Nat) : Bool := !decide (k = j) && !decide (hadS s k &&& askS t s j = 0)
def kpS (t s : St) (j : Nat) : Nat := cond (atlS t s j) (kpG t s j (onS t s j) 8 0) (bits 8 (kpB t s j))
def canS (t s : St) (j : Nat) : Bool := decide (kpS t s j = 0) && (!atlS t s j || decide (0 < t 56 (onS t s j)))
theorem hadS_lt (s : St) (j : Nat) : hadS s j < 1024 := bits_lt 10 _
theorem askS_lt {t s : St} {j : Nat} (h : onS t s j < 10 ∨ onlyS t s j = false) : askS t s j < 1024 := by
  unfold askS
  cases ho : onlyS t s j with
  | true =>
    rcases h with h | h
    · exact Nat.pow_lt_pow_right (by decide) h
    · rw [ho] at h; cases h
  | false => exact bits_lt 10 _
theorem kpG_lt (t s : St) (j m : Nat) : ∀ n k, n + k = 8 → kpG t s j m n k < 256 := by
  intro n
  induction n with
  | zero =>
    intro k hk
    unfold kpG fst
    simp only
    split
    · decide
    · exact bits_lt 8 _
  | succ n ih =>
    intro k hk
    have := ih (k + 1) (by omega)
    unfold kpG at this ⊢
    rw [fst]
    cases hp : usB s j m k with
    | true => exact Nat.pow_lt_pow_right (a := 2) (m := k) (n := 8) (by decide) (by omega)
    | false => exact this
theorem kpS_lt (t s : St) (j : Nat) : kpS t s j < 256 := by
  unfold kpS
  cases atlS t s j with
  | true => exact kpG_lt t s j _ 8 0 rfl
  | false => exact bits_lt 8 _
section
variable {P : Nat × (Nat → Int32)} {d : Nat} {t s : St} {L Z : nz_f2} {C : nz_f5}
theorem cnt_le (n : Nat) (p : Nat → Bool) : cnt n p ≤ n := by
  induction n with
  | zero => exact Nat.le_refl _
  | succ n ih =>
    rw [cnt]
    cases p n <;> simp <;> omega
theorem m_keepers {j : Nat} (hB : ∀ j f, s j f < 1000000) (hT : TV t) (hd : 7 ≤ d) (hj : j < 8) (hA : AV t s j) (Q : Int32 → nz_h → Prop) : ctI P d 135 [mO, vi (n32 j)] (rowf t, rowf s, L, Z, C) Q = Q (n32 (kpS t s j)) (rowf t, rowf s, L, Z, C) := by
  obtain ⟨d, rfl⟩ := dge hd
  refine ctI_det (fun Q hq => sm135 ?_) Q
  have hp := hA.1
  have hon := hA.on hT
  have hn' : opS t s j ≠ 9 → onS t s j < 10 := hT.2.2.2.2.2.1 _
  have loopA : ∀ m, m < 10 → ∀ n k, n + k = 8 → Q (n32 (kpG t s j m n k)) (rowf t, rowf s, L, Z, C) → nzW P (d + 6) az_k135 22 [some mO, some (vi (n32 j)), some (vi (n32 (bits k (lkB s j m)))), some (vi (n32 m)), some (vi (n32 (cnt k (lkB s j m)))), some (vi (n32 k))] [] (rowf t, rowf s, L, Z, C) (nz_RI Q) := by
    intro m hm n
    have hl : t 56 m < 9 := hT.2.1 m
    induction n with
    | zero =>
      intro k hk hqq
      obtain rfl : k = 8 := by omega
      refine sg135_22 ?_
      have := cnt_le 8 (lkB s j m)
      simp (disch := first | omega | (refine Nat.lt_of_lt_of_le (hB _ _) ?_; omega)) only [decide_eq_true_eq, decide_eq_false_iff_not, L32, az01, b2i_01, b2i_n0, b2i_n1, Bool.and_true, true_and, and_true, Classical.not_not, Bool.not_eq_true, Bool.not_eq_false, n32_mul, n32_add, n32_ix, n32_ib, n32_lt, n32_le, n32_inj, l_hb, l_hb0, l_shl, l_wo, l_eqm1, l_m1eq, rowf_at]
      refine ⟨fun _ => ⟨by omega, fun hc => ?_, fun hc => ?_⟩, fun hc => by omega⟩
      · unfold kpG fst at hqq
        simp only at hqq
        rw [if_neg (by omega)] at hqq
        exact hqq
      · unfold kpG fst at hqq
        simp only at hqq
        rw [if_pos (by omega)] at hqq
        exact hqq
    | succ n ih =>
      intro k hk hqq
      refine sg135_22 ?_
      have hk8 : k < 8 := by omega
      have hkb := hB k (8 + m)
      unfold kpG at hqq
      rw [fst] at hqq
      by_cases hkj : k = j
      · have e1 : usB s j m k = false := by unfold usB; simp [hkj]
        have e2 : lkB s j m k = false := by unfold lkB; simp [hkj]
        have h2 := ih (k + 1) (by omega) (by unfold kpG; rw [e1] at hqq; exact hqq)
        rw [← bits_F e2, cnt, e2, cond_false, Nat.add_zero] at h2
        simp (disch := first | omega | (refine Nat.lt_of_lt_of_le (hB _ _) ?_; omega)) only [decide_eq_true_eq, decide_eq_false_iff_not, L32, az01, b2i_01, b2i_n0, b2i_n1, Bool.and_true, true_and, and_true, Classical.not_not, Bool.not_eq_true, Bool.not_eq_false, n32_mul, n32_add, n32_ix, n32_ib, n32_lt, n32_le, n32_inj, l_hb, l_hb0, l_shl, l_wo, l_eqm1, l_m1eq, hkj, if_true, not_true_eq_false, false_implies]
        rw [hkj] at h2 hk
        exact ⟨fun hc => by omega, fun _ => fun _ => fun _ => h2⟩
      · have e1 : usB s j m k = decide (0 < s k (8 + m)) := by unfold usB; simp [hkj]
        have e2 : lkB s j m k = (s k 5).testBit m := by unfold lkB; simp [hkj]
        simp (disch := first | omega | (refine Nat.lt_of_lt_of_le (hB _ _) ?_; omega)) only [decide_eq_true_eq, decide_eq_false_iff_not, L32, az01, b2i_01, b2i_n0, b2i_n1, Bool.and_true, true_and, and_true, Classical.not_not, Bool.not_eq_true, Bool.not_eq_false, n32_mul, n32_add, n32_ix, n32_ib, n32_lt, n32_le, n32_inj, l_hb, l_hb0, l_shl, l_wo, l_eqm1, l_m1eq, hkj, m_times, m_looks hB, rowf_at, false_implies, n32_or]
        refine ⟨fun hc => by omega, fun _ => fun _ => ⟨fun h0 => fun _ => ⟨fun hb => ?_, fun hb => ?_⟩, fun h0 => ?_⟩⟩
        · have h2 := ih (k + 1) (by omega) (by unfold kpG; rw [e1, decide_eq_false (by omega)] at hqq; exact hqq)
          rw [← bits_T (e2.trans hb), cnt, e2, hb] at h2
          exact h2
        · have h2 := ih (k + 1) (by omega) (by unfold kpG; rw [e1, decide_eq_false (by omega)] at hqq; exact hqq)
          rw [← bits_F (e2.trans hb), cnt, e2, hb] at h2
          exact h2
        · rw [e1, decide_eq_true (by omega)] at hqq
          exact hqq
  have loopB : ∀ n k, n + k = 8 → atlS t s j = false → ∀ l5, nzW P (d + 6) az_k135 111 [some mO, some (vi (n32 j)), some (vi (n32 (bits k (kpB t s j)))), some (vi (n32 (askS t s j))), some (vi (n32 k)), l5] [] (rowf t, rowf s, L, Z, C) (nz_RI Q) := by
    intro n
    induction n with
    | zero =>
      intro k hk ha l5
      obtain rfl : k = 8 := by omega
      refine sg135_111 ?_
      simp (disch := first | omega | (refine Nat.lt_of_lt_of_le (hB _ _) ?_; omega)) only [decide_eq_true_eq, decide_eq_false_iff_not, L32, az01, b2i_01, b2i_n0, b2i_n1, Bool.and_true, true_and, and_true, Classical.not_not, Bool.not_eq_true, Bool.not_eq_false, n32_mul, n32_add, n32_ix, n32_ib, n32_lt, n32_le, n32_inj, l_hb, l_hb0, l_shl, l_wo, l_eqm1, l_m1eq]
      refine ⟨fun _ => ?_, fun hc => by omega⟩
      unfold kpS at hq
      rw [ha] at hq
      exact hq
    | succ n ih =>
      intro k hk ha l5
      refine sg135_111 ?_
      have hk8 : k < 8 := by omega
      by_cases hkj : k = j
      · have e2 : kpB t s j k = false := by unfold kpB; simp [hkj]
        have h2 := ih (k + 1) (by omega) ha l5
        rw [← bits_F e2] at h2
        simp (disch := first | omega | (refine Nat.lt_of_lt_of_le (hB _ _) ?_; omega)) only [decide_eq_true_eq, decide_eq_false_iff_not, L32, az01, b2i_01, b2i_n0, b2i_n1, Bool.and_true, true_and, and_true, Classical.not_not, Bool.not_eq_true, Bool.not_eq_false, n32_mul, n32_add, n32_ix, n32_ib, n32_lt, n32_le, n32_inj, l_hb, l_hb0, l_shl, l_wo, l_eqm1, l_m1eq, hkj, not_true_eq_false, false_implies]
        rw [hkj] at h2
        exact ⟨fun hc => by omega, fun _ _ => h2⟩
      · have hand : hadS s k &&& askS t s j < 1024 := Nat.and_lt_two_pow (n := 10) _ (askS_lt (by
          cases ho : onlyS t s j with
          | false => right; rfl
          | true =>
            left
            unfold onlyS at ho
            simp only [Bool.or_eq_true, decide_eq_true_eq, Bool.not_eq_true', decide_eq_false_iff_not] at ho
            rcases ho with ho | ho
            · exact hon ho
            · exact hn' ho))
        simp (disch := first | omega | (refine Nat.lt_of_lt_of_le (hB _ _) ?_; omega)) only [decide_eq_true_eq, decide_eq_false_iff_not, L32, az01, b2i_01, b2i_n0, b2i_n1, Bool.and_true, true_and, and_true, Classical.not_not, Bool.not_eq_true, Bool.not_eq_false, n32_mul, n32_add, n32_ix, n32_ib, n32_lt, n32_le, n32_inj, l_hb, l_hb0, l_shl, l_wo, l_eqm1, l_m1eq, hkj, m_had hB, n32_and, false_implies, n32_or, l_shl2]
        refine ⟨fun hc => by omega, fun _ => fun _ => ⟨fun h0 => ?_, fun h0 => ?_⟩⟩
        · have e2 : kpB t s j k = false := by unfold kpB; simp [hkj, h0]
          have h2 := ih (k + 1) (by omega) ha l5
          rw [← bits_F e2] at h2
          exact h2
        · have e2 : kpB t s j k = true := by unfold kpB; simp [hkj, h0]
          have h2 := ih (k + 1) (by omega) ha l5
          rw [← bits_T e2] at h2
          exact h2
  have ho : opS t s j < 10 := hT.2.2.2.1 _
  simp (disch := first | omega | (refine Nat.lt_of_lt_of_le (hB _ _) ?_; omega)) only [decide_eq_true_eq, decide_eq_false_iff_not, L32, az01, b2i_01, b2i_n0, b2i_n1, Bool.and_true, true_and, and_true, Classical.not_not, Bool.not_eq_true, Bool.not_eq_false, n32_mul, n32_add, n32_ix, n32_ib, n32_lt, n32_le, n32_inj, l_hb, l_hb0, l_shl, l_wo, l_eqm1, l_m1eq, m_atl hB hT, m_asked hB hT, m_on hB]
  refine ⟨fun ha => loopB 8 0 rfl ha _, fun ha => ?_⟩
  have h2 : opS t s j = 2 := by unfold atlS at ha; simp at ha; exact ha.2
  refine loopA _ (hn' (by omega)) 8 0 rfl ?_
  unfold kpS at hq
  rw [ha] at hq
  exact hq
theorem m_can {j : Nat} (hB : ∀ j f, s j f < 1000000) (hT : TV t) (hd : 8 ≤ d) (hj : j < 8) (hA : AV t s j) (Q : Int32 → nz_h → Prop) : ctI P d 148 [mO, vi (n32 j)] (rowf t, rowf s, L, Z, C) Q = Q (b2i (canS t s j)) (rowf t, rowf s, L, Z, C) := by
  obtain ⟨d, rfl⟩ := dge hd
  refine ctI_det (fun Q hq => sm148 ?_) Q
  have hp := hA.1
  have hn : onS t s j < 1024 := hT.2.2.2.2.1 _
  have hl : t 56 (onS t s j) < 9 := hT.2.1 _
  have hk := kpS_lt t s j
  have hn' : opS t s j ≠ 9 → onS t s j < 10 := hT.2.2.2.2.2.1 _
  simp (disch := first | omega | (refine Nat.lt_of_lt_of_le (hB _ _) ?_; omega)) only [decide_eq_true_eq, decide_eq_false_iff_not, L32, az01, b2i_01, b2i_n0, b2i_n1, Bool.and_true, true_and, and_true, Classical.not_not, Bool.not_eq_true, Bool.not_eq_false, n32_mul, n32_add, n32_ix, n32_ib, n32_lt, n32_le, n32_inj, l_hb, l_hb0, l_shl, l_wo, l_eqm1, l_m1eq, m_atl hB hT, m_keepers hB hT, m_on hB, rowf_at, hA]
  refine ⟨fun h1 => ans0 hq (by simp [canS, h1]), fun h1 => ⟨fun h2 => ans1 hq (by simp [canS, h1, h2]), fun h2 => ⟨?_, fun h3 => ans0 hq (by simp [canS, h1, h2]; omega), fun h3 => ans1 hq (by simp [canS, h1]; right; omega)⟩⟩⟩
  have : opS t s j = 2 := by unfold atlS at h2; simp at h2; exact h2.2
  exact hn' (by omega)
end
