/-! what a grant does; what is counted -/
def incL (L : nz_f2) (kd j : Nat) : nz_f2 := cond (decide (L 13 13 = n32 0)) L (nz_u2 L kd j (L kd j + n32 1))
def getF (t s : St) (j f : Nat) : Nat :=
  cond (atlS t s j) (if f = 5 then s j 5 ||| askS t s j else s j f)
    (cond (decide (0 < s j 4)) (if f = 8 + onS t s j then s j 4 else s j f)
      (cond (decide (opS t s j = 9)) (if 8 ≤ f ∧ f < 18 ∧ (onS t s j).testBit (f - 8) = true then s j f + 1 else s j f)
        (if f = 5 then nwo (s j 5) (askS t s j) else if f = 8 + onS t s j then 1 else s j f)))
def getsS (t s : St) (j : Nat) : St := upj s j (fun f => if f = 1 ∨ f = 3 ∨ f = 4 then 0 else if f = 0 then s j 0 + 1 else getF t s j f)
theorem getF_cl {t s : St} {j : Nat} (X : St) (h : ∀ a f, X a f = if a = j then (if f = 1 ∨ f = 3 ∨ f = 4 ∨ f = 0 then s j f else getF t s j f) else s a f) : goesS (up (up X j 4 0) j 3 0) j = getsS t s j := by
  funext a f
  have h1 := h j
  have h2 := h a f
  simp only [goesS, getsS, upj, up]
  by_cases ha : a = j
  · subst ha
    simp only [if_true, true_and] at h2 ⊢
    by_cases f1 : f = 1
    · subst f1; simp
    · by_cases f0 : f = 0
      · subst f0
        have h3 := h1 0
        simp at h3
        simp [h3]
      · by_cases f3 : f = 3
        · subst f3; simp
        · by_cases f4 : f = 4
          · subst f4; simp
          · simp [f1, f0, f3, f4] at h2 ⊢
            exact h2
  · simp [ha] at h2 ⊢
    exact h2
section
variable {P : Nat × (Nat → Int32)} {d : Nat} {t s : St} {L Z : nz_f2} {C : nz_f5}
theorem uL_row {T S : nz_f2} (a b : Nat) (v : Int32) : nz_uL (T, S, L, Z, C) a b v = (T, S, nz_u2 L a b v, Z, C) := rfl
theorem uZ_row {T S : nz_f2} (a b : Nat) (v : Int32) : nz_uZ (T, S, L, Z, C) a b v = (T, S, L, nz_u2 Z a b v, C) := rfl
theorem uT_row {T S : nz_f2} (a b : Nat) (v : Int32) : nz_uT (T, S, L, Z, C) a b v = (nz_u2 T a b v, S, L, Z, C) := rfl
theorem m_illegal {j : Nat} (hd : 4 ≤ d) (hj : j < 8) (Q : nz_h → Prop) : ctV P d 128 [mO, vi (n32 j)] (rowf t, rowf s, L, Z, C) Q = Q (rowf t, rowf (goesS s j), incL L 68 j, Z, C) := by
  obtain ⟨d, rfl⟩ := dge hd
  refine ctV_det (fun Q hq => sm128 ?_) Q
  simp (disch := omega) only [decide_eq_true_eq, decide_eq_false_iff_not, L32, az01, b2i_01, b2i_n0, b2i_n1, Bool.and_true, true_and, and_true, Classical.not_not, Bool.not_eq_true, Bool.not_eq_false, n32_mul, n32_add, n32_ix, n32_ib, n32_lt, n32_le, n32_inj, l_hb, l_hb0, l_shl, l_wo, l_eqm1, l_m1eq, uL_row, m_goes]
  unfold incL at hq
  refine ⟨fun h0 => ?_, fun h0 => ⟨hj, hj, ?_⟩⟩
  · rw [decide_eq_true h0] at hq; exact hq
  · rw [decide_eq_false h0] at hq; exact hq
theorem m_passes {j : Nat} (hd : 4 ≤ d) (hj : j < 8) (Q : nz_h → Prop) : ctV P d 153 [mO, vi (n32 j)] (rowf t, rowf s, L, Z, C) Q = Q (rowf t, rowf (passS s j), incL L 69 j, Z, C) := by
  obtain ⟨d, rfl⟩ := dge hd
  refine ctV_det (fun Q hq => sm153 ?_) Q
  simp (disch := omega) only [decide_eq_true_eq, decide_eq_false_iff_not, L32, az01, b2i_01, b2i_n0, b2i_n1, Bool.and_true, true_and, and_true, Classical.not_not, Bool.not_eq_true, Bool.not_eq_false, n32_mul, n32_add, n32_ix, n32_ib, n32_lt, n32_le, n32_inj, l_hb, l_hb0, l_shl, l_wo, l_eqm1, l_m1eq, uL_row, m_setr, m_getr]
  have e : up (up (up s j 3 0) j 1 0) j 0 (up (up s j 3 0) j 1 0 j 0 + 2) = passS s j := by
    unfold passS; funext a f; simp only [up, upj]; (repeat' split) <;> (first | rfl | omega | (exfalso; omega) | (simp_all; done) | (simp_all; omega))
  rw [e]
  unfold incL at hq
  refine ⟨fun h0 => ?_, fun h0 => ⟨hj, hj, ?_⟩⟩
  · rw [decide_eq_true h0] at hq; exact hq
  · rw [decide_eq_false h0] at hq; exact hq
def get9 (t s : St) (j m : Nat) : St := upj s j (fun f => if 8 ≤ f ∧ f < 18 ∧ (onS t s j).testBit (f - 8) = true ∧ (0 < s j f ∨ f < 8 + m) then s j f + 1 else s j f)
theorem get9_T {j m : Nat} (h1 : (onS t s j).testBit m = true) (h2 : s j (8 + m) = 0) (hm : m < 10) : up (get9 t s j m) j (8 + m) 1 = get9 t s j (m + 1) := by
  funext a f
  simp only [get9, upj, up]
  by_cases ha : a = j
  · subst ha
    by_cases hf : f = 8 + m
    · subst hf
      rw [if_pos ⟨rfl, rfl⟩, if_pos rfl, if_pos ⟨by omega, by omega, by rw [show 8 + m - 8 = m by omega]; exact h1, by omega⟩, h2]
    · rw [if_neg (by omega), if_pos rfl, if_pos rfl]
      by_cases hc : 8 ≤ f ∧ f < 18 ∧ (onS t s a).testBit (f - 8) = true ∧ (0 < s a f ∨ f < 8 + m)
      · rw [if_pos hc, if_pos ⟨hc.1, hc.2.1, hc.2.2.1, by omega⟩]
      · rw [if_neg hc, if_neg (fun hh => hc ⟨hh.1, hh.2.1, hh.2.2.1, by omega⟩)]
  · rw [if_neg (by omega), if_neg ha, if_neg ha]
theorem get9_F {j m : Nat} (h : ¬ ((onS t s j).testBit m = true ∧ s j (8 + m) = 0)) : get9 t s j m = get9 t s j (m + 1) := by
  funext a f
  simp only [get9, upj]
  by_cases ha : a = j
  · subst ha
    rw [if_pos rfl, if_pos rfl]
    by_cases hc : 8 ≤ f ∧ f < 18 ∧ (onS t s a).testBit (f - 8) = true ∧ (0 < s a f ∨ f < 8 + m)
    · rw [if_pos hc, if_pos ⟨hc.1, hc.2.1, hc.2.2.1, by omega⟩]
    · rw [if_neg hc, if_neg]
      rintro ⟨q1, q2, q3, q4⟩
      by_cases hf : f = 8 + m
      · subst hf
        rw [show 8 + m - 8 = m by omega] at q3
        refine h ⟨q3, ?_⟩
        apply Classical.byContradiction
        intro h0
        exact hc ⟨q1, q2, by rw [show 8 + m - 8 = m by omega]; exact q3, by omega⟩
      · exact hc ⟨q1, q2, q3, by omega⟩
  · rw [if_neg ha, if_neg ha]
theorem get9_0 {j : Nat} : moreS s j (onS t s j) = get9 t s j 0 := by
  funext a f
  simp only [get9, moreS, upj]
  by_cases ha : a = j
  · rw [if_pos ha, if_pos ha]
    by_cases hc : 8 ≤ f ∧ f < 18 ∧ (onS t s j).testBit (f - 8) = true ∧ 0 < s j f
    · rw [if_pos hc, if_pos ⟨hc.1, hc.2.1, hc.2.2.1, by omega⟩]
    · rw [if_neg hc, if_neg (fun hh => hc ⟨hh.1, hh.2.1, hh.2.2.1, by omega⟩)]
  · rw [if_neg ha, if_neg ha]
theorem m_gets {j : Nat} (hB : ∀ j f, s j f < 1000000) (hT : TV t) (hd : 6 ≤ d) (hj : j < 8) (hA : AV t s j) (Q : nz_h → Prop) : ctV P d 149 [mO, vi (n32 j)] (rowf t, rowf s, L, Z, C) Q = Q (rowf t, rowf (getsS t s j), L, Z, C) := by
  obtain ⟨d, rfl⟩ := dge hd
  refine ctV_det (fun Q hq => sm149 ?_) Q
  have hp := hA.1
  have hon := hA.on hT
  have hn : onS t s j < 1024 := hT.2.2.2.2.1 _
  have ho : opS t s j < 10 := hT.2.2.2.1 _
  have hn' : opS t s j ≠ 9 → onS t s j < 10 := hT.2.2.2.2.2.1 _
  simp (disch := first | omega | (refine Nat.lt_of_lt_of_le (hB _ _) ?_; omega)) only [decide_eq_true_eq, decide_eq_false_iff_not, L32, az01, b2i_01, b2i_n0, b2i_n1, Bool.and_true, true_and, and_true, Classical.not_not, Bool.not_eq_true, Bool.not_eq_false, n32_mul, n32_add, n32_ix, n32_ib, n32_lt, n32_le, n32_inj, l_hb, l_hb0, l_shl, l_wo, l_eqm1, l_m1eq, m_atl hB hT, m_asked hB hT, m_on hB, m_getr, m_setr, m_goes, m_op hB, n32_or, m_more hB]
  refine ⟨fun h2 => ⟨fun h4 => ⟨fun h9 => ?_, fun h9 => ?_⟩, fun h4 => ?_⟩, fun h2 => ?_⟩
  · have hask : askS t s j < 1024 := askS_lt (Or.inl (hn' h9))
    have hn10 := hn' h9
    simp (disch := first | omega | (refine Nat.lt_of_lt_of_le (hB _ _) ?_; omega)) only [n32_mul, n32_add, n32_ix, n32_ib, n32_lt, n32_le, n32_inj, l_hb, l_hb0, l_shl, l_wo, l_eqm1, l_m1eq, m_setr, m_goes]
    rw [getF_cl (t := t) (s := s)]
    · exact hq
    · intro a f
      simp only [up]
      by_cases ha : a = j
      · subst ha
        simp only [true_and, if_true]
        unfold getF
        rw [h2, decide_eq_false (by omega : ¬ 0 < s a 4), decide_eq_false h9]
        simp only [cond_false]
        by_cases f8 : f = 8 + onS t s a
        · subst f8
          rw [if_pos rfl, if_neg (by omega), if_neg (by omega), if_pos rfl]
        · rw [if_neg f8]
          by_cases f5 : f = 5
          · subst f5; simp
          · rw [if_neg f5]
            by_cases fq : f = 1 ∨ f = 3 ∨ f = 4 ∨ f = 0
            · rw [if_pos fq]
            · rw [if_neg fq, if_neg f5, if_neg f8]
      · rw [if_neg (by omega), if_neg (by omega), if_neg ha]
  · rw [get9_0]
    have hbit : ∀ m, m < 10 → (askS t s j).testBit m = ((onS t s j).testBit m && decide (s j (8 + m) = 0)) := by
      intro m hm
      unfold askS onlyS
      rw [decide_eq_false (by omega : ¬ 0 < s j 4), h9]
      simp only [decide_true, Bool.not_true, Bool.or_false, cond_false]
      rw [bits_bit, decide_eq_true hm, Bool.true_and]
    have hask : askS t s j < 1024 := askS_lt (Or.inr (by unfold onlyS; rw [decide_eq_false (by omega : ¬ 0 < s j 4), h9]; rfl))
    have loop : ∀ n m, n + m = 10 → ∀ l3, nzW P (d + 5) az_k149 83 [some mO, some (vi (n32 j)), some (vi (n32 (askS t s j))), l3, some (vi (n32 m))] [] (rowf t, rowf (get9 t s j m), L, Z, C) (nz_RV Q) := by
      intro n
      induction n with
      | zero =>
        intro m hm l3
        obtain rfl : m = 10 := by omega
        refine sg149_83 ?_
        simp (disch := first | omega | (refine Nat.lt_of_lt_of_le (hB _ _) ?_; omega)) only [decide_eq_true_eq, decide_eq_false_iff_not, L32, az01, b2i_01, b2i_n0, b2i_n1, Bool.and_true, true_and, and_true, Classical.not_not, Bool.not_eq_true, Bool.not_eq_false, n32_mul, n32_add, n32_ix, n32_ib, n32_lt, n32_le, n32_inj, l_hb, l_hb0, l_shl, l_wo, l_eqm1, l_m1eq, m_setr, m_goes]
        refine ⟨fun _ => ?_, fun hc => by omega⟩
        rw [getF_cl (t := t) (s := s)]
        · exact hq
        · intro a f
          simp only [get9, upj]
          by_cases ha : a = j
          · subst ha
            rw [if_pos rfl, if_pos rfl]
            unfold getF
            rw [h2, decide_eq_false (by omega : ¬ 0 < s a 4), decide_eq_true h9]
            simp only [cond_false, cond_true]
            by_cases fq : f = 1 ∨ f = 3 ∨ f = 4 ∨ f = 0
            · rw [if_pos fq, if_neg (by omega)]
            · rw [if_neg fq]
              by_cases hc : 8 ≤ f ∧ f < 18 ∧ (onS t s a).testBit (f - 8) = true
              · rw [if_pos hc, if_pos ⟨hc.1, hc.2.1, hc.2.2, by omega⟩]
              · rw [if_neg hc, if_neg (fun hh => hc ⟨hh.1, hh.2.1, hh.2.2.1⟩)]
          · rw [if_neg ha, if_neg ha]
      | succ n ih =>
        intro m hm l3
        refine sg149_83 ?_
        simp (disch := first | omega | (refine Nat.lt_of_lt_of_le (hB _ _) ?_; omega)) only [decide_eq_true_eq, decide_eq_false_iff_not, L32, az01, b2i_01, b2i_n0, b2i_n1, Bool.and_true, true_and, and_true, Classical.not_not, Bool.not_eq_true, Bool.not_eq_false, n32_mul, n32_add, n32_ix, n32_ib, n32_lt, n32_le, n32_inj, l_hb, l_hb0, l_shl, l_wo, l_eqm1, l_m1eq, m_setr, hbit]
        refine ⟨fun hc => by omega, fun _ => ⟨fun h1 => ?_, fun h1 => ?_⟩⟩
        · rw [get9_F (by intro hh; simp [hh.1, hh.2] at h1)]
          exact ih (m + 1) (by omega) l3
        · simp only [Bool.and_eq_true, decide_eq_true_eq] at h1
          rw [get9_T h1.1 h1.2 (by omega)]
          exact ih (m + 1) (by omega) l3
    exact loop 10 0 rfl _
  · have hn10 := hon (by omega)
    simp (disch := first | omega | (refine Nat.lt_of_lt_of_le (hB _ _) ?_; omega)) only [n32_mul, n32_add, n32_ix, n32_ib, n32_lt, n32_le, n32_inj, l_hb, l_hb0, l_shl, l_wo, l_eqm1, l_m1eq, m_setr, m_goes]
    rw [getF_cl (t := t) (s := s)]
    · exact hq
    · intro a f
      simp only [up]
      by_cases ha : a = j
      · subst ha
        simp only [true_and, if_true]
        unfold getF
        rw [h2, decide_eq_true (by omega : 0 < s a 4)]
        simp only [cond_false, cond_true]
        by_cases f8 : f = 8 + onS t s a
        · subst f8
          rw [if_pos rfl, if_neg (by omega)]
        · rw [if_neg f8]
          by_cases fq : f = 1 ∨ f = 3 ∨ f = 4 ∨ f = 0
          · rw [if_pos fq]
          · rw [if_neg fq]
      · rw [if_neg (by omega), if_neg ha]
  · rw [getF_cl (t := t) (s := s)]
    · exact hq
    · intro a f
      simp only [up]
      by_cases ha : a = j
      · subst ha
        simp only [true_and, if_true]
        unfold getF
        rw [h2]
        simp only [cond_true]
        by_cases f5 : f = 5
        · subst f5; simp
        · rw [if_neg f5]
          by_cases fq : f = 1 ∨ f = 3 ∨ f = 4 ∨ f = 0
          · rw [if_pos fq]
          · rw [if_neg fq]
      · rw [if_neg (by omega), if_neg ha]
end
