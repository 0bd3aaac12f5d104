/-! does: the contract -/
theorem cnt_any {n : Nat} {p : Nat → Bool} : 0 < cnt n p ↔ anyB n p = true := by
  induction n with
  | zero => simp [cnt, anyB]
  | succ n ih =>
    rw [cnt, anyB, Bool.or_eq_true, ← ih]
    cases p n <;> simp
section
variable {P : Nat × (Nat → Int32)} {d : Nat} {t s : St} {L Z : nz_f2} {C : nz_f5} {j : Nat}
theorem m_comesI (hT : TV t) (hI : INV t s) (hL : LI1 s L) (hd : 12 ≤ d) (hj : j < 8) (hm : s j 1 = 0) (hp : s j 0 < 20) (ha : askOK t j (s j)) (Q : nz_h → Prop) :
    ctV P d 129 [mO, vi (n32 j)] (rowf t, rowf s, L, Z, C) Q = Q (rowf t, rowf (comesS t s j), comesL t s L j, refZ t (coms s j) Z j, C) := by
  have hJ4 := (hI.J hj).2.2.2.1
  have h4 := (hI.J hj).2.2.1.2.2 (Or.inl hm)
  have h26 : s j 2 + s j 6 ≤ 1 := by
    have h1 := hJ4.2.2.2
    have h2 := hJ4.2.1
    have h3 := hJ4.2.2.1
    rcases (by omega : s j 6 = 0 ∨ s j 6 = 1) with hh | hh
    · omega
    · have := h1 hh; omega
  exact m_comes hI.B hT hd hj (fun x hx h1 => hI.av hT hx (Or.inl h1)) (hI.av0 hj hm hp) (hL.get hj h26) (low_ask hT h4 ha) Q
theorem m_several (hT : TV t) (hI : INV t s) (hL : LI1 s L) (hd : 14 ≤ d) (hj : j < 8) (hm : s j 1 = 0) (hp : s j 0 < t 57 j) (h9 : opS t s j = 9) {Q : nz_h → Prop} (hq : ∀ Z', Q (rowf t, rowf (sevP t (s, L) j).1, (sevP t (s, L) j).2, Z', C)) : ctV P d 144 [mO, vi (n32 j), vi (n32 (onS t s j))] (rowf t, rowf s, L, Z, C) Q := by
  obtain ⟨d, rfl⟩ := dge hd
  refine sm144 ?_
  have hB := hI.B
  have h57 := hT.2.2.1 j
  have hn : onS t s j < 1024 := hT.2.2.2.2.1 _
  have loop : ∀ n m, n + m = 10 → nzW P (d + 13) az_k144 8 [some mO, some (vi (n32 j)), some (vi (n32 (onS t s j))), some (vi (b2i (!anyB m (fun m => (onS t s j).testBit m && (s j 5).testBit m)))), some (vi (n32 (cnt m (fun m => (onS t s j).testBit m && decide (s j (8 + m) = 0))))), some (vi (n32 m))] [] (rowf t, rowf s, L, Z, C) (nz_RV Q) := by
    intro n
    induction n with
    | zero =>
      intro m hm10
      obtain rfl : m = 10 := by omega
      refine sg144_8 ?_
      have hc := cnt_le 10 (fun m => (onS t s j).testBit m && decide (s j (8 + m) = 0))
      simp (disch := first | omega | (refine Nat.lt_of_lt_of_le (hB _ _) ?_; omega)) only [decide_eq_true_eq, decide_eq_false_iff_not, L32, az01, b2i_01, b2i_n0, b2i_n1, Bool.and_true, true_and, and_true, Classical.not_not, Bool.not_eq_true, Bool.not_eq_false, n32_mul, n32_add, n32_ix, n32_ib, n32_lt, n32_le, n32_inj, l_hb, l_hb0, l_shl, l_wo, l_eqm1, l_m1eq, m_illegal, m_more hB, m_goes]
      refine ⟨fun _ => ⟨fun h1 => ⟨fun h2 => ?_, fun h2 => ?_⟩, fun h1 => ?_⟩, fun hc => by omega⟩
      · simp only [Bool.not_eq_true', Bool.not_eq_eq_eq_not, Bool.not_true] at h1
        have h3 : anyB 10 (fun m => (onS t s j).testBit m && decide (s j (8 + m) = 0)) = false := by
          cases hh : anyB 10 (fun m => (onS t s j).testBit m && decide (s j (8 + m) = 0)) with
          | false => rfl
          | true => have := cnt_any.mpr hh; omega
        unfold sevP at hq
        simp only [h1, h3, cond_false] at hq
        exact hq _
      · simp only [Bool.not_eq_true', Bool.not_eq_eq_eq_not, Bool.not_true] at h1
        have h3 := cnt_any.mp (by omega : 0 < cnt 10 (fun m => (onS t s j).testBit m && decide (s j (8 + m) = 0)))
        rw [m_comesI hT hI hL (by omega) hj hm (by omega) (ask_sev h9 h1 h3)]
        unfold sevP at hq
        simp only [h1, h3, cond_false, cond_true] at hq
        exact hq _
      · simp only [Bool.not_eq_false', Bool.not_eq_eq_eq_not, Bool.not_false] at h1
        unfold sevP at hq
        simp only [h1, cond_true] at hq
        exact hq _
    | succ n ih =>
      intro m hm10
      have hm1 : m < 10 := by omega
      refine sg144_8 ?_
      have h2 := ih (m + 1) (by omega)
      simp (disch := first | omega | (refine Nat.lt_of_lt_of_le (hB _ _) ?_; omega)) only [decide_eq_true_eq, decide_eq_false_iff_not, L32, az01, b2i_01, b2i_n0, b2i_n1, Bool.and_true, true_and, and_true, Classical.not_not, Bool.not_eq_true, Bool.not_eq_false, n32_mul, n32_add, n32_ix, n32_ib, n32_lt, n32_le, n32_inj, l_hb, l_hb0, l_shl, l_wo, l_eqm1, l_m1eq, m_times, m_looks hB, rowf_at]
      refine ⟨fun hc => by omega, fun _ => ⟨fun hb => ⟨fun hg => ⟨fun ht => ?_, fun ht => ?_⟩, fun hg => ⟨fun hl => ⟨fun ht => ?_, fun ht => ?_⟩, fun hl => ⟨fun ht => ?_, fun ht => ?_⟩⟩⟩, fun hb => ?_⟩⟩
      all_goals simp only [anyB, cnt, hb, Bool.true_and, Bool.false_and, Bool.or_false, cond_false, Nat.add_zero] at h2
      · simp only [Bool.not_eq_false', Bool.not_eq_eq_eq_not, Bool.not_false] at hg
        rw [hg, decide_eq_false ht] at h2; exact h2
      · simp only [Bool.not_eq_false', Bool.not_eq_eq_eq_not, Bool.not_false] at hg
        rw [hg, decide_eq_true ht] at h2; exact h2
      · simp only [Bool.not_eq_true', Bool.not_eq_eq_eq_not, Bool.not_true] at hg
        rw [hg, hl, decide_eq_false ht] at h2; exact h2
      · simp only [Bool.not_eq_true', Bool.not_eq_eq_eq_not, Bool.not_true] at hg
        rw [hg, hl, decide_eq_true ht] at h2; exact h2
      · simp only [Bool.not_eq_true', Bool.not_eq_eq_eq_not, Bool.not_true] at hg
        rw [hg, hl, decide_eq_false ht] at h2; exact h2
      · simp only [Bool.not_eq_true', Bool.not_eq_eq_eq_not, Bool.not_true] at hg
        rw [hg, hl, decide_eq_true ht] at h2; exact h2
      · exact h2
  exact loop 10 0 rfl
theorem m_does (hT : TV t) (hI : INV t s) (hL : LI1 s L) (hd : 16 ≤ d) (hj : j < 8) (hm : s j 1 = 0) {Q : nz_h → Prop} (hq : ∀ Z', Q (rowf t, rowf (doP t (s, L) j).1, (doP t (s, L) j).2, Z', C)) : ctV P d 119 [mO, vi (n32 j)] (rowf t, rowf s, L, Z, C) Q := by
  obtain ⟨d, rfl⟩ := dge hd
  refine sm119 ?_
  have hB := hI.B
  have h57 := hT.2.2.1 j
  have h022 := (hI.J hj).1.2.1
  have h5 := (hI.J hj).1.2.2.2
  have ho := hT.2.2.2.1 (20 * j + s j 0)
  have ho : opS t s j < 10 := ho
  have hn' : opS t s j ≠ 9 → onS t s j < 10 := hT.2.2.2.2.2.1 _
  have hn1 : onS t s j < 1024 := hT.2.2.2.2.1 _
  unfold doP at hq
  simp only at hq
  by_cases hp : t 57 j ≤ s j 0
  · rw [if_pos hp] at hq
    simp (disch := first | omega | (refine Nat.lt_of_lt_of_le (hB _ _) ?_; omega)) only [decide_eq_true_eq, decide_eq_false_iff_not, L32, az01, b2i_01, b2i_n0, b2i_n1, Bool.and_true, true_and, and_true, Classical.not_not, Bool.not_eq_true, Bool.not_eq_false, n32_mul, n32_add, n32_ix, n32_ib, n32_lt, n32_le, n32_inj, l_hb, l_hb0, l_shl, l_wo, l_eqm1, l_m1eq, m_getr, rowf_at, m_ends, hj]
    exact ⟨fun hc => by omega, fun _ => hq _⟩
  · rw [if_neg hp] at hq
    have hp20 : s j 0 < 20 := by omega
    simp (disch := first | omega | (refine Nat.lt_of_lt_of_le (hB _ _) ?_; omega)) only [decide_eq_true_eq, decide_eq_false_iff_not, L32, az01, b2i_01, b2i_n0, b2i_n1, Bool.and_true, true_and, and_true, Classical.not_not, Bool.not_eq_true, Bool.not_eq_false, n32_mul, n32_add, n32_ix, n32_ib, n32_lt, n32_le, n32_inj, l_hb, l_hb0, l_shl, l_wo, l_eqm1, l_m1eq, m_getr, rowf_at, m_on hB, m_op hB, hj, Nat.zero_add, Nat.reduceAdd]
    refine ⟨fun _ => ⟨by decide, ?_⟩, fun hc => by omega⟩
    have c08 : opS t s j = 0 ∨ opS t s j = 8 → ctI P (d + 15) 125 [mO, vi (n32 j), vi (n32 (onS t s j))] (rowf t, rowf s, L, Z, C) (fun y4 h4 => ((y4 ≤ n32 0 → ctI P (d + 15) 127 [mO, vi (n32 j), vi (n32 (onS t s j))] h4 (fun y5 h5 => ((y5 = n32 0 → ctV P (d + 15) 129 [mO, vi (n32 j)] h5 (fun h6 => Q h6)) ∧ (¬ y5 = n32 0 → ctV P (d + 15) 128 [mO, vi (n32 j)] h5 (fun h7 => Q h7))))) ∧ (¬ y4 ≤ n32 0 → ctI P (d + 15) 125 [mO, vi (n32 j), vi (n32 (onS t s j))] h4 (fun y6 h8 => ctV P (d + 15) 122 [mO, vi (n32 j), vi (n32 (8 + onS t s j)), vi (y6 + n32 1)] h8 (fun h9 => ctV P (d + 15) 126 [mO, vi (n32 j)] h9 (fun h10 => Q h10)))))) := by
      intro h08
      have hon := hn' (by omega)
      rw [if_pos h08] at hq
      simp (disch := first | omega | (refine Nat.lt_of_lt_of_le (hB _ _) ?_; omega)) only [decide_eq_true_eq, decide_eq_false_iff_not, L32, az01, b2i_01, b2i_n0, b2i_n1, Bool.and_true, true_and, and_true, Classical.not_not, Bool.not_eq_true, Bool.not_eq_false, n32_mul, n32_add, n32_ix, n32_ib, n32_lt, n32_le, n32_inj, l_hb, l_hb0, l_shl, l_wo, l_eqm1, l_m1eq, m_times, m_looks hB, rowf_at, m_setr, m_goes, m_illegal]
      refine ⟨fun h0 => ⟨fun hl => ?_, fun hl => ?_⟩, fun h0 => ?_⟩
      · rw [if_neg (by omega), if_neg (by rw [hl]; decide)] at hq
        rw [m_comesI hT hI hL (by omega) hj hm hp20 (ask_one (by omega) (by unfold hasS; rw [hl, decide_eq_false (by omega)]; rfl))]
        exact hq _
      · rw [if_neg (by omega), if_pos hl] at hq
        exact hq _
      · rw [if_pos (by omega)] at hq
        exact hq _
    have ct : opS t s j = 6 ∨ opS t s j = 7 → ctI P (d + 15) 125 [mO, vi (n32 j), vi (n32 (onS t s j))] (rowf t, rowf s, L, Z, C) (fun y14 h30 => ((¬ y14 = n32 0 → ctI P (d + 15) 124 [mO, vi (n32 j)] h30 (fun y15 h31 => ((¬ y15 = n32 7 → ctV P (d + 15) 142 [mO, vi (n32 (onS t s j)), vi (n32 0)] h31 (fun h32 => ctV P (d + 15) 126 [mO, vi (n32 j)] h32 (fun h33 => Q h33))) ∧ (y15 = n32 7 → ctV P (d + 15) 142 [mO, vi (n32 (onS t s j)), vi (n32 1)] h31 (fun h34 => ctV P (d + 15) 126 [mO, vi (n32 j)] h34 (fun h35 => Q h35)))))) ∧ (y14 = n32 0 → ctV P (d + 15) 128 [mO, vi (n32 j)] h30 (fun h36 => Q h36)))) := by
      intro h67
      have hon := hn' (by omega)
      rw [if_neg (by omega), if_neg (by omega), if_neg (by omega), if_neg (by omega), if_neg (by omega), if_neg (by omega), if_pos h67] at hq
      simp (disch := first | omega | (refine Nat.lt_of_lt_of_le (hB _ _) ?_; omega)) only [decide_eq_true_eq, decide_eq_false_iff_not, L32, az01, b2i_01, b2i_n0, b2i_n1, Bool.and_true, true_and, and_true, Classical.not_not, Bool.not_eq_true, Bool.not_eq_false, n32_mul, n32_add, n32_ix, n32_ib, n32_lt, n32_le, n32_inj, l_hb, l_hb0, l_shl, l_wo, l_eqm1, l_m1eq, m_times, rowf_at, m_op hB, m_illegal]
      refine ⟨fun h0 => ⟨fun h7 => ?_, fun h7 => ?_⟩, fun h0 => ?_⟩
      · rw [if_neg h0, decide_eq_false h7] at hq
        refine m_tells (all := false) hT hI hL (by omega) hon (fun Z' => ?_)
        rw [m_goes (by omega) hj]
        exact hq _
      · rw [if_neg h0, decide_eq_true h7] at hq
        refine m_tells (all := true) hT hI hL (by omega) hon (fun Z' => ?_)
        rw [m_goes (by omega) hj]
        exact hq _
      · rw [if_pos h0] at hq
        exact hq _
    refine ⟨fun o0 => c08 (Or.inl o0), fun o0 => ⟨fun o1 => ?_, fun o1 => ⟨fun o2 => ?_, fun o2 => ⟨fun o3 => ?_, fun o3 => ⟨fun o4 => ?_, fun o4 => ⟨fun o5 => ?_, fun o5 => ⟨fun o6 => ct (Or.inl o6), fun o6 => ⟨fun o7 => ct (Or.inr o7), fun o7 => ⟨fun o8 => c08 (Or.inr o8), fun o8 => ?_⟩⟩⟩⟩⟩⟩⟩⟩⟩
    · have hon := hn' (by omega)
      rw [if_neg (by omega), if_pos o1] at hq
      by_cases h0 : s j (8 + onS t s j) = 0
      · rw [if_pos h0] at hq
        simp (disch := first | omega | (refine Nat.lt_of_lt_of_le (hB _ _) ?_; omega)) only [decide_eq_true_eq, decide_eq_false_iff_not, L32, az01, b2i_01, b2i_n0, b2i_n1, Bool.and_true, true_and, and_true, Classical.not_not, Bool.not_eq_true, Bool.not_eq_false, n32_mul, n32_add, n32_ix, n32_ib, n32_lt, n32_le, n32_inj, l_hb, l_hb0, l_shl, l_wo, l_eqm1, l_m1eq, m_times, rowf_at, m_illegal, h0]
        exact ⟨fun hc => (hc trivial).elim, fun _ => hq _⟩
      · rw [if_neg h0] at hq
        simp (disch := first | omega | (refine Nat.lt_of_lt_of_le (hB _ _) ?_; omega)) only [decide_eq_true_eq, decide_eq_false_iff_not, L32, az01, b2i_01, b2i_n0, b2i_n1, Bool.and_true, true_and, and_true, Classical.not_not, Bool.not_eq_true, Bool.not_eq_false, n32_mul, n32_add, n32_ix, n32_ib, n32_lt, n32_le, n32_inj, l_hb, l_hb0, l_shl, l_wo, l_eqm1, l_m1eq, m_times, rowf_at, m_setr, m_goes, n32_sub, h0]
        exact ⟨fun _ => hq _, fun hc => hc.elim⟩
    · have hon := hn' (by omega)
      rw [if_neg (by omega), if_neg (by omega), if_pos o2] at hq
      simp (disch := first | omega | (refine Nat.lt_of_lt_of_le (hB _ _) ?_; omega)) only [decide_eq_true_eq, decide_eq_false_iff_not, L32, az01, b2i_01, b2i_n0, b2i_n1, Bool.and_true, true_and, and_true, Classical.not_not, Bool.not_eq_true, Bool.not_eq_false, n32_mul, n32_add, n32_ix, n32_ib, n32_lt, n32_le, n32_inj, l_hb, l_hb0, l_shl, l_wo, l_eqm1, l_m1eq, m_has hB, m_illegal]
      refine ⟨fun hh => ?_, fun hh => ?_⟩
      · rw [if_neg (by rw [hh]; decide)] at hq
        rw [m_comesI hT hI hL (by omega) hj hm hp20 (ask_one (by omega) hh)]
        exact hq _
      · rw [if_pos hh] at hq
        exact hq _
    · have hon := hn' (by omega)
      have hpw : 2 ^ onS t s j < 1024 := Nat.pow_lt_pow_right (a := 2) (n := 10) (by decide) hon
      rw [if_neg (by omega), if_neg (by omega), if_neg (by omega), if_pos o3] at hq
      simp (disch := first | omega | (refine Nat.lt_of_lt_of_le (hB _ _) ?_; omega)) only [decide_eq_true_eq, decide_eq_false_iff_not, L32, az01, b2i_01, b2i_n0, b2i_n1, Bool.and_true, true_and, and_true, Classical.not_not, Bool.not_eq_true, Bool.not_eq_false, n32_mul, n32_add, n32_ix, n32_ib, n32_lt, n32_le, n32_inj, l_hb, l_hb0, l_shl, l_wo, l_eqm1, l_m1eq, m_looks hB, m_illegal, m_getr, m_setr, m_goes]
      refine ⟨fun hh => ?_, fun hh => ?_⟩
      · rw [if_pos hh] at hq
        exact hq _
      · rw [if_neg (by rw [hh]; decide)] at hq
        exact hq _
    · have hon := hn' (by omega)
      rw [if_neg (by omega), if_neg (by omega), if_neg (by omega), if_neg (by omega), if_pos o4] at hq
      simp (disch := first | omega | (refine Nat.lt_of_lt_of_le (hB _ _) ?_; omega)) only [decide_eq_true_eq, decide_eq_false_iff_not, L32, az01, b2i_01, b2i_n0, b2i_n1, Bool.and_true, true_and, and_true, Classical.not_not, Bool.not_eq_true, Bool.not_eq_false, n32_mul, n32_add, n32_ix, n32_ib, n32_lt, n32_le, n32_inj, l_hb, l_hb0, l_shl, l_wo, l_eqm1, l_m1eq, m_looks hB, m_illegal]
      refine ⟨fun hh => ?_, fun hh => ?_⟩
      · rw [if_pos hh] at hq
        rw [m_comesI hT hI hL (by omega) hj hm hp20 (ask_raise o4 hh)]
        exact hq _
      · rw [if_neg (by rw [hh]; decide)] at hq
        exact hq _
    · have hon := hn' (by omega)
      rw [if_neg (by omega), if_neg (by omega), if_neg (by omega), if_neg (by omega), if_neg (by omega), if_pos o5] at hq
      simp (disch := first | omega | (refine Nat.lt_of_lt_of_le (hB _ _) ?_; omega)) only [decide_eq_true_eq, decide_eq_false_iff_not, L32, az01, b2i_01, b2i_n0, b2i_n1, Bool.and_true, true_and, and_true, Classical.not_not, Bool.not_eq_true, Bool.not_eq_false, n32_mul, n32_add, n32_ix, n32_ib, n32_lt, n32_le, n32_inj, l_hb, l_hb0, l_shl, l_wo, l_eqm1, l_m1eq, m_times, rowf_at, m_illegal, m_sleeps]
      refine ⟨fun hh => ?_, fun hh => ?_⟩
      · rw [if_neg hh] at hq
        exact hq _
      · rw [if_pos hh] at hq
        exact hq _
    · rw [if_neg (by omega), if_neg (by omega), if_neg (by omega), if_neg (by omega), if_neg (by omega), if_neg (by omega), if_neg (by omega)] at hq
      exact m_several hT hI hL (by omega) hj hm (by omega) (by omega) hq
end
