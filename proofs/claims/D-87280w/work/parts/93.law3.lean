/-! a step is told -/
section
variable {P : Nat × (Nat → Int32)} {d : Nat}
theorem j_stepOK {t s : St} {L Z : nz_f2} {C : nz_f5} {a o m w : Nat} (hT : TV t) (hR : RTold t C) (hI : LI5 s L C) (ha : a < 8) (ho : o < 10) (hm : (o = 9 → 1 ≤ m ∧ m < 1024) ∧ (o ≠ 9 → m < 10)) (hw : o = 8 → 1 ≤ w ∧ w < 10) (hk : t 57 a < 20) : LAWI (rowf (up (up (up (up t 58 (20 * a + t 57 a) o) 59 (20 * a + t 57 a) m) 60 (20 * a + t 57 a) w) 57 a (t 57 a + 1)), rowf s, L, Z, nz_u5 (nz_u5 (nz_u5 (nz_u5 C 9 2 a (t 57 a) 0 (n32 o)) 9 2 a (t 57 a) 1 (n32 (if o = 9 then m else 2 ^ m))) 9 2 a (t 57 a) 2 (n32 w)) 8 2 a 0 2 (n32 (t 57 a + 1))) := by
  generalize hat : 20 * a + t 57 a = q
  have o0 : ∀ y z, y ≠ 57 → (y = 58 ∨ y = 59 ∨ y = 60 → z ≠ q) → up (up (up (up t 58 q o) 59 q m) 60 q w) 57 a (t 57 a + 1) y z = t y z := fun y z h1 h2 => by unfold up; rw [if_neg (by omega), if_neg (by omega), if_neg (by omega), if_neg (by omega)]
  have o57 : ∀ j, up (up (up (up t 58 q o) 59 q m) 60 q w) 57 a (t 57 a + 1) 57 j = if j = a then t 57 a + 1 else t 57 j := fun j => by
    unfold up
    by_cases h : j = a
    · rw [if_pos ⟨rfl, h⟩, if_pos h]
    · rw [if_neg (fun hh => h hh.2), if_neg h, if_neg (by omega), if_neg (by omega), if_neg (by omega)]
  have o58 : ∀ i, up (up (up (up t 58 q o) 59 q m) 60 q w) 57 a (t 57 a + 1) 58 i = if i = q then o else t 58 i := fun i => by
    unfold up
    rw [if_neg (by omega), if_neg (by omega), if_neg (by omega)]
    by_cases h : i = q
    · rw [if_pos ⟨rfl, h⟩, if_pos h]
    · rw [if_neg (fun hh => h hh.2), if_neg h]
  have o59 : ∀ i, up (up (up (up t 58 q o) 59 q m) 60 q w) 57 a (t 57 a + 1) 59 i = if i = q then m else t 59 i := fun i => by
    unfold up
    rw [if_neg (by omega), if_neg (by omega)]
    by_cases h : i = q
    · rw [if_pos ⟨rfl, h⟩, if_pos h]
    · rw [if_neg (fun hh => h hh.2), if_neg h, if_neg (by omega)]
  have o60 : ∀ i, up (up (up (up t 58 q o) 59 q m) 60 q w) 57 a (t 57 a + 1) 60 i = if i = q then w else t 60 i := fun i => by
    unfold up
    rw [if_neg (by omega)]
    by_cases h : i = q
    · rw [if_pos ⟨rfl, h⟩, if_pos h]
    · rw [if_neg (fun hh => h hh.2), if_neg h, if_neg (by omega), if_neg (by omega)]
  generalize ht' : up (up (up (up t 58 q o) 59 q m) 60 q w) 57 a (t 57 a + 1) = t' at o0 o57 o58 o59 o60
  refine ⟨t', s, L, Z, _, rfl, ?_, ?_, hI.told (FT.up (FT.up (FT.up (FT.up (FT.rfl' C) (by omega)) (by omega)) (by omega)) (by omega))⟩
  · obtain ⟨a1, a2, a3, a4, a5, a6, a7, a8, a9, a10, a11, a12, a13⟩ := hT
    refine ⟨fun m => by rw [o0 _ _ (by omega) (by omega)]; exact a1 m, fun m => by rw [o0 _ _ (by omega) (by omega)]; exact a2 m, fun j => ?_, fun i => ?_, fun i => ?_, fun i => ?_, fun i => ?_, fun j => by rw [o0 _ _ (by omega) (by omega)]; exact a8 j, fun j => by rw [o0 _ _ (by omega) (by omega)]; exact a9 j, by rw [o0 _ _ (by omega) (by omega)]; exact a10, fun i => by rw [o0 _ _ (by omega) (by omega)]; exact a11 i, by rw [o0 _ _ (by omega) (by omega)]; exact a12, fun i => ?_⟩
    · rw [o57]; have := a3 j; split <;> omega
    · rw [o58]; have := a4 i; split <;> omega
    · rw [o59]; have := a5 i; split
      · by_cases h9 : o = 9
        · exact (hm.1 h9).2
        · have := hm.2 h9; omega
      · exact this
    · rw [o58, o59]; have := a6 i
      by_cases h : i = q
      · rw [if_pos h, if_pos h]; exact hm.2
      · rw [if_neg h, if_neg h]; exact this
    · rw [o58, o60]; have := a7 i
      by_cases h : i = q
      · rw [if_pos h, if_pos h]; exact hw
      · rw [if_neg h, if_neg h]; exact this
    · rw [o58, o59]; have := a13 i
      by_cases h : i = q
      · rw [if_pos h, if_pos h]; exact fun h9 => (hm.1 h9).1
      · rw [if_neg h, if_neg h]; exact this
  · obtain ⟨a1, a2, a3, a4, a5, a6⟩ := hR
    refine ⟨fun m hm => ?_, fun j hj => ?_, fun j p hj hp => ?_, ?_, ?_, fun i hi => ?_⟩
    · simp (disch := decide) only [u5_k]
      rw [o0 _ _ (by omega) (by omega), o0 _ _ (by omega) (by omega)]; exact a1 m hm
    · rw [o57, o0 _ _ (by omega) (by omega), o0 _ _ (by omega) (by omega)]
      by_cases hja : j = a
      · subst hja
        rw [if_pos rfl]
        simp (disch := decide) only [u5_x, u5_eq, u5_k]
        exact ⟨trivial, (a2 j hj).2⟩
      · rw [if_neg hja]
        simp (disch := omega) only [u5_c]; exact a2 j hj
    · rw [o57] at hp
      unfold mchS
      rw [o58, o59, o60]
      have t20 := hT.2.2.1 j
      by_cases hja : j = a
      · subst hja
        rw [if_pos rfl] at hp
        by_cases hpq : p = t 57 j
        · subst hpq
          rw [if_pos hat, if_pos hat, if_pos hat]
          simp (disch := decide) only [u5_x, u5_eq, u5_k]
          exact ⟨trivial, trivial, trivial⟩
        · have hne : ¬ 20 * j + p = q := by omega
          simp only [if_neg hne]
          simp (disch := first | decide | exact hpq) only [u5_k, u5_d]
          exact a3 j p hj (by omega)
      · rw [if_neg hja] at hp
        have hne : ¬ 20 * j + p = q := by omega
        simp only [if_neg hne]
        simp (disch := omega) only [u5_c]; exact a3 j p hj hp
    · simp (disch := decide) only [u5_k]; rw [o0 _ _ (by omega) (by omega)]; exact a4
    · simp (disch := decide) only [u5_k]; rw [o0 _ _ (by omega) (by omega)]; exact a5
    · rw [o0 _ _ (by omega) (by omega)] at hi
      simp (disch := decide) only [u5_k]; rw [o0 _ _ (by omega) (by omega)]; exact a6 i hi
theorem rng {x : Int32} {lo hi : Nat} (h2 : hi < 2147483647) (ha : ¬ x < n32 lo) (hb : ¬ n32 hi < x) : ∃ k, lo ≤ k ∧ k ≤ hi ∧ x = n32 k ∨ hi < lo := by
  by_cases hlo : lo ≤ hi
  · rw [lt_toInt, n32_toInt (by omega)] at ha hb
    refine ⟨x.toInt.toNat, Or.inl ⟨by omega, by omega, ?_⟩⟩
    apply Int32.toInt_inj.1
    rw [n32_toInt (by omega)]
    omega
  · exact ⟨0, Or.inr (by omega)⟩
theorem c_in2 {x : Int32} {lo hi : Nat} {h : nz_h} (hd : 2 ≤ d) (Q : Int32 → nz_h → Prop) : ctI P d 4 [vi x, vi (n32 lo), vi (n32 hi)] h Q = Q (b2i (!decide (x < n32 lo) && !decide (n32 hi < x))) h := by
  obtain ⟨d, rfl⟩ := dge hd
  refine ctI_det (fun Q hq => sm4 ?_) Q
  simp only [decide_eq_true_eq, decide_eq_false_iff_not, L32, az01, b2i_01, b2i_n0, b2i_n1, Bool.and_true, true_and, and_true, Classical.not_not, Bool.not_eq_true, Bool.not_eq_false]
  refine ⟨fun h1 => ans0 hq ?_, fun h1 => ⟨fun h2 => ans0 hq ?_, fun h2 => ans1 hq ?_⟩⟩
  · rw [decide_eq_true h1]; rfl
  · rw [decide_eq_true h2]; simp
  · rw [decide_eq_false h1, decide_eq_false h2]; rfl
theorem inB2 {x : Int32} {n : Nat} (hn : n < 2147483647) : (!decide (x < n32 0) && !decide (n32 n < x)) = inB x (n + 1) := by
  have e : n32 n < x ↔ n32 (n + 1) ≤ x := by
    rw [lt_toInt, le_toInt, n32_toInt (by omega), n32_toInt (by omega)]; omega
  unfold inB
  congr 2
  exact decide_eq_decide.2 e
theorem j_step {x1 x2 x3 x4 : Int32} (hd : 5 ≤ d) : JNT P d 5 107 [vi x1, vi x2, vi x3, vi x4] := by
  obtain ⟨d, rfl⟩ := dge hd
  rintro h ⟨t, s, L, Z, C, rfl, hT, hR, hI⟩
  have keep : LAWI (rowf t, rowf s, L, Z, C) := ⟨t, s, L, Z, C, rfl, hT, hR, hI⟩
  have s78 : ∀ l0 l1 l2 l3 l4 l5, nzW P (d + 4) az_k107 78 [l0, l1, l2, l3, l4, l5] [] (rowf t, rowf s, L, Z, C) (nz_RI (fun y2 h2 => nm1 = y2 ∧ LAWI h2)) := fun l0 l1 l2 l3 l4 l5 => sg107_78 ⟨rfl, keep⟩
  have cs78 : ∀ l0 l1 l2 l3 l4 l5, ctI P (d + 5) 107 [mO, vi x1, vi x2, vi x3, vi x4] (rowf t, rowf s, L, Z, C) (fun y2 h2 => nm1 = y2 ∧ LAWI h2) → nzW P (d + 4) az_k5 78 [l0, l1, l2, l3, l4, l5] [] (rowf t, rowf s, L, Z, C) (nz_RI (fun y1 h1 => ctI P (d + 5) 107 [mO, vi x1, vi x2, vi x3, vi x4] h1 (fun y2 h2 => y1 = y2 ∧ LAWI h2))) := fun l0 l1 l2 l3 l4 l5 hh => sg5_78 hh
  have c9 : ∀ x Q, ctI P (d + 4) 4 [vi x, vi (n32 0), vi (n32 9)] (rowf t, rowf s, L, Z, C) Q = Q (b2i (inB x 10)) (rowf t, rowf s, L, Z, C) := fun x Q => c_in (by omega) (by omega) Q
  have cA : ∀ x Q, ctI P (d + 4) 4 [vi x, vi (n32 1), vi (n32 1023)] (rowf t, rowf s, L, Z, C) Q = Q (b2i (!decide (x < n32 1) && !decide (n32 1023 < x))) (rowf t, rowf s, L, Z, C) := fun x Q => c_in2 (by omega) Q
  have cB : ∀ x Q, ctI P (d + 4) 4 [vi x, vi (n32 1), vi (n32 9)] (rowf t, rowf s, L, Z, C) Q = Q (b2i (!decide (x < n32 1) && !decide (n32 9 < x))) (rowf t, rowf s, L, Z, C) := fun x Q => c_in2 (by omega) Q
  cases h1 : inB x1 8 with
  | false =>
    have e57 := hR.2.2.2.1
    refine sm5 ?_
    simp (disch := omega) only [decide_eq_true_eq, decide_eq_false_iff_not, L32, az01, b2i_01, b2i_n0, b2i_n1, Bool.and_true, true_and, and_true, Classical.not_not, Bool.not_eq_true, Bool.not_eq_false, n32_mul, n32_add, n32_ix, n32_ib, n32_lt, n32_le, n32_inj, l_hb, l_hb0, l_shl, l_wo, l_eqm1, l_m1eq, c_isJob, m_in, rowf_at, e57, c9, cA, cB, uC_row, uT_row, reduceCtorEq, Nat.reduceEqDiff, decide_true, decide_false, false_implies, true_implies, not_true_eq_false, not_false_eq_true, Bool.and_false, Bool.false_and, Bool.not_true, Bool.not_false, h1]
    refine cs78 _ _ _ _ _ _ ?_
    refine sm107 ?_
    simp (disch := omega) only [decide_eq_true_eq, decide_eq_false_iff_not, L32, az01, b2i_01, b2i_n0, b2i_n1, Bool.and_true, true_and, and_true, Classical.not_not, Bool.not_eq_true, Bool.not_eq_false, n32_mul, n32_add, n32_ix, n32_ib, n32_lt, n32_le, n32_inj, l_hb, l_hb0, l_shl, l_wo, l_eqm1, l_m1eq, c_isJob, m_in, rowf_at, e57, c9, cA, cB, uC_row, uT_row, reduceCtorEq, Nat.reduceEqDiff, decide_true, decide_false, false_implies, true_implies, not_true_eq_false, not_false_eq_true, Bool.and_false, Bool.false_and, Bool.not_true, Bool.not_false, h1]
    exact s78 _ _ _ _ _ _
  | true =>
    obtain ⟨a, ha, rfl⟩ := inB_T (by omega) h1
    have t20 := hT.2.2.1 a
    have e57 := (hR.2.1 a ha).1
    cases h2 : inB x2 10 with
    | false =>
      refine sm5 ?_
      simp (disch := omega) only [decide_eq_true_eq, decide_eq_false_iff_not, L32, az01, b2i_01, b2i_n0, b2i_n1, Bool.and_true, true_and, and_true, Classical.not_not, Bool.not_eq_true, Bool.not_eq_false, n32_mul, n32_add, n32_ix, n32_ib, n32_lt, n32_le, n32_inj, l_hb, l_hb0, l_shl, l_wo, l_eqm1, l_m1eq, c_isJob, m_in, rowf_at, e57, c9, cA, cB, uC_row, uT_row, reduceCtorEq, Nat.reduceEqDiff, decide_true, decide_false, false_implies, true_implies, not_true_eq_false, not_false_eq_true, Bool.and_false, Bool.false_and, Bool.not_true, Bool.not_false, h1, h2]
      refine cs78 _ _ _ _ _ _ ?_
      refine sm107 ?_
      simp (disch := omega) only [decide_eq_true_eq, decide_eq_false_iff_not, L32, az01, b2i_01, b2i_n0, b2i_n1, Bool.and_true, true_and, and_true, Classical.not_not, Bool.not_eq_true, Bool.not_eq_false, n32_mul, n32_add, n32_ix, n32_ib, n32_lt, n32_le, n32_inj, l_hb, l_hb0, l_shl, l_wo, l_eqm1, l_m1eq, c_isJob, m_in, rowf_at, e57, c9, cA, cB, uC_row, uT_row, reduceCtorEq, Nat.reduceEqDiff, decide_true, decide_false, false_implies, true_implies, not_true_eq_false, not_false_eq_true, Bool.and_false, Bool.false_and, Bool.not_true, Bool.not_false, h1, h2]
      exact s78 _ _ _ _ _ _
    | true =>
      obtain ⟨o, ho, rfl⟩ := inB_T (by omega) h2
      by_cases h9 : o = 9
      · subst h9
        by_cases c1 : x3 < n32 1
        · have d1 : decide (x3 < n32 1) = true := decide_eq_true c1
          refine sm5 ?_
          simp (disch := omega) only [decide_eq_true_eq, decide_eq_false_iff_not, L32, az01, b2i_01, b2i_n0, b2i_n1, Bool.and_true, true_and, and_true, Classical.not_not, Bool.not_eq_true, Bool.not_eq_false, n32_mul, n32_add, n32_ix, n32_ib, n32_lt, n32_le, n32_inj, l_hb, l_hb0, l_shl, l_wo, l_eqm1, l_m1eq, c_isJob, m_in, rowf_at, e57, c9, cA, cB, uC_row, uT_row, reduceCtorEq, Nat.reduceEqDiff, decide_true, decide_false, false_implies, true_implies, not_true_eq_false, not_false_eq_true, Bool.and_false, Bool.false_and, Bool.not_true, Bool.not_false, h1, h2, d1, c1]
          refine cs78 _ _ _ _ _ _ ?_
          refine sm107 ?_
          simp (disch := omega) only [decide_eq_true_eq, decide_eq_false_iff_not, L32, az01, b2i_01, b2i_n0, b2i_n1, Bool.and_true, true_and, and_true, Classical.not_not, Bool.not_eq_true, Bool.not_eq_false, n32_mul, n32_add, n32_ix, n32_ib, n32_lt, n32_le, n32_inj, l_hb, l_hb0, l_shl, l_wo, l_eqm1, l_m1eq, c_isJob, m_in, rowf_at, e57, c9, cA, cB, uC_row, uT_row, reduceCtorEq, Nat.reduceEqDiff, decide_true, decide_false, false_implies, true_implies, not_true_eq_false, not_false_eq_true, Bool.and_false, Bool.false_and, Bool.not_true, Bool.not_false, h1, h2, d1, c1]
          exact s78 _ _ _ _ _ _
        · by_cases c2 : n32 1023 < x3
          · have d1 : decide (x3 < n32 1) = false := decide_eq_false c1
            have d2 : decide (n32 1023 < x3) = true := decide_eq_true c2
            have c3 : ¬ x3 ≤ n32 1023 := by rw [le_toInt]; rw [lt_toInt] at c2; omega
            refine sm5 ?_
            simp (disch := omega) only [decide_eq_true_eq, decide_eq_false_iff_not, L32, az01, b2i_01, b2i_n0, b2i_n1, Bool.and_true, true_and, and_true, Classical.not_not, Bool.not_eq_true, Bool.not_eq_false, n32_mul, n32_add, n32_ix, n32_ib, n32_lt, n32_le, n32_inj, l_hb, l_hb0, l_shl, l_wo, l_eqm1, l_m1eq, c_isJob, m_in, rowf_at, e57, c9, cA, cB, uC_row, uT_row, reduceCtorEq, Nat.reduceEqDiff, decide_true, decide_false, false_implies, true_implies, not_true_eq_false, not_false_eq_true, Bool.and_false, Bool.false_and, Bool.not_true, Bool.not_false, h1, h2, d1, d2, c1, c3]
            refine cs78 _ _ _ _ _ _ ?_
            refine sm107 ?_
            simp (disch := omega) only [decide_eq_true_eq, decide_eq_false_iff_not, L32, az01, b2i_01, b2i_n0, b2i_n1, Bool.and_true, true_and, and_true, Classical.not_not, Bool.not_eq_true, Bool.not_eq_false, n32_mul, n32_add, n32_ix, n32_ib, n32_lt, n32_le, n32_inj, l_hb, l_hb0, l_shl, l_wo, l_eqm1, l_m1eq, c_isJob, m_in, rowf_at, e57, c9, cA, cB, uC_row, uT_row, reduceCtorEq, Nat.reduceEqDiff, decide_true, decide_false, false_implies, true_implies, not_true_eq_false, not_false_eq_true, Bool.and_false, Bool.false_and, Bool.not_true, Bool.not_false, h1, h2, d1, d2, c1, c3]
            exact s78 _ _ _ _ _ _
          · obtain ⟨m, hm⟩ := rng (by omega) c1 c2
            obtain ⟨m1, m2, rfl⟩ := hm.resolve_right (by omega)
            obtain ⟨w, rfl⟩ := n32_ex x4
            have d1 : decide (m < 1) = false := decide_eq_false (by omega)
            have d2 : decide (1023 < m) = false := decide_eq_false (by omega)
            have c1' : ¬ m < 1 := by omega
            have c3 : m ≤ 1023 := m2
            by_cases hf : t 57 a = 20
            · refine sm5 ?_
              simp (disch := omega) only [decide_eq_true_eq, decide_eq_false_iff_not, L32, az01, b2i_01, b2i_n0, b2i_n1, Bool.and_true, true_and, and_true, Classical.not_not, Bool.not_eq_true, Bool.not_eq_false, n32_mul, n32_add, n32_ix, n32_ib, n32_lt, n32_le, n32_inj, l_hb, l_hb0, l_shl, l_wo, l_eqm1, l_m1eq, c_isJob, m_in, rowf_at, e57, c9, cA, cB, uC_row, uT_row, reduceCtorEq, Nat.reduceEqDiff, decide_true, decide_false, false_implies, true_implies, not_true_eq_false, not_false_eq_true, Bool.and_false, Bool.false_and, Bool.not_true, Bool.not_false, h1, h2, d1, d2, c1', c3, hf]
              refine ⟨ha, cs78 _ _ _ _ _ _ ?_⟩
              refine sm107 ?_
              simp (disch := omega) only [decide_eq_true_eq, decide_eq_false_iff_not, L32, az01, b2i_01, b2i_n0, b2i_n1, Bool.and_true, true_and, and_true, Classical.not_not, Bool.not_eq_true, Bool.not_eq_false, n32_mul, n32_add, n32_ix, n32_ib, n32_lt, n32_le, n32_inj, l_hb, l_hb0, l_shl, l_wo, l_eqm1, l_m1eq, c_isJob, m_in, rowf_at, e57, c9, cA, cB, uC_row, uT_row, reduceCtorEq, Nat.reduceEqDiff, decide_true, decide_false, false_implies, true_implies, not_true_eq_false, not_false_eq_true, Bool.and_false, Bool.false_and, Bool.not_true, Bool.not_false, h1, h2, d1, d2, c1', c3, hf]
              exact ⟨ha, s78 _ _ _ _ _ _⟩
            · have hk : t 57 a < 20 := by omega
              have ok := j_stepOK (Z := Z) (m := m) (w := w) hT hR hI ha ho ⟨fun _ => ⟨m1, by omega⟩, fun h => absurd rfl h⟩ (fun h => by omega) hk
              rw [if_pos rfl] at ok
              refine sm5 ?_
              simp (disch := first | omega | decide) only [decide_eq_true_eq, decide_eq_false_iff_not, L32, az01, b2i_01, b2i_n0, b2i_n1, Bool.and_true, true_and, and_true, Classical.not_not, Bool.not_eq_true, Bool.not_eq_false, n32_mul, n32_add, n32_ix, n32_ib, n32_lt, n32_le, n32_inj, l_hb, l_hb0, l_shl, l_wo, l_eqm1, l_m1eq, c_isJob, m_in, rowf_at, e57, c9, cA, cB, uC_row, uT_row, reduceCtorEq, Nat.reduceEqDiff, decide_true, decide_false, false_implies, true_implies, not_true_eq_false, not_false_eq_true, Bool.and_false, Bool.false_and, Bool.not_true, Bool.not_false, h1, h2, d1, d2, c1', c3, hf, u5_x, u5_k, u5_eq]
              refine ⟨ha, ha, ha, hk, ha, ha, ?_⟩
              refine sm107 ?_
              simp (disch := first | omega | decide) only [decide_eq_true_eq, decide_eq_false_iff_not, L32, az01, b2i_01, b2i_n0, b2i_n1, Bool.and_true, true_and, and_true, Classical.not_not, Bool.not_eq_true, Bool.not_eq_false, n32_mul, n32_add, n32_ix, n32_ib, n32_lt, n32_le, n32_inj, l_hb, l_hb0, l_shl, l_wo, l_eqm1, l_m1eq, c_isJob, m_in, rowf_at, e57, c9, cA, cB, uC_row, uT_row, reduceCtorEq, Nat.reduceEqDiff, decide_true, decide_false, false_implies, true_implies, not_true_eq_false, not_false_eq_true, Bool.and_false, Bool.false_and, Bool.not_true, Bool.not_false, h1, h2, d1, d2, c1', c3, hf, u2_ne, u2_eq]
              simp only [rowf_upT]
              repeat' (first | exact ok | omega | (refine ⟨?_, ?_⟩))
      · cases h3 : inB x3 10 with
        | false =>
          refine sm5 ?_
          simp (disch := omega) only [decide_eq_true_eq, decide_eq_false_iff_not, L32, az01, b2i_01, b2i_n0, b2i_n1, Bool.and_true, true_and, and_true, Classical.not_not, Bool.not_eq_true, Bool.not_eq_false, n32_mul, n32_add, n32_ix, n32_ib, n32_lt, n32_le, n32_inj, l_hb, l_hb0, l_shl, l_wo, l_eqm1, l_m1eq, c_isJob, m_in, rowf_at, e57, c9, cA, cB, uC_row, uT_row, reduceCtorEq, Nat.reduceEqDiff, decide_true, decide_false, false_implies, true_implies, not_true_eq_false, not_false_eq_true, Bool.and_false, Bool.false_and, Bool.not_true, Bool.not_false, h1, h2, h9, h3]
          refine cs78 _ _ _ _ _ _ ?_
          refine sm107 ?_
          simp (disch := omega) only [decide_eq_true_eq, decide_eq_false_iff_not, L32, az01, b2i_01, b2i_n0, b2i_n1, Bool.and_true, true_and, and_true, Classical.not_not, Bool.not_eq_true, Bool.not_eq_false, n32_mul, n32_add, n32_ix, n32_ib, n32_lt, n32_le, n32_inj, l_hb, l_hb0, l_shl, l_wo, l_eqm1, l_m1eq, c_isJob, m_in, rowf_at, e57, c9, cA, cB, uC_row, uT_row, reduceCtorEq, Nat.reduceEqDiff, decide_true, decide_false, false_implies, true_implies, not_true_eq_false, not_false_eq_true, Bool.and_false, Bool.false_and, Bool.not_true, Bool.not_false, h1, h2, h9, h3]
          exact s78 _ _ _ _ _ _
        | true =>
          obtain ⟨m, hm, rfl⟩ := inB_T (by omega) h3
          by_cases h8 : o = 8
          · subst h8
            by_cases c1 : x4 < n32 1
            · have d1 : decide (x4 < n32 1) = true := decide_eq_true c1
              refine sm5 ?_
              simp (disch := omega) only [decide_eq_true_eq, decide_eq_false_iff_not, L32, az01, b2i_01, b2i_n0, b2i_n1, Bool.and_true, true_and, and_true, Classical.not_not, Bool.not_eq_true, Bool.not_eq_false, n32_mul, n32_add, n32_ix, n32_ib, n32_lt, n32_le, n32_inj, l_hb, l_hb0, l_shl, l_wo, l_eqm1, l_m1eq, c_isJob, m_in, rowf_at, e57, c9, cA, cB, uC_row, uT_row, reduceCtorEq, Nat.reduceEqDiff, decide_true, decide_false, false_implies, true_implies, not_true_eq_false, not_false_eq_true, Bool.and_false, Bool.false_and, Bool.not_true, Bool.not_false, h1, h2, h9, h3, d1, c1]
              refine cs78 _ _ _ _ _ _ ?_
              refine sm107 ?_
              simp (disch := omega) only [decide_eq_true_eq, decide_eq_false_iff_not, L32, az01, b2i_01, b2i_n0, b2i_n1, Bool.and_true, true_and, and_true, Classical.not_not, Bool.not_eq_true, Bool.not_eq_false, n32_mul, n32_add, n32_ix, n32_ib, n32_lt, n32_le, n32_inj, l_hb, l_hb0, l_shl, l_wo, l_eqm1, l_m1eq, c_isJob, m_in, rowf_at, e57, c9, cA, cB, uC_row, uT_row, reduceCtorEq, Nat.reduceEqDiff, decide_true, decide_false, false_implies, true_implies, not_true_eq_false, not_false_eq_true, Bool.and_false, Bool.false_and, Bool.not_true, Bool.not_false, h1, h2, h9, h3, d1, c1]
              exact s78 _ _ _ _ _ _
            · by_cases c2 : n32 9 < x4
              · have d1 : decide (x4 < n32 1) = false := decide_eq_false c1
                have d2 : decide (n32 9 < x4) = true := decide_eq_true c2
                refine sm5 ?_
                simp (disch := omega) only [decide_eq_true_eq, decide_eq_false_iff_not, L32, az01, b2i_01, b2i_n0, b2i_n1, Bool.and_true, true_and, and_true, Classical.not_not, Bool.not_eq_true, Bool.not_eq_false, n32_mul, n32_add, n32_ix, n32_ib, n32_lt, n32_le, n32_inj, l_hb, l_hb0, l_shl, l_wo, l_eqm1, l_m1eq, c_isJob, m_in, rowf_at, e57, c9, cA, cB, uC_row, uT_row, reduceCtorEq, Nat.reduceEqDiff, decide_true, decide_false, false_implies, true_implies, not_true_eq_false, not_false_eq_true, Bool.and_false, Bool.false_and, Bool.not_true, Bool.not_false, h1, h2, h9, h3, d1, d2, c1, c2]
                refine cs78 _ _ _ _ _ _ ?_
                refine sm107 ?_
                simp (disch := omega) only [decide_eq_true_eq, decide_eq_false_iff_not, L32, az01, b2i_01, b2i_n0, b2i_n1, Bool.and_true, true_and, and_true, Classical.not_not, Bool.not_eq_true, Bool.not_eq_false, n32_mul, n32_add, n32_ix, n32_ib, n32_lt, n32_le, n32_inj, l_hb, l_hb0, l_shl, l_wo, l_eqm1, l_m1eq, c_isJob, m_in, rowf_at, e57, c9, cA, cB, uC_row, uT_row, reduceCtorEq, Nat.reduceEqDiff, decide_true, decide_false, false_implies, true_implies, not_true_eq_false, not_false_eq_true, Bool.and_false, Bool.false_and, Bool.not_true, Bool.not_false, h1, h2, h9, h3, d1, d2, c1, c2]
                exact s78 _ _ _ _ _ _
              · obtain ⟨w, hw⟩ := rng (by omega) c1 c2
                obtain ⟨w1, w2, rfl⟩ := hw.resolve_right (by omega)
                have d1 : decide (w < 1) = false := decide_eq_false (by omega)
                have d2 : decide (9 < w) = false := decide_eq_false (by omega)
                have c1' : ¬ w < 1 := by omega
                have c3 : ¬ 9 < w := by omega
                by_cases hf : t 57 a = 20
                · refine sm5 ?_
                  simp (disch := omega) only [decide_eq_true_eq, decide_eq_false_iff_not, L32, az01, b2i_01, b2i_n0, b2i_n1, Bool.and_true, true_and, and_true, Classical.not_not, Bool.not_eq_true, Bool.not_eq_false, n32_mul, n32_add, n32_ix, n32_ib, n32_lt, n32_le, n32_inj, l_hb, l_hb0, l_shl, l_wo, l_eqm1, l_m1eq, c_isJob, m_in, rowf_at, e57, c9, cA, cB, uC_row, uT_row, reduceCtorEq, Nat.reduceEqDiff, decide_true, decide_false, false_implies, true_implies, not_true_eq_false, not_false_eq_true, Bool.and_false, Bool.false_and, Bool.not_true, Bool.not_false, h1, h2, h9, h3, d1, d2, c1', c3, hf]
                  refine ⟨ha, cs78 _ _ _ _ _ _ ?_⟩
                  refine sm107 ?_
                  simp (disch := omega) only [decide_eq_true_eq, decide_eq_false_iff_not, L32, az01, b2i_01, b2i_n0, b2i_n1, Bool.and_true, true_and, and_true, Classical.not_not, Bool.not_eq_true, Bool.not_eq_false, n32_mul, n32_add, n32_ix, n32_ib, n32_lt, n32_le, n32_inj, l_hb, l_hb0, l_shl, l_wo, l_eqm1, l_m1eq, c_isJob, m_in, rowf_at, e57, c9, cA, cB, uC_row, uT_row, reduceCtorEq, Nat.reduceEqDiff, decide_true, decide_false, false_implies, true_implies, not_true_eq_false, not_false_eq_true, Bool.and_false, Bool.false_and, Bool.not_true, Bool.not_false, h1, h2, h9, h3, d1, d2, c1', c3, hf]
                  exact ⟨ha, s78 _ _ _ _ _ _⟩
                · have hk : t 57 a < 20 := by omega
                  have ok := j_stepOK (Z := Z) (m := m) (w := w) hT hR hI ha ho ⟨fun h => by omega, fun _ => hm⟩ (fun _ => ⟨w1, by omega⟩) hk
                  rw [if_neg (by omega)] at ok
                  refine sm5 ?_
                  simp (disch := first | omega | decide) only [decide_eq_true_eq, decide_eq_false_iff_not, L32, az01, b2i_01, b2i_n0, b2i_n1, Bool.and_true, true_and, and_true, Classical.not_not, Bool.not_eq_true, Bool.not_eq_false, n32_mul, n32_add, n32_ix, n32_ib, n32_lt, n32_le, n32_inj, l_hb, l_hb0, l_shl, l_wo, l_eqm1, l_m1eq, c_isJob, m_in, rowf_at, e57, c9, cA, cB, uC_row, uT_row, reduceCtorEq, Nat.reduceEqDiff, decide_true, decide_false, false_implies, true_implies, not_true_eq_false, not_false_eq_true, Bool.and_false, Bool.false_and, Bool.not_true, Bool.not_false, h1, h2, h9, h3, d1, d2, c1', c3, hf, u5_x, u5_k, u5_eq]
                  refine ⟨ha, ha, ha, hk, ha, ha, ?_⟩
                  refine sm107 ?_
                  simp (disch := first | omega | decide) only [decide_eq_true_eq, decide_eq_false_iff_not, L32, az01, b2i_01, b2i_n0, b2i_n1, Bool.and_true, true_and, and_true, Classical.not_not, Bool.not_eq_true, Bool.not_eq_false, n32_mul, n32_add, n32_ix, n32_ib, n32_lt, n32_le, n32_inj, l_hb, l_hb0, l_shl, l_wo, l_eqm1, l_m1eq, c_isJob, m_in, rowf_at, e57, c9, cA, cB, uC_row, uT_row, reduceCtorEq, Nat.reduceEqDiff, decide_true, decide_false, false_implies, true_implies, not_true_eq_false, not_false_eq_true, Bool.and_false, Bool.false_and, Bool.not_true, Bool.not_false, h1, h2, h9, h3, d1, d2, c1', c3, hf, u2_ne, u2_eq]
                  simp only [rowf_upT]
                  repeat' (first | exact ok | omega | (refine ⟨?_, ?_⟩))
          · obtain ⟨w, rfl⟩ := n32_ex x4
            by_cases hf : t 57 a = 20
            · refine sm5 ?_
              simp (disch := omega) only [decide_eq_true_eq, decide_eq_false_iff_not, L32, az01, b2i_01, b2i_n0, b2i_n1, Bool.and_true, true_and, and_true, Classical.not_not, Bool.not_eq_true, Bool.not_eq_false, n32_mul, n32_add, n32_ix, n32_ib, n32_lt, n32_le, n32_inj, l_hb, l_hb0, l_shl, l_wo, l_eqm1, l_m1eq, c_isJob, m_in, rowf_at, e57, c9, cA, cB, uC_row, uT_row, reduceCtorEq, Nat.reduceEqDiff, decide_true, decide_false, false_implies, true_implies, not_true_eq_false, not_false_eq_true, Bool.and_false, Bool.false_and, Bool.not_true, Bool.not_false, h1, h2, h9, h3, h8, hf]
              refine ⟨ha, cs78 _ _ _ _ _ _ ?_⟩
              refine sm107 ?_
              simp (disch := omega) only [decide_eq_true_eq, decide_eq_false_iff_not, L32, az01, b2i_01, b2i_n0, b2i_n1, Bool.and_true, true_and, and_true, Classical.not_not, Bool.not_eq_true, Bool.not_eq_false, n32_mul, n32_add, n32_ix, n32_ib, n32_lt, n32_le, n32_inj, l_hb, l_hb0, l_shl, l_wo, l_eqm1, l_m1eq, c_isJob, m_in, rowf_at, e57, c9, cA, cB, uC_row, uT_row, reduceCtorEq, Nat.reduceEqDiff, decide_true, decide_false, false_implies, true_implies, not_true_eq_false, not_false_eq_true, Bool.and_false, Bool.false_and, Bool.not_true, Bool.not_false, h1, h2, h9, h3, h8, hf]
              exact ⟨ha, s78 _ _ _ _ _ _⟩
            · have hk : t 57 a < 20 := by omega
              have ok := j_stepOK (Z := Z) (m := m) (w := w) hT hR hI ha ho ⟨fun h => absurd h h9, fun _ => hm⟩ (fun h => absurd h h8) hk
              rw [if_neg (by omega)] at ok
              refine sm5 ?_
              simp (disch := first | omega | decide) only [decide_eq_true_eq, decide_eq_false_iff_not, L32, az01, b2i_01, b2i_n0, b2i_n1, Bool.and_true, true_and, and_true, Classical.not_not, Bool.not_eq_true, Bool.not_eq_false, n32_mul, n32_add, n32_ix, n32_ib, n32_lt, n32_le, n32_inj, l_hb, l_hb0, l_shl, l_wo, l_eqm1, l_m1eq, c_isJob, m_in, rowf_at, e57, c9, cA, cB, uC_row, uT_row, reduceCtorEq, Nat.reduceEqDiff, decide_true, decide_false, false_implies, true_implies, not_true_eq_false, not_false_eq_true, Bool.and_false, Bool.false_and, Bool.not_true, Bool.not_false, h1, h2, h9, h3, h8, hf, u5_x, u5_k, u5_eq]
              refine ⟨ha, ha, ha, hk, ha, ha, ?_⟩
              refine sm107 ?_
              simp (disch := first | omega | decide) only [decide_eq_true_eq, decide_eq_false_iff_not, L32, az01, b2i_01, b2i_n0, b2i_n1, Bool.and_true, true_and, and_true, Classical.not_not, Bool.not_eq_true, Bool.not_eq_false, n32_mul, n32_add, n32_ix, n32_ib, n32_lt, n32_le, n32_inj, l_hb, l_hb0, l_shl, l_wo, l_eqm1, l_m1eq, c_isJob, m_in, rowf_at, e57, c9, cA, cB, uC_row, uT_row, reduceCtorEq, Nat.reduceEqDiff, decide_true, decide_false, false_implies, true_implies, not_true_eq_false, not_false_eq_true, Bool.and_false, Bool.false_and, Bool.not_true, Bool.not_false, h1, h2, h9, h3, h8, hf, u2_ne, u2_eq]
              simp only [rowf_upT]
              repeat' (first | exact ok | omega | (refine ⟨?_, ?_⟩))
end
