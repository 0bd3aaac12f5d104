/-! the reading calls -/
theorem gb8 : Nat.blt 8 1000 = true := rfl
theorem gb5 : Nat.blt 5 1000 = true := rfl
theorem gb4 : Nat.blt 4 1000 = true := rfl
theorem inB_sub {x : Int32} {a k : Nat} (ha : 1 ≤ a) (hk : a + k < 1000) : inB (x - n32 a) k = (!decide (x < n32 a) && !decide (n32 (a + k - 1) < x)) := by
  have e : inB (x - n32 a) k = true ↔ (!decide (x < n32 a) && !decide (n32 (a + k - 1) < x)) = true := by
    constructor
    · intro h
      obtain ⟨i, hi, he⟩ := inB_T (by omega) h
      have hx : x = n32 (a + i) := by
        rw [← n32_add, ← he]
        exact (Int32.add_comm _ _).trans (Int32.sub_add_cancel x (n32 a)) |>.symm
      rw [hx, decide_eq_false (by rw [n32_lt (by omega) (by omega)]; omega), decide_eq_false (by rw [n32_lt (by omega) (by omega)]; omega)]; rfl
    · intro h
      simp only [Bool.and_eq_true, Bool.not_eq_true', decide_eq_false_iff_not] at h
      obtain ⟨i, hi⟩ := rng (lo := a) (hi := a + k - 1) (by omega) h.1 h.2
      rcases hi with ⟨i1, i2, rfl⟩ | hi
      · rw [n32_sub i1, inB_k (by omega) (by omega), decide_eq_true (by omega)]
      · exfalso
        have h1 := h.1
        have h2 := h.2
        rw [lt_toInt, n32_toInt (by omega)] at h1 h2
        omega
  cases h1 : inB (x - n32 a) k <;> cases h2 : (!decide (x < n32 a) && !decide (n32 (a + k - 1) < x))
  · rfl
  · rw [h2, h1] at e; exact absurd (e.2 rfl) (by decide)
  · rw [h2, h1] at e; exact absurd (e.1 rfl) (by decide)
  · rfl
section
variable {P : Nat × (Nat → Int32)} {d : Nat}
theorem j_ring {x1 : Int32} (hd : 4 ≤ d) : JNT P d 21 162 [vi x1] := by
  obtain ⟨d, rfl⟩ := dge hd
  rintro h ⟨t, s, L, Z, C, rfl, hT, hR, hI⟩
  have keep : LAWI (rowf t, rowf s, L, Z, C) := ⟨t, s, L, Z, C, rfl, hT, hR, hI⟩
  obtain ⟨r, r1, r2, r3, r4⟩ := hI.2.2.2.2.2.2.2.2.2
  have ci := c_in1 (P := P) (d := d + 3) (h := (rowf t, rowf s, L, Z, C)) (x := x1) (n := r) (by omega) (by omega)
  refine sm21 ?_
  simp (disch := omega) only [decide_eq_true_eq, decide_eq_false_iff_not, L32, az01, b2i_01, b2i_n0, b2i_n1, Bool.and_true, true_and, and_true, Classical.not_not, Bool.not_eq_true, Bool.not_eq_false, r3, ci]
  refine ⟨fun h1 => ?_, fun h1 => ?_⟩
  · refine sm162 ?_
    simp (disch := omega) only [decide_eq_true_eq, decide_eq_false_iff_not, L32, az01, b2i_01, b2i_n0, b2i_n1, Bool.and_true, true_and, and_true, Classical.not_not, Bool.not_eq_true, Bool.not_eq_false, r2, m_in, h1]
    exact ⟨fun _ => keep, fun hc => (hc trivial).elim⟩
  · obtain ⟨k, hk, rfl⟩ := inB_T (by omega) h1
    simp (disch := omega) only [n32_mul, n32_add, n32_ix, n32_ib, n32_lt, n32_le, n32_inj, l_hb, l_hb0, l_shl, l_wo, l_eqm1, l_m1eq]
    refine ⟨decide_eq_true (by omega), ?_⟩
    refine sm162 ?_
    simp (disch := omega) only [decide_eq_true_eq, decide_eq_false_iff_not, L32, az01, b2i_01, b2i_n0, b2i_n1, Bool.and_true, true_and, and_true, Classical.not_not, Bool.not_eq_true, Bool.not_eq_false, r2, m_in, h1, n32_mul, n32_add, n32_ix, n32_ib, n32_lt, n32_le, n32_inj, l_hb, l_hb0, l_shl, l_wo, l_eqm1, l_m1eq, r4 k hk]
    exact ⟨fun hc => (by cases hc), fun _ => ⟨by omega, keep⟩⟩
theorem j_planned {x1 : Int32} (hd : 4 ≤ d) : JNT P d 30 179 [vi x1] := by
  obtain ⟨d, rfl⟩ := dge hd
  rintro h ⟨t, s, L, Z, C, rfl, hT, hR, hI⟩
  have keep : LAWI (rowf t, rowf s, L, Z, C) := ⟨t, s, L, Z, C, rfl, hT, hR, hI⟩
  obtain ⟨r, r1, r2, r3, r4⟩ := hI.2.2.2.2.2.2.2.2.1
  have ci := c_in1 (P := P) (d := d + 3) (h := (rowf t, rowf s, L, Z, C)) (x := x1) (n := r) (by omega) (by omega)
  refine sm30 ?_
  simp (disch := omega) only [decide_eq_true_eq, decide_eq_false_iff_not, L32, az01, b2i_01, b2i_n0, b2i_n1, Bool.and_true, true_and, and_true, Classical.not_not, Bool.not_eq_true, Bool.not_eq_false, r3, ci]
  refine ⟨fun h1 => ?_, fun h1 => ?_⟩
  · refine sm179 ?_
    simp (disch := omega) only [decide_eq_true_eq, decide_eq_false_iff_not, L32, az01, b2i_01, b2i_n0, b2i_n1, Bool.and_true, true_and, and_true, Classical.not_not, Bool.not_eq_true, Bool.not_eq_false, r2, m_in, h1]
    exact ⟨fun _ => keep, fun hc => (hc trivial).elim⟩
  · obtain ⟨k, hk, rfl⟩ := inB_T (by omega) h1
    simp (disch := omega) only [n32_mul, n32_add, n32_ix, n32_ib, n32_lt, n32_le, n32_inj, l_hb, l_hb0, l_shl, l_wo, l_eqm1, l_m1eq]
    refine ⟨decide_eq_true (by omega), ?_⟩
    refine sm179 ?_
    simp (disch := omega) only [decide_eq_true_eq, decide_eq_false_iff_not, L32, az01, b2i_01, b2i_n0, b2i_n1, Bool.and_true, true_and, and_true, Classical.not_not, Bool.not_eq_true, Bool.not_eq_false, r2, m_in, h1, n32_mul, n32_add, n32_ix, n32_ib, n32_lt, n32_le, n32_inj, l_hb, l_hb0, l_shl, l_wo, l_eqm1, l_m1eq, r4 k hk]
    exact ⟨fun hc => (by cases hc), fun _ => ⟨by omega, keep⟩⟩
theorem j_taken {x1 x2 : Int32} (hd : 5 ≤ d) : JNT P d 22 163 [vi x1, vi x2] := by
  obtain ⟨d, rfl⟩ := dge hd
  rintro h ⟨t, s, L, Z, C, rfl, hT, hR, hI⟩
  have keep : LAWI (rowf t, rowf s, L, Z, C) := ⟨t, s, L, Z, C, rfl, hT, hR, hI⟩
  obtain ⟨g, g1, g2⟩ := hI.2.2.2.2.1.1
  obtain ⟨g3, g4, _⟩ := hI.2.2.2.2.2.2.1.1
  rw [g2] at g3
  have ci := c_in1 (P := P) (d := d + 3) (h := (rowf t, rowf s, L, Z, C)) (x := x1) (n := g) (by omega) (by omega)
  refine sm22 (sm96 ?_)
  simp (disch := omega) only [decide_eq_true_eq, decide_eq_false_iff_not, L32, az01, b2i_01, b2i_n0, b2i_n1, Bool.and_true, true_and, and_true, Classical.not_not, Bool.not_eq_true, Bool.not_eq_false, g3, ci]
  refine ⟨fun h1 => ?_, fun h1 => ?_⟩
  · obtain ⟨k, hk, rfl⟩ := inB_T (by omega) h1
    have e := g4 k
    simp (disch := omega) only [decide_eq_true_eq, decide_eq_false_iff_not, L32, az01, b2i_01, b2i_n0, b2i_n1, Bool.and_true, true_and, and_true, Classical.not_not, Bool.not_eq_true, Bool.not_eq_false, n32_mul, n32_add, n32_ix, n32_ib, n32_lt, n32_le, n32_inj, l_hb, l_hb0, l_shl, l_wo, l_eqm1, l_m1eq, e.1, e.2.1, e.2.2]
    refine ⟨fun a0 => ⟨fun a1 => ⟨fun a2 => ?_, fun a2 => ⟨by omega, ?_⟩⟩, fun a1 => ⟨by omega, ?_⟩⟩, fun a0 => ⟨by omega, ?_⟩⟩
    · refine sm163 ?_
      simp (disch := omega) only [decide_eq_true_eq, decide_eq_false_iff_not, L32, az01, b2i_01, b2i_n0, b2i_n1, Bool.and_true, true_and, and_true, Classical.not_not, Bool.not_eq_true, Bool.not_eq_false, n32_mul, n32_add, n32_ix, n32_ib, n32_lt, n32_le, n32_inj, l_hb, l_hb0, l_shl, l_wo, l_eqm1, l_m1eq, reduceCtorEq, Nat.reduceEqDiff, Nat.reduceAdd, Nat.reduceLT, Nat.reduceLeDiff, decide_true, decide_false, false_implies, true_implies, not_true_eq_false, not_false_eq_true, Bool.and_false, Bool.false_and, Bool.true_and, Bool.not_true, Bool.not_false, gb8, gb5, gb4, and_true, true_and, not_false_eq_true, forall_const, g2, m_in, h1, a0, a1, a2]
      exact keep
    · subst a2
      refine sm163 ?_
      simp (disch := omega) only [decide_eq_true_eq, decide_eq_false_iff_not, L32, az01, b2i_01, b2i_n0, b2i_n1, Bool.and_true, true_and, and_true, Classical.not_not, Bool.not_eq_true, Bool.not_eq_false, n32_mul, n32_add, n32_ix, n32_ib, n32_lt, n32_le, n32_inj, l_hb, l_hb0, l_shl, l_wo, l_eqm1, l_m1eq, reduceCtorEq, Nat.reduceEqDiff, Nat.reduceAdd, Nat.reduceLT, Nat.reduceLeDiff, decide_true, decide_false, false_implies, true_implies, not_true_eq_false, not_false_eq_true, Bool.and_false, Bool.false_and, Bool.true_and, Bool.not_true, Bool.not_false, gb8, gb5, gb4, and_true, true_and, not_false_eq_true, forall_const, g2, m_in, h1]
      exact ⟨by omega, keep⟩
    · subst a1
      refine sm163 ?_
      simp (disch := omega) only [decide_eq_true_eq, decide_eq_false_iff_not, L32, az01, b2i_01, b2i_n0, b2i_n1, Bool.and_true, true_and, and_true, Classical.not_not, Bool.not_eq_true, Bool.not_eq_false, n32_mul, n32_add, n32_ix, n32_ib, n32_lt, n32_le, n32_inj, l_hb, l_hb0, l_shl, l_wo, l_eqm1, l_m1eq, reduceCtorEq, Nat.reduceEqDiff, Nat.reduceAdd, Nat.reduceLT, Nat.reduceLeDiff, decide_true, decide_false, false_implies, true_implies, not_true_eq_false, not_false_eq_true, Bool.and_false, Bool.false_and, Bool.true_and, Bool.not_true, Bool.not_false, gb8, gb5, gb4, and_true, true_and, not_false_eq_true, forall_const, g2, m_in, h1]
      exact ⟨by omega, keep⟩
    · subst a0
      refine sm163 ?_
      simp (disch := omega) only [decide_eq_true_eq, decide_eq_false_iff_not, L32, az01, b2i_01, b2i_n0, b2i_n1, Bool.and_true, true_and, and_true, Classical.not_not, Bool.not_eq_true, Bool.not_eq_false, n32_mul, n32_add, n32_ix, n32_ib, n32_lt, n32_le, n32_inj, l_hb, l_hb0, l_shl, l_wo, l_eqm1, l_m1eq, reduceCtorEq, Nat.reduceEqDiff, Nat.reduceAdd, Nat.reduceLT, Nat.reduceLeDiff, decide_true, decide_false, false_implies, true_implies, not_true_eq_false, not_false_eq_true, Bool.and_false, Bool.false_and, Bool.true_and, Bool.not_true, Bool.not_false, gb8, gb5, gb4, and_true, true_and, not_false_eq_true, forall_const, g2, m_in, h1]
      exact ⟨by omega, keep⟩
  · refine sm163 ?_
    simp (disch := omega) only [decide_eq_true_eq, decide_eq_false_iff_not, L32, az01, b2i_01, b2i_n0, b2i_n1, Bool.and_true, true_and, and_true, Classical.not_not, Bool.not_eq_true, Bool.not_eq_false, n32_mul, n32_add, n32_ix, n32_ib, n32_lt, n32_le, n32_inj, l_hb, l_hb0, l_shl, l_wo, l_eqm1, l_m1eq, reduceCtorEq, Nat.reduceEqDiff, Nat.reduceAdd, Nat.reduceLT, Nat.reduceLeDiff, decide_true, decide_false, false_implies, true_implies, not_true_eq_false, not_false_eq_true, Bool.and_false, Bool.false_and, Bool.true_and, Bool.not_true, Bool.not_false, gb8, gb5, gb4, and_true, true_and, not_false_eq_true, forall_const, g2, m_in, h1]
    exact keep
theorem j_order {x1 x2 : Int32} (hd : 5 ≤ d) : JNT P d 23 164 [vi x1, vi x2] := by
  obtain ⟨d, rfl⟩ := dge hd
  rintro h ⟨t, s, L, Z, C, rfl, hT, hR, hI⟩
  have keep : LAWI (rowf t, rowf s, L, Z, C) := ⟨t, s, L, Z, C, rfl, hT, hR, hI⟩
  have h3 := hI.2.2.1
  unfold LI3 at h3
  obtain ⟨b1, b2, b3, b4, b5⟩ := hI.2.2.2.2.2.2.1.1.2.2
  have hc : cnt 100 (ordB L) ≤ 90 := by
    rw [← cnt_ndg]; exact cnt_mono 100 b2
  rw [h3] at b3
  have ci := c_in1 (P := P) (d := d + 4) (h := (rowf t, rowf s, L, Z, C)) (x := x1) (n := cnt 100 (ordB L)) (by omega) (by omega)
  cases h1 : inB x1 (cnt 100 (ordB L)) with
  | false =>
    refine sm23 ?_
    simp (disch := omega) only [decide_eq_true_eq, decide_eq_false_iff_not, L32, az01, b2i_01, b2i_n0, b2i_n1, Bool.and_true, true_and, and_true, Classical.not_not, Bool.not_eq_true, Bool.not_eq_false, n32_mul, n32_add, n32_ix, n32_ib, n32_lt, n32_le, n32_inj, l_hb, l_hb0, l_shl, l_wo, l_eqm1, l_m1eq, reduceCtorEq, Nat.reduceEqDiff, Nat.reduceAdd, Nat.reduceLT, Nat.reduceLeDiff, decide_true, decide_false, false_implies, true_implies, not_true_eq_false, not_false_eq_true, Bool.and_false, Bool.false_and, Bool.true_and, Bool.not_true, Bool.not_false, gb8, gb5, gb4, and_true, true_and, not_false_eq_true, forall_const, b3, ci, h1]
    refine sm164 ?_
    simp (disch := omega) only [decide_eq_true_eq, decide_eq_false_iff_not, L32, az01, b2i_01, b2i_n0, b2i_n1, Bool.and_true, true_and, and_true, Classical.not_not, Bool.not_eq_true, Bool.not_eq_false, n32_mul, n32_add, n32_ix, n32_ib, n32_lt, n32_le, n32_inj, l_hb, l_hb0, l_shl, l_wo, l_eqm1, l_m1eq, reduceCtorEq, Nat.reduceEqDiff, Nat.reduceAdd, Nat.reduceLT, Nat.reduceLeDiff, decide_true, decide_false, false_implies, true_implies, not_true_eq_false, not_false_eq_true, Bool.and_false, Bool.false_and, Bool.true_and, Bool.not_true, Bool.not_false, gb8, gb5, gb4, and_true, true_and, not_false_eq_true, forall_const, h3, m_in, h1]
    exact keep
  | true =>
    obtain ⟨k, hk, rfl⟩ := inB_T (by omega) h1
    obtain ⟨e0, e1, e2, e3⟩ := b4 k
    have hk90 : k < 90 := by omega
    have hk100 : k < 100 := by omega
    by_cases a0 : x2 = n32 0
    · subst a0
      refine sm23 ?_
      simp (disch := omega) only [decide_eq_true_eq, decide_eq_false_iff_not, L32, az01, b2i_01, b2i_n0, b2i_n1, Bool.and_true, true_and, and_true, Classical.not_not, Bool.not_eq_true, Bool.not_eq_false, n32_mul, n32_add, n32_ix, n32_ib, n32_lt, n32_le, n32_inj, l_hb, l_hb0, l_shl, l_wo, l_eqm1, l_m1eq, reduceCtorEq, Nat.reduceEqDiff, Nat.reduceAdd, Nat.reduceLT, Nat.reduceLeDiff, decide_true, decide_false, false_implies, true_implies, not_true_eq_false, not_false_eq_true, Bool.and_false, Bool.false_and, Bool.true_and, Bool.not_true, Bool.not_false, gb8, gb5, gb4, and_true, true_and, not_false_eq_true, forall_const, b3, ci, h1, e0, e1, e2, e3, hk90]
      refine sm164 ?_
      simp (disch := omega) only [decide_eq_true_eq, decide_eq_false_iff_not, L32, az01, b2i_01, b2i_n0, b2i_n1, Bool.and_true, true_and, and_true, Classical.not_not, Bool.not_eq_true, Bool.not_eq_false, n32_mul, n32_add, n32_ix, n32_ib, n32_lt, n32_le, n32_inj, l_hb, l_hb0, l_shl, l_wo, l_eqm1, l_m1eq, reduceCtorEq, Nat.reduceEqDiff, Nat.reduceAdd, Nat.reduceLT, Nat.reduceLeDiff, decide_true, decide_false, false_implies, true_implies, not_true_eq_false, not_false_eq_true, Bool.and_false, Bool.false_and, Bool.true_and, Bool.not_true, Bool.not_false, gb8, gb5, gb4, and_true, true_and, not_false_eq_true, forall_const, h3, m_in, h1, hk100]
      exact keep
    by_cases a1 : x2 = n32 1
    · subst a1
      refine sm23 ?_
      simp (disch := omega) only [decide_eq_true_eq, decide_eq_false_iff_not, L32, az01, b2i_01, b2i_n0, b2i_n1, Bool.and_true, true_and, and_true, Classical.not_not, Bool.not_eq_true, Bool.not_eq_false, n32_mul, n32_add, n32_ix, n32_ib, n32_lt, n32_le, n32_inj, l_hb, l_hb0, l_shl, l_wo, l_eqm1, l_m1eq, reduceCtorEq, Nat.reduceEqDiff, Nat.reduceAdd, Nat.reduceLT, Nat.reduceLeDiff, decide_true, decide_false, false_implies, true_implies, not_true_eq_false, not_false_eq_true, Bool.and_false, Bool.false_and, Bool.true_and, Bool.not_true, Bool.not_false, gb8, gb5, gb4, and_true, true_and, not_false_eq_true, forall_const, b3, ci, h1, e0, e1, e2, e3, hk90]
      refine sm164 ?_
      simp (disch := omega) only [decide_eq_true_eq, decide_eq_false_iff_not, L32, az01, b2i_01, b2i_n0, b2i_n1, Bool.and_true, true_and, and_true, Classical.not_not, Bool.not_eq_true, Bool.not_eq_false, n32_mul, n32_add, n32_ix, n32_ib, n32_lt, n32_le, n32_inj, l_hb, l_hb0, l_shl, l_wo, l_eqm1, l_m1eq, reduceCtorEq, Nat.reduceEqDiff, Nat.reduceAdd, Nat.reduceLT, Nat.reduceLeDiff, decide_true, decide_false, false_implies, true_implies, not_true_eq_false, not_false_eq_true, Bool.and_false, Bool.false_and, Bool.true_and, Bool.not_true, Bool.not_false, gb8, gb5, gb4, and_true, true_and, not_false_eq_true, forall_const, h3, m_in, h1, hk100]
      exact keep
    by_cases a2 : x2 = n32 2
    · subst a2
      refine sm23 ?_
      simp (disch := omega) only [decide_eq_true_eq, decide_eq_false_iff_not, L32, az01, b2i_01, b2i_n0, b2i_n1, Bool.and_true, true_and, and_true, Classical.not_not, Bool.not_eq_true, Bool.not_eq_false, n32_mul, n32_add, n32_ix, n32_ib, n32_lt, n32_le, n32_inj, l_hb, l_hb0, l_shl, l_wo, l_eqm1, l_m1eq, reduceCtorEq, Nat.reduceEqDiff, Nat.reduceAdd, Nat.reduceLT, Nat.reduceLeDiff, decide_true, decide_false, false_implies, true_implies, not_true_eq_false, not_false_eq_true, Bool.and_false, Bool.false_and, Bool.true_and, Bool.not_true, Bool.not_false, gb8, gb5, gb4, and_true, true_and, not_false_eq_true, forall_const, b3, ci, h1, e0, e1, e2, e3, hk90]
      refine sm164 ?_
      simp (disch := omega) only [decide_eq_true_eq, decide_eq_false_iff_not, L32, az01, b2i_01, b2i_n0, b2i_n1, Bool.and_true, true_and, and_true, Classical.not_not, Bool.not_eq_true, Bool.not_eq_false, n32_mul, n32_add, n32_ix, n32_ib, n32_lt, n32_le, n32_inj, l_hb, l_hb0, l_shl, l_wo, l_eqm1, l_m1eq, reduceCtorEq, Nat.reduceEqDiff, Nat.reduceAdd, Nat.reduceLT, Nat.reduceLeDiff, decide_true, decide_false, false_implies, true_implies, not_true_eq_false, not_false_eq_true, Bool.and_false, Bool.false_and, Bool.true_and, Bool.not_true, Bool.not_false, gb8, gb5, gb4, and_true, true_and, not_false_eq_true, forall_const, h3, m_in, h1, hk100]
      exact keep
    by_cases a3 : x2 = n32 3
    · subst a3
      refine sm23 ?_
      simp (disch := omega) only [decide_eq_true_eq, decide_eq_false_iff_not, L32, az01, b2i_01, b2i_n0, b2i_n1, Bool.and_true, true_and, and_true, Classical.not_not, Bool.not_eq_true, Bool.not_eq_false, n32_mul, n32_add, n32_ix, n32_ib, n32_lt, n32_le, n32_inj, l_hb, l_hb0, l_shl, l_wo, l_eqm1, l_m1eq, reduceCtorEq, Nat.reduceEqDiff, Nat.reduceAdd, Nat.reduceLT, Nat.reduceLeDiff, decide_true, decide_false, false_implies, true_implies, not_true_eq_false, not_false_eq_true, Bool.and_false, Bool.false_and, Bool.true_and, Bool.not_true, Bool.not_false, gb8, gb5, gb4, and_true, true_and, not_false_eq_true, forall_const, b3, ci, h1, e0, e1, e2, e3, hk90]
      refine sm164 ?_
      simp (disch := omega) only [decide_eq_true_eq, decide_eq_false_iff_not, L32, az01, b2i_01, b2i_n0, b2i_n1, Bool.and_true, true_and, and_true, Classical.not_not, Bool.not_eq_true, Bool.not_eq_false, n32_mul, n32_add, n32_ix, n32_ib, n32_lt, n32_le, n32_inj, l_hb, l_hb0, l_shl, l_wo, l_eqm1, l_m1eq, reduceCtorEq, Nat.reduceEqDiff, Nat.reduceAdd, Nat.reduceLT, Nat.reduceLeDiff, decide_true, decide_false, false_implies, true_implies, not_true_eq_false, not_false_eq_true, Bool.and_false, Bool.false_and, Bool.true_and, Bool.not_true, Bool.not_false, gb8, gb5, gb4, and_true, true_and, not_false_eq_true, forall_const, h3, m_in, h1, hk100]
      exact keep
    refine sm23 ?_
    simp (disch := omega) only [decide_eq_true_eq, decide_eq_false_iff_not, L32, az01, b2i_01, b2i_n0, b2i_n1, Bool.and_true, true_and, and_true, Classical.not_not, Bool.not_eq_true, Bool.not_eq_false, n32_mul, n32_add, n32_ix, n32_ib, n32_lt, n32_le, n32_inj, l_hb, l_hb0, l_shl, l_wo, l_eqm1, l_m1eq, reduceCtorEq, Nat.reduceEqDiff, Nat.reduceAdd, Nat.reduceLT, Nat.reduceLeDiff, decide_true, decide_false, false_implies, true_implies, not_true_eq_false, not_false_eq_true, Bool.and_false, Bool.false_and, Bool.true_and, Bool.not_true, Bool.not_false, gb8, gb5, gb4, and_true, true_and, not_false_eq_true, forall_const, b3, ci, h1, e0, e1, e2, e3, hk90, a0, a1, a2, a3]
    refine sm164 ?_
    simp (disch := omega) only [decide_eq_true_eq, decide_eq_false_iff_not, L32, az01, b2i_01, b2i_n0, b2i_n1, Bool.and_true, true_and, and_true, Classical.not_not, Bool.not_eq_true, Bool.not_eq_false, n32_mul, n32_add, n32_ix, n32_ib, n32_lt, n32_le, n32_inj, l_hb, l_hb0, l_shl, l_wo, l_eqm1, l_m1eq, reduceCtorEq, Nat.reduceEqDiff, Nat.reduceAdd, Nat.reduceLT, Nat.reduceLeDiff, decide_true, decide_false, false_implies, true_implies, not_true_eq_false, not_false_eq_true, Bool.and_false, Bool.false_and, Bool.true_and, Bool.not_true, Bool.not_false, gb8, gb5, gb4, and_true, true_and, not_false_eq_true, forall_const, h3, m_in, h1, hk100, a0, a1, a2, a3]
    exact keep
end
