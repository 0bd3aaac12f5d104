/-! the reading calls: refused, job -/
section
variable {P : Nat × (Nat → Int32)} {d : Nat}
theorem j_refused {x1 x2 : Int32} (hd : 6 ≤ d) : JNT P d 20 161 [vi x1, vi x2] := by
  obtain ⟨d, rfl⟩ := dge hd
  rintro h ⟨t, s, L, Z, C, rfl, hT, hR, hI⟩
  have keep : LAWI (rowf t, rowf s, L, Z, C) := ⟨t, s, L, Z, C, rfl, hT, hR, hI⟩
  obtain ⟨c, c1, c2⟩ := hI.2.2.2.2.1.2.1
  have h78 := hI.2.2.2.2.1.2.2
  obtain ⟨_, r11, r46, r50⟩ := hI.2.2.2.2.2.2.1
  rw [c2] at r11
  have ci := c_in1 (P := P) (d := d + 4) (h := (rowf t, rowf s, L, Z, C)) (x := x1) (n := c) (by omega) (by omega)
  obtain ⟨t0, s0, _, _, _, _, hrun⟩ := hI.2.2.2.2.2.2.2.1
  rcases hrun with ⟨z1, _, z3⟩ | ⟨z1, _, _⟩
  · have hc0 : c = 0 := by rw [c2, n32_inj (by omega) (by omega)] at z3; exact z3
    subst hc0
    have hi0 : inB x1 0 = false := by
      cases hh : inB x1 0 with
      | false => rfl
      | true => obtain ⟨k, hk, _⟩ := inB_T (by omega) hh; omega
    refine sm20 (sm95 ?_)
    simp (disch := omega) only [decide_eq_true_eq, decide_eq_false_iff_not, L32, az01, b2i_01, b2i_n0, b2i_n1, Bool.and_true, true_and, and_true, Classical.not_not, Bool.not_eq_true, Bool.not_eq_false, n32_mul, n32_add, n32_ix, n32_ib, n32_lt, n32_le, n32_inj, l_hb, l_hb0, l_shl, l_wo, l_eqm1, l_m1eq, reduceCtorEq, Nat.reduceEqDiff, Nat.reduceAdd, Nat.reduceLT, Nat.reduceLeDiff, decide_true, decide_false, false_implies, true_implies, not_true_eq_false, not_false_eq_true, Bool.and_false, Bool.false_and, Bool.true_and, Bool.not_true, Bool.not_false, gb8, gb5, gb4, and_true, true_and, not_false_eq_true, forall_const, r11, ci, hi0]
    refine sm161 ?_
    simp (disch := omega) only [decide_eq_true_eq, decide_eq_false_iff_not, L32, az01, b2i_01, b2i_n0, b2i_n1, Bool.and_true, true_and, and_true, Classical.not_not, Bool.not_eq_true, Bool.not_eq_false, n32_mul, n32_add, n32_ix, n32_ib, n32_lt, n32_le, n32_inj, l_hb, l_hb0, l_shl, l_wo, l_eqm1, l_m1eq, reduceCtorEq, Nat.reduceEqDiff, Nat.reduceAdd, Nat.reduceLT, Nat.reduceLeDiff, decide_true, decide_false, false_implies, true_implies, not_true_eq_false, not_false_eq_true, Bool.and_false, Bool.false_and, Bool.true_and, Bool.not_true, Bool.not_false, gb8, gb5, gb4, and_true, true_and, not_false_eq_true, forall_const, z1]
    exact keep
  · cases h1 : inB x1 c with
    | false =>
      refine sm20 (sm95 ?_)
      simp (disch := omega) only [decide_eq_true_eq, decide_eq_false_iff_not, L32, az01, b2i_01, b2i_n0, b2i_n1, Bool.and_true, true_and, and_true, Classical.not_not, Bool.not_eq_true, Bool.not_eq_false, n32_mul, n32_add, n32_ix, n32_ib, n32_lt, n32_le, n32_inj, l_hb, l_hb0, l_shl, l_wo, l_eqm1, l_m1eq, reduceCtorEq, Nat.reduceEqDiff, Nat.reduceAdd, Nat.reduceLT, Nat.reduceLeDiff, decide_true, decide_false, false_implies, true_implies, not_true_eq_false, not_false_eq_true, Bool.and_false, Bool.false_and, Bool.true_and, Bool.not_true, Bool.not_false, gb8, gb5, gb4, and_true, true_and, not_false_eq_true, forall_const, r11, ci, h1]
      refine sm161 ?_
      simp (disch := omega) only [decide_eq_true_eq, decide_eq_false_iff_not, L32, az01, b2i_01, b2i_n0, b2i_n1, Bool.and_true, true_and, and_true, Classical.not_not, Bool.not_eq_true, Bool.not_eq_false, n32_mul, n32_add, n32_ix, n32_ib, n32_lt, n32_le, n32_inj, l_hb, l_hb0, l_shl, l_wo, l_eqm1, l_m1eq, reduceCtorEq, Nat.reduceEqDiff, Nat.reduceAdd, Nat.reduceLT, Nat.reduceLeDiff, decide_true, decide_false, false_implies, true_implies, not_true_eq_false, not_false_eq_true, Bool.and_false, Bool.false_and, Bool.true_and, Bool.not_true, Bool.not_false, gb8, gb5, gb4, and_true, true_and, not_false_eq_true, forall_const, z1, c2, m_in, h1]
      exact keep
    | true =>
      obtain ⟨k, hk, rfl⟩ := inB_T (by omega) h1
      have hk16 : k < 16 := by omega
      obtain ⟨e0, e1, e2, e3⟩ := r46 k hk16
      obtain ⟨q, q1, q2⟩ := h78 k hk16
      rw [q2] at e3
      by_cases a0 : x2 = n32 0
      · subst a0
        refine sm20 (sm95 ?_)
        simp (disch := omega) only [decide_eq_true_eq, decide_eq_false_iff_not, L32, az01, b2i_01, b2i_n0, b2i_n1, Bool.and_true, true_and, and_true, Classical.not_not, Bool.not_eq_true, Bool.not_eq_false, n32_mul, n32_add, n32_ix, n32_ib, n32_lt, n32_le, n32_inj, l_hb, l_hb0, l_shl, l_wo, l_eqm1, l_m1eq, reduceCtorEq, Nat.reduceEqDiff, Nat.reduceAdd, Nat.reduceLT, Nat.reduceLeDiff, decide_true, decide_false, false_implies, true_implies, not_true_eq_false, not_false_eq_true, Bool.and_false, Bool.false_and, Bool.true_and, Bool.not_true, Bool.not_false, gb8, gb5, gb4, and_true, true_and, not_false_eq_true, forall_const, r11, ci, h1, hk16, e0, e1, e2, e3]
        refine sm161 ?_
        simp (disch := omega) only [decide_eq_true_eq, decide_eq_false_iff_not, L32, az01, b2i_01, b2i_n0, b2i_n1, Bool.and_true, true_and, and_true, Classical.not_not, Bool.not_eq_true, Bool.not_eq_false, n32_mul, n32_add, n32_ix, n32_ib, n32_lt, n32_le, n32_inj, l_hb, l_hb0, l_shl, l_wo, l_eqm1, l_m1eq, reduceCtorEq, Nat.reduceEqDiff, Nat.reduceAdd, Nat.reduceLT, Nat.reduceLeDiff, decide_true, decide_false, false_implies, true_implies, not_true_eq_false, not_false_eq_true, Bool.and_false, Bool.false_and, Bool.true_and, Bool.not_true, Bool.not_false, gb8, gb5, gb4, and_true, true_and, not_false_eq_true, forall_const, z1, c2, m_in, h1, hk16, q2]
        exact keep
      by_cases a1 : x2 = n32 1
      · subst a1
        refine sm20 (sm95 ?_)
        simp (disch := omega) only [decide_eq_true_eq, decide_eq_false_iff_not, L32, az01, b2i_01, b2i_n0, b2i_n1, Bool.and_true, true_and, and_true, Classical.not_not, Bool.not_eq_true, Bool.not_eq_false, n32_mul, n32_add, n32_ix, n32_ib, n32_lt, n32_le, n32_inj, l_hb, l_hb0, l_shl, l_wo, l_eqm1, l_m1eq, reduceCtorEq, Nat.reduceEqDiff, Nat.reduceAdd, Nat.reduceLT, Nat.reduceLeDiff, decide_true, decide_false, false_implies, true_implies, not_true_eq_false, not_false_eq_true, Bool.and_false, Bool.false_and, Bool.true_and, Bool.not_true, Bool.not_false, gb8, gb5, gb4, and_true, true_and, not_false_eq_true, forall_const, r11, ci, h1, hk16, e0, e1, e2, e3]
        refine sm161 ?_
        simp (disch := omega) only [decide_eq_true_eq, decide_eq_false_iff_not, L32, az01, b2i_01, b2i_n0, b2i_n1, Bool.and_true, true_and, and_true, Classical.not_not, Bool.not_eq_true, Bool.not_eq_false, n32_mul, n32_add, n32_ix, n32_ib, n32_lt, n32_le, n32_inj, l_hb, l_hb0, l_shl, l_wo, l_eqm1, l_m1eq, reduceCtorEq, Nat.reduceEqDiff, Nat.reduceAdd, Nat.reduceLT, Nat.reduceLeDiff, decide_true, decide_false, false_implies, true_implies, not_true_eq_false, not_false_eq_true, Bool.and_false, Bool.false_and, Bool.true_and, Bool.not_true, Bool.not_false, gb8, gb5, gb4, and_true, true_and, not_false_eq_true, forall_const, z1, c2, m_in, h1, hk16, q2]
        exact keep
      by_cases a2 : x2 = n32 2
      · subst a2
        refine sm20 (sm95 ?_)
        simp (disch := omega) only [decide_eq_true_eq, decide_eq_false_iff_not, L32, az01, b2i_01, b2i_n0, b2i_n1, Bool.and_true, true_and, and_true, Classical.not_not, Bool.not_eq_true, Bool.not_eq_false, n32_mul, n32_add, n32_ix, n32_ib, n32_lt, n32_le, n32_inj, l_hb, l_hb0, l_shl, l_wo, l_eqm1, l_m1eq, reduceCtorEq, Nat.reduceEqDiff, Nat.reduceAdd, Nat.reduceLT, Nat.reduceLeDiff, decide_true, decide_false, false_implies, true_implies, not_true_eq_false, not_false_eq_true, Bool.and_false, Bool.false_and, Bool.true_and, Bool.not_true, Bool.not_false, gb8, gb5, gb4, and_true, true_and, not_false_eq_true, forall_const, r11, ci, h1, hk16, e0, e1, e2, e3]
        refine sm161 ?_
        simp (disch := omega) only [decide_eq_true_eq, decide_eq_false_iff_not, L32, az01, b2i_01, b2i_n0, b2i_n1, Bool.and_true, true_and, and_true, Classical.not_not, Bool.not_eq_true, Bool.not_eq_false, n32_mul, n32_add, n32_ix, n32_ib, n32_lt, n32_le, n32_inj, l_hb, l_hb0, l_shl, l_wo, l_eqm1, l_m1eq, reduceCtorEq, Nat.reduceEqDiff, Nat.reduceAdd, Nat.reduceLT, Nat.reduceLeDiff, decide_true, decide_false, false_implies, true_implies, not_true_eq_false, not_false_eq_true, Bool.and_false, Bool.false_and, Bool.true_and, Bool.not_true, Bool.not_false, gb8, gb5, gb4, and_true, true_and, not_false_eq_true, forall_const, z1, c2, m_in, h1, hk16, q2]
        exact keep
      by_cases a3 : x2 = n32 3
      · subst a3
        refine sm20 (sm95 ?_)
        simp (disch := omega) only [decide_eq_true_eq, decide_eq_false_iff_not, L32, az01, b2i_01, b2i_n0, b2i_n1, Bool.and_true, true_and, and_true, Classical.not_not, Bool.not_eq_true, Bool.not_eq_false, n32_mul, n32_add, n32_ix, n32_ib, n32_lt, n32_le, n32_inj, l_hb, l_hb0, l_shl, l_wo, l_eqm1, l_m1eq, reduceCtorEq, Nat.reduceEqDiff, Nat.reduceAdd, Nat.reduceLT, Nat.reduceLeDiff, decide_true, decide_false, false_implies, true_implies, not_true_eq_false, not_false_eq_true, Bool.and_false, Bool.false_and, Bool.true_and, Bool.not_true, Bool.not_false, gb8, gb5, gb4, and_true, true_and, not_false_eq_true, forall_const, r11, ci, h1, hk16, e0, e1, e2, e3]
        refine sm161 ?_
        simp (disch := omega) only [decide_eq_true_eq, decide_eq_false_iff_not, L32, az01, b2i_01, b2i_n0, b2i_n1, Bool.and_true, true_and, and_true, Classical.not_not, Bool.not_eq_true, Bool.not_eq_false, n32_mul, n32_add, n32_ix, n32_ib, n32_lt, n32_le, n32_inj, l_hb, l_hb0, l_shl, l_wo, l_eqm1, l_m1eq, reduceCtorEq, Nat.reduceEqDiff, Nat.reduceAdd, Nat.reduceLT, Nat.reduceLeDiff, decide_true, decide_false, false_implies, true_implies, not_true_eq_false, not_false_eq_true, Bool.and_false, Bool.false_and, Bool.true_and, Bool.not_true, Bool.not_false, gb8, gb5, gb4, and_true, true_and, not_false_eq_true, forall_const, z1, c2, m_in, h1, hk16, q2]
        exact keep
      have c2' : ctI P (d + 4) 4 [vi x2, vi (n32 4), vi (n32 (3 + q))] (rowf t, rowf s, L, Z, C) = fun Q => Q (b2i (inB (x2 - n32 4) q)) (rowf t, rowf s, L, Z, C) := by
        funext Q
        rw [c_in2 (by omega), inB_sub (by omega) (by omega), show 4 + q - 1 = 3 + q by omega]
      cases h2 : inB (x2 - n32 4) q with
      | false =>
        refine sm20 (sm95 ?_)
        simp (disch := omega) only [decide_eq_true_eq, decide_eq_false_iff_not, L32, az01, b2i_01, b2i_n0, b2i_n1, Bool.and_true, true_and, and_true, Classical.not_not, Bool.not_eq_true, Bool.not_eq_false, n32_mul, n32_add, n32_ix, n32_ib, n32_lt, n32_le, n32_inj, l_hb, l_hb0, l_shl, l_wo, l_eqm1, l_m1eq, reduceCtorEq, Nat.reduceEqDiff, Nat.reduceAdd, Nat.reduceLT, Nat.reduceLeDiff, decide_true, decide_false, false_implies, true_implies, not_true_eq_false, not_false_eq_true, Bool.and_false, Bool.false_and, Bool.true_and, Bool.not_true, Bool.not_false, gb8, gb5, gb4, and_true, true_and, not_false_eq_true, forall_const, r11, ci, h1, hk16, e3, a0, a1, a2, a3, c2', h2]
        refine sm161 ?_
        simp (disch := omega) only [decide_eq_true_eq, decide_eq_false_iff_not, L32, az01, b2i_01, b2i_n0, b2i_n1, Bool.and_true, true_and, and_true, Classical.not_not, Bool.not_eq_true, Bool.not_eq_false, n32_mul, n32_add, n32_ix, n32_ib, n32_lt, n32_le, n32_inj, l_hb, l_hb0, l_shl, l_wo, l_eqm1, l_m1eq, reduceCtorEq, Nat.reduceEqDiff, Nat.reduceAdd, Nat.reduceLT, Nat.reduceLeDiff, decide_true, decide_false, false_implies, true_implies, not_true_eq_false, not_false_eq_true, Bool.and_false, Bool.false_and, Bool.true_and, Bool.not_true, Bool.not_false, gb8, gb5, gb4, and_true, true_and, not_false_eq_true, forall_const, z1, c2, m_in, h1, hk16, q2, a0, a1, a2, a3, h2]
        exact keep
      | true =>
        obtain ⟨i, hi, he⟩ := inB_T (by omega) h2
        have hx : x2 = n32 (i + 4) := by
          rw [← n32_add, ← he]; exact (Int32.sub_add_cancel x2 (n32 4)).symm
        have e50 := r50 (8 * k + i) (by omega)
        have ix : n32 (8 * k + (i + 4)) - n32 4 = n32 (8 * k + i) := by rw [n32_sub (by omega)]; congr 1
        have b128 : 8 * k + i < 128 := by omega
        subst hx
        have b0 : ¬ i + 4 = 0 := by omega
        have b1 : ¬ i + 4 = 1 := by omega
        have b2 : ¬ i + 4 = 2 := by omega
        have b3 : ¬ i + 4 = 3 := by omega
        refine sm20 (sm95 ?_)
        simp (disch := omega) only [decide_eq_true_eq, decide_eq_false_iff_not, L32, az01, b2i_01, b2i_n0, b2i_n1, Bool.and_true, true_and, and_true, Classical.not_not, Bool.not_eq_true, Bool.not_eq_false, n32_mul, n32_add, n32_ix, n32_ib, n32_lt, n32_le, n32_inj, l_hb, l_hb0, l_shl, l_wo, l_eqm1, l_m1eq, reduceCtorEq, Nat.reduceEqDiff, Nat.reduceAdd, Nat.reduceLT, Nat.reduceLeDiff, decide_true, decide_false, false_implies, true_implies, not_true_eq_false, not_false_eq_true, Bool.and_false, Bool.false_and, Bool.true_and, Bool.not_true, Bool.not_false, gb8, gb5, gb4, and_true, true_and, not_false_eq_true, forall_const, r11, ci, h1, hk16, e3, b0, b1, b2, b3, c2', h2, ix, e50, b128]
        refine sm161 ?_
        simp (disch := omega) only [decide_eq_true_eq, decide_eq_false_iff_not, L32, az01, b2i_01, b2i_n0, b2i_n1, Bool.and_true, true_and, and_true, Classical.not_not, Bool.not_eq_true, Bool.not_eq_false, n32_mul, n32_add, n32_ix, n32_ib, n32_lt, n32_le, n32_inj, l_hb, l_hb0, l_shl, l_wo, l_eqm1, l_m1eq, reduceCtorEq, Nat.reduceEqDiff, Nat.reduceAdd, Nat.reduceLT, Nat.reduceLeDiff, decide_true, decide_false, false_implies, true_implies, not_true_eq_false, not_false_eq_true, Bool.and_false, Bool.false_and, Bool.true_and, Bool.not_true, Bool.not_false, gb8, gb5, gb4, and_true, true_and, not_false_eq_true, forall_const, z1, c2, m_in, h1, hk16, q2, b0, b1, b2, b3, h2, ix, b128]
        exact keep
theorem m_was {T S L Z : nz_f2} {C : nz_f5} {t s : St} {j f : Nat} (hL : LRN t s L) (hj : j < 8) (hf : f < 18) (hd : 2 ≤ d) (Q : Int32 → nz_h → Prop) : ctI P d 159 [mO, vi (n32 j), vi (n32 f)] (T, S, L, Z, C) Q = Q (n32 (s j f)) (T, S, L, Z, C) := by
  obtain ⟨d, rfl⟩ := dge hd
  refine ctI_det (fun Q hq => sm159 ?_) Q
  have e := hL.2.1 (18 * j + f) (by omega)
  rw [show (18 * j + f) / 18 = j by omega, show (18 * j + f) % 18 = f by omega] at e
  simp (disch := omega) only [decide_eq_true_eq, decide_eq_false_iff_not, L32, az01, b2i_01, b2i_n0, b2i_n1, Bool.and_true, true_and, and_true, Classical.not_not, Bool.not_eq_true, Bool.not_eq_false, n32_mul, n32_add, n32_ix, n32_ib, n32_lt, n32_le, n32_inj, l_hb, l_hb0, l_shl, l_wo, l_eqm1, l_m1eq, e]
  exact ⟨by omega, hq⟩
theorem j_job {x1 x2 : Int32} (hd : 6 ≤ d) : JNT P d 18 158 [vi x1, vi x2] := by
  obtain ⟨d, rfl⟩ := dge hd
  rintro h ⟨t, s, L, Z, C, rfl, hT, hR, hI⟩
  have keep : LAWI (rowf t, rowf s, L, Z, C) := ⟨t, s, L, Z, C, rfl, hT, hR, hI⟩
  obtain ⟨t0, s0, hT0, hI0, hC0, r7, hrun⟩ := hI.2.2.2.2.2.2.2.1
  cases h1 : inB x1 8 with
  | false =>
    refine sm18 ?_
    simp (disch := omega) only [decide_eq_true_eq, decide_eq_false_iff_not, L32, az01, b2i_01, b2i_n0, b2i_n1, Bool.and_true, true_and, and_true, Classical.not_not, Bool.not_eq_true, Bool.not_eq_false, n32_mul, n32_add, n32_ix, n32_ib, n32_lt, n32_le, n32_inj, l_hb, l_hb0, l_shl, l_wo, l_eqm1, l_m1eq, reduceCtorEq, Nat.reduceEqDiff, Nat.reduceAdd, Nat.reduceLT, Nat.reduceLeDiff, decide_true, decide_false, false_implies, true_implies, not_true_eq_false, not_false_eq_true, Bool.and_false, Bool.false_and, Bool.true_and, Bool.not_true, Bool.not_false, gb8, gb5, gb4, and_true, true_and, not_false_eq_true, forall_const, c_isJob, h1]
    refine sm158 ?_
    simp (disch := omega) only [decide_eq_true_eq, decide_eq_false_iff_not, L32, az01, b2i_01, b2i_n0, b2i_n1, Bool.and_true, true_and, and_true, Classical.not_not, Bool.not_eq_true, Bool.not_eq_false, n32_mul, n32_add, n32_ix, n32_ib, n32_lt, n32_le, n32_inj, l_hb, l_hb0, l_shl, l_wo, l_eqm1, l_m1eq, reduceCtorEq, Nat.reduceEqDiff, Nat.reduceAdd, Nat.reduceLT, Nat.reduceLeDiff, decide_true, decide_false, false_implies, true_implies, not_true_eq_false, not_false_eq_true, Bool.and_false, Bool.false_and, Bool.true_and, Bool.not_true, Bool.not_false, gb8, gb5, gb4, and_true, true_and, not_false_eq_true, forall_const, m_in, h1]
    exact keep
  | true =>
    obtain ⟨j, hj, rfl⟩ := inB_T (by omega) h1
    rcases hrun with ⟨z1, _, z3⟩ | ⟨z1, hL, hJ⟩
    · rw [z1] at r7
      refine sm18 ?_
      simp (disch := omega) only [decide_eq_true_eq, decide_eq_false_iff_not, L32, az01, b2i_01, b2i_n0, b2i_n1, Bool.and_true, true_and, and_true, Classical.not_not, Bool.not_eq_true, Bool.not_eq_false, n32_mul, n32_add, n32_ix, n32_ib, n32_lt, n32_le, n32_inj, l_hb, l_hb0, l_shl, l_wo, l_eqm1, l_m1eq, reduceCtorEq, Nat.reduceEqDiff, Nat.reduceAdd, Nat.reduceLT, Nat.reduceLeDiff, decide_true, decide_false, false_implies, true_implies, not_true_eq_false, not_false_eq_true, Bool.and_false, Bool.false_and, Bool.true_and, Bool.not_true, Bool.not_false, gb8, gb5, gb4, and_true, true_and, not_false_eq_true, forall_const, c_isJob, h1, r7]
      refine sm158 ?_
      simp (disch := omega) only [decide_eq_true_eq, decide_eq_false_iff_not, L32, az01, b2i_01, b2i_n0, b2i_n1, Bool.and_true, true_and, and_true, Classical.not_not, Bool.not_eq_true, Bool.not_eq_false, n32_mul, n32_add, n32_ix, n32_ib, n32_lt, n32_le, n32_inj, l_hb, l_hb0, l_shl, l_wo, l_eqm1, l_m1eq, reduceCtorEq, Nat.reduceEqDiff, Nat.reduceAdd, Nat.reduceLT, Nat.reduceLeDiff, decide_true, decide_false, false_implies, true_implies, not_true_eq_false, not_false_eq_true, Bool.and_false, Bool.false_and, Bool.true_and, Bool.not_true, Bool.not_false, gb8, gb5, gb4, and_true, true_and, not_false_eq_true, forall_const, m_in, h1, z1]
      exact keep
    · rw [z1] at r7
      obtain ⟨e16, e17, e18, e19, e20, e14⟩ := hJ j hj
      obtain ⟨e6, e7, e35, e12, e5, e11, e10, e0⟩ := hC0.2.1 j hj
      have e2 := (hC0.1.2.1 j hj).2.1
      have hJ0 := hI0.J hj
      have hB := hI0.B
      have s1 := hB j 1
      have s6 := hJ0.2.2.2.1.2.2.1
      have hm0 := hL.2.2.2.2 j hj
      have w1 := m_was (P := P) (d := d + 5) (T := rowf t) (S := rowf s) (Z := Z) (C := C) (j := j) (f := 1) hL hj (by omega) (by omega)
      have w6 := m_was (P := P) (d := d + 5) (T := rowf t) (S := rowf s) (Z := Z) (C := C) (j := j) (f := 6) hL hj (by omega) (by omega)
      have w5 := m_was (P := P) (d := d + 5) (T := rowf t) (S := rowf s) (Z := Z) (C := C) (j := j) (f := 5) hL hj (by omega) (by omega)
      have e66 := hL.1 j hj
      by_cases a0 : x2 = n32 0
      · subst a0
        by_cases h3 : s0 j 1 = 3
        · by_cases h6 : s0 j 6 = 0
          · refine sm18 ?_
            simp (disch := omega) only [decide_eq_true_eq, decide_eq_false_iff_not, L32, az01, b2i_01, b2i_n0, b2i_n1, Bool.and_true, true_and, and_true, Classical.not_not, Bool.not_eq_true, Bool.not_eq_false, n32_mul, n32_add, n32_ix, n32_ib, n32_lt, n32_le, n32_inj, l_hb, l_hb0, l_shl, l_wo, l_eqm1, l_m1eq, reduceCtorEq, Nat.reduceEqDiff, Nat.reduceAdd, Nat.reduceLT, Nat.reduceLeDiff, decide_true, decide_false, false_implies, true_implies, not_true_eq_false, not_false_eq_true, Bool.and_false, Bool.false_and, Bool.true_and, Bool.not_true, Bool.not_false, gb8, gb5, gb4, and_true, true_and, not_false_eq_true, forall_const, c_isJob, h1, r7, hj, e6, h3, e14, h6]
            refine sm158 ?_
            simp (disch := omega) only [decide_eq_true_eq, decide_eq_false_iff_not, L32, az01, b2i_01, b2i_n0, b2i_n1, Bool.and_true, true_and, and_true, Classical.not_not, Bool.not_eq_true, Bool.not_eq_false, n32_mul, n32_add, n32_ix, n32_ib, n32_lt, n32_le, n32_inj, l_hb, l_hb0, l_shl, l_wo, l_eqm1, l_m1eq, reduceCtorEq, Nat.reduceEqDiff, Nat.reduceAdd, Nat.reduceLT, Nat.reduceLeDiff, decide_true, decide_false, false_implies, true_implies, not_true_eq_false, not_false_eq_true, Bool.and_false, Bool.false_and, Bool.true_and, Bool.not_true, Bool.not_false, gb8, gb5, gb4, and_true, true_and, not_false_eq_true, forall_const, m_in, h1, z1, w1, h3, w6, h6]
            exact keep
          · have h61 : s0 j 6 = 1 := by omega
            refine sm18 ?_
            simp (disch := omega) only [decide_eq_true_eq, decide_eq_false_iff_not, L32, az01, b2i_01, b2i_n0, b2i_n1, Bool.and_true, true_and, and_true, Classical.not_not, Bool.not_eq_true, Bool.not_eq_false, n32_mul, n32_add, n32_ix, n32_ib, n32_lt, n32_le, n32_inj, l_hb, l_hb0, l_shl, l_wo, l_eqm1, l_m1eq, reduceCtorEq, Nat.reduceEqDiff, Nat.reduceAdd, Nat.reduceLT, Nat.reduceLeDiff, decide_true, decide_false, false_implies, true_implies, not_true_eq_false, not_false_eq_true, Bool.and_false, Bool.false_and, Bool.true_and, Bool.not_true, Bool.not_false, gb8, gb5, gb4, and_true, true_and, not_false_eq_true, forall_const, c_isJob, h1, r7, hj, e6, h3, e14, h61]
            refine sm158 ?_
            simp (disch := omega) only [decide_eq_true_eq, decide_eq_false_iff_not, L32, az01, b2i_01, b2i_n0, b2i_n1, Bool.and_true, true_and, and_true, Classical.not_not, Bool.not_eq_true, Bool.not_eq_false, n32_mul, n32_add, n32_ix, n32_ib, n32_lt, n32_le, n32_inj, l_hb, l_hb0, l_shl, l_wo, l_eqm1, l_m1eq, reduceCtorEq, Nat.reduceEqDiff, Nat.reduceAdd, Nat.reduceLT, Nat.reduceLeDiff, decide_true, decide_false, false_implies, true_implies, not_true_eq_false, not_false_eq_true, Bool.and_false, Bool.false_and, Bool.true_and, Bool.not_true, Bool.not_false, gb8, gb5, gb4, and_true, true_and, not_false_eq_true, forall_const, m_in, h1, z1, w1, h3, w6, h61]
            exact keep
        · refine sm18 ?_
          simp (disch := omega) only [decide_eq_true_eq, decide_eq_false_iff_not, L32, az01, b2i_01, b2i_n0, b2i_n1, Bool.and_true, true_and, and_true, Classical.not_not, Bool.not_eq_true, Bool.not_eq_false, n32_mul, n32_add, n32_ix, n32_ib, n32_lt, n32_le, n32_inj, l_hb, l_hb0, l_shl, l_wo, l_eqm1, l_m1eq, reduceCtorEq, Nat.reduceEqDiff, Nat.reduceAdd, Nat.reduceLT, Nat.reduceLeDiff, decide_true, decide_false, false_implies, true_implies, not_true_eq_false, not_false_eq_true, Bool.and_false, Bool.false_and, Bool.true_and, Bool.not_true, Bool.not_false, gb8, gb5, gb4, and_true, true_and, not_false_eq_true, forall_const, c_isJob, h1, r7, hj, e6, h3]
          refine sm158 ?_
          simp (disch := omega) only [decide_eq_true_eq, decide_eq_false_iff_not, L32, az01, b2i_01, b2i_n0, b2i_n1, Bool.and_true, true_and, and_true, Classical.not_not, Bool.not_eq_true, Bool.not_eq_false, n32_mul, n32_add, n32_ix, n32_ib, n32_lt, n32_le, n32_inj, l_hb, l_hb0, l_shl, l_wo, l_eqm1, l_m1eq, reduceCtorEq, Nat.reduceEqDiff, Nat.reduceAdd, Nat.reduceLT, Nat.reduceLeDiff, decide_true, decide_false, false_implies, true_implies, not_true_eq_false, not_false_eq_true, Bool.and_false, Bool.false_and, Bool.true_and, Bool.not_true, Bool.not_false, gb8, gb5, gb4, and_true, true_and, not_false_eq_true, forall_const, m_in, h1, z1, w1, h3]
          exact keep
      by_cases a1 : x2 = n32 1
      · subst a1
        by_cases h3 : s0 j 1 = 3
        · rw [if_pos h3] at e66
          refine sm18 ?_
          simp (disch := omega) only [decide_eq_true_eq, decide_eq_false_iff_not, L32, az01, b2i_01, b2i_n0, b2i_n1, Bool.and_true, true_and, and_true, Classical.not_not, Bool.not_eq_true, Bool.not_eq_false, n32_mul, n32_add, n32_ix, n32_ib, n32_lt, n32_le, n32_inj, l_hb, l_hb0, l_shl, l_wo, l_eqm1, l_m1eq, reduceCtorEq, Nat.reduceEqDiff, Nat.reduceAdd, Nat.reduceLT, Nat.reduceLeDiff, decide_true, decide_false, false_implies, true_implies, not_true_eq_false, not_false_eq_true, Bool.and_false, Bool.false_and, Bool.true_and, Bool.not_true, Bool.not_false, gb8, gb5, gb4, and_true, true_and, not_false_eq_true, forall_const, c_isJob, h1, r7, hj, e6, h3, e2]
          refine sm158 ?_
          simp (disch := omega) only [decide_eq_true_eq, decide_eq_false_iff_not, L32, az01, b2i_01, b2i_n0, b2i_n1, Bool.and_true, true_and, and_true, Classical.not_not, Bool.not_eq_true, Bool.not_eq_false, n32_mul, n32_add, n32_ix, n32_ib, n32_lt, n32_le, n32_inj, l_hb, l_hb0, l_shl, l_wo, l_eqm1, l_m1eq, reduceCtorEq, Nat.reduceEqDiff, Nat.reduceAdd, Nat.reduceLT, Nat.reduceLeDiff, decide_true, decide_false, false_implies, true_implies, not_true_eq_false, not_false_eq_true, Bool.and_false, Bool.false_and, Bool.true_and, Bool.not_true, Bool.not_false, gb8, gb5, gb4, and_true, true_and, not_false_eq_true, forall_const, m_in, h1, z1, w1, hj, e66]
          exact keep
        · rw [if_neg h3] at e66
          have e5' := e5 (by have := hJ0.1.1; omega)
          refine sm18 ?_
          simp (disch := omega) only [decide_eq_true_eq, decide_eq_false_iff_not, L32, az01, b2i_01, b2i_n0, b2i_n1, Bool.and_true, true_and, and_true, Classical.not_not, Bool.not_eq_true, Bool.not_eq_false, n32_mul, n32_add, n32_ix, n32_ib, n32_lt, n32_le, n32_inj, l_hb, l_hb0, l_shl, l_wo, l_eqm1, l_m1eq, reduceCtorEq, Nat.reduceEqDiff, Nat.reduceAdd, Nat.reduceLT, Nat.reduceLeDiff, decide_true, decide_false, false_implies, true_implies, not_true_eq_false, not_false_eq_true, Bool.and_false, Bool.false_and, Bool.true_and, Bool.not_true, Bool.not_false, gb8, gb5, gb4, and_true, true_and, not_false_eq_true, forall_const, c_isJob, h1, r7, hj, e6, h3, e5']
          refine sm158 ?_
          simp (disch := omega) only [decide_eq_true_eq, decide_eq_false_iff_not, L32, az01, b2i_01, b2i_n0, b2i_n1, Bool.and_true, true_and, and_true, Classical.not_not, Bool.not_eq_true, Bool.not_eq_false, n32_mul, n32_add, n32_ix, n32_ib, n32_lt, n32_le, n32_inj, l_hb, l_hb0, l_shl, l_wo, l_eqm1, l_m1eq, reduceCtorEq, Nat.reduceEqDiff, Nat.reduceAdd, Nat.reduceLT, Nat.reduceLeDiff, decide_true, decide_false, false_implies, true_implies, not_true_eq_false, not_false_eq_true, Bool.and_false, Bool.false_and, Bool.true_and, Bool.not_true, Bool.not_false, gb8, gb5, gb4, and_true, true_and, not_false_eq_true, forall_const, m_in, h1, z1, w1, hj, e66]
          exact keep
      by_cases a2 : x2 = n32 2
      · subst a2
        refine sm18 ?_
        simp (disch := omega) only [decide_eq_true_eq, decide_eq_false_iff_not, L32, az01, b2i_01, b2i_n0, b2i_n1, Bool.and_true, true_and, and_true, Classical.not_not, Bool.not_eq_true, Bool.not_eq_false, n32_mul, n32_add, n32_ix, n32_ib, n32_lt, n32_le, n32_inj, l_hb, l_hb0, l_shl, l_wo, l_eqm1, l_m1eq, reduceCtorEq, Nat.reduceEqDiff, Nat.reduceAdd, Nat.reduceLT, Nat.reduceLeDiff, decide_true, decide_false, false_implies, true_implies, not_true_eq_false, not_false_eq_true, Bool.and_false, Bool.false_and, Bool.true_and, Bool.not_true, Bool.not_false, gb8, gb5, gb4, and_true, true_and, not_false_eq_true, forall_const, c_isJob, h1, r7, hj, e16]
        refine sm158 ?_
        simp (disch := omega) only [decide_eq_true_eq, decide_eq_false_iff_not, L32, az01, b2i_01, b2i_n0, b2i_n1, Bool.and_true, true_and, and_true, Classical.not_not, Bool.not_eq_true, Bool.not_eq_false, n32_mul, n32_add, n32_ix, n32_ib, n32_lt, n32_le, n32_inj, l_hb, l_hb0, l_shl, l_wo, l_eqm1, l_m1eq, reduceCtorEq, Nat.reduceEqDiff, Nat.reduceAdd, Nat.reduceLT, Nat.reduceLeDiff, decide_true, decide_false, false_implies, true_implies, not_true_eq_false, not_false_eq_true, Bool.and_false, Bool.false_and, Bool.true_and, Bool.not_true, Bool.not_false, gb8, gb5, gb4, and_true, true_and, not_false_eq_true, forall_const, m_in, h1, z1, w1, hj]
        exact keep
      by_cases a3 : x2 = n32 3
      · subst a3
        refine sm18 ?_
        simp (disch := omega) only [decide_eq_true_eq, decide_eq_false_iff_not, L32, az01, b2i_01, b2i_n0, b2i_n1, Bool.and_true, true_and, and_true, Classical.not_not, Bool.not_eq_true, Bool.not_eq_false, n32_mul, n32_add, n32_ix, n32_ib, n32_lt, n32_le, n32_inj, l_hb, l_hb0, l_shl, l_wo, l_eqm1, l_m1eq, reduceCtorEq, Nat.reduceEqDiff, Nat.reduceAdd, Nat.reduceLT, Nat.reduceLeDiff, decide_true, decide_false, false_implies, true_implies, not_true_eq_false, not_false_eq_true, Bool.and_false, Bool.false_and, Bool.true_and, Bool.not_true, Bool.not_false, gb8, gb5, gb4, and_true, true_and, not_false_eq_true, forall_const, c_isJob, h1, r7, hj, e17]
        refine sm158 ?_
        simp (disch := omega) only [decide_eq_true_eq, decide_eq_false_iff_not, L32, az01, b2i_01, b2i_n0, b2i_n1, Bool.and_true, true_and, and_true, Classical.not_not, Bool.not_eq_true, Bool.not_eq_false, n32_mul, n32_add, n32_ix, n32_ib, n32_lt, n32_le, n32_inj, l_hb, l_hb0, l_shl, l_wo, l_eqm1, l_m1eq, reduceCtorEq, Nat.reduceEqDiff, Nat.reduceAdd, Nat.reduceLT, Nat.reduceLeDiff, decide_true, decide_false, false_implies, true_implies, not_true_eq_false, not_false_eq_true, Bool.and_false, Bool.false_and, Bool.true_and, Bool.not_true, Bool.not_false, gb8, gb5, gb4, and_true, true_and, not_false_eq_true, forall_const, m_in, h1, z1, w1, hj]
        exact keep
      by_cases a4 : x2 = n32 4
      · subst a4
        refine sm18 ?_
        simp (disch := omega) only [decide_eq_true_eq, decide_eq_false_iff_not, L32, az01, b2i_01, b2i_n0, b2i_n1, Bool.and_true, true_and, and_true, Classical.not_not, Bool.not_eq_true, Bool.not_eq_false, n32_mul, n32_add, n32_ix, n32_ib, n32_lt, n32_le, n32_inj, l_hb, l_hb0, l_shl, l_wo, l_eqm1, l_m1eq, reduceCtorEq, Nat.reduceEqDiff, Nat.reduceAdd, Nat.reduceLT, Nat.reduceLeDiff, decide_true, decide_false, false_implies, true_implies, not_true_eq_false, not_false_eq_true, Bool.and_false, Bool.false_and, Bool.true_and, Bool.not_true, Bool.not_false, gb8, gb5, gb4, and_true, true_and, not_false_eq_true, forall_const, c_isJob, h1, r7, hj, e18]
        refine sm158 ?_
        simp (disch := omega) only [decide_eq_true_eq, decide_eq_false_iff_not, L32, az01, b2i_01, b2i_n0, b2i_n1, Bool.and_true, true_and, and_true, Classical.not_not, Bool.not_eq_true, Bool.not_eq_false, n32_mul, n32_add, n32_ix, n32_ib, n32_lt, n32_le, n32_inj, l_hb, l_hb0, l_shl, l_wo, l_eqm1, l_m1eq, reduceCtorEq, Nat.reduceEqDiff, Nat.reduceAdd, Nat.reduceLT, Nat.reduceLeDiff, decide_true, decide_false, false_implies, true_implies, not_true_eq_false, not_false_eq_true, Bool.and_false, Bool.false_and, Bool.true_and, Bool.not_true, Bool.not_false, gb8, gb5, gb4, and_true, true_and, not_false_eq_true, forall_const, m_in, h1, z1, w1, hj]
        exact keep
      by_cases a5 : x2 = n32 5
      · subst a5
        refine sm18 ?_
        simp (disch := omega) only [decide_eq_true_eq, decide_eq_false_iff_not, L32, az01, b2i_01, b2i_n0, b2i_n1, Bool.and_true, true_and, and_true, Classical.not_not, Bool.not_eq_true, Bool.not_eq_false, n32_mul, n32_add, n32_ix, n32_ib, n32_lt, n32_le, n32_inj, l_hb, l_hb0, l_shl, l_wo, l_eqm1, l_m1eq, reduceCtorEq, Nat.reduceEqDiff, Nat.reduceAdd, Nat.reduceLT, Nat.reduceLeDiff, decide_true, decide_false, false_implies, true_implies, not_true_eq_false, not_false_eq_true, Bool.and_false, Bool.false_and, Bool.true_and, Bool.not_true, Bool.not_false, gb8, gb5, gb4, and_true, true_and, not_false_eq_true, forall_const, c_isJob, h1, r7, hj, e19]
        refine sm158 ?_
        simp (disch := omega) only [decide_eq_true_eq, decide_eq_false_iff_not, L32, az01, b2i_01, b2i_n0, b2i_n1, Bool.and_true, true_and, and_true, Classical.not_not, Bool.not_eq_true, Bool.not_eq_false, n32_mul, n32_add, n32_ix, n32_ib, n32_lt, n32_le, n32_inj, l_hb, l_hb0, l_shl, l_wo, l_eqm1, l_m1eq, reduceCtorEq, Nat.reduceEqDiff, Nat.reduceAdd, Nat.reduceLT, Nat.reduceLeDiff, decide_true, decide_false, false_implies, true_implies, not_true_eq_false, not_false_eq_true, Bool.and_false, Bool.false_and, Bool.true_and, Bool.not_true, Bool.not_false, gb8, gb5, gb4, and_true, true_and, not_false_eq_true, forall_const, m_in, h1, z1, w1, hj]
        exact keep
      by_cases a6 : x2 = n32 6
      · subst a6
        refine sm18 ?_
        simp (disch := omega) only [decide_eq_true_eq, decide_eq_false_iff_not, L32, az01, b2i_01, b2i_n0, b2i_n1, Bool.and_true, true_and, and_true, Classical.not_not, Bool.not_eq_true, Bool.not_eq_false, n32_mul, n32_add, n32_ix, n32_ib, n32_lt, n32_le, n32_inj, l_hb, l_hb0, l_shl, l_wo, l_eqm1, l_m1eq, reduceCtorEq, Nat.reduceEqDiff, Nat.reduceAdd, Nat.reduceLT, Nat.reduceLeDiff, decide_true, decide_false, false_implies, true_implies, not_true_eq_false, not_false_eq_true, Bool.and_false, Bool.false_and, Bool.true_and, Bool.not_true, Bool.not_false, gb8, gb5, gb4, and_true, true_and, not_false_eq_true, forall_const, c_isJob, h1, r7, hj, e20]
        refine sm158 ?_
        simp (disch := omega) only [decide_eq_true_eq, decide_eq_false_iff_not, L32, az01, b2i_01, b2i_n0, b2i_n1, Bool.and_true, true_and, and_true, Classical.not_not, Bool.not_eq_true, Bool.not_eq_false, n32_mul, n32_add, n32_ix, n32_ib, n32_lt, n32_le, n32_inj, l_hb, l_hb0, l_shl, l_wo, l_eqm1, l_m1eq, reduceCtorEq, Nat.reduceEqDiff, Nat.reduceAdd, Nat.reduceLT, Nat.reduceLeDiff, decide_true, decide_false, false_implies, true_implies, not_true_eq_false, not_false_eq_true, Bool.and_false, Bool.false_and, Bool.true_and, Bool.not_true, Bool.not_false, gb8, gb5, gb4, and_true, true_and, not_false_eq_true, forall_const, m_in, h1, z1, w1, hj]
        exact keep
      by_cases a7 : x2 = n32 7
      · subst a7
        have ch := c_having (P := P) (d := d + 5) (h := (rowf t, rowf s, L, Z, C)) hI0 hC0 (by omega) hj
        refine sm18 ?_
        simp (disch := omega) only [decide_eq_true_eq, decide_eq_false_iff_not, L32, az01, b2i_01, b2i_n0, b2i_n1, Bool.and_true, true_and, and_true, Classical.not_not, Bool.not_eq_true, Bool.not_eq_false, n32_mul, n32_add, n32_ix, n32_ib, n32_lt, n32_le, n32_inj, l_hb, l_hb0, l_shl, l_wo, l_eqm1, l_m1eq, reduceCtorEq, Nat.reduceEqDiff, Nat.reduceAdd, Nat.reduceLT, Nat.reduceLeDiff, decide_true, decide_false, false_implies, true_implies, not_true_eq_false, not_false_eq_true, Bool.and_false, Bool.false_and, Bool.true_and, Bool.not_true, Bool.not_false, gb8, gb5, gb4, and_true, true_and, not_false_eq_true, forall_const, c_isJob, h1, r7, hj, ch]
        refine sm158 ?_
        simp (disch := omega) only [decide_eq_true_eq, decide_eq_false_iff_not, L32, az01, b2i_01, b2i_n0, b2i_n1, Bool.and_true, true_and, and_true, Classical.not_not, Bool.not_eq_true, Bool.not_eq_false, n32_mul, n32_add, n32_ix, n32_ib, n32_lt, n32_le, n32_inj, l_hb, l_hb0, l_shl, l_wo, l_eqm1, l_m1eq, reduceCtorEq, Nat.reduceEqDiff, Nat.reduceAdd, Nat.reduceLT, Nat.reduceLeDiff, decide_true, decide_false, false_implies, true_implies, not_true_eq_false, not_false_eq_true, Bool.and_false, Bool.false_and, Bool.true_and, Bool.not_true, Bool.not_false, gb8, gb5, gb4, and_true, true_and, not_false_eq_true, forall_const, m_in, h1, z1, w1, w5]
        have s5 := hJ0.1.2.2.2
        have fin : hadS s0 j = s0 j 5 ||| bits 10 (fun m => decide (0 < s0 j (8 + m))) := by
          rw [← had_or s5]
          exact Nat.or_comm _ _
        have loop : ∀ r m, r + m = 10 → ∀ l2 l3, nzW P (d + 5) az_k158 151 [some mO, some (vi (n32 j)), l2, l3, some (vi (n32 (s0 j 5 ||| bits m (fun m => decide (0 < s0 j (8 + m)))))), some (vi (n32 m))] [] (rowf t, rowf s, L, Z, C) (nz_RI (fun y2 h2 => n32 (hadS s0 j) = y2 ∧ LAWI h2)) := by
          intro r
          induction r with
          | zero =>
            intro m hm l2 l3
            obtain rfl : m = 10 := by omega
            refine sg158_151 ?_
            simp (disch := omega) only [decide_eq_true_eq, decide_eq_false_iff_not, L32, az01, b2i_01, b2i_n0, b2i_n1, Bool.and_true, true_and, and_true, Classical.not_not, Bool.not_eq_true, Bool.not_eq_false, n32_mul, n32_add, n32_ix, n32_ib, n32_lt, n32_le, n32_inj, l_hb, l_hb0, l_shl, l_wo, l_eqm1, l_m1eq]
            exact ⟨fun _ => ⟨by rw [fin], keep⟩, fun hc => by omega⟩
          | succ r ih =>
            intro m hm l2 l3
            have wm := m_was (P := P) (d := d + 5) (T := rowf t) (S := rowf s) (Z := Z) (C := C) (j := j) (f := 8 + m) hL hj (by omega) (by omega)
            have sm := hB j (8 + m)
            refine sg158_151 ?_
            simp (disch := omega) only [decide_eq_true_eq, decide_eq_false_iff_not, L32, az01, b2i_01, b2i_n0, b2i_n1, Bool.and_true, true_and, and_true, Classical.not_not, Bool.not_eq_true, Bool.not_eq_false, n32_mul, n32_add, n32_ix, n32_ib, n32_lt, n32_le, n32_inj, l_hb, l_hb0, l_shl, l_wo, l_eqm1, l_m1eq, wm, n32_or, Nat.or_zero]
            refine ⟨fun hc => by omega, fun _ => ⟨fun h0 => ?_, fun h0 => ?_⟩⟩
            · rw [bits_F (p := fun m => decide (0 < s0 j (8 + m))) (decide_eq_false (by omega))]
              exact ih (m + 1) (by omega) _ _
            · rw [Nat.or_assoc, bits_T (p := fun m => decide (0 < s0 j (8 + m))) (decide_eq_true (by omega))]
              exact ih (m + 1) (by omega) _ _
        have := loop 10 0 rfl (some (vi (n32 7))) (some (vi (n32 (s0 j 1))))
        rw [show bits 0 (fun m => decide (0 < s0 j (8 + m))) = 0 from rfl, Nat.or_zero] at this
        exact this
      refine sm18 ?_
      simp (disch := omega) only [decide_eq_true_eq, decide_eq_false_iff_not, L32, az01, b2i_01, b2i_n0, b2i_n1, Bool.and_true, true_and, and_true, Classical.not_not, Bool.not_eq_true, Bool.not_eq_false, n32_mul, n32_add, n32_ix, n32_ib, n32_lt, n32_le, n32_inj, l_hb, l_hb0, l_shl, l_wo, l_eqm1, l_m1eq, reduceCtorEq, Nat.reduceEqDiff, Nat.reduceAdd, Nat.reduceLT, Nat.reduceLeDiff, decide_true, decide_false, false_implies, true_implies, not_true_eq_false, not_false_eq_true, Bool.and_false, Bool.false_and, Bool.true_and, Bool.not_true, Bool.not_false, gb8, gb5, gb4, and_true, true_and, not_false_eq_true, forall_const, c_isJob, h1, r7, hj, a0, a1, a2, a3, a4, a5, a6, a7]
      refine sm158 ?_
      simp (disch := omega) only [decide_eq_true_eq, decide_eq_false_iff_not, L32, az01, b2i_01, b2i_n0, b2i_n1, Bool.and_true, true_and, and_true, Classical.not_not, Bool.not_eq_true, Bool.not_eq_false, n32_mul, n32_add, n32_ix, n32_ib, n32_lt, n32_le, n32_inj, l_hb, l_hb0, l_shl, l_wo, l_eqm1, l_m1eq, reduceCtorEq, Nat.reduceEqDiff, Nat.reduceAdd, Nat.reduceLT, Nat.reduceLeDiff, decide_true, decide_false, false_implies, true_implies, not_true_eq_false, not_false_eq_true, Bool.and_false, Bool.false_and, Bool.true_and, Bool.not_true, Bool.not_false, gb8, gb5, gb4, and_true, true_and, not_false_eq_true, forall_const, m_in, h1, z1, w1, a0, a1, a2, a3, a4, a5, a6, a7]
      exact keep
end
