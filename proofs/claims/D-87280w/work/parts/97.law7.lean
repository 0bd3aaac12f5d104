/-! rings of orders, counts, forgetting -/
/-- all but the rings' rows of the order book -/
def FF (C C' : nz_f5) : Prop := ∀ kd o' k l x, ¬ (o' = 0 ∧ (kd = 41 ∨ kd = 42 ∨ (kd = 10 ∧ (x = 7 ∨ x = 8)))) → C' kd o' k l x = C kd o' k l x
theorem LI5.rings {s : St} {L : nz_f2} {C C' : nz_f5} (h : LI5 s L C) (hF : FF C C') : LI5 s L C' := by
  obtain ⟨a1, a2, a3, a4, a5, a6, a7, ⟨t, s0, b1, b2, b3, b4, b5⟩, ⟨p, c1, c2, c3, c4⟩, ⟨r, d1, d2, d3, d4⟩⟩ := h
  refine ⟨a1, a2, a3, a4, a5, fun o j ho hj => (hF _ _ _ _ _ (by omega)).trans (a6 o j ho hj), a7.off (fun kd x hh => hF _ _ _ _ _ (by omega)), ⟨t, s0, b1, b2, ?_, (hF _ _ _ _ _ (by omega)).trans b4, ?_⟩, ⟨p, c1, c2, (hF _ _ _ _ _ (by omega)).trans c3, fun i hi => (hF _ _ _ _ _ (by omega)).trans (c4 i hi)⟩, ⟨r, d1, d2, (hF _ _ _ _ _ (by omega)).trans d3, fun i hi => (hF _ _ _ _ _ (by omega)).trans (d4 i hi)⟩⟩
  · exact b3.off (fun _ _ => hF _ _ _ _ _ (by omega)) (fun _ _ => hF _ _ _ _ _ (by omega)) (fun _ _ _ => hF _ _ _ _ _ (by omega)) (hF _ _ _ _ _ (by omega)) (fun _ _ => hF _ _ _ _ _ (by omega)) (fun _ => hF _ _ _ _ _ (by omega)) (fun _ _ => hF _ _ _ _ _ (by omega))
  · rcases b5 with b5 | ⟨x1, x2, x3⟩
    · exact Or.inl b5
    · refine Or.inr ⟨x1, x2, fun j hj => ?_⟩
      rw [hF 8 0 j 0 16 (by omega), hF 8 0 j 0 17 (by omega), hF 8 0 j 0 18 (by omega), hF 8 0 j 0 19 (by omega), hF 8 0 j 0 20 (by omega), hF 8 0 j 0 14 (by omega)]
      exact x3 j hj
theorem RTold.ff {t : St} {C C' : nz_f5} (h : RTold t C) (hF : FF C C') : RTold t C' := by
  obtain ⟨a1, a2, a3, a4, a5, a6⟩ := h
  refine ⟨fun m hm => ?_, fun j hj => ?_, fun j p hj hp => ?_, (hF _ _ _ _ _ (by omega)).trans a4, (hF _ _ _ _ _ (by omega)).trans a5, fun i hi => (hF _ _ _ _ _ (by omega)).trans (a6 i hi)⟩
  · rw [hF 7 2 m 0 0 (by omega), hF 7 2 m 0 1 (by omega)]; exact a1 m hm
  · rw [hF 8 2 j 0 2 (by omega), hF 8 2 j 0 3 (by omega), hF 8 2 j 0 4 (by omega)]; exact a2 j hj
  · rw [hF 9 2 j p 0 (by omega), hF 9 2 j p 1 (by omega), hF 9 2 j p 2 (by omega)]; exact a3 j p hj hp
theorem fnd_ok {o : Nat → Nat → Bool} : ∀ j, j ≤ 9 → (fnd o j).1 ≤ 10 ∧ ((fnd o j).2.length = 0 ↔ (fnd o j).1 = 0) ∧ (fnd o j).2.length ≤ 30 := by
  intro j
  induction j with
  | zero => intro _; exact ⟨by show 0 ≤ 10; omega, ⟨fun _ => rfl, fun _ => rfl⟩, by show 0 ≤ 30; omega⟩
  | succ j ih =>
    intro hj
    rw [fnd]
    by_cases h : (Tn o (10 - j) 10).length = 0
    · rw [if_pos h]; exact ih (by omega)
    · rw [if_neg h]
      refine ⟨by show 10 - j ≤ 10; omega, ⟨fun hh => ?_, fun hh => ?_⟩, ?_⟩
      · have hh : ((Tn o (10 - j) 10).take 30).length = 0 := hh
        rw [List.length_take] at hh; omega
      · have hh : 10 - j = 0 := hh
        omega
      · show ((Tn o (10 - j) 10).take 30).length ≤ 30
        rw [List.length_take]; omega
section
variable {P : Nat × (Nat → Int32)} {d : Nat}
theorem RB.oC {L : nz_f2} {C : nz_f5} (h : RB L C) : oC (oL L) C := h.2.2.2.2
theorem j_possible {x1 x2 : Int32} (hd : 18 ≤ d) : JNT P d 24 166 [vi x1, vi x2] := by
  obtain ⟨d, rfl⟩ := dge hd
  rintro h ⟨t, s, L, Z, C, rfl, hT, hR, hI⟩
  have ho := hI.2.2.2.2.2.2.1.1.2.2.oC
  have h85 := hI.2.2.2.1
  obtain ⟨f1, f2, f3⟩ := fnd_ok (o := oL L) 9 (Nat.le_refl _)
  refine sm24 ?_
  refine c_finds ho (by omega) (fun C1 hF1 h8 hR1 => ?_)
  have keep : ∀ Z', LAWI (rowf t, rowf s, L, Z', C1) := fun Z' => ⟨t, s, L, Z', C1, rfl, hT, hR.ff hF1, hI.rings hF1⟩
  have ci := c_in1 (P := P) (d := d + 17) (h := (rowf t, rowf s, L, Z, C1)) (x := x1) (n := (fnd (oL L) 9).2.length) (by omega) (by omega)
  have cj := c_in1 (P := P) (d := d + 17) (h := (rowf t, rowf s, L, Z, C1)) (x := x2) (n := (fnd (oL L) 9).1) (by omega) (by omega)
  have mf : ∀ (Q : Int32 → nz_h → Prop), (∀ Z', Z' 13 52 = n32 (fnd (oL L) 9).1 → RRm (fnd (oL L) 9).1 (fnd (oL L) 9).2 Z' → ctI P (d + 17) 106 [vi x1, vi (Z' 13 53)] (rowf t, rowf s, L, Z', C1) (fun y1 h2 => (decide (y1 = 0) = true → Q (-1) h2) ∧ (decide (y1 = 0) = false → ctI P (d + 17) 106 [vi x2, vi (h2.2.2.2.1 13 52)] h2 (fun y2 h3 => (decide (y2 = 0) = true → Q (-1) h3) ∧ (decide (y2 = 0) = false → nz_ib (10 * x1 + x2) 300 = true ∧ Q (h3.2.2.2.1 95 (nz_ix (10 * x1 + x2))) h3))))) → ctI P (d + 18) 166 [mO, vi x1, vi x2] (rowf t, rowf s, L, Z, C1) Q := fun Q hq => sm166 (m_findRings h85 (by omega) hq)
  simp (disch := omega) only [decide_eq_true_eq, decide_eq_false_iff_not, L32, az01, b2i_01, b2i_n0, b2i_n1, Bool.and_true, true_and, and_true, Classical.not_not, Bool.not_eq_true, Bool.not_eq_false, n32_mul, n32_add, n32_ix, n32_ib, n32_lt, n32_le, n32_inj, l_hb, l_hb0, l_shl, l_wo, l_eqm1, l_m1eq, reduceCtorEq, Nat.reduceEqDiff, Nat.reduceAdd, Nat.reduceLT, Nat.reduceLeDiff, decide_true, decide_false, false_implies, true_implies, not_true_eq_false, not_false_eq_true, Bool.and_false, Bool.false_and, Bool.true_and, Bool.not_true, Bool.not_false, gb8, gb5, gb4, and_true, true_and, not_false_eq_true, forall_const, hR1.2.1, h8, ci, cj]
  refine ⟨fun h1 => ?_, fun h1 => ⟨fun h2 => ?_, fun h2 => ?_⟩⟩
  · refine mf _ (fun Z1 z52 hRm => ?_)
    simp (disch := omega) only [decide_eq_true_eq, decide_eq_false_iff_not, L32, az01, b2i_01, b2i_n0, b2i_n1, Bool.and_true, true_and, and_true, Classical.not_not, Bool.not_eq_true, Bool.not_eq_false, n32_mul, n32_add, n32_ix, n32_ib, n32_lt, n32_le, n32_inj, l_hb, l_hb0, l_shl, l_wo, l_eqm1, l_m1eq, reduceCtorEq, Nat.reduceEqDiff, Nat.reduceAdd, Nat.reduceLT, Nat.reduceLeDiff, decide_true, decide_false, false_implies, true_implies, not_true_eq_false, not_false_eq_true, Bool.and_false, Bool.false_and, Bool.true_and, Bool.not_true, Bool.not_false, gb8, gb5, gb4, and_true, true_and, not_false_eq_true, forall_const, hRm.2.1, m_in, h1]
    exact keep Z1
  · refine mf _ (fun Z1 z52 hRm => ?_)
    simp (disch := omega) only [decide_eq_true_eq, decide_eq_false_iff_not, L32, az01, b2i_01, b2i_n0, b2i_n1, Bool.and_true, true_and, and_true, Classical.not_not, Bool.not_eq_true, Bool.not_eq_false, n32_mul, n32_add, n32_ix, n32_ib, n32_lt, n32_le, n32_inj, l_hb, l_hb0, l_shl, l_wo, l_eqm1, l_m1eq, reduceCtorEq, Nat.reduceEqDiff, Nat.reduceAdd, Nat.reduceLT, Nat.reduceLeDiff, decide_true, decide_false, false_implies, true_implies, not_true_eq_false, not_false_eq_true, Bool.and_false, Bool.false_and, Bool.true_and, Bool.not_true, Bool.not_false, gb8, gb5, gb4, and_true, true_and, not_false_eq_true, forall_const, hRm.2.1, m_in, h1, z52, h2]
    exact keep Z1
  · obtain ⟨i, hi, rfl⟩ := inB_T (by omega) h1
    obtain ⟨k, hk, rfl⟩ := inB_T (by omega) h2
    have hw : (fnd (oL L) 9).2[i]? = some (fnd (oL L) 9).2[i] := List.getElem?_eq_getElem hi
    have e41 := hR1.2.2 i _ hw k hk
    have b300 : 10 * i + k < 300 := by omega
    simp (disch := omega) only [decide_eq_true_eq, decide_eq_false_iff_not, L32, az01, b2i_01, b2i_n0, b2i_n1, Bool.and_true, true_and, and_true, Classical.not_not, Bool.not_eq_true, Bool.not_eq_false, n32_mul, n32_add, n32_ix, n32_ib, n32_lt, n32_le, n32_inj, l_hb, l_hb0, l_shl, l_wo, l_eqm1, l_m1eq, reduceCtorEq, Nat.reduceEqDiff, Nat.reduceAdd, Nat.reduceLT, Nat.reduceLeDiff, decide_true, decide_false, false_implies, true_implies, not_true_eq_false, not_false_eq_true, Bool.and_false, Bool.false_and, Bool.true_and, Bool.not_true, Bool.not_false, gb8, gb5, gb4, and_true, true_and, not_false_eq_true, forall_const, e41, b300]
    refine mf _ (fun Z1 z52 hRm => ?_)
    have e95 := hRm.2.2 i _ hw k hk
    simp (disch := omega) only [decide_eq_true_eq, decide_eq_false_iff_not, L32, az01, b2i_01, b2i_n0, b2i_n1, Bool.and_true, true_and, and_true, Classical.not_not, Bool.not_eq_true, Bool.not_eq_false, n32_mul, n32_add, n32_ix, n32_ib, n32_lt, n32_le, n32_inj, l_hb, l_hb0, l_shl, l_wo, l_eqm1, l_m1eq, reduceCtorEq, Nat.reduceEqDiff, Nat.reduceAdd, Nat.reduceLT, Nat.reduceLeDiff, decide_true, decide_false, false_implies, true_implies, not_true_eq_false, not_false_eq_true, Bool.and_false, Bool.false_and, Bool.true_and, Bool.not_true, Bool.not_false, gb8, gb5, gb4, and_true, true_and, not_false_eq_true, forall_const, hRm.2.1, m_in, h1, z52, h2, e95, b300]
    exact keep Z1
theorem j_count {x1 : Int32} (hd : 18 ≤ d) : JNT P d 32 182 [vi x1] := by
  obtain ⟨d, rfl⟩ := dge hd
  rintro h ⟨t, s, L, Z, C, rfl, hT, hR, hI⟩
  have keep0 : LAWI (rowf t, rowf s, L, Z, C) := ⟨t, s, L, Z, C, rfl, hT, hR, hI⟩
  have ho := hI.2.2.2.2.2.2.1.1.2.2.oC
  have h85 := hI.2.2.2.1
  have g5 := hI.2.2.2.2.2.2.1.1.1
  have g11 := hI.2.2.2.2.2.2.1.2.1
  have g34 := hI.2.2.2.2.2.2.1.1.2.2.2.2.1
  obtain ⟨r, r1, r2, r3, _⟩ := hI.2.2.2.2.2.2.2.2.2
  have g14 := hR.2.2.2.1
  have g6 := hR.2.2.2.2.1
  obtain ⟨f1, f2, f3⟩ := fnd_ok (o := oL L) 9 (Nat.le_refl _)
  have ci : ∀ Q, ctI P (d + 17) 4 [vi x1, vi (n32 10), vi (n32 17)] (rowf t, rowf s, L, Z, C) Q = Q (b2i (inB (x1 - n32 10) 8)) (rowf t, rowf s, L, Z, C) := fun Q => by
    rw [c_in2 (by omega), inB_sub (by omega) (by omega)]
  cases h1 : inB (x1 - n32 10) 8 with
  | true =>
    obtain ⟨j, hj, he⟩ := inB_T (by omega) h1
    have e2 := (hR.2.1 j hj).1
    have h1' : inB (n32 j) 8 = true := by rw [← he]; exact h1
    refine sm32 ?_
    simp (disch := omega) only [decide_eq_true_eq, decide_eq_false_iff_not, L32, az01, b2i_01, b2i_n0, b2i_n1, Bool.and_true, true_and, and_true, Classical.not_not, Bool.not_eq_true, Bool.not_eq_false, n32_mul, n32_add, n32_ix, n32_ib, n32_lt, n32_le, n32_inj, l_hb, l_hb0, l_shl, l_wo, l_eqm1, l_m1eq, reduceCtorEq, Nat.reduceEqDiff, Nat.reduceAdd, Nat.reduceLT, Nat.reduceLeDiff, decide_true, decide_false, false_implies, true_implies, not_true_eq_false, not_false_eq_true, Bool.and_false, Bool.false_and, Bool.true_and, Bool.not_true, Bool.not_false, gb8, gb5, gb4, and_true, true_and, not_false_eq_true, forall_const, ci, h1', he, hj, e2]
    refine sm182 ?_
    simp (disch := omega) only [decide_eq_true_eq, decide_eq_false_iff_not, L32, az01, b2i_01, b2i_n0, b2i_n1, Bool.and_true, true_and, and_true, Classical.not_not, Bool.not_eq_true, Bool.not_eq_false, n32_mul, n32_add, n32_ix, n32_ib, n32_lt, n32_le, n32_inj, l_hb, l_hb0, l_shl, l_wo, l_eqm1, l_m1eq, reduceCtorEq, Nat.reduceEqDiff, Nat.reduceAdd, Nat.reduceLT, Nat.reduceLeDiff, decide_true, decide_false, false_implies, true_implies, not_true_eq_false, not_false_eq_true, Bool.and_false, Bool.false_and, Bool.true_and, Bool.not_true, Bool.not_false, gb8, gb5, gb4, and_true, true_and, not_false_eq_true, forall_const, m_in, h1', he, hj, rowf_at]
    exact keep0
  | false =>
    by_cases a0 : x1 = n32 0
    · subst a0
      refine sm32 ?_
      simp (disch := omega) only [decide_eq_true_eq, decide_eq_false_iff_not, L32, az01, b2i_01, b2i_n0, b2i_n1, Bool.and_true, true_and, and_true, Classical.not_not, Bool.not_eq_true, Bool.not_eq_false, n32_mul, n32_add, n32_ix, n32_ib, n32_lt, n32_le, n32_inj, l_hb, l_hb0, l_shl, l_wo, l_eqm1, l_m1eq, reduceCtorEq, Nat.reduceEqDiff, Nat.reduceAdd, Nat.reduceLT, Nat.reduceLeDiff, decide_true, decide_false, false_implies, true_implies, not_true_eq_false, not_false_eq_true, Bool.and_false, Bool.false_and, Bool.true_and, Bool.not_true, Bool.not_false, gb8, gb5, gb4, and_true, true_and, not_false_eq_true, forall_const, ci, h1, g5]
      refine sm182 ?_
      simp (disch := omega) only [decide_eq_true_eq, decide_eq_false_iff_not, L32, az01, b2i_01, b2i_n0, b2i_n1, Bool.and_true, true_and, and_true, Classical.not_not, Bool.not_eq_true, Bool.not_eq_false, n32_mul, n32_add, n32_ix, n32_ib, n32_lt, n32_le, n32_inj, l_hb, l_hb0, l_shl, l_wo, l_eqm1, l_m1eq, reduceCtorEq, Nat.reduceEqDiff, Nat.reduceAdd, Nat.reduceLT, Nat.reduceLeDiff, decide_true, decide_false, false_implies, true_implies, not_true_eq_false, not_false_eq_true, Bool.and_false, Bool.false_and, Bool.true_and, Bool.not_true, Bool.not_false, gb8, gb5, gb4, and_true, true_and, not_false_eq_true, forall_const, m_in, h1]
      exact keep0
    by_cases a1 : x1 = n32 1
    · subst a1
      refine sm32 ?_
      simp (disch := omega) only [decide_eq_true_eq, decide_eq_false_iff_not, L32, az01, b2i_01, b2i_n0, b2i_n1, Bool.and_true, true_and, and_true, Classical.not_not, Bool.not_eq_true, Bool.not_eq_false, n32_mul, n32_add, n32_ix, n32_ib, n32_lt, n32_le, n32_inj, l_hb, l_hb0, l_shl, l_wo, l_eqm1, l_m1eq, reduceCtorEq, Nat.reduceEqDiff, Nat.reduceAdd, Nat.reduceLT, Nat.reduceLeDiff, decide_true, decide_false, false_implies, true_implies, not_true_eq_false, not_false_eq_true, Bool.and_false, Bool.false_and, Bool.true_and, Bool.not_true, Bool.not_false, gb8, gb5, gb4, and_true, true_and, not_false_eq_true, forall_const, ci, h1, g11]
      refine sm182 ?_
      simp (disch := omega) only [decide_eq_true_eq, decide_eq_false_iff_not, L32, az01, b2i_01, b2i_n0, b2i_n1, Bool.and_true, true_and, and_true, Classical.not_not, Bool.not_eq_true, Bool.not_eq_false, n32_mul, n32_add, n32_ix, n32_ib, n32_lt, n32_le, n32_inj, l_hb, l_hb0, l_shl, l_wo, l_eqm1, l_m1eq, reduceCtorEq, Nat.reduceEqDiff, Nat.reduceAdd, Nat.reduceLT, Nat.reduceLeDiff, decide_true, decide_false, false_implies, true_implies, not_true_eq_false, not_false_eq_true, Bool.and_false, Bool.false_and, Bool.true_and, Bool.not_true, Bool.not_false, gb8, gb5, gb4, and_true, true_and, not_false_eq_true, forall_const, m_in, h1]
      exact keep0
    by_cases a2 : x1 = n32 2
    · subst a2
      refine sm32 ?_
      simp (disch := omega) only [decide_eq_true_eq, decide_eq_false_iff_not, L32, az01, b2i_01, b2i_n0, b2i_n1, Bool.and_true, true_and, and_true, Classical.not_not, Bool.not_eq_true, Bool.not_eq_false, n32_mul, n32_add, n32_ix, n32_ib, n32_lt, n32_le, n32_inj, l_hb, l_hb0, l_shl, l_wo, l_eqm1, l_m1eq, reduceCtorEq, Nat.reduceEqDiff, Nat.reduceAdd, Nat.reduceLT, Nat.reduceLeDiff, decide_true, decide_false, false_implies, true_implies, not_true_eq_false, not_false_eq_true, Bool.and_false, Bool.false_and, Bool.true_and, Bool.not_true, Bool.not_false, gb8, gb5, gb4, and_true, true_and, not_false_eq_true, forall_const, ci, h1, r3]
      refine sm182 ?_
      simp (disch := omega) only [decide_eq_true_eq, decide_eq_false_iff_not, L32, az01, b2i_01, b2i_n0, b2i_n1, Bool.and_true, true_and, and_true, Classical.not_not, Bool.not_eq_true, Bool.not_eq_false, n32_mul, n32_add, n32_ix, n32_ib, n32_lt, n32_le, n32_inj, l_hb, l_hb0, l_shl, l_wo, l_eqm1, l_m1eq, reduceCtorEq, Nat.reduceEqDiff, Nat.reduceAdd, Nat.reduceLT, Nat.reduceLeDiff, decide_true, decide_false, false_implies, true_implies, not_true_eq_false, not_false_eq_true, Bool.and_false, Bool.false_and, Bool.true_and, Bool.not_true, Bool.not_false, gb8, gb5, gb4, and_true, true_and, not_false_eq_true, forall_const, m_in, h1, r2]
      exact keep0
    by_cases a3 : x1 = n32 3
    · subst a3
      refine sm32 ?_
      simp (disch := omega) only [decide_eq_true_eq, decide_eq_false_iff_not, L32, az01, b2i_01, b2i_n0, b2i_n1, Bool.and_true, true_and, and_true, Classical.not_not, Bool.not_eq_true, Bool.not_eq_false, n32_mul, n32_add, n32_ix, n32_ib, n32_lt, n32_le, n32_inj, l_hb, l_hb0, l_shl, l_wo, l_eqm1, l_m1eq, reduceCtorEq, Nat.reduceEqDiff, Nat.reduceAdd, Nat.reduceLT, Nat.reduceLeDiff, decide_true, decide_false, false_implies, true_implies, not_true_eq_false, not_false_eq_true, Bool.and_false, Bool.false_and, Bool.true_and, Bool.not_true, Bool.not_false, gb8, gb5, gb4, and_true, true_and, not_false_eq_true, forall_const, ci, h1, g34]
      refine sm182 ?_
      simp (disch := omega) only [decide_eq_true_eq, decide_eq_false_iff_not, L32, az01, b2i_01, b2i_n0, b2i_n1, Bool.and_true, true_and, and_true, Classical.not_not, Bool.not_eq_true, Bool.not_eq_false, n32_mul, n32_add, n32_ix, n32_ib, n32_lt, n32_le, n32_inj, l_hb, l_hb0, l_shl, l_wo, l_eqm1, l_m1eq, reduceCtorEq, Nat.reduceEqDiff, Nat.reduceAdd, Nat.reduceLT, Nat.reduceLeDiff, decide_true, decide_false, false_implies, true_implies, not_true_eq_false, not_false_eq_true, Bool.and_false, Bool.false_and, Bool.true_and, Bool.not_true, Bool.not_false, gb8, gb5, gb4, and_true, true_and, not_false_eq_true, forall_const, m_in, h1]
      exact keep0
    by_cases a4 : x1 = n32 4
    · subst a4
      refine sm32 ?_
      simp (disch := omega) only [decide_eq_true_eq, decide_eq_false_iff_not, L32, az01, b2i_01, b2i_n0, b2i_n1, Bool.and_true, true_and, and_true, Classical.not_not, Bool.not_eq_true, Bool.not_eq_false, n32_mul, n32_add, n32_ix, n32_ib, n32_lt, n32_le, n32_inj, l_hb, l_hb0, l_shl, l_wo, l_eqm1, l_m1eq, reduceCtorEq, Nat.reduceEqDiff, Nat.reduceAdd, Nat.reduceLT, Nat.reduceLeDiff, decide_true, decide_false, false_implies, true_implies, not_true_eq_false, not_false_eq_true, Bool.and_false, Bool.false_and, Bool.true_and, Bool.not_true, Bool.not_false, gb8, gb5, gb4, and_true, true_and, not_false_eq_true, forall_const, ci, h1]
      refine c_finds ho (by omega) (fun C1 hF1 h8 hR1 => ?_)
      simp (disch := omega) only [hR1.2.1]
      refine sm182 ?_
      simp (disch := omega) only [decide_eq_true_eq, decide_eq_false_iff_not, L32, az01, b2i_01, b2i_n0, b2i_n1, Bool.and_true, true_and, and_true, Classical.not_not, Bool.not_eq_true, Bool.not_eq_false, n32_mul, n32_add, n32_ix, n32_ib, n32_lt, n32_le, n32_inj, l_hb, l_hb0, l_shl, l_wo, l_eqm1, l_m1eq, reduceCtorEq, Nat.reduceEqDiff, Nat.reduceAdd, Nat.reduceLT, Nat.reduceLeDiff, decide_true, decide_false, false_implies, true_implies, not_true_eq_false, not_false_eq_true, Bool.and_false, Bool.false_and, Bool.true_and, Bool.not_true, Bool.not_false, gb8, gb5, gb4, and_true, true_and, not_false_eq_true, forall_const, m_in, h1]
      refine m_findRings h85 (by omega) (fun Z1 z52 hRm => ?_)
      exact ⟨hRm.2.1.symm, t, s, L, Z1, C1, rfl, hT, hR.ff hF1, hI.rings hF1⟩
    by_cases a5 : x1 = n32 5
    · subst a5
      refine sm32 ?_
      simp (disch := omega) only [decide_eq_true_eq, decide_eq_false_iff_not, L32, az01, b2i_01, b2i_n0, b2i_n1, Bool.and_true, true_and, and_true, Classical.not_not, Bool.not_eq_true, Bool.not_eq_false, n32_mul, n32_add, n32_ix, n32_ib, n32_lt, n32_le, n32_inj, l_hb, l_hb0, l_shl, l_wo, l_eqm1, l_m1eq, reduceCtorEq, Nat.reduceEqDiff, Nat.reduceAdd, Nat.reduceLT, Nat.reduceLeDiff, decide_true, decide_false, false_implies, true_implies, not_true_eq_false, not_false_eq_true, Bool.and_false, Bool.false_and, Bool.true_and, Bool.not_true, Bool.not_false, gb8, gb5, gb4, and_true, true_and, not_false_eq_true, forall_const, ci, h1]
      refine c_finds ho (by omega) (fun C1 hF1 h8 hR1 => ?_)
      have fin : ∀ v, v = n32 (fnd (oL L) 9).1 → ctI P (d + 18) 182 [mO, vi (n32 5)] (rowf t, rowf s, L, Z, C1) (fun y2 h2 => v = y2 ∧ LAWI h2) := fun v hv => by
        refine sm182 ?_
        simp (disch := omega) only [decide_eq_true_eq, decide_eq_false_iff_not, L32, az01, b2i_01, b2i_n0, b2i_n1, Bool.and_true, true_and, and_true, Classical.not_not, Bool.not_eq_true, Bool.not_eq_false, n32_mul, n32_add, n32_ix, n32_ib, n32_lt, n32_le, n32_inj, l_hb, l_hb0, l_shl, l_wo, l_eqm1, l_m1eq, reduceCtorEq, Nat.reduceEqDiff, Nat.reduceAdd, Nat.reduceLT, Nat.reduceLeDiff, decide_true, decide_false, false_implies, true_implies, not_true_eq_false, not_false_eq_true, Bool.and_false, Bool.false_and, Bool.true_and, Bool.not_true, Bool.not_false, gb8, gb5, gb4, and_true, true_and, not_false_eq_true, forall_const, m_in, h1]
        refine m_findRings h85 (by omega) (fun Z1 z52 hRm => ?_)
        exact ⟨hv.trans z52.symm, t, s, L, Z1, C1, rfl, hT, hR.ff hF1, hI.rings hF1⟩
      simp (disch := omega) only [decide_eq_true_eq, decide_eq_false_iff_not, L32, az01, b2i_01, b2i_n0, b2i_n1, Bool.and_true, true_and, and_true, Classical.not_not, Bool.not_eq_true, Bool.not_eq_false, n32_mul, n32_add, n32_ix, n32_ib, n32_lt, n32_le, n32_inj, l_hb, l_hb0, l_shl, l_wo, l_eqm1, l_m1eq, hR1.2.1, h8]
      refine ⟨fun hne => fin _ rfl, fun he => fin _ ?_⟩
      rw [f2.1 he]
    by_cases a6 : x1 = n32 6
    · subst a6
      refine sm32 ?_
      simp (disch := omega) only [decide_eq_true_eq, decide_eq_false_iff_not, L32, az01, b2i_01, b2i_n0, b2i_n1, Bool.and_true, true_and, and_true, Classical.not_not, Bool.not_eq_true, Bool.not_eq_false, n32_mul, n32_add, n32_ix, n32_ib, n32_lt, n32_le, n32_inj, l_hb, l_hb0, l_shl, l_wo, l_eqm1, l_m1eq, reduceCtorEq, Nat.reduceEqDiff, Nat.reduceAdd, Nat.reduceLT, Nat.reduceLeDiff, decide_true, decide_false, false_implies, true_implies, not_true_eq_false, not_false_eq_true, Bool.and_false, Bool.false_and, Bool.true_and, Bool.not_true, Bool.not_false, gb8, gb5, gb4, and_true, true_and, not_false_eq_true, forall_const, ci, h1, g6]
      refine sm182 ?_
      simp (disch := omega) only [decide_eq_true_eq, decide_eq_false_iff_not, L32, az01, b2i_01, b2i_n0, b2i_n1, Bool.and_true, true_and, and_true, Classical.not_not, Bool.not_eq_true, Bool.not_eq_false, n32_mul, n32_add, n32_ix, n32_ib, n32_lt, n32_le, n32_inj, l_hb, l_hb0, l_shl, l_wo, l_eqm1, l_m1eq, reduceCtorEq, Nat.reduceEqDiff, Nat.reduceAdd, Nat.reduceLT, Nat.reduceLeDiff, decide_true, decide_false, false_implies, true_implies, not_true_eq_false, not_false_eq_true, Bool.and_false, Bool.false_and, Bool.true_and, Bool.not_true, Bool.not_false, gb8, gb5, gb4, and_true, true_and, not_false_eq_true, forall_const, m_in, h1, rowf_at]
      exact keep0
    by_cases a7 : x1 = n32 7
    · subst a7
      refine sm32 ?_
      simp (disch := omega) only [decide_eq_true_eq, decide_eq_false_iff_not, L32, az01, b2i_01, b2i_n0, b2i_n1, Bool.and_true, true_and, and_true, Classical.not_not, Bool.not_eq_true, Bool.not_eq_false, n32_mul, n32_add, n32_ix, n32_ib, n32_lt, n32_le, n32_inj, l_hb, l_hb0, l_shl, l_wo, l_eqm1, l_m1eq, reduceCtorEq, Nat.reduceEqDiff, Nat.reduceAdd, Nat.reduceLT, Nat.reduceLeDiff, decide_true, decide_false, false_implies, true_implies, not_true_eq_false, not_false_eq_true, Bool.and_false, Bool.false_and, Bool.true_and, Bool.not_true, Bool.not_false, gb8, gb5, gb4, and_true, true_and, not_false_eq_true, forall_const, ci, h1, g14]
      refine sm182 ?_
      simp (disch := omega) only [decide_eq_true_eq, decide_eq_false_iff_not, L32, az01, b2i_01, b2i_n0, b2i_n1, Bool.and_true, true_and, and_true, Classical.not_not, Bool.not_eq_true, Bool.not_eq_false, n32_mul, n32_add, n32_ix, n32_ib, n32_lt, n32_le, n32_inj, l_hb, l_hb0, l_shl, l_wo, l_eqm1, l_m1eq, reduceCtorEq, Nat.reduceEqDiff, Nat.reduceAdd, Nat.reduceLT, Nat.reduceLeDiff, decide_true, decide_false, false_implies, true_implies, not_true_eq_false, not_false_eq_true, Bool.and_false, Bool.false_and, Bool.true_and, Bool.not_true, Bool.not_false, gb8, gb5, gb4, and_true, true_and, not_false_eq_true, forall_const, m_in, h1, rowf_at]
      exact keep0
    refine sm32 ?_
    simp (disch := omega) only [decide_eq_true_eq, decide_eq_false_iff_not, L32, az01, b2i_01, b2i_n0, b2i_n1, Bool.and_true, true_and, and_true, Classical.not_not, Bool.not_eq_true, Bool.not_eq_false, n32_mul, n32_add, n32_ix, n32_ib, n32_lt, n32_le, n32_inj, l_hb, l_hb0, l_shl, l_wo, l_eqm1, l_m1eq, reduceCtorEq, Nat.reduceEqDiff, Nat.reduceAdd, Nat.reduceLT, Nat.reduceLeDiff, decide_true, decide_false, false_implies, true_implies, not_true_eq_false, not_false_eq_true, Bool.and_false, Bool.false_and, Bool.true_and, Bool.not_true, Bool.not_false, gb8, gb5, gb4, and_true, true_and, not_false_eq_true, forall_const, ci, h1, a0, a1, a2, a3, a4, a5, a6, a7]
    refine sm182 ?_
    simp (disch := omega) only [decide_eq_true_eq, decide_eq_false_iff_not, L32, az01, b2i_01, b2i_n0, b2i_n1, Bool.and_true, true_and, and_true, Classical.not_not, Bool.not_eq_true, Bool.not_eq_false, n32_mul, n32_add, n32_ix, n32_ib, n32_lt, n32_le, n32_inj, l_hb, l_hb0, l_shl, l_wo, l_eqm1, l_m1eq, reduceCtorEq, Nat.reduceEqDiff, Nat.reduceAdd, Nat.reduceLT, Nat.reduceLeDiff, decide_true, decide_false, false_implies, true_implies, not_true_eq_false, not_false_eq_true, Bool.and_false, Bool.false_and, Bool.true_and, Bool.not_true, Bool.not_false, gb8, gb5, gb4, and_true, true_and, not_false_eq_true, forall_const, m_in, h1, a0, a1, a2, a3, a4, a5, a6, a7]
    exact keep0
end
