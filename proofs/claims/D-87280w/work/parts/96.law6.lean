/-! the reading calls: have, order's rings, count, forget -/
theorem fst_snoc {p : Nat → Bool} {k : Nat} : fst (k + 1) 0 p = match fst k 0 p with
    | some i => some i
    | none => if p k = true then some k else none := by
  cases h : fst k 0 p with
  | some i =>
    obtain ⟨a, b, c, e⟩ := fst_some.1 h
    exact fst_some.2 ⟨a, by omega, c, e⟩
  | none =>
    have hn := fst_none.1 h
    by_cases hp : p k = true
    · simp only [hp, if_true]
      exact fst_some.2 ⟨by omega, by omega, hp, fun y hy hk => hn y hy (by omega)⟩
    · simp only [hp, if_false]
      rw [if_neg (by decide)]
      refine fst_none.2 (fun y hy hk => ?_)
      by_cases hyk : y = k
      · rw [hyk]; simpa using hp
      · exact hn y hy (by omega)
section
variable {P : Nat × (Nat → Int32)} {d : Nat}
theorem j_have {x1 x2 : Int32} (hd : 7 ≤ d) : JNT P d 19 160 [vi x1, vi x2] := by
  obtain ⟨d, rfl⟩ := dge hd
  rintro h ⟨t, s, L, Z, C, rfl, hT, hR, hI⟩
  have keep : LAWI (rowf t, rowf s, L, Z, C) := ⟨t, s, L, Z, C, rfl, hT, hR, hI⟩
  obtain ⟨t0, s0, hT0, hI0, hC0, r7, hrun⟩ := hI.2.2.2.2.2.2.2.1
  have ci := c_in (P := P) (d := d + 6) (h := (rowf t, rowf s, L, Z, C)) (x := x1) (n := 9) (by omega) (by omega)
  simp only [Nat.reduceAdd] at ci
  cases h1 : inB x1 10 with
  | false =>
    refine sm19 ?_
    simp (disch := omega) only [decide_eq_true_eq, decide_eq_false_iff_not, L32, az01, b2i_01, b2i_n0, b2i_n1, Bool.and_true, true_and, and_true, Classical.not_not, Bool.not_eq_true, Bool.not_eq_false, n32_mul, n32_add, n32_ix, n32_ib, n32_lt, n32_le, n32_inj, l_hb, l_hb0, l_shl, l_wo, l_eqm1, l_m1eq, reduceCtorEq, Nat.reduceEqDiff, Nat.reduceAdd, Nat.reduceLT, Nat.reduceLeDiff, decide_true, decide_false, false_implies, true_implies, not_true_eq_false, not_false_eq_true, Bool.and_false, Bool.false_and, Bool.true_and, Bool.not_true, Bool.not_false, gb8, gb5, gb4, and_true, true_and, not_false_eq_true, forall_const, ci, h1]
    refine sm160 ?_
    simp (disch := omega) only [decide_eq_true_eq, decide_eq_false_iff_not, L32, az01, b2i_01, b2i_n0, b2i_n1, Bool.and_true, true_and, and_true, Classical.not_not, Bool.not_eq_true, Bool.not_eq_false, n32_mul, n32_add, n32_ix, n32_ib, n32_lt, n32_le, n32_inj, l_hb, l_hb0, l_shl, l_wo, l_eqm1, l_m1eq, reduceCtorEq, Nat.reduceEqDiff, Nat.reduceAdd, Nat.reduceLT, Nat.reduceLeDiff, decide_true, decide_false, false_implies, true_implies, not_true_eq_false, not_false_eq_true, Bool.and_false, Bool.false_and, Bool.true_and, Bool.not_true, Bool.not_false, gb8, gb5, gb4, and_true, true_and, not_false_eq_true, forall_const, m_in, h1]
    exact keep
  | true =>
    obtain ⟨m, hm, rfl⟩ := inB_T (by omega) h1
    rcases hrun with ⟨z1, _, z3⟩ | ⟨z1, hL, hJ⟩
    · rw [z1] at r7
      refine sm19 ?_
      simp (disch := omega) only [decide_eq_true_eq, decide_eq_false_iff_not, L32, az01, b2i_01, b2i_n0, b2i_n1, Bool.and_true, true_and, and_true, Classical.not_not, Bool.not_eq_true, Bool.not_eq_false, n32_mul, n32_add, n32_ix, n32_ib, n32_lt, n32_le, n32_inj, l_hb, l_hb0, l_shl, l_wo, l_eqm1, l_m1eq, reduceCtorEq, Nat.reduceEqDiff, Nat.reduceAdd, Nat.reduceLT, Nat.reduceLeDiff, decide_true, decide_false, false_implies, true_implies, not_true_eq_false, not_false_eq_true, Bool.and_false, Bool.false_and, Bool.true_and, Bool.not_true, Bool.not_false, gb8, gb5, gb4, and_true, true_and, not_false_eq_true, forall_const, ci, h1, r7]
      refine sm160 ?_
      simp (disch := omega) only [decide_eq_true_eq, decide_eq_false_iff_not, L32, az01, b2i_01, b2i_n0, b2i_n1, Bool.and_true, true_and, and_true, Classical.not_not, Bool.not_eq_true, Bool.not_eq_false, n32_mul, n32_add, n32_ix, n32_ib, n32_lt, n32_le, n32_inj, l_hb, l_hb0, l_shl, l_wo, l_eqm1, l_m1eq, reduceCtorEq, Nat.reduceEqDiff, Nat.reduceAdd, Nat.reduceLT, Nat.reduceLeDiff, decide_true, decide_false, false_implies, true_implies, not_true_eq_false, not_false_eq_true, Bool.and_false, Bool.false_and, Bool.true_and, Bool.not_true, Bool.not_false, gb8, gb5, gb4, and_true, true_and, not_false_eq_true, forall_const, m_in, h1, z1]
      exact keep
    · rw [z1] at r7
      have hB := hI0.B
      have cu := c_user (P := P) (d := d + 6) (h := (rowf t, rowf s, L, Z, C)) hB hC0 (by omega) hm
      have cl := c_looking (P := P) (d := d + 6) (h := (rowf t, rowf s, L, Z, C)) hB hC0 (by omega) hm
      obtain ⟨q, q1, q2, q3⟩ := hC0.2.2 m hm
      have q8 := QL_len q1
      have e93 := hL.2.2.1 m hm
      have e94 := hL.2.2.2.1 m hm
      have uniq : ∀ a b, a < 8 → b < 8 → 0 < s0 a (8 + m) → 0 < s0 b (8 + m) → a = b := fun a b ha hb h1 h2 => by
        apply Classical.byContradiction
        intro hne
        have := hI0.2.1 a b ha hb hne m hm h1
        unfold hasS at this
        rw [decide_eq_true h2] at this; cases this
      generalize hU : fst 8 0 (fun k => decide (0 < s0 k (8 + m))) = u at *
      have u8 : ∀ x, u = some x → x < 8 := fun x hx => by rw [hx] at hU; have := (fst_some.1 hU).2.1; omega
      -- the reference comes to its choice
      have mrun : ∀ (Q : Int32 → nz_h → Prop), nzW P (d + 6) az_k160 26 [some mO, some (vi (n32 m)), some (vi x2), some (vi (o2i u)), some (vi (n32 (bits 8 (fun k => (s0 k 5).testBit m)))), some (vi (n32 8))] [] (rowf t, rowf s, L, Z, C) (nz_RI Q) → ctI P (d + 7) 160 [mO, vi (n32 m), vi x2] (rowf t, rowf s, L, Z, C) Q := fun Q hq => by
        refine sm160 ?_
        simp (disch := omega) only [decide_eq_true_eq, decide_eq_false_iff_not, L32, az01, b2i_01, b2i_n0, b2i_n1, Bool.and_true, true_and, and_true, Classical.not_not, Bool.not_eq_true, Bool.not_eq_false, n32_mul, n32_add, n32_ix, n32_ib, n32_lt, n32_le, n32_inj, l_hb, l_hb0, l_shl, l_wo, l_eqm1, l_m1eq, reduceCtorEq, Nat.reduceEqDiff, Nat.reduceAdd, Nat.reduceLT, Nat.reduceLeDiff, decide_true, decide_false, false_implies, true_implies, not_true_eq_false, not_false_eq_true, Bool.and_false, Bool.false_and, Bool.true_and, Bool.not_true, Bool.not_false, gb8, gb5, gb4, and_true, true_and, not_false_eq_true, forall_const, m_in, h1, z1]
        have loop : ∀ r k, r + k = 8 → nzW P (d + 6) az_k160 26 [some mO, some (vi (n32 m)), some (vi x2), some (vi (o2i (fst k 0 (fun k => decide (0 < s0 k (8 + m)))))), some (vi (n32 (bits k (fun k => (s0 k 5).testBit m)))), some (vi (n32 k))] [] (rowf t, rowf s, L, Z, C) (nz_RI Q) := by
          intro r
          induction r with
          | zero =>
            intro k hk
            obtain rfl : k = 8 := by omega
            rw [hU]; exact hq
          | succ r ih =>
            intro k hk
            have hk8 : k < 8 := by omega
            have w8 := m_was (P := P) (d := d + 6) (T := rowf t) (S := rowf s) (Z := Z) (C := C) (j := k) (f := 8 + m) hL hk8 (by omega) (by omega)
            have w5 := m_was (P := P) (d := d + 6) (T := rowf t) (S := rowf s) (Z := Z) (C := C) (j := k) (f := 5) hL hk8 (by omega) (by omega)
            have b8 := hB k (8 + m)
            have b5 := hB k 5
            have nx := ih (k + 1) (by omega)
            refine sg160_26 ?_
            simp (disch := omega) only [decide_eq_true_eq, decide_eq_false_iff_not, L32, az01, b2i_01, b2i_n0, b2i_n1, Bool.and_true, true_and, and_true, Classical.not_not, Bool.not_eq_true, Bool.not_eq_false, n32_mul, n32_add, n32_ix, n32_ib, n32_lt, n32_le, n32_inj, l_hb, l_hb0, l_shl, l_wo, l_eqm1, l_m1eq, w8, w5, n32_or, Nat.or_zero]
            refine ⟨fun hc => by omega, fun _ => ⟨fun h0 => ?_, fun h0 => ?_⟩⟩
            · have ef : fst (k + 1) 0 (fun k => decide (0 < s0 k (8 + m))) = fst k 0 (fun k => decide (0 < s0 k (8 + m))) := by
                rw [fst_snoc]
                cases fst k 0 (fun k => decide (0 < s0 k (8 + m))) with
                | some i => rfl
                | none => simp only; rw [if_neg (by rw [decide_eq_false (show ¬ 0 < s0 k (8 + m) by omega)]; decide)]
              rw [ef] at nx
              refine ⟨fun hb => ?_, fun hb => ?_⟩
              · rw [bits_F (p := fun k => (s0 k 5).testBit m) hb]; exact nx
              · rw [bits_T (p := fun k => (s0 k 5).testBit m) hb]; exact nx
            · have hpos : 0 < s0 k (8 + m) := by omega
              have ef : fst (k + 1) 0 (fun k => decide (0 < s0 k (8 + m))) = some k := by
                rw [fst_snoc]
                cases hf : fst k 0 (fun k => decide (0 < s0 k (8 + m))) with
                | some i =>
                  obtain ⟨_, i2, i3, _⟩ := fst_some.1 hf
                  have := uniq i k (by omega) hk8 (of_decide_eq_true i3) hpos
                  omega
                | none => simp only; rw [if_pos (decide_eq_true hpos)]
              rw [ef] at nx
              refine ⟨fun hb => ?_, fun hb => ?_⟩
              · rw [bits_F (p := fun k => (s0 k 5).testBit m) hb]; exact nx
              · rw [bits_T (p := fun k => (s0 k 5).testBit m) hb]; exact nx
        exact loop 8 0 rfl
      by_cases a0 : x2 = n32 0
      · subst a0
        refine sm19 ?_
        simp (disch := omega) only [decide_eq_true_eq, decide_eq_false_iff_not, L32, az01, b2i_01, b2i_n0, b2i_n1, Bool.and_true, true_and, and_true, Classical.not_not, Bool.not_eq_true, Bool.not_eq_false, n32_mul, n32_add, n32_ix, n32_ib, n32_lt, n32_le, n32_inj, l_hb, l_hb0, l_shl, l_wo, l_eqm1, l_m1eq, reduceCtorEq, Nat.reduceEqDiff, Nat.reduceAdd, Nat.reduceLT, Nat.reduceLeDiff, decide_true, decide_false, false_implies, true_implies, not_true_eq_false, not_false_eq_true, Bool.and_false, Bool.false_and, Bool.true_and, Bool.not_true, Bool.not_false, gb8, gb5, gb4, and_true, true_and, not_false_eq_true, forall_const, ci, h1, r7, cu]
        refine mrun _ (sg160_26 ?_)
        simp (disch := omega) only [decide_eq_true_eq, decide_eq_false_iff_not, L32, az01, b2i_01, b2i_n0, b2i_n1, Bool.and_true, true_and, and_true, Classical.not_not, Bool.not_eq_true, Bool.not_eq_false, n32_mul, n32_add, n32_ix, n32_ib, n32_lt, n32_le, n32_inj, l_hb, l_hb0, l_shl, l_wo, l_eqm1, l_m1eq, reduceCtorEq, Nat.reduceEqDiff, Nat.reduceAdd, Nat.reduceLT, Nat.reduceLeDiff, decide_true, decide_false, false_implies, true_implies, not_true_eq_false, not_false_eq_true, Bool.and_false, Bool.false_and, Bool.true_and, Bool.not_true, Bool.not_false, gb8, gb5, gb4, and_true, true_and, not_false_eq_true, forall_const]
        exact keep
      by_cases a1 : x2 = n32 1
      · subst a1
        cases hu : u with
        | none =>
          rw [hu] at cu mrun
          refine sm19 ?_
          simp (disch := omega) only [decide_eq_true_eq, decide_eq_false_iff_not, L32, az01, b2i_01, b2i_n0, b2i_n1, Bool.and_true, true_and, and_true, Classical.not_not, Bool.not_eq_true, Bool.not_eq_false, n32_mul, n32_add, n32_ix, n32_ib, n32_lt, n32_le, n32_inj, l_hb, l_hb0, l_shl, l_wo, l_eqm1, l_m1eq, reduceCtorEq, Nat.reduceEqDiff, Nat.reduceAdd, Nat.reduceLT, Nat.reduceLeDiff, decide_true, decide_false, false_implies, true_implies, not_true_eq_false, not_false_eq_true, Bool.and_false, Bool.false_and, Bool.true_and, Bool.not_true, Bool.not_false, gb8, gb5, gb4, and_true, true_and, not_false_eq_true, forall_const, ci, h1, r7, cu, o2i]
          refine mrun _ (sg160_26 ?_)
          simp (disch := omega) only [decide_eq_true_eq, decide_eq_false_iff_not, L32, az01, b2i_01, b2i_n0, b2i_n1, Bool.and_true, true_and, and_true, Classical.not_not, Bool.not_eq_true, Bool.not_eq_false, n32_mul, n32_add, n32_ix, n32_ib, n32_lt, n32_le, n32_inj, l_hb, l_hb0, l_shl, l_wo, l_eqm1, l_m1eq, reduceCtorEq, Nat.reduceEqDiff, Nat.reduceAdd, Nat.reduceLT, Nat.reduceLeDiff, decide_true, decide_false, false_implies, true_implies, not_true_eq_false, not_false_eq_true, Bool.and_false, Bool.false_and, Bool.true_and, Bool.not_true, Bool.not_false, gb8, gb5, gb4, and_true, true_and, not_false_eq_true, forall_const, o2i]
          exact keep
        | some x =>
          have hx8 := u8 x hu
          rw [hu] at cu mrun
          have e35 := (hC0.2.1 x hx8).2.2.1 m hm
          have w8 := m_was (P := P) (d := d + 6) (T := rowf t) (S := rowf s) (Z := Z) (C := C) (j := x) (f := 8 + m) hL hx8 (by omega) (by omega)
          refine sm19 ?_
          simp (disch := omega) only [decide_eq_true_eq, decide_eq_false_iff_not, L32, az01, b2i_01, b2i_n0, b2i_n1, Bool.and_true, true_and, and_true, Classical.not_not, Bool.not_eq_true, Bool.not_eq_false, n32_mul, n32_add, n32_ix, n32_ib, n32_lt, n32_le, n32_inj, l_hb, l_hb0, l_shl, l_wo, l_eqm1, l_m1eq, reduceCtorEq, Nat.reduceEqDiff, Nat.reduceAdd, Nat.reduceLT, Nat.reduceLeDiff, decide_true, decide_false, false_implies, true_implies, not_true_eq_false, not_false_eq_true, Bool.and_false, Bool.false_and, Bool.true_and, Bool.not_true, Bool.not_false, gb8, gb5, gb4, and_true, true_and, not_false_eq_true, forall_const, ci, h1, r7, cu, o2i, hx8, hm, e35]
          refine mrun _ (sg160_26 ?_)
          simp (disch := omega) only [decide_eq_true_eq, decide_eq_false_iff_not, L32, az01, b2i_01, b2i_n0, b2i_n1, Bool.and_true, true_and, and_true, Classical.not_not, Bool.not_eq_true, Bool.not_eq_false, n32_mul, n32_add, n32_ix, n32_ib, n32_lt, n32_le, n32_inj, l_hb, l_hb0, l_shl, l_wo, l_eqm1, l_m1eq, reduceCtorEq, Nat.reduceEqDiff, Nat.reduceAdd, Nat.reduceLT, Nat.reduceLeDiff, decide_true, decide_false, false_implies, true_implies, not_true_eq_false, not_false_eq_true, Bool.and_false, Bool.false_and, Bool.true_and, Bool.not_true, Bool.not_false, gb8, gb5, gb4, and_true, true_and, not_false_eq_true, forall_const, o2i, w8]
          exact keep
      by_cases a2 : x2 = n32 2
      · subst a2
        refine sm19 ?_
        simp (disch := omega) only [decide_eq_true_eq, decide_eq_false_iff_not, L32, az01, b2i_01, b2i_n0, b2i_n1, Bool.and_true, true_and, and_true, Classical.not_not, Bool.not_eq_true, Bool.not_eq_false, n32_mul, n32_add, n32_ix, n32_ib, n32_lt, n32_le, n32_inj, l_hb, l_hb0, l_shl, l_wo, l_eqm1, l_m1eq, reduceCtorEq, Nat.reduceEqDiff, Nat.reduceAdd, Nat.reduceLT, Nat.reduceLeDiff, decide_true, decide_false, false_implies, true_implies, not_true_eq_false, not_false_eq_true, Bool.and_false, Bool.false_and, Bool.true_and, Bool.not_true, Bool.not_false, gb8, gb5, gb4, and_true, true_and, not_false_eq_true, forall_const, ci, h1, r7, cu, cl]
        refine mrun _ (sg160_26 ?_)
        simp (disch := omega) only [decide_eq_true_eq, decide_eq_false_iff_not, L32, az01, b2i_01, b2i_n0, b2i_n1, Bool.and_true, true_and, and_true, Classical.not_not, Bool.not_eq_true, Bool.not_eq_false, n32_mul, n32_add, n32_ix, n32_ib, n32_lt, n32_le, n32_inj, l_hb, l_hb0, l_shl, l_wo, l_eqm1, l_m1eq, reduceCtorEq, Nat.reduceEqDiff, Nat.reduceAdd, Nat.reduceLT, Nat.reduceLeDiff, decide_true, decide_false, false_implies, true_implies, not_true_eq_false, not_false_eq_true, Bool.and_false, Bool.false_and, Bool.true_and, Bool.not_true, Bool.not_false, gb8, gb5, gb4, and_true, true_and, not_false_eq_true, forall_const]
        exact keep
      by_cases a3 : x2 = n32 3
      · subst a3
        refine sm19 ?_
        simp (disch := omega) only [decide_eq_true_eq, decide_eq_false_iff_not, L32, az01, b2i_01, b2i_n0, b2i_n1, Bool.and_true, true_and, and_true, Classical.not_not, Bool.not_eq_true, Bool.not_eq_false, n32_mul, n32_add, n32_ix, n32_ib, n32_lt, n32_le, n32_inj, l_hb, l_hb0, l_shl, l_wo, l_eqm1, l_m1eq, reduceCtorEq, Nat.reduceEqDiff, Nat.reduceAdd, Nat.reduceLT, Nat.reduceLeDiff, decide_true, decide_false, false_implies, true_implies, not_true_eq_false, not_false_eq_true, Bool.and_false, Bool.false_and, Bool.true_and, Bool.not_true, Bool.not_false, gb8, gb5, gb4, and_true, true_and, not_false_eq_true, forall_const, ci, h1, r7, cu]
        have ea : asl t0 s0 m = bits 8 (fun y => decide (y ∈ q)) := by
          unfold asl
          refine bits_congr (fun y hy => ?_)
          rw [← Bool.decide_and]
          exact decide_eq_decide.2 ⟨fun hh => (q1.1 y).2 ⟨hy, hh⟩, fun hh => ((q1.1 y).1 hh).2⟩
        have loop : ∀ r k, r + k = q.length → ∀ l2 l3, nzW P (d + 6) az_k19 105 [some (vr (0, 0, 0, 0)), some (vi (n32 m)), l2, l3, some (vi (n32 (bits 8 (fun y => decide (y ∈ q.take k))))), some (vi (n32 k))] [] (rowf t, rowf s, L, Z, C) (nz_RI (fun y1 h1 => ctI P (d + 7) 160 [mO, vi (n32 m), vi (n32 3)] h1 (fun y2 h2 => y1 = y2 ∧ LAWI h2))) := by
          intro r
          induction r with
          | zero =>
            intro k hk l2 l3
            obtain rfl : k = q.length := by omega
            refine sg19_105 ?_
            simp (disch := omega) only [decide_eq_true_eq, decide_eq_false_iff_not, L32, az01, b2i_01, b2i_n0, b2i_n1, Bool.and_true, true_and, and_true, Classical.not_not, Bool.not_eq_true, Bool.not_eq_false, n32_mul, n32_add, n32_ix, n32_ib, n32_lt, n32_le, n32_inj, l_hb, l_hb0, l_shl, l_wo, l_eqm1, l_m1eq, q2]
            refine ⟨hm, fun _ => ?_, fun hc => by omega⟩
            rw [List.take_length, ← ea]
            refine mrun _ (sg160_26 ?_)
            simp (disch := omega) only [decide_eq_true_eq, decide_eq_false_iff_not, L32, az01, b2i_01, b2i_n0, b2i_n1, Bool.and_true, true_and, and_true, Classical.not_not, Bool.not_eq_true, Bool.not_eq_false, n32_mul, n32_add, n32_ix, n32_ib, n32_lt, n32_le, n32_inj, l_hb, l_hb0, l_shl, l_wo, l_eqm1, l_m1eq, reduceCtorEq, Nat.reduceEqDiff, Nat.reduceAdd, Nat.reduceLT, Nat.reduceLeDiff, decide_true, decide_false, false_implies, true_implies, not_true_eq_false, not_false_eq_true, Bool.and_false, Bool.false_and, Bool.true_and, Bool.not_true, Bool.not_false, gb8, gb5, gb4, and_true, true_and, not_false_eq_true, forall_const, e94, hm]
            exact keep
          | succ r ih =>
            intro k hk l2 l3
            have hkl : k < q.length := by omega
            have hk' : q[k]? = some q[k] := List.getElem?_eq_getElem hkl
            have e97 := q3 k _ hk'
            have hx8 : q[k] < 8 := (QL_at q1 hk').1
            have nx := ih (k + 1) (by omega) l2 l3
            have eb : bits 8 (fun y => decide (y ∈ q.take (k + 1))) = bits 8 (fun y => decide (y ∈ q.take k)) ||| 2 ^ q[k] := by
              apply Nat.eq_of_testBit_eq
              intro i
              have et : q.take (k + 1) = q.take k ++ [q[k]] := by rw [List.take_succ, hk']; rfl
              have hmm : i ∈ q.take (k + 1) ↔ i ∈ q.take k ∨ i = q[k] := by rw [et, List.mem_append, List.mem_singleton]
              rw [Nat.testBit_or, bits_bit, bits_bit, pow_bit]
              by_cases hi : i < 8
              · rw [decide_eq_true hi, Bool.true_and, Bool.true_and, ← Bool.decide_or]
                exact decide_eq_decide.2 (hmm.trans (or_congr Iff.rfl eq_comm))
              · rw [decide_eq_false hi, Bool.false_and, Bool.false_and, Bool.false_or, decide_eq_false (show ¬ q[k] = i by omega)]
            rw [eb] at nx
            refine sg19_105 ?_
            simp (disch := omega) only [decide_eq_true_eq, decide_eq_false_iff_not, L32, az01, b2i_01, b2i_n0, b2i_n1, Bool.and_true, true_and, and_true, Classical.not_not, Bool.not_eq_true, Bool.not_eq_false, n32_mul, n32_add, n32_ix, n32_ib, n32_lt, n32_le, n32_inj, l_hb, l_hb0, l_shl, l_wo, l_eqm1, l_m1eq, q2, e97, n32_or]
            exact ⟨hm, fun hc => by omega, fun _ => ⟨hm, by omega, nx⟩⟩
        have := loop q.length 0 (by omega) (some (vi (n32 3))) (some (vi (o2i u)))
        rw [show bits 8 (fun y => decide (y ∈ q.take 0)) = 0 from by rw [bits_zero]; intro k hk; simp] at this
        exact this
      by_cases a4 : x2 = n32 4
      · subst a4
        cases hqq : q with
        | nil =>
          rw [hqq] at q1 q2
          rw [slp_nil q1] at e93
          have q2' : C 28 0 0 0 m = n32 0 := q2
          refine sm19 ?_
          simp (disch := omega) only [decide_eq_true_eq, decide_eq_false_iff_not, L32, az01, b2i_01, b2i_n0, b2i_n1, Bool.and_true, true_and, and_true, Classical.not_not, Bool.not_eq_true, Bool.not_eq_false, n32_mul, n32_add, n32_ix, n32_ib, n32_lt, n32_le, n32_inj, l_hb, l_hb0, l_shl, l_wo, l_eqm1, l_m1eq, reduceCtorEq, Nat.reduceEqDiff, Nat.reduceAdd, Nat.reduceLT, Nat.reduceLeDiff, decide_true, decide_false, false_implies, true_implies, not_true_eq_false, not_false_eq_true, Bool.and_false, Bool.false_and, Bool.true_and, Bool.not_true, Bool.not_false, gb8, gb5, gb4, and_true, true_and, not_false_eq_true, forall_const, ci, h1, r7, cu, hm, q2']
          refine mrun _ (sg160_26 ?_)
          simp (disch := omega) only [decide_eq_true_eq, decide_eq_false_iff_not, L32, az01, b2i_01, b2i_n0, b2i_n1, Bool.and_true, true_and, and_true, Classical.not_not, Bool.not_eq_true, Bool.not_eq_false, n32_mul, n32_add, n32_ix, n32_ib, n32_lt, n32_le, n32_inj, l_hb, l_hb0, l_shl, l_wo, l_eqm1, l_m1eq, reduceCtorEq, Nat.reduceEqDiff, Nat.reduceAdd, Nat.reduceLT, Nat.reduceLeDiff, decide_true, decide_false, false_implies, true_implies, not_true_eq_false, not_false_eq_true, Bool.and_false, Bool.false_and, Bool.true_and, Bool.not_true, Bool.not_false, gb8, gb5, gb4, and_true, true_and, not_false_eq_true, forall_const, e93, hm, o2i]
          exact keep
        | cons x q' =>
          rw [hqq] at q1 q2 q8
          rw [slp_cons q1] at e93
          have e97 := q3 0 x (by rw [hqq]; rfl)
          rw [List.length_cons] at q2 q8
          have hne : ¬ q'.length + 1 = 0 := by omega
          refine sm19 ?_
          simp (disch := omega) only [decide_eq_true_eq, decide_eq_false_iff_not, L32, az01, b2i_01, b2i_n0, b2i_n1, Bool.and_true, true_and, and_true, Classical.not_not, Bool.not_eq_true, Bool.not_eq_false, n32_mul, n32_add, n32_ix, n32_ib, n32_lt, n32_le, n32_inj, l_hb, l_hb0, l_shl, l_wo, l_eqm1, l_m1eq, reduceCtorEq, Nat.reduceEqDiff, Nat.reduceAdd, Nat.reduceLT, Nat.reduceLeDiff, decide_true, decide_false, false_implies, true_implies, not_true_eq_false, not_false_eq_true, Bool.and_false, Bool.false_and, Bool.true_and, Bool.not_true, Bool.not_false, gb8, gb5, gb4, and_true, true_and, not_false_eq_true, forall_const, ci, h1, r7, cu, hm, q2, hne, e97]
          refine mrun _ (sg160_26 ?_)
          simp (disch := omega) only [decide_eq_true_eq, decide_eq_false_iff_not, L32, az01, b2i_01, b2i_n0, b2i_n1, Bool.and_true, true_and, and_true, Classical.not_not, Bool.not_eq_true, Bool.not_eq_false, n32_mul, n32_add, n32_ix, n32_ib, n32_lt, n32_le, n32_inj, l_hb, l_hb0, l_shl, l_wo, l_eqm1, l_m1eq, reduceCtorEq, Nat.reduceEqDiff, Nat.reduceAdd, Nat.reduceLT, Nat.reduceLeDiff, decide_true, decide_false, false_implies, true_implies, not_true_eq_false, not_false_eq_true, Bool.and_false, Bool.false_and, Bool.true_and, Bool.not_true, Bool.not_false, gb8, gb5, gb4, and_true, true_and, not_false_eq_true, forall_const, e93, hm, o2i]
          exact keep
      refine sm19 ?_
      simp (disch := omega) only [decide_eq_true_eq, decide_eq_false_iff_not, L32, az01, b2i_01, b2i_n0, b2i_n1, Bool.and_true, true_and, and_true, Classical.not_not, Bool.not_eq_true, Bool.not_eq_false, n32_mul, n32_add, n32_ix, n32_ib, n32_lt, n32_le, n32_inj, l_hb, l_hb0, l_shl, l_wo, l_eqm1, l_m1eq, reduceCtorEq, Nat.reduceEqDiff, Nat.reduceAdd, Nat.reduceLT, Nat.reduceLeDiff, decide_true, decide_false, false_implies, true_implies, not_true_eq_false, not_false_eq_true, Bool.and_false, Bool.false_and, Bool.true_and, Bool.not_true, Bool.not_false, gb8, gb5, gb4, and_true, true_and, not_false_eq_true, forall_const, ci, h1, r7, cu, a0, a1, a2, a3, a4]
      refine mrun _ (sg160_26 ?_)
      simp (disch := omega) only [decide_eq_true_eq, decide_eq_false_iff_not, L32, az01, b2i_01, b2i_n0, b2i_n1, Bool.and_true, true_and, and_true, Classical.not_not, Bool.not_eq_true, Bool.not_eq_false, n32_mul, n32_add, n32_ix, n32_ib, n32_lt, n32_le, n32_inj, l_hb, l_hb0, l_shl, l_wo, l_eqm1, l_m1eq, reduceCtorEq, Nat.reduceEqDiff, Nat.reduceAdd, Nat.reduceLT, Nat.reduceLeDiff, decide_true, decide_false, false_implies, true_implies, not_true_eq_false, not_false_eq_true, Bool.and_false, Bool.false_and, Bool.true_and, Bool.not_true, Bool.not_false, gb8, gb5, gb4, and_true, true_and, not_false_eq_true, forall_const, a0, a1, a2, a3, a4]
      exact keep
end
