/-! a run, in both -/
section
variable {t s : St} {L : nz_f2} {j : Nat} {p : Pr}
theorem rgN_le : rgN t s j ≤ 8 := by
  unfold rgN
  by_cases h : farL t s j 8 j = 100
  · rw [if_pos h]; omega
  · rw [if_neg h]; have := farL_le t s j 8 j; omega
theorem rwN_le : rwN t s ≤ 8 := by
  unfold rwN
  cases whoF t s 8 with
  | none => exact Nat.zero_le _
  | some w => exact rgN_le
theorem P78.refl {i : Nat} (h : P78 L) : P78 (refL t s L j i) := fun x hx => by
  obtain ⟨k, k1, k2⟩ := h x hx
  by_cases hxi : x = i
  · refine ⟨rgM t s j, ?_, ?_⟩
    · unfold rgM; cases decide (t 13 8 = 2) with
      | true => exact rgN_le
      | false => exact Nat.zero_le _
    · unfold refL; rw [hxi, u2_eq]
  · refine ⟨k, k1, ?_⟩
    unfold refL ringL
    rw [u2_at, if_neg hxi, if_neg (fun hh => absurd hh.1 (by decide)), u2_ne (by decide), u2_ne (by decide), u2_ne (by decide), u2_ne (by decide), u2_ne (by decide)]
    exact k2
theorem P78.inc {kd k : Nat} (h : P78 L) (hk : kd ≠ 78) : P78 (incL L kd k) := fun x hx => by
  obtain ⟨k', k1, k2⟩ := h x hx
  exact ⟨k', k1, (incL_keep (Ne.symm hk)).trans k2⟩
theorem P78.come (h : P78 p.2) {k : Nat} : P78 (comesP t p k).2 := by
  show P78 (comesL t p.1 p.2 k)
  unfold comesL
  cases (refS t (coms p.1 k) k && !decide (p.2 13 13 = n32 0)) with
  | false => exact h
  | true => exact h.refl
theorem P78.tell {m : Nat} {all : Bool} : ∀ n (p : Pr), P78 p.2 → P78 (tellP t m all n p).2 := by
  intro n
  induction n with
  | zero => intro p h; exact h
  | succ n ih =>
    intro p h
    rw [tellP]
    cases slpF t p.1 m 8 with
    | none => exact h
    | some k =>
      have hc : P78 (comesP t (p.1, incL p.2 70 k) k).2 := P78.come (p := (p.1, incL p.2 70 k)) (h.inc (by decide))
      cases all with
      | true => exact ih _ hc
      | false => exact hc
theorem P78.do1 (h : P78 p.2) : P78 (doP t p j).2 := by
  have e1 : P78 (incL p.2 68 j) := h.inc (by decide)
  have e2 : P78 (comesP t p j).2 := h.come
  have e3 := fun m all => P78.tell (t := t) (m := m) (all := all) 9 p h
  unfold doP sevP
  repeat' split
  all_goals first | exact h | exact e1 | exact e2 | exact e3 _ _ | skip
  cases anyB 10 (fun m => (onS t p.1 j).testBit m && (p.1 j 5).testBit m) with
  | true => exact e1
  | false =>
    cases anyB 10 (fun m => (onS t p.1 j).testBit m && decide (p.1 j (8 + m) = 0)) with
    | true => exact e2
    | false => exact h
theorem P78.pass (h : P78 p.2) : ∀ n, P78 (passP t n p).2 := by
  intro n
  induction n with
  | zero => exact h
  | succ n ih =>
    rw [passP]
    cases triS t (passP t n p).1 n with
    | true => exact ih.inc (by decide)
    | false => exact ih
theorem P78.set : ∀ n (p : Pr), P78 p.2 → P78 (setN t n p).2 := by
  intro n
  induction n with
  | zero => intro p h; exact h
  | succ n ih =>
    intro p h
    rw [setN]
    cases hx : nxtP t p with
    | none => exact h
    | some q =>
      refine ih q ?_
      unfold nxtP at hx
      split at hx
      · cases hx; exact h.do1
      · cases ha : anyB 8 (mayS t p.1) with
        | true => rw [ha] at hx; cases hx
        | false =>
          cases hb : anyB 8 (triS t p.1) with
          | true => rw [ha, hb] at hx; cases hx; exact h.pass 8
          | false => rw [ha, hb] at hx; cases hx
theorem P78.try1 (h : P78 p.2) : ∀ n, P78 (tryP t n p).2 := by
  intro n
  induction n with
  | zero => exact h
  | succ n ih =>
    rw [tryP]
    cases triS t (tryP t n p).1 n with
    | false => exact ih
    | true =>
      rw [cond_true]
      cases decide ((tryP t n p).1 n 3 + 1 < t 60 (20 * n + (tryP t n p).1 n 0)) with
      | true => exact ih
      | false => exact ih.inc (by decide)
theorem P78.grant (h : P78 p.2) : P78 (grantP t p j).2 := by
  unfold grantP
  refine P78.try1 (p := (getsS t p.1 j, grantL t p.1 p.2 j)) (fun x hx => ?_) 8
  obtain ⟨k, k1, k2⟩ := h x hx
  exact ⟨k, k1, (grantL_keep (by omega) (by omega)).trans k2⟩
theorem P78.run : ∀ n (p : Pr), P78 p.2 → P78 (runN t n p).2 := by
  intro n
  induction n with
  | zero => intro p h; exact h
  | succ n ih =>
    intro p h
    rw [runN]
    cases pickS t (nz_ix (p.2 13 22)) p.1 with
    | none => exact h
    | some j => exact ih _ (P78.set 6000 _ h.grant)
theorem P85.lrn {b : Nat} (h : P85 L) : ∀ n, P85 (lrnN s j b L n) := by
  intro n
  induction n with
  | zero => exact h
  | succ n ih =>
    intro x hx
    rw [lrnN]
    generalize lrnN s j b L n = L1 at ih
    cases hl : lrnB s j b L1 n with
    | false => rw [lrn1_F hl]; exact ih x hx
    | true =>
      rw [lrn1_at hl, if_neg (by omega), if_neg (by omega), if_neg (by omega), if_neg (by omega), if_neg (by omega)]
      by_cases hxn : x = n
      · rw [if_pos ⟨rfl, hxn⟩]; exact Or.inr rfl
      · rw [if_neg (fun hh => hxn hh.2)]; exact ih x hx
theorem P85.grant (h : P85 p.2) : P85 (grantP t p j).2 := fun x hx => by
  have e : (grantP t p j).2 85 x = grantL t p.1 p.2 j 85 x := tryP_keep (by decide) 8
  rw [e]
  unfold grantL
  cases decide (p.2 13 13 = n32 0) with
  | true => exact h x hx
  | false =>
    rw [cond_false, u2_ne (by decide), u2_ne (by decide), u2_ne (by decide), u2_ne (by decide), u2_ne (by decide)]
    exact P85.lrn h 100 x hx
theorem P85.set (h : P85 p.2) : P85 (setP t p).2 := fun x hx => by
  have e : (setP t p).2 85 x = p.2 85 x := setN_keep (by unfold keepL; omega) 6000 p
  rw [e]; exact h x hx
theorem P85.run : ∀ n (p : Pr), P85 p.2 → P85 (runN t n p).2 := by
  intro n
  induction n with
  | zero => intro p h; exact h
  | succ n ih =>
    intro p h
    rw [runN]
    cases pickS t (nz_ix (p.2 13 22)) p.1 with
    | none => exact h
    | some j => exact ih _ (P85.set h.grant)
theorem run_done (hT : TV t) : ∀ n (p : Pr), GI t p → mu p.1 < n → (∀ k, k < 8 → p.1 k 1 ≠ 0) → ∀ k, k < 8 → (runN t n p).1 k 1 ≠ 0 := by
  intro n
  induction n with
  | zero => intro p _ h; omega
  | succ n ih =>
    intro p h hn h0
    rw [runN]
    cases hp : pickS t (nz_ix (p.2 13 22)) p.1 with
    | none => exact h0
    | some j =>
      obtain ⟨hj, hm⟩ := pickS_some hT hp
      obtain ⟨c1, c2⟩ := mayS_can hm
      obtain ⟨g1, g2, g3⟩ := h.grant hT hj c1 c2
      obtain ⟨s1, s2, s3⟩ := g1.set hT
      exact ih _ s1 (by omega) (set_done hT 6000 _ g1.1 g1.2.1 g1.fuel)
theorem runP_more (hT : TV t) (hB : ∀ j f, s j f < 1000000) (hz : GZ s) (h3 : LI3 L) (h78 : P78 L) (h85 : P85 L) : GZ (runP t s L).1 ∧ P78 (runP t s L).2 ∧ P85 (runP t s L).2 ∧ (∀ k, k < 8 → (runP t s L).1 k 1 ≠ 0) ∧ (runP t s L).2 13 14 = n32 1 ∧ (runP t s L).2 13 44 = L 13 44 ∧ ∀ i, (runP t s L).2 89 i = L 89 i := by
  have hg := beg_GI (t := t) hB h3
  obtain ⟨s1, s2, s3⟩ := hg.set hT
  have k1 : ∀ a b, keepL a b → (a ≠ 81 ∧ a ≠ 82 ∧ a ≠ 83 ∧ a ≠ 84 ∧ a ≠ 85 ∧ ¬ (a = 13 ∧ b = 34)) → (a ≠ 71 ∧ a ≠ 72 ∧ a ≠ 73 ∧ a ≠ 74 ∧ ¬ (a = 13 ∧ b = 22)) → (runP t s L).2 a b = begL L a b := fun a b hk hg1 hg2 => by
    unfold runP
    rw [run_keep hk hg1 hg2]
    exact setN_keep hk 6000 _
  have b78 : P78 (begL L) := fun x hx => by
    obtain ⟨k, k1, k2⟩ := h78 x hx
    exact ⟨k, k1, (begL_at (a := 78) (b := x) (by omega) (by omega) (by omega)).trans k2⟩
  have b85 : P85 (begL L) := fun x hx => by
    rw [begL_at (a := 85) (b := x) (by omega) (by omega) (by omega)]; exact h85 x hx
  refine ⟨?_, P78.run 6000 _ (P78.set 6000 (begS s, begL L) b78), P85.run 6000 _ (P85.set (p := (begS s, begL L)) b85), run_done hT 6000 _ s1 s1.fuel (set_done hT 6000 _ hg.1 hg.2.1 hg.fuel), ?_, ?_, fun i => ?_⟩
  · exact GZ.xrunN hT 6000 _ s1 s1.fuel (GZ.xsetN hT 6000 _ hz.beg)
  · rw [k1 13 14 (by unfold keepL; omega) (by omega) (by omega)]; unfold begL; rw [if_pos (by omega)]
  · rw [k1 13 44 (by unfold keepL; omega) (by omega) (by omega)]; exact begL_at (by omega) (by omega) (by omega)
  · rw [k1 89 i (by unfold keepL; omega) (by omega) (by omega)]; exact begL_at (by omega) (by omega) (by omega)
end
section
variable {P : Nat × (Nat → Int32)} {d : Nat}
theorem j_run (hd : 22 ≤ d) : JNT P d 13 114 [] := by
  obtain ⟨d, rfl⟩ := dge hd
  rintro h ⟨t, s, L, Z, C, rfl, hT, hR, hI⟩
  obtain ⟨a1, a2, a3, a4, a5, a6, a7, a8, ⟨p, c1, c2, c3, c4⟩, a10⟩ := hI
  obtain ⟨m1, m2, m3, m4, m5, m6, m7⟩ := runP_more (t := t) hT a2 a1 a3 a5.2.2 a4
  obtain ⟨g1, g2, g3⟩ := runP_inv (t := t) (s := s) (L := L) hT a2 a3
  refine c_run hT a2 a3 hR (fun j hj => a6 0 j (by omega) hj) a7 (by omega) (fun C1 hF hU h7 h10 h21 => ?_)
  refine m_run hT a2 a3 (by omega) (fun L1 Z1 hL1 => ⟨rfl, t, _, L1, Z1, C1, rfl, hT, ?_, ?_⟩)
  · obtain ⟨b1, b2, b3, b4, b5, b6⟩ := hR
    refine ⟨fun m hm => ?_, fun j hj => ?_, fun j q hj hq => ?_, (hF _ _ _ _ _ (by unfold Wrun; omega)).trans b4, (hF _ _ _ _ _ (by unfold Wrun; omega)).trans b5, fun i hi => (hF _ _ _ _ _ (by unfold Wrun; omega)).trans (b6 i hi)⟩
    · rw [hF 7 2 m 0 0 (by unfold Wrun; omega), hF 7 2 m 0 1 (by unfold Wrun; omega)]; exact b1 m hm
    · rw [hF 8 2 j 0 2 (by unfold Wrun; omega), hF 8 2 j 0 3 (by unfold Wrun; omega), hF 8 2 j 0 4 (by unfold Wrun; omega)]; exact b2 j hj
    · rw [hF 9 2 j q 0 (by unfold Wrun; omega), hF 9 2 j q 1 (by unfold Wrun; omega), hF 9 2 j q 2 (by unfold Wrun; omega)]; exact b3 j q hj hq
  · generalize runP t s L = pr at *
    obtain ⟨l1, l2, l3, l4, l5, l6, l7, l8⟩ := hL1
    have k : ∀ a b, a ≠ 65 → a ≠ 66 → a ≠ 80 → a ≠ 93 → a ≠ 94 → ¬ (a = 13 ∧ (b = 13 ∨ b = 32)) → L1 a b = pr.2 a b := l1
    have n13 : pr.2 13 13 ≠ n32 0 := by rw [g3]; decide
    obtain ⟨gr, gr1, gr2⟩ := g1.2.2.1.resolve_left n13
    obtain ⟨rf, rf1, rf2⟩ := g1.2.1.resolve_left n13
    obtain ⟨_, u1, u2, u3, u4⟩ := hU.2.1 rfl
    refine ⟨m1, g1.1.B, ?_, ?_, ⟨⟨gr, by omega, ?_⟩, ⟨rf, by omega, ?_⟩, ?_⟩, fun o j ho hj => ?_, ?_, ?_, ?_, ?_⟩
    · exact g1.2.2.2.congr (fun x => k 85 x (by decide) (by decide) (by decide) (by decide) (by decide) (by omega)) (k 13 34 (by decide) (by decide) (by decide) (by decide) (by decide) (by omega))
    · intro i hi; rw [k 85 i (by decide) (by decide) (by decide) (by decide) (by decide) (by omega)]; exact m3 i hi
    · rw [k 13 22 (by decide) (by decide) (by decide) (by decide) (by decide) (by omega)]; exact gr1
    · rw [k 13 26 (by decide) (by decide) (by decide) (by decide) (by decide) (by omega)]; exact rf1
    · intro i hi
      obtain ⟨q, q1, q2⟩ := m2 i hi
      exact ⟨q, q1, by rw [k 78 i (by decide) (by decide) (by decide) (by decide) (by decide) (by omega)]; exact q2⟩
    · by_cases h0 : o = 0
      · rw [h0]; exact (hU.1.1.2.1 j hj).1
      · rw [hF 8 o j 0 0 (by unfold Wrun; omega)]; exact a6 o j ho hj
    · refine ⟨hU.2.2.toL (fun a x hh => k a x (by omega) (by omega) (by omega) (by omega) (by omega) (by omega)), ?_, fun i hi => ?_, fun i hi => ?_⟩
      · rw [k 13 26 (by decide) (by decide) (by decide) (by decide) (by decide) (by omega)]; exact u2
      · rw [k 75 i (by decide) (by decide) (by decide) (by decide) (by decide) (by omega), k 76 i (by decide) (by decide) (by decide) (by decide) (by decide) (by omega), k 77 i (by decide) (by decide) (by decide) (by decide) (by decide) (by omega), k 78 i (by decide) (by decide) (by decide) (by decide) (by decide) (by omega)]; exact u3 i hi
      · rw [k 79 i (by decide) (by decide) (by decide) (by decide) (by decide) (by omega)]; exact u4 i hi
    · have k14 := (k 13 14 (by decide) (by decide) (by decide) (by decide) (by decide) (by omega)).trans m5
      refine ⟨t, pr.1, hT, g1.1, hU.1, h7.trans k14.symm, Or.inr ⟨k14, ⟨l3, l4, l5, l6, m4⟩, fun j hj => ?_⟩⟩
      rw [k 67 j (by decide) (by decide) (by decide) (by decide) (by decide) (by omega), k 68 j (by decide) (by decide) (by decide) (by decide) (by decide) (by omega), k 69 j (by decide) (by decide) (by decide) (by decide) (by decide) (by omega), k 70 j (by decide) (by decide) (by decide) (by decide) (by decide) (by omega), k 71 j (by decide) (by decide) (by decide) (by decide) (by decide) (by omega)]
      exact u1 j hj
    · refine ⟨p, c1, ?_, (hF _ _ _ _ _ (by unfold Wrun; omega)).trans c3, fun i hi => ?_⟩
      · rw [k 13 44 (by decide) (by decide) (by decide) (by decide) (by decide) (by omega), m6]; exact c2
      · rw [hF _ _ _ _ _ (by unfold Wrun; omega), k 89 i (by decide) (by decide) (by decide) (by decide) (by decide) (by omega), m7]; exact c4 i hi
    · exact ⟨rwN t pr.1, rwN_le, l7, h10, fun i hi => by rw [h21 i hi, l8 i hi]⟩
end
