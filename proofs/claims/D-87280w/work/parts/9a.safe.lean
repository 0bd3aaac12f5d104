/-! safe shops, in both -/
section
variable {t t' s s' : St}
theorem hadS_congr {k : Nat} (h : ∀ f, f < 18 → s' k f = s k f) : hadS s' k = hadS s k := by
  unfold hadS hasS
  exact bits_congr (fun m hm => by rw [h (8 + m) (by omega), h 5 (by omega)])
theorem left_congr (h : ∀ j f, j < 8 → f < 18 → s' j f = s j f) : leftS s' = leftS s := by
  unfold leftS
  exact bits_congr (fun j hj => by rw [h j 1 hj (by omega)])
theorem frB_rows (h : ∀ j f, j < 8 → f < 18 → s' j f = s j f) : frB t s' = frB t s := by
  funext rem j
  unfold frB
  congr 2
  exact anyB_congr (fun k hk => by rw [hadS_congr (fun f hf => h k f hk hf)])
theorem sfL_congr (h : ∀ j f, j < 8 → f < 18 → s' j f = s j f) : ∀ n rem, sfL t s' n rem = sfL t s n rem ∧ sfR t s' n rem = sfR t s n rem := by
  intro n
  induction n with
  | zero => intro rem; exact ⟨rfl, rfl⟩
  | succ n ih =>
    intro rem
    rw [sfL, sfL, sfR, sfR, frB_rows h]
    cases fst 8 0 (frB t s rem) with
    | none => exact ⟨rfl, rfl⟩
    | some j => simp only; rw [(ih _).1, (ih _).2]; exact ⟨rfl, rfl⟩
theorem safe_congr (h : ∀ j f, j < 8 → f < 18 → s' j f = s j f) : safeS t s' = safeS t s := by
  unfold safeS
  rw [left_congr h, (sfL_congr h 8 _).2]
theorem sfL_len {t s : St} : ∀ n rem, (sfL t s n rem).length ≤ n := by
  intro n
  induction n with
  | zero => intro rem; exact Nat.le_refl _
  | succ n ih =>
    intro rem
    rw [sfL]
    cases fst 8 0 (frB t s rem) with
    | none => exact Nat.zero_le _
    | some j => rw [List.length_cons]; have := ih (nwo rem (2 ^ j)); omega
/-- only the claims differ -/
theorem INV_cl (h57 : ∀ i, t' 57 i = t 57 i) (h58 : ∀ i, t' 58 i = t 58 i) (h59 : ∀ i, t' 59 i = t 59 i) (h60 : ∀ i, t' 60 i = t 60 i) (h : INV t s) : INV t' s := by
  have eo : ∀ j r, opR t' j r = opR t j r := fun j r => by unfold opR; rw [h58]
  have en : ∀ j r, onR t' j r = onR t j r := fun j r => by unfold onR; rw [h59]
  have et : ∀ j r, triR t' j r = triR t j r := fun j r => by unfold triR; rw [eo]
  have ea : ∀ j r, askOK t' j r = askOK t j r := fun j r => by unfold askOK; rw [eo, en]
  obtain ⟨a, b, c, d, e⟩ := h
  refine ⟨fun j hj => ?_, b, ⟨c.1, fun j k hj hk h1 h2 ho he => c.2 j k hj hk h1 h2 ?_ he⟩, d, e⟩
  · obtain ⟨x1, x2, x3, x4, x5, x6⟩ := a j hj
    refine ⟨?_, x2, ?_, x4, x5, ?_⟩
    · unfold JR1 at x1 ⊢; rw [h57]; exact x1
    · unfold JR3 at x3 ⊢; rw [ea, eo, en]; exact x3
    · unfold JR6 at x6 ⊢; rw [et, h60]; exact x6
  · unfold onS at ho ⊢; rw [h59, h59] at ho; exact ho
theorem RC_cl {o : Nat} (h55 : ∀ i, t' 55 i = t 55 i) (h56 : ∀ i, t' 56 i = t 56 i) (h57 : ∀ i, t' 57 i = t 57 i) (h58 : ∀ i, t' 58 i = t 58 i) (h59 : ∀ i, t' 59 i = t 59 i) (h60 : ∀ i, t' 60 i = t 60 i) (h61 : ∀ i, t' 61 i = t 61 i) (h8 : t' 13 8 = t 13 8) {C : nz_f5} (hR : RC o t s C) {C' : nz_f5} (c8 : ∀ j x, x ≠ 4 → C' 8 o j 0 x = C 8 o j 0 x) (c4 : ∀ j, j < 8 → C' 8 o j 0 4 = n32 (t' 62 j)) (c7 : ∀ m x, C' 7 o m 0 x = C 7 o m 0 x) (c9 : ∀ j p x, C' 9 o j p x = C 9 o j p x) (c1 : C' 1 o 0 0 5 = C 1 o 0 0 5) (c35 : ∀ j m, C' 35 o j 0 m = C 35 o j 0 m) (c28 : ∀ m, C' 28 o 0 0 m = C 28 o 0 0 m) (c97 : ∀ m k, C' 97 o m 0 k = C 97 o m 0 k) : RC o t' s C' := by
  obtain ⟨⟨a1, a2, a3, a4⟩, b, c⟩ := hR
  have eo : ∀ j, opS t' s j = opS t s j := fun j => by unfold opS; rw [h58]
  have en : ∀ j, onS t' s j = onS t s j := fun j => by unfold onS; rw [h59]
  have el : ∀ j, atlS t' s j = atlS t s j := fun j => by unfold atlS; rw [eo]
  have ek : ∀ j, askS t' s j = askS t s j := fun j => by unfold askS onlyS; rw [eo, en]
  refine ⟨⟨fun m hm => ?_, fun j hj => ?_, fun j p hj hp => ?_, by rw [c1, h8]; exact a4⟩, fun j hj => ?_, fun m hm => ?_⟩
  · rw [c7, c7, h55, h56]; exact a1 m hm
  · rw [c8 j 0 (by decide), c8 j 2 (by decide), c8 j 3 (by decide), c4 j hj, h57, h61]; exact ⟨(a2 j hj).1, (a2 j hj).2.1, (a2 j hj).2.2.1, rfl⟩
  · rw [h57] at hp
    unfold mchS
    rw [c9, c9, c9, h58, h59, h60]; exact a3 j p hj hp
  · obtain ⟨e1, e2, e3, e4, e5, e6, e7, e8⟩ := b j hj
    unfold RJ
    rw [el, ek, h57]
    refine ⟨by rw [c8 j 6 (by decide)]; exact e1, by rw [c8 j 7 (by decide)]; exact e2, fun m hm => by rw [c35]; exact e3 m hm, by rw [c8 j 12 (by decide), c8 j 13 (by decide)]; exact e4, by rw [c8 j 5 (by decide)]; exact e5, by rw [c8 j 11 (by decide), c8 j 8 (by decide), c8 j 9 (by decide)]; exact e6, by rw [c8 j 10 (by decide)]; exact e7, by rw [c8 j 5 (by decide)]; exact e8⟩
  · obtain ⟨q, ⟨q1, q2⟩, q3, q4⟩ := c m hm
    exact ⟨q, ⟨fun x => by rw [q1 x, en], q2⟩, (c28 m).trans q3, fun k x hx => (c97 m k).trans (q4 k x hx)⟩
theorem slpF_cl (h59 : ∀ i, t' 59 i = t 59 i) {m : Nat} : ∀ n, slpF t' s m n = slpF t s m n := by
  intro n
  induction n with
  | zero => rfl
  | succ n ih =>
    have en : ∀ j, onS t' s j = onS t s j := fun j => by unfold onS; rw [h59]
    rw [slpF, slpF, ih, en]
end
section
variable {P : Nat × (Nat → Int32)} {d : Nat}
theorem LI5.safe {t s s' : St} {L : nz_f2} {C C' : nz_f5} (hT : TV t) (h : LI5 s L C) (hz : GZ s') (hb : ∀ j f, s' j f < 1000000) (c8 : ∀ j x, x ≠ 4 → C' 8 0 j 0 x = C 8 0 j 0 x) (c4 : ∀ j, j < 8 → C' 8 0 j 0 4 = n32 (t 62 j)) (hc : ∀ kd o' k l x, ¬ (o' = 0 ∧ (kd = 8 ∨ kd = 33 ∨ (kd = 1 ∧ x = 11))) → C' kd o' k l x = C kd o' k l x) : LI5 s' L C' := by
  obtain ⟨a1, a2, a3, a4, a5, a6, a7, ⟨t1, s0, b1, b2, b3, b4, b5⟩, ⟨p, c1, c2, c3, c4'⟩, ⟨r, d1, d2, d3, d4⟩⟩ := h
  refine ⟨hz, hb, a3, a4, a5, fun o j ho hj => ?_, a7.off (fun kd x hh => hc _ _ _ _ _ (by omega)), ?_, ⟨p, c1, c2, (hc _ _ _ _ _ (by omega)).trans c3, fun i hi => (hc _ _ _ _ _ (by omega)).trans (c4' i hi)⟩, ⟨r, d1, d2, (hc _ _ _ _ _ (by omega)).trans d3, fun i hi => (hc _ _ _ _ _ (by omega)).trans (d4 i hi)⟩⟩
  · by_cases h0 : o = 0
    · rw [h0, c8 j 0 (by decide)]; exact a6 0 j (by omega) hj
    · rw [hc 8 o j 0 0 (by omega)]; exact a6 o j ho hj
  · have e : ∀ a b, a ≠ 62 → (fun a b => if a = 62 then t 62 b else t1 a b : St) a b = t1 a b := fun a b h => by simp only; rw [if_neg h]
    have e62 : ∀ b, (fun a b => if a = 62 then t 62 b else t1 a b : St) 62 b = t 62 b := fun b => by simp
    generalize (fun a b => if a = 62 then t 62 b else t1 a b : St) = t2 at e e62
    have sl : ∀ m, slpF t2 s0 m 8 = slpF t1 s0 m 8 := fun m => slpF_cl (fun i => e 59 i (by decide)) 8
    have al : ∀ m, asl t2 s0 m = asl t1 s0 m := fun m => by unfold asl onS; simp only [e 59 _ (show (59 : Nat) ≠ 62 by decide)]
    refine ⟨t2, s0, ?_, INV_cl (fun i => e _ _ (by decide)) (fun i => e _ _ (by decide)) (fun i => e _ _ (by decide)) (fun i => e _ _ (by decide)) b2, ?_, (hc _ _ _ _ _ (by omega)).trans b4, ?_⟩
    · obtain ⟨x1, x2, x3, x4, x5, x6, x7, x8, x9, x10, x11, x12, x13⟩ := b1
      exact ⟨fun m => by rw [e _ _ (by decide)]; exact x1 m, fun m => by rw [e _ _ (by decide)]; exact x2 m, fun m => by rw [e _ _ (by decide)]; exact x3 m, fun m => by rw [e _ _ (by decide)]; exact x4 m, fun m => by rw [e _ _ (by decide)]; exact x5 m, fun m => by rw [e _ _ (by decide), e _ _ (by decide)]; exact x6 m, fun m => by rw [e _ _ (by decide), e _ _ (by decide)]; exact x7 m, fun m => by rw [e _ _ (by decide)]; exact x8 m, fun m => by rw [e62]; exact hT.2.2.2.2.2.2.2.2.1 m, by rw [e _ _ (by decide)]; exact x10, fun m => by rw [e _ _ (by decide)]; exact x11 m, by rw [e _ _ (by decide)]; exact x12, fun m => by rw [e _ _ (by decide), e _ _ (by decide)]; exact x13 m⟩
    · exact RC_cl (fun i => e _ _ (by decide)) (fun i => e _ _ (by decide)) (fun i => e _ _ (by decide)) (fun i => e _ _ (by decide)) (fun i => e _ _ (by decide)) (fun i => e _ _ (by decide)) (fun i => e _ _ (by decide)) (e _ _ (by decide)) b3 c8 (fun j hj => by rw [e62]; exact c4 j hj) (fun m x => hc _ _ _ _ _ (by omega)) (fun j p x => hc _ _ _ _ _ (by omega)) (hc _ _ _ _ _ (by omega)) (fun j m => hc _ _ _ _ _ (by omega)) (fun m => hc _ _ _ _ _ (by omega)) (fun m k => hc _ _ _ _ _ (by omega))
    · rcases b5 with b5 | ⟨x1, ⟨y1, y2, y3, y4, y5⟩, x3⟩
      · exact Or.inl b5
      · refine Or.inr ⟨x1, ⟨fun b hb => by rw [e _ _ (by decide)]; exact y1 b hb, y2, fun m hm => by rw [sl]; exact y3 m hm, fun m hm => by rw [al]; exact y4 m hm, y5⟩, fun j hj => ?_⟩
        rw [c8 j 16 (by decide), c8 j 17 (by decide), c8 j 18 (by decide), c8 j 19 (by decide), c8 j 20 (by decide), c8 j 14 (by decide)]
        exact x3 j hj
/-- the system's answer, the reference's answer -/
theorem c_isSafe27 {t s : St} {L Z : nz_f2} {C : nz_f5} (hT : TV t) (hR : RTold t C) (hI : LI5 s L C) (hd : 8 ≤ d) {Q : Int32 → nz_h → Prop}
    (hq : ∀ t1 s0 C', INV t1 s0 → (L 13 14 = n32 0 ∧ s0 = z0 ∨ L 13 14 = n32 1 ∧ ∀ b, b < 144 → L 65 b = n32 (s0 (b / 18) (b % 18))) → ordC 0 (sfL t s0 8 (leftS s0)) C' → (∀ s', GZ s' → (∀ j f, s' j f < 1000000) → LI5 s' L C') → RTold t C' → Q (b2i (safeS t s0)) (rowf t, rowf s, L, Z, C')) : ctI P d 27 [vr (0, 0, 0, 0)] (rowf t, rowf s, L, Z, C) Q := by
  obtain ⟨d, rfl⟩ := dge hd
  obtain ⟨t1, s0, b1, b2, b3, b4, b5⟩ := hI.2.2.2.2.2.2.2.1
  refine sm27 ?_
  have loop : ∀ r j, r + j = 8 → ∀ C1, (∀ k x, x ≠ 4 → C1 8 0 k 0 x = C 8 0 k 0 x) → (∀ k, k < j → C1 8 0 k 0 4 = n32 (t 62 k)) → (∀ kd o' k l x, ¬ (o' = 0 ∧ kd = 8) → C1 kd o' k l x = C kd o' k l x) → nzW P (d + 7) az_k27 2 [some (vr (0, 0, 0, 0)), some (vi (n32 j))] [] (rowf t, rowf s, L, Z, C1) (nz_RI Q) := by
    intro r
    induction r with
    | zero =>
      intro j hj C1 c8 c4 hc
      obtain rfl : j = 8 := by omega
      have hv0 := b3.hv b2
      have hV : HV 0 t s0 C1 := fun j hj => by
        obtain ⟨v1, v2, v3, v4, v5, v6⟩ := hv0 j hj
        exact ⟨(c8 j 0 (by decide)).trans v1, (c8 j 6 (by decide)).trans v2, (c8 j 7 (by decide)).trans v3, fun m hm => (hc _ _ _ _ _ (by omega)).trans (v4 m hm), c4 j hj, v6⟩
      refine sg27_2 ?_
      simp (disch := omega) only [decide_eq_true_eq, decide_eq_false_iff_not, L32, az01, b2i_01, b2i_n0, b2i_n1, Bool.and_true, true_and, and_true, Classical.not_not, Bool.not_eq_true, Bool.not_eq_false, n32_mul, n32_add, n32_ix, n32_ib, n32_lt, n32_le, n32_inj, l_hb, l_hb0, l_shl, l_wo, l_eqm1, l_m1eq]
      refine ⟨fun _ => ?_, fun hc => by omega⟩
      refine v_isSafe hT b2.B hV (by omega) (fun C2 hF ho => ?_)
      simp only [decide_eq_true_eq, decide_eq_false_iff_not, L32, az01, b2i_01, b2i_n0, b2i_n1, Bool.and_true, true_and, and_true, Classical.not_not, Bool.not_eq_true, Bool.not_eq_false]
      have f8 : ∀ k x, C2 8 0 k 0 x = C1 8 0 k 0 x := fun k x => hF _ _ _ _ _ (by unfold Wsafe; omega)
      refine hq t1 s0 C2 b2 ?_ ho (fun s' hz hb => hI.safe hT hz hb (fun j x hx => (f8 j x).trans (c8 j x hx)) (fun j hj => (f8 j 4).trans (c4 j hj)) (fun kd o' k l x hh => (hF _ _ _ _ _ (by unfold Wsafe; omega)).trans (hc _ _ _ _ _ (by omega)))) ?_
      · rcases b5 with ⟨x1, x2, _⟩ | ⟨x1, x2, _⟩
        · exact Or.inl ⟨x1, x2⟩
        · exact Or.inr ⟨x1, x2.2.1⟩
      · exact hR.f2 (fun kd k l x => (hF _ _ _ _ _ (by unfold Wsafe; omega)).trans (hc _ _ _ _ _ (by omega))) ((hF _ _ _ _ _ (by unfold Wsafe; omega)).trans (hc _ _ _ _ _ (by omega))) ((hF _ _ _ _ _ (by unfold Wsafe; omega)).trans (hc _ _ _ _ _ (by omega))) (fun x => (hF _ _ _ _ _ (by unfold Wsafe; omega)).trans (hc _ _ _ _ _ (by omega)))
    | succ r ih =>
      intro j hj C1 c8 c4 hc
      have hj8 : j < 8 := by omega
      have e4 : C1 8 2 j 0 4 = n32 (t 62 j) := (hc _ _ _ _ _ (by omega)).trans (hR.2.1 j hj8).2.2
      refine sg27_2 ?_
      simp (disch := omega) only [decide_eq_true_eq, decide_eq_false_iff_not, L32, az01, b2i_01, b2i_n0, b2i_n1, Bool.and_true, true_and, and_true, Classical.not_not, Bool.not_eq_true, Bool.not_eq_false, n32_mul, n32_add, n32_ix, n32_ib, n32_lt, n32_le, n32_inj, l_hb, l_hb0, l_shl, l_wo, l_eqm1, l_m1eq, uC_row, e4]
      refine ⟨fun hc => by omega, fun _ => ⟨hj8, hj8, ?_⟩⟩
      refine ih (j + 1) (by omega) _ (fun k x hx => by rw [u5_x hx]; exact c8 k x hx) (fun k hk => ?_) (fun kd o' k l x hh => by unfold nz_u5; rw [if_neg (by omega)]; exact hc kd o' k l x hh)
      by_cases hkj : k = j
      · rw [hkj, u5_eq]
      · rw [u5_c hkj]; exact c4 k (by omega)
  exact loop 8 0 rfl C (fun _ _ _ => rfl) (fun k hk => by omega) (fun _ _ _ _ _ _ => rfl)
def bhP (s0 s : St) (k : Nat) : St := fun j f => if f < 18 ∧ 18 * j + f < k then s0 j f else s j f
theorem m_safeB {t s t1 s0 : St} {L Z : nz_f2} {C : nz_f5} (hT : TV t) (hI0 : INV t1 s0) (hz : GZ s) (hb : ∀ j f, s j f < 1000000) (hrun : L 13 14 = n32 0 ∧ s0 = z0 ∨ L 13 14 = n32 1 ∧ ∀ b, b < 144 → L 65 b = n32 (s0 (b / 18) (b % 18))) (hd : 8 ≤ d) {Q : Int32 → nz_h → Prop}
    (hq : ∀ s' Z', GZ s' → (∀ j f, s' j f < 1000000) → ordZ (sfL t s0 8 (leftS s0)) Z Z' → Q (b2i (safeS t s0)) (rowf t, rowf s', L, Z', C)) : ctI P d 171 [mO] (rowf t, rowf s, L, Z, C) Q := by
  obtain ⟨d, rfl⟩ := dge hd
  refine sm171 ?_
  rcases hrun with ⟨h1, h2⟩ | ⟨h1, h2⟩
  · subst h2
    simp (disch := omega) only [decide_eq_true_eq, decide_eq_false_iff_not, L32, az01, b2i_01, b2i_n0, b2i_n1, Bool.and_true, true_and, and_true, Classical.not_not, Bool.not_eq_true, Bool.not_eq_false, n32_mul, n32_add, n32_ix, n32_ib, n32_lt, n32_le, n32_inj, l_hb, l_hb0, l_shl, l_wo, l_eqm1, l_m1eq, h1, m_begin, beg_z0 hz]
    refine ⟨fun _ => ?_, fun hc => (hc trivial).elim⟩
    refine m_isSafe (fun _ _ => by show 0 < 1000000; omega) hT (by omega) (fun Z1 ho => ?_)
    simp only [decide_eq_true_eq, decide_eq_false_iff_not, L32, az01, b2i_01, b2i_n0, b2i_n1, Bool.and_true, true_and, and_true, Classical.not_not, Bool.not_eq_true, Bool.not_eq_false]
    exact hq z0 Z1 z0_GZ (fun _ _ => by show 0 < 1000000; omega) ho
  · simp (disch := omega) only [decide_eq_true_eq, decide_eq_false_iff_not, L32, az01, b2i_01, b2i_n0, b2i_n1, Bool.and_true, true_and, and_true, Classical.not_not, Bool.not_eq_true, Bool.not_eq_false, n32_mul, n32_add, n32_ix, n32_ib, n32_lt, n32_le, n32_inj, l_hb, l_hb0, l_shl, l_wo, l_eqm1, l_m1eq, h1]
    refine ⟨fun hc => by omega, fun _ => ?_⟩
    have loop : ∀ r k, r + k = 144 → nzW P (d + 7) az_k171 9 [some mO, some (vi (n32 k))] [] (rowf t, rowf (bhP s0 s k), L, Z, C) (nz_RI Q) := by
      intro r
      induction r with
      | zero =>
        intro k hk
        obtain rfl : k = 144 := by omega
        have er : ∀ j f, j < 8 → f < 18 → bhP s0 s 144 j f = s0 j f := fun j f hj hf => by unfold bhP; rw [if_pos (by omega)]
        have bb : ∀ j f, bhP s0 s 144 j f < 1000000 := fun j f => by unfold bhP; split
                                                                     · exact hI0.B j f
                                                                     · exact hb j f
        have bz : GZ (bhP s0 s 144) := fun a f x1 x2 => by unfold bhP; rw [if_neg (by omega)]; exact hz a f x1 x2
        refine sg171_9 ?_
        simp (disch := omega) only [decide_eq_true_eq, decide_eq_false_iff_not, L32, az01, b2i_01, b2i_n0, b2i_n1, Bool.and_true, true_and, and_true, Classical.not_not, Bool.not_eq_true, Bool.not_eq_false, n32_mul, n32_add, n32_ix, n32_ib, n32_lt, n32_le, n32_inj, l_hb, l_hb0, l_shl, l_wo, l_eqm1, l_m1eq]
        refine ⟨fun _ => ?_, fun hc => by omega⟩
        refine m_isSafe bb hT (by omega) (fun Z1 ho => ?_)
        rw [left_congr er, (sfL_congr er 8 _).1] at ho
        rw [safe_congr er]
        simp only [decide_eq_true_eq, decide_eq_false_iff_not, L32, az01, b2i_01, b2i_n0, b2i_n1, Bool.and_true, true_and, and_true, Classical.not_not, Bool.not_eq_true, Bool.not_eq_false]
        exact hq _ Z1 bz bb ho
      | succ r ih =>
        intro k hk
        have e := h2 k (by omega)
        have eu : up (bhP s0 s k) (k / 18) (k % 18) (s0 (k / 18) (k % 18)) = bhP s0 s (k + 1) := by
          funext j f
          unfold up bhP
          by_cases h : j = k / 18 ∧ f = k % 18
          · rw [if_pos h, if_pos (by omega), h.1, h.2]
          · rw [if_neg h]
            by_cases h2 : f < 18 ∧ 18 * j + f < k
            · rw [if_pos h2, if_pos (by omega)]
            · rw [if_neg h2, if_neg (by omega)]
        refine sg171_9 ?_
        simp (disch := omega) only [decide_eq_true_eq, decide_eq_false_iff_not, L32, az01, b2i_01, b2i_n0, b2i_n1, Bool.and_true, true_and, and_true, Classical.not_not, Bool.not_eq_true, Bool.not_eq_false, n32_mul, n32_add, n32_ix, n32_ib, n32_lt, n32_le, n32_inj, l_hb, l_hb0, l_shl, l_wo, l_eqm1, l_m1eq, e, uS_row, eu]
        exact ⟨fun hc => by omega, fun _ => ⟨by omega, by omega, ih (k + 1) (by omega)⟩⟩
    have := loop 144 0 rfl
    have e : bhP s0 s 0 = s := by funext j f; unfold bhP; rw [if_neg (by omega)]
    rw [e] at this
    exact this
theorem j_safe (hd : 9 ≤ d) : JNT P d 26 170 [] := by
  obtain ⟨d, rfl⟩ := dge hd
  rintro h ⟨t, s, L, Z, C, rfl, hT, hR, hI⟩
  refine sm26 ?_
  refine c_isSafe27 hT hR hI (by omega) (fun t1 s0 C1 hI0 hrun ho hL hR1 => ?_)
  have fin : ctI P (d + 9) 170 [mO] (rowf t, rowf s, L, Z, C1) (fun y2 h2 => b2i (safeS t s0) = y2 ∧ LAWI h2) := by
    refine sm170 ?_
    refine m_safeB hT hI0 hI.1 hI.2.1 hrun (by omega) (fun s' Z' hz hb _ => ?_)
    have k : LAWI (rowf t, rowf s', L, Z', C1) := ⟨t, s', L, Z', C1, rfl, hT, hR1, hL s' hz hb⟩
    simp (disch := omega) only [decide_eq_true_eq, decide_eq_false_iff_not, L32, az01, b2i_01, b2i_n0, b2i_n1, Bool.and_true, true_and, and_true, Classical.not_not, Bool.not_eq_true, Bool.not_eq_false, n32_mul, n32_add, n32_ix, n32_ib, n32_lt, n32_le, n32_inj, l_hb, l_hb0, l_shl, l_wo, l_eqm1, l_m1eq]
    refine ⟨fun hs => ⟨by rw [hs]; try rfl, k⟩, fun hs => ⟨by rw [hs]; try rfl, k⟩⟩
  simp (disch := omega) only [decide_eq_true_eq, decide_eq_false_iff_not, L32, az01, b2i_01, b2i_n0, b2i_n1, Bool.and_true, true_and, and_true, Classical.not_not, Bool.not_eq_true, Bool.not_eq_false, n32_mul, n32_add, n32_ix, n32_ib, n32_lt, n32_le, n32_inj, l_hb, l_hb0, l_shl, l_wo, l_eqm1, l_m1eq]
  refine ⟨fun hs => ?_, fun hs => ?_⟩
  · rw [hs] at fin; exact fin
  · rw [hs] at fin; exact fin
theorem j_before {x1 : Int32} (hd : 9 ≤ d) : JNT P d 28 172 [vi x1] := by
  obtain ⟨d, rfl⟩ := dge hd
  rintro h ⟨t, s, L, Z, C, rfl, hT, hR, hI⟩
  refine sm28 ?_
  refine c_isSafe27 hT hR hI (by omega) (fun t1 s0 C1 hI0 hrun ho hL hR1 => ?_)
  have l8 := sfL_len (t := t) (s := s0) 8 (leftS s0)
  have ci := c_in1 (P := P) (d := d + 8) (h := (rowf t, rowf s, L, Z, C1)) (x := x1) (n := (sfL t s0 8 (leftS s0)).length) (by omega) (by omega)
  have mk : ∀ (Q : Int32 → nz_h → Prop), (∀ s' Z', LAWI (rowf t, rowf s', L, Z', C1) → ordZ (sfL t s0 8 (leftS s0)) Z Z' → (decide (b2i (safeS t s0) = 0) = true → Q (-1) (rowf t, rowf s', L, Z', C1)) ∧ (decide (b2i (safeS t s0) = 0) = false → ctI P (d + 8) 106 [vi x1, vi (Z' 13 48)] (rowf t, rowf s', L, Z', C1) (fun y2 h2 => (decide (y2 = 0) = true → Q (-1) h2) ∧ (decide (y2 = 0) = false → nz_ib x1 8 = true ∧ Q (h2.2.2.2.1 91 (nz_ix x1)) h2)))) → ctI P (d + 9) 172 [mO, vi x1] (rowf t, rowf s, L, Z, C1) Q := fun Q hq => sm172 (m_safeB hT hI0 hI.1 hI.2.1 hrun (by omega) (fun s' Z' hz hb hz91 => hq s' Z' ⟨t, s', L, Z', C1, rfl, hT, hR1, hL s' hz hb⟩ hz91))
  simp (disch := omega) only [decide_eq_true_eq, decide_eq_false_iff_not, L32, az01, b2i_01, b2i_n0, b2i_n1, Bool.and_true, true_and, and_true, Classical.not_not, Bool.not_eq_true, Bool.not_eq_false, ho.1, ci]
  refine ⟨fun hs => mk _ (fun s' Z' hk hz91 => ?_), fun hs => ⟨fun h1 => mk _ (fun s' Z' hk hz91 => ?_), fun h1 => ?_⟩⟩
  · simp (disch := omega) only [decide_eq_true_eq, decide_eq_false_iff_not, L32, az01, b2i_01, b2i_n0, b2i_n1, Bool.and_true, true_and, and_true, Classical.not_not, Bool.not_eq_true, Bool.not_eq_false, n32_mul, n32_add, n32_ix, n32_ib, n32_lt, n32_le, n32_inj, l_hb, l_hb0, l_shl, l_wo, l_eqm1, l_m1eq, hs]
    exact ⟨fun _ => hk, fun hc => (hc trivial).elim⟩
  · simp (disch := omega) only [decide_eq_true_eq, decide_eq_false_iff_not, L32, az01, b2i_01, b2i_n0, b2i_n1, Bool.and_true, true_and, and_true, Classical.not_not, Bool.not_eq_true, Bool.not_eq_false, n32_mul, n32_add, n32_ix, n32_ib, n32_lt, n32_le, n32_inj, l_hb, l_hb0, l_shl, l_wo, l_eqm1, l_m1eq, hs, hz91.1, m_in, h1]
    exact ⟨fun _ => hk, fun _ => ⟨fun _ => hk, fun hc => (hc trivial).elim⟩⟩
  · obtain ⟨k, hk, rfl⟩ := inB_T (by omega) h1
    have hx : (sfL t s0 8 (leftS s0))[k]? = some (sfL t s0 8 (leftS s0))[k] := List.getElem?_eq_getElem hk
    have e33 := ho.2 k _ hx
    simp (disch := omega) only [n32_mul, n32_add, n32_ix, n32_ib, n32_lt, n32_le, n32_inj, l_hb, l_hb0, l_shl, l_wo, l_eqm1, l_m1eq, e33]
    refine ⟨decide_eq_true (by omega), mk _ (fun s' Z' hk2 hz91 => ?_)⟩
    have e91 := hz91.2.1 k _ hx
    simp (disch := omega) only [decide_eq_true_eq, decide_eq_false_iff_not, L32, az01, b2i_01, b2i_n0, b2i_n1, Bool.and_true, true_and, and_true, Classical.not_not, Bool.not_eq_true, Bool.not_eq_false, n32_mul, n32_add, n32_ix, n32_ib, n32_lt, n32_le, n32_inj, l_hb, l_hb0, l_shl, l_wo, l_eqm1, l_m1eq, hs, hz91.1, m_in, h1, e91]
    exact ⟨fun hc => (by cases hc), fun _ => ⟨fun hc => (by cases hc), fun _ => ⟨by omega, hk2⟩⟩⟩
end
