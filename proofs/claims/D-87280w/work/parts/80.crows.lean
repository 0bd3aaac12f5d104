/-! the system's rows: lays, comes -/
theorem n32_div9 {a : Nat} (h : a < 2147483648) : n32 a / n32 9 = n32 (a / 9) := (Int32.ofNat_div h (by decide)).symm
theorem n32_shr1 : ∀ a, a < 2048 → (n32 a >>> (n32 1 &&& n32 31)) = n32 (a / 2) := by decide +kernel
theorem and16 : ∀ v, v < 16 → (v &&& 3) = v % 4 ∧ ((v &&& 4) = 0 ↔ v / 4 % 2 = 0) ∧ ((v &&& 8) = 0 ↔ v / 8 = 0) := by decide
def F51 (i : Nat) (C C' : nz_f5) : Prop := ∀ kd o' k l x, ¬ (o' = 0 ∧ kd = 51 ∧ 138 * i ≤ x ∧ x < 138 * i + 138) → C' kd o' k l x = C kd o' k l x
theorem F51.up {i x : Nat} {C C' : nz_f5} {v : Int32} (h : F51 i C C') (hx : 138 * i ≤ x ∧ x < 138 * i + 138) : F51 i C (nz_u5 C' 51 0 0 0 x v) := fun kd o' k l y hh => by
  unfold nz_u5
  by_cases hc : kd = 51 ∧ o' = 0 ∧ k = 0 ∧ l = 0 ∧ y = x
  · exfalso; apply hh; rw [hc.1, hc.2.1, hc.2.2.2.2]; exact ⟨rfl, rfl, hx.1, hx.2⟩
  · rw [if_neg hc]; exact h kd o' k l y hh
section
variable {P : Nat × (Nat → Int32)} {d o : Nat} {t s : St} {T S L Z : nz_f2} {C : nz_f5} {j : Nat}
def LG (t s : St) (C : nz_f5) (i j y : Nat) : Prop := ∀ k z, (k < j ∧ z < 16) ∨ (k = j ∧ z < y) → C 51 0 0 0 (138 * i + (16 * k + z)) = n32 (rowJ t s k z)
theorem LG.put {C1 : nz_f5} {i y : Nat} {v : Int32} (h : LG t s C1 i j y) (hv : v = n32 (rowJ t s j y)) (hy : y < 16) : LG t s (nz_u5 C1 51 0 0 0 (138 * i + 16 * j + y) v) i j (y + 1) := fun k z hk => by
  rw [u5_at]
  by_cases hz : k = j ∧ z = y
  · rw [hz.1, hz.2, if_pos (by omega), hv]
  · rw [if_neg (by omega)]; exact h k z (by omega)
theorem rc_tk {s : St} (h : ∀ j, j < 8 → s j 1 ≠ 0) : True := trivial
theorem c_lays {i : Nat} (hT : TV t) (hI : INV t s) (h0 : ∀ j, j < 8 → s j 1 ≠ 0) (hR : RC 1 t s C) (hi : i ≤ 400) (hd : 5 ≤ d) {Q : nz_h → Prop}
    (hq : ∀ C', F51 i C C' → CR t (kF t s) C' i → Q (T, S, L, Z, C')) : ctV P d 59 [sO 1, vr (51, 0, 0, 0), vi (n32 (i * 138))] (T, S, L, Z, C) Q := by
  obtain ⟨d, rfl⟩ := dge hd
  have hB := hI.B
  rw [Nat.mul_comm i 138]
  refine sm59_r51 ?_
  have rc : ∀ C1, F51 i C C1 → RC 1 t s C1 := fun C1 hf => hR.off (fun _ _ => hf _ _ _ _ _ (by omega)) (fun _ _ => hf _ _ _ _ _ (by omega)) (fun _ _ _ => hf _ _ _ _ _ (by omega)) (hf _ _ _ _ _ (by omega)) (fun _ _ => hf _ _ _ _ _ (by omega)) (fun _ => hf _ _ _ _ _ (by omega)) (fun _ _ => hf _ _ _ _ _ (by omega))
  have l273 : ∀ r m, r + m = 10 → ∀ C1, F51 i C C1 → LG t s C1 i 8 0 → (∀ y, y < m → ∃ q, QL t s y q ∧ C1 51 0 0 0 (138 * i + (128 + y)) = n32 (vq q)) → ∀ l4 l5 l6 l7 l8 l9, nzW P (d + 4) az_k59 273 [some (sO 1), some (vr (51, 0, 0, 0)), some (vi (n32 (138 * i))), some (vi (n32 m)), l4, l5, l6, l7, l8, l9] [] (T, S, L, Z, C1) (nz_RV Q) := by
    intro r
    induction r with
    | zero =>
      intro m hm C1 hF hG hl l4 l5 l6 l7 l8 l9
      obtain rfl : m = 10 := by omega
      refine sg59_273_r51 ?_
      simp (disch := omega) only [decide_eq_true_eq, decide_eq_false_iff_not, L32, az01, b2i_01, b2i_n0, b2i_n1, Bool.and_true, true_and, and_true, Classical.not_not, Bool.not_eq_true, Bool.not_eq_false, n32_mul, n32_add, n32_ix, n32_ib, n32_lt, n32_le, n32_inj, l_hb, l_hb0, l_shl, l_wo, l_eqm1, l_m1eq]
      refine ⟨fun _ => hq C1 hF ⟨fun j y hj hy => ?_, fun m hm => ?_⟩, fun hc => by omega⟩
      · rw [rowJ_kF hy]; exact hG j y (Or.inl ⟨hj, hy⟩)
      · obtain ⟨q, q1, q2⟩ := hl m hm
        exact ⟨q, QL_kF q1, q2⟩
    | succ r ih =>
      intro m hm C1 hF hG hl l4 l5 l6 l7 l8 l9
      have hm10 : m < 10 := by omega
      obtain ⟨q, q1, q2, q3⟩ := (rc C1 hF).2.2 m hm10
      have q8 := QL_len q1
      have hx8 : ∀ x, x ∈ q → x < 8 := fun x hx => ((q1.1 x).1 hx).1
      have l285 : ∀ r2 k, r2 + k = q.length → ∀ l6 l7 l8 l9, nzW P (d + 4) az_k59 285 [some (sO 1), some (vr (51, 0, 0, 0)), some (vi (n32 (138 * i))), some (vi (n32 m)), some (vi (n32 (vq (q.take k)))), some (vi (n32 k)), l6, l7, l8, l9] [] (T, S, L, Z, C1) (nz_RV Q) := by
        intro r2
        induction r2 with
        | zero =>
          intro k hk l6 l7 l8 l9
          obtain rfl : k = q.length := by omega
          refine sg59_285_r51 ?_
          simp (disch := omega) only [decide_eq_true_eq, decide_eq_false_iff_not, L32, az01, b2i_01, b2i_n0, b2i_n1, Bool.and_true, true_and, and_true, Classical.not_not, Bool.not_eq_true, Bool.not_eq_false, n32_mul, n32_add, n32_ix, n32_ib, n32_lt, n32_le, n32_inj, l_hb, l_hb0, l_shl, l_wo, l_eqm1, l_m1eq, q2, uC_row]
          refine ⟨hm10, fun _ => ⟨by omega, ?_⟩, fun hc => by omega⟩
          rw [List.take_length]
          refine ih (m + 1) (by omega) _ (hF.up (by omega)) (fun k z hk => ?_) (fun y hy => ?_) _ _ _ _ _ _
          · rw [u5_at, if_neg (by omega)]; exact hG k z hk
          · by_cases hym : y = m
            · subst hym
              exact ⟨q, q1, by rw [u5_at, if_pos (by omega)]⟩
            · obtain ⟨p, p1, p2⟩ := hl y (by omega)
              exact ⟨p, p1, by rw [u5_at, if_neg (by omega)]; exact p2⟩
        | succ r2 ihr =>
          intro k hk l6 l7 l8 l9
          have hkl : k < q.length := by omega
          have hk' : q[k]? = some q[k] := List.getElem?_eq_getElem hkl
          have e97 := q3 k _ hk'
          have := ihr (k + 1) (by omega) l6 l7 l8 l9
          rw [vq_take hk'] at this
          have lq := vq_lt (q := q.take k) (fun x hx => hx8 x (List.mem_of_mem_take hx)) (by rw [List.length_take]; omega)
          refine sg59_285_r51 ?_
          simp (disch := omega) only [decide_eq_true_eq, decide_eq_false_iff_not, L32, az01, b2i_01, b2i_n0, b2i_n1, Bool.and_true, true_and, and_true, Classical.not_not, Bool.not_eq_true, Bool.not_eq_false, n32_mul, n32_add, n32_ix, n32_ib, n32_lt, n32_le, n32_inj, l_hb, l_hb0, l_shl, l_wo, l_eqm1, l_m1eq, q2, e97]
          refine ⟨hm10, fun hc => by omega, fun _ => ⟨hm10, by omega, ?_⟩⟩
          rw [Nat.mul_comm (vq (q.take k)) 9]
          exact this
      refine sg59_273_r51 ?_
      simp (disch := omega) only [decide_eq_true_eq, decide_eq_false_iff_not, L32, az01, b2i_01, b2i_n0, b2i_n1, Bool.and_true, true_and, and_true, Classical.not_not, Bool.not_eq_true, Bool.not_eq_false, n32_mul, n32_add, n32_ix, n32_ib, n32_lt, n32_le, n32_inj, l_hb, l_hb0, l_shl, l_wo, l_eqm1, l_m1eq]
      refine ⟨fun hc => by omega, fun _ => ?_⟩
      exact l285 q.length 0 (by omega) _ _ _ _
  have l12 : ∀ r j, r + j = 8 → ∀ C1, F51 i C C1 → LG t s C1 i j 0 → ∀ l6 l7 l8 l9, nzW P (d + 4) az_k59 12 [some (sO 1), some (vr (51, 0, 0, 0)), some (vi (n32 (138 * i))), some (vr (26, 1, 0, 0)), some (vi (n32 8)), some (vi (n32 j)), l6, l7, l8, l9] [] (T, S, L, Z, C1) (nz_RV Q) := by
    intro r
    induction r with
    | zero =>
      intro j hj C1 hF hG l6 l7 l8 l9
      obtain rfl : j = 8 := by omega
      refine sg59_12_r51 ?_
      simp (disch := omega) only [decide_eq_true_eq, decide_eq_false_iff_not, L32, az01, b2i_01, b2i_n0, b2i_n1, Bool.and_true, true_and, and_true, Classical.not_not, Bool.not_eq_true, Bool.not_eq_false, n32_mul, n32_add, n32_ix, n32_ib, n32_lt, n32_le, n32_inj, l_hb, l_hb0, l_shl, l_wo, l_eqm1, l_m1eq]
      exact ⟨fun _ => l273 10 0 rfl C1 hF hG (fun y hy => by omega) _ _ _ _ _ _, fun hc => by omega⟩
    | succ r ih =>
      intro j hj C1 hF hG l6 l7 l8 l9
      have hj8 : j < 8 := by omega
      have hJ := hI.J hj8
      obtain ⟨e6, e7, e35, e12, e5, e11, e10, e0⟩ := hR.2.1 j hj8
      have en := (hR.1.2.1 j hj8).1
      have rd : ∀ C2, F51 i C C2 → (∀ x, C2 8 1 j 0 x = C 8 1 j 0 x) ∧ (∀ m, C2 35 1 j 0 m = C 35 1 j 0 m) := fun C2 hf => ⟨fun x => hf _ _ _ _ _ (by omega), fun m => hf _ _ _ _ _ (by omega)⟩
      have s1 := hB j 1
      have l234 : ∀ g : Option nz_V, ∀ r2 m, r2 + m = 10 → ∀ C2, F51 i C C2 → LG t s C2 i j (6 + m) → nzW P (d + 4) az_k59 234 [some (sO 1), some (vr (51, 0, 0, 0)), some (vi (n32 (138 * i))), some (vr (26, 1, 0, 0)), some (vi (n32 8)), some (vi (n32 j)), some (jO 1 j), some (vi (n32 (138 * i + 16 * j))), g, some (vi (n32 m))] [] (T, S, L, Z, C2) (nz_RV Q) := by
        intro g r2
        induction r2 with
        | zero =>
          intro m hm C2 hF2 hG2
          obtain rfl : m = 10 := by omega
          refine sg59_234_r51 ?_
          simp (disch := omega) only [decide_eq_true_eq, decide_eq_false_iff_not, L32, az01, b2i_01, b2i_n0, b2i_n1, Bool.and_true, true_and, and_true, Classical.not_not, Bool.not_eq_true, Bool.not_eq_false, n32_mul, n32_add, n32_ix, n32_ib, n32_lt, n32_le, n32_inj, l_hb, l_hb0, l_shl, l_wo, l_eqm1, l_m1eq]
          refine ⟨fun _ => ih (j + 1) (by omega) C2 hF2 (fun k z hk => hG2 k z (by omega)) _ _ _ _, fun hc => by omega⟩
        | succ r2 ihr =>
          intro m hm C2 hF2 hG2
          have hm10 : m < 10 := by omega
          have hv : n32 (s j (8 + m)) = n32 (rowJ t s j (6 + m)) := by
            unfold rowJ
            by_cases h3 : s j 1 = 3
            · rw [if_pos h3, if_neg (by omega), (hJ.2.2.2.1.1 h3).2 m hm10]
            · rw [if_neg h3, if_neg (by omega), if_neg (by omega), if_neg (by omega), if_neg (by omega), if_neg (by omega), if_neg (by omega), show 2 + (6 + m) = 8 + m by omega]
          refine sg59_234_r51 ?_
          simp (disch := omega) only [decide_eq_true_eq, decide_eq_false_iff_not, L32, az01, b2i_01, b2i_n0, b2i_n1, Bool.and_true, true_and, and_true, Classical.not_not, Bool.not_eq_true, Bool.not_eq_false, n32_mul, n32_add, n32_ix, n32_ib, n32_lt, n32_le, n32_inj, l_hb, l_hb0, l_shl, l_wo, l_eqm1, l_m1eq, (rd C2 hF2).2, e35, uC_row]
          refine ⟨fun hc => by omega, fun _ => ⟨hm10, by omega, ?_⟩⟩
          rw [show 138 * i + 16 * j + 6 + m = 138 * i + 16 * j + (6 + m) by omega]
          exact ihr (m + 1) (by omega) _ (hF2.up (by omega)) (hG2.put hv (by omega))
      have s191 : ∀ (g9 : Option nz_V) C2, F51 i C C2 → LG t s C2 i j 5 → ∀ l8, nzW P (d + 4) az_k59 191 [some (sO 1), some (vr (51, 0, 0, 0)), some (vi (n32 (138 * i))), some (vr (26, 1, 0, 0)), some (vi (n32 8)), some (vi (n32 j)), some (jO 1 j), some (vi (n32 (138 * i + 16 * j))), l8, g9] [] (T, S, L, Z, C2) (nz_RV Q) := fun g9 C2 hF2 hG2 l8 => by
        have go : ∀ v, v = n32 (rowJ t s j 5) → nzW P (d + 4) az_k59 234 [some (sO 1), some (vr (51, 0, 0, 0)), some (vi (n32 (138 * i))), some (vr (26, 1, 0, 0)), some (vi (n32 8)), some (vi (n32 j)), some (jO 1 j), some (vi (n32 (138 * i + 16 * j))), l8, some (vi (n32 0))] [] (T, S, L, Z, nz_u5 C2 51 0 0 0 (138 * i + 16 * j + 5) v) (nz_RV Q) := fun v hv => l234 l8 10 0 rfl _ (hF2.up (by omega)) (hG2.put hv (by omega))
        refine sg59_191_r51 ?_
        by_cases h1 : s j 1 = 1
        · obtain ⟨a11, a8, a9⟩ := e11 h1
          have hA := hI.av hT hj8 (Or.inl h1)
          have hask := askS_lt (hA.askO hT)
          simp (disch := omega) only [decide_eq_true_eq, decide_eq_false_iff_not, L32, az01, b2i_01, b2i_n0, b2i_n1, Bool.and_true, true_and, and_true, Classical.not_not, Bool.not_eq_true, Bool.not_eq_false, n32_mul, n32_add, n32_ix, n32_ib, n32_lt, n32_le, n32_inj, l_hb, l_hb0, l_shl, l_wo, l_eqm1, l_m1eq, (rd C2 hF2).1, e6, a11, a8, uC_row, h1, not_true_eq_false, false_implies, true_and, forall_const, Nat.add_zero]
          refine fun _ => ⟨fun ha => ⟨by omega, go _ ?_⟩, fun ha => ⟨by omega, go _ ?_⟩⟩
          · unfold rowJ
            rw [if_neg (by omega)]
            simp only [show ¬ 5 = 0 by decide, show ¬ 5 = 1 by decide, show ¬ 5 = 2 by decide, show ¬ 5 = 3 by decide, show ¬ 5 = 4 by decide, if_false, if_true]
            rw [if_pos h1, if_neg (by rw [ha]; decide), Nat.add_zero]
          · unfold rowJ
            rw [if_neg (by omega)]
            simp only [show ¬ 5 = 0 by decide, show ¬ 5 = 1 by decide, show ¬ 5 = 2 by decide, show ¬ 5 = 3 by decide, show ¬ 5 = 4 by decide, if_false, if_true]
            rw [if_pos h1, if_pos ha]
        · simp (disch := omega) only [decide_eq_true_eq, decide_eq_false_iff_not, L32, az01, b2i_01, b2i_n0, b2i_n1, Bool.and_true, true_and, and_true, Classical.not_not, Bool.not_eq_true, Bool.not_eq_false, n32_mul, n32_add, n32_ix, n32_ib, n32_lt, n32_le, n32_inj, l_hb, l_hb0, l_shl, l_wo, l_eqm1, l_m1eq, (rd C2 hF2).1, e6, uC_row, h1, not_false_eq_true, forall_const, false_implies, and_true]
          refine ⟨⟨by omega, go _ ?_⟩, fun hc => (hc trivial).elim⟩
          unfold rowJ
          simp only [show ¬ 5 = 0 by decide, show ¬ 5 = 1 by decide, show ¬ 5 = 2 by decide, show ¬ 5 = 3 by decide, show ¬ 5 = 4 by decide, if_false, if_true, if_neg h1]
          split <;> rfl
      have s154 : ∀ (g9 : Option nz_V) C2, F51 i C C2 → LG t s C2 i j 4 → nzW P (d + 4) az_k59 154 [some (sO 1), some (vr (51, 0, 0, 0)), some (vi (n32 (138 * i))), some (vr (26, 1, 0, 0)), some (vi (n32 8)), some (vi (n32 j)), some (jO 1 j), some (vi (n32 (138 * i + 16 * j))), some (vi (b2i (decide (s j 1 = 3)))), g9] [] (T, S, L, Z, C2) (nz_RV Q) := fun g9 C2 hF2 hG2 => by
        have go : ∀ v, v = n32 (rowJ t s j 4) → nzW P (d + 4) az_k59 191 [some (sO 1), some (vr (51, 0, 0, 0)), some (vi (n32 (138 * i))), some (vr (26, 1, 0, 0)), some (vi (n32 8)), some (vi (n32 j)), some (jO 1 j), some (vi (n32 (138 * i + 16 * j))), some (vi (b2i (decide (s j 1 = 3)))), g9] [] (T, S, L, Z, nz_u5 C2 51 0 0 0 (138 * i + 16 * j + 4) v) (nz_RV Q) := fun v hv => s191 g9 _ (hF2.up (by omega)) (hG2.put hv (by omega)) _
        have r4 : s j 1 ≠ 3 → rowJ t s j 4 = s j 4 := fun h3 => by unfold rowJ; rw [if_neg h3]; rfl
        refine sg59_154_r51 ?_
        by_cases h3 : s j 1 = 3
        · have r4' : rowJ t s j 4 = 0 := by unfold rowJ; rw [if_pos h3]; rfl
          simp (disch := omega) only [decide_eq_true_eq, decide_eq_false_iff_not, L32, az01, b2i_01, b2i_n0, b2i_n1, Bool.and_true, true_and, and_true, Classical.not_not, Bool.not_eq_true, Bool.not_eq_false, n32_mul, n32_add, n32_ix, n32_ib, n32_lt, n32_le, n32_inj, l_hb, l_hb0, l_shl, l_wo, l_eqm1, l_m1eq, (rd C2 hF2).1, e6, uC_row]
          refine ⟨fun _ => ⟨by omega, go _ (by rw [r4'])⟩, fun hc => absurd h3 hc⟩
        · have e12' := (e12 h3).1
          simp (disch := omega) only [decide_eq_true_eq, decide_eq_false_iff_not, L32, az01, b2i_01, b2i_n0, b2i_n1, Bool.and_true, true_and, and_true, Classical.not_not, Bool.not_eq_true, Bool.not_eq_false, n32_mul, n32_add, n32_ix, n32_ib, n32_lt, n32_le, n32_inj, l_hb, l_hb0, l_shl, l_wo, l_eqm1, l_m1eq, (rd C2 hF2).1, e6, e12', uC_row]
          refine ⟨fun hc => absurd hc h3, fun _ => ⟨fun h2 => ⟨by omega, go _ ?_⟩, fun h2 => ⟨fun hf => ⟨by omega, go _ ?_⟩, fun hf => ⟨by omega, go _ ?_⟩⟩⟩⟩
          · have h4 := (hJ.2.2.1.2.1 (Or.inl h2)).2.1
            rw [r4 h3]; exact e10 h4
          · have m1 : s j 1 = 1 := by have := hJ.1.1; have := h0 j hj8; omega
            rw [decide_eq_true m1, Bool.true_and, decide_eq_false_iff_not] at hf
            rw [r4 h3, show s j 4 = 0 by omega]
          · rw [Bool.and_eq_true, decide_eq_true_eq, decide_eq_true_eq] at hf
            rw [r4 h3]; exact e10 hf.2
      have s143 : ∀ (g9 : Option nz_V) C2, F51 i C C2 → LG t s C2 i j 3 → nzW P (d + 4) az_k59 143 [some (sO 1), some (vr (51, 0, 0, 0)), some (vi (n32 (138 * i))), some (vr (26, 1, 0, 0)), some (vi (n32 8)), some (vi (n32 j)), some (jO 1 j), some (vi (n32 (138 * i + 16 * j))), some (vi (b2i (decide (s j 1 = 3)))), g9] [] (T, S, L, Z, C2) (nz_RV Q) := fun g9 C2 hF2 hG2 => by
        refine sg59_143_r51 ?_
        simp (disch := omega) only [decide_eq_true_eq, decide_eq_false_iff_not, L32, az01, b2i_01, b2i_n0, b2i_n1, Bool.and_true, true_and, and_true, Classical.not_not, Bool.not_eq_true, Bool.not_eq_false, n32_mul, n32_add, n32_ix, n32_ib, n32_lt, n32_le, n32_inj, l_hb, l_hb0, l_shl, l_wo, l_eqm1, l_m1eq, (rd C2 hF2).1, e7, uC_row]
        refine ⟨by omega, s154 g9 _ (hF2.up (by omega)) (hG2.put ?_ (by omega))⟩
        unfold rowJ
        by_cases h3 : s j 1 = 3
        · rw [if_pos h3, (hJ.2.2.2.1.1 h3).1]; rfl
        · rw [if_neg h3]; rfl
      have s120 : ∀ (g9 : Option nz_V) C2, F51 i C C2 → LG t s C2 i j 2 → nzW P (d + 4) az_k59 120 [some (sO 1), some (vr (51, 0, 0, 0)), some (vi (n32 (138 * i))), some (vr (26, 1, 0, 0)), some (vi (n32 8)), some (vi (n32 j)), some (jO 1 j), some (vi (n32 (138 * i + 16 * j))), some (vi (b2i (decide (s j 1 = 3)))), g9] [] (T, S, L, Z, C2) (nz_RV Q) := fun g9 C2 hF2 hG2 => by
        have go : ∀ v, v = n32 (rowJ t s j 2) → nzW P (d + 4) az_k59 143 [some (sO 1), some (vr (51, 0, 0, 0)), some (vi (n32 (138 * i))), some (vr (26, 1, 0, 0)), some (vi (n32 8)), some (vi (n32 j)), some (jO 1 j), some (vi (n32 (138 * i + 16 * j))), some (vi (b2i (decide (s j 1 = 3)))), g9] [] (T, S, L, Z, nz_u5 C2 51 0 0 0 (138 * i + 16 * j + 2) v) (nz_RV Q) := fun v hv => s143 g9 _ (hF2.up (by omega)) (hG2.put hv (by omega))
        refine sg59_120_r51 ?_
        rw [c_tries (h := (T, S, L, Z, C2)) hT hI (rc C2 hF2) (by omega) hj8]
        simp (disch := omega) only [decide_eq_true_eq, decide_eq_false_iff_not, L32, az01, b2i_01, b2i_n0, b2i_n1, Bool.and_true, true_and, and_true, Classical.not_not, Bool.not_eq_true, Bool.not_eq_false, n32_mul, n32_add, n32_ix, n32_ib, n32_lt, n32_le, n32_inj, l_hb, l_hb0, l_shl, l_wo, l_eqm1, l_m1eq, (rd C2 hF2).1, uC_row]
        refine ⟨fun ht => ⟨by omega, go _ ?_⟩, fun ht => ⟨by omega, go _ ?_⟩⟩
        · have e3 : s j 3 = 0 := hJ.2.2.2.2.2.2.1 ht
          unfold rowJ
          by_cases h3 : s j 1 = 3
          · rw [if_pos h3]; rfl
          · rw [if_neg h3]
            show n32 0 = n32 (s j 3)
            rw [e3]
        · have ht2 := ht
          unfold triS at ht2
          simp only [Bool.and_eq_true, decide_eq_true_eq] at ht2
          have h1 := ht2.1.1
          rw [(e11 h1).2.2]
          unfold rowJ
          rw [if_neg (by omega)]; rfl
      have s71 : ∀ (g9 : Option nz_V) C2, F51 i C C2 → LG t s C2 i j 1 → nzW P (d + 4) az_k59 71 [some (sO 1), some (vr (51, 0, 0, 0)), some (vi (n32 (138 * i))), some (vr (26, 1, 0, 0)), some (vi (n32 8)), some (vi (n32 j)), some (jO 1 j), some (vi (n32 (138 * i + 16 * j))), some (vi (b2i (decide (s j 1 = 3)))), g9] [] (T, S, L, Z, C2) (nz_RV Q) := fun g9 C2 hF2 hG2 => by
        have go : ∀ v, v = n32 (rowJ t s j 1) → nzW P (d + 4) az_k59 120 [some (sO 1), some (vr (51, 0, 0, 0)), some (vi (n32 (138 * i))), some (vr (26, 1, 0, 0)), some (vi (n32 8)), some (vi (n32 j)), some (jO 1 j), some (vi (n32 (138 * i + 16 * j))), some (vi (b2i (decide (s j 1 = 3)))), g9] [] (T, S, L, Z, nz_u5 C2 51 0 0 0 (138 * i + 16 * j + 1) v) (nz_RV Q) := fun v hv => s120 g9 _ (hF2.up (by omega)) (hG2.put hv (by omega))
        refine sg59_71_r51 ?_
        by_cases h3 : s j 1 = 3
        · have r1 : rowJ t s j 1 = 3 := by unfold rowJ; rw [if_pos h3]; rfl
          simp (disch := omega) only [decide_eq_true_eq, decide_eq_false_iff_not, L32, az01, b2i_01, b2i_n0, b2i_n1, Bool.and_true, true_and, and_true, Classical.not_not, Bool.not_eq_true, Bool.not_eq_false, n32_mul, n32_add, n32_ix, n32_ib, n32_lt, n32_le, n32_inj, l_hb, l_hb0, l_shl, l_wo, l_eqm1, l_m1eq, (rd C2 hF2).1, e6, uC_row]
          exact ⟨fun hc => absurd h3 hc, fun _ => ⟨by omega, go _ (by rw [r1])⟩⟩
        · obtain ⟨e12', e13⟩ := e12 h3
          have r2 := hJ.2.2.2.1.2.1
          have r1 : rowJ t s j 1 = s j 1 + (if s j 1 = 1 ∧ 0 < s j 4 then 4 else 0) + 8 * s j 2 := by unfold rowJ; rw [if_neg h3]; rfl
          simp (disch := omega) only [decide_eq_true_eq, decide_eq_false_iff_not, L32, az01, b2i_01, b2i_n0, b2i_n1, Bool.and_true, true_and, and_true, Classical.not_not, Bool.not_eq_true, Bool.not_eq_false, n32_mul, n32_add, n32_ix, n32_ib, n32_lt, n32_le, n32_inj, l_hb, l_hb0, l_shl, l_wo, l_eqm1, l_m1eq, (rd C2 hF2).1, e6, e12', e13, uC_row, Nat.add_zero]
          refine ⟨fun _ => ⟨fun hf => ⟨fun h2 => ⟨by omega, go _ ?_⟩, fun h2 => ⟨by omega, go _ ?_⟩⟩, fun hf => ⟨fun h2 => ⟨by omega, go _ ?_⟩, fun h2 => ⟨by omega, go _ ?_⟩⟩⟩, fun hc => absurd hc h3⟩
          · rw [← Bool.decide_and, decide_eq_false_iff_not] at hf
            rw [r1, if_neg hf, h2, Nat.mul_zero, Nat.add_zero]
          · rw [← Bool.decide_and, decide_eq_false_iff_not] at hf
            rw [r1, if_neg hf, show s j 2 = 1 by omega]
          · rw [← Bool.decide_and, decide_eq_true_eq] at hf
            rw [r1, if_pos hf, h2]
          · rw [← Bool.decide_and, decide_eq_true_eq] at hf
            rw [r1, if_pos hf, show s j 2 = 1 by omega]
      have go : ∀ v, v = n32 (rowJ t s j 0) → nzW P (d + 4) az_k59 71 [some (sO 1), some (vr (51, 0, 0, 0)), some (vi (n32 (138 * i))), some (vr (26, 1, 0, 0)), some (vi (n32 8)), some (vi (n32 j)), some (jO 1 j), some (vi (n32 (138 * i + 16 * j))), some (vi (b2i (decide (s j 1 = 3)))), l9] [] (T, S, L, Z, nz_u5 C1 51 0 0 0 (138 * i + 16 * j) v) (nz_RV Q) := fun v hv => s71 l9 _ (hF.up (by omega)) (hG.put (y := 0) hv (by omega))
      refine sg59_12_r51 ?_
      by_cases h3 : s j 1 = 3
      · rw [decide_eq_true h3] at go
        have r0 : rowJ t s j 0 = 0 := by unfold rowJ; rw [if_pos h3]; rfl
        simp (disch := omega) only [decide_eq_true_eq, decide_eq_false_iff_not, L32, az01, b2i_01, b2i_n0, b2i_n1, Bool.and_true, true_and, and_true, Classical.not_not, Bool.not_eq_true, Bool.not_eq_false, n32_mul, n32_add, n32_ix, n32_ib, n32_lt, n32_le, n32_inj, l_hb, l_hb0, l_shl, l_wo, l_eqm1, l_m1eq, (rd C1 hF).1, e6, en, uC_row, h3]
        refine ⟨fun hc => by omega, fun _ => ⟨hj8, fun hc => (hc trivial).elim, fun _ => ⟨fun hc => (by omega), fun _ => ⟨by omega, go _ (by rw [r0])⟩⟩⟩⟩
      · rw [decide_eq_false h3] at go
        have r0 : rowJ t s j 0 = s j 0 := by unfold rowJ; rw [if_neg h3]; rfl
        have m12 : s j 1 = 1 ∨ s j 1 = 2 := by have := hJ.1.1; have := h0 j hj8; omega
        have e5' := e5 m12
        simp (disch := omega) only [decide_eq_true_eq, decide_eq_false_iff_not, L32, az01, b2i_01, b2i_n0, b2i_n1, Bool.and_true, true_and, and_true, Classical.not_not, Bool.not_eq_true, Bool.not_eq_false, n32_mul, n32_add, n32_ix, n32_ib, n32_lt, n32_le, n32_inj, l_hb, l_hb0, l_shl, l_wo, l_eqm1, l_m1eq, (rd C1 hF).1, e6, en, uC_row, h3, e5']
        refine ⟨fun hc => by omega, fun _ => ⟨hj8, fun _ => ⟨fun _ => ⟨by omega, go _ (by rw [r0])⟩, fun hc => (hc trivial).elim⟩, fun hc => hc.elim⟩⟩
  exact l12 8 0 rfl C (fun _ _ _ _ _ _ => rfl) (fun k z hk => by omega) _ _ _ _
end
