/-! the system's shop out of a row -/
def Wcm (kd o' x : Nat) : Prop := o' = 1 ∧ ((kd = 8 ∧ 5 ≤ x ∧ x ≤ 13) ∨ kd = 35 ∨ kd = 28 ∨ kd = 97)
theorem vr9_div {x : Nat} {l : List Nat} (h : x < 8) : vr9 (x :: l) / 9 = vr9 l ∧ vr9 (x :: l) - vr9 l * 9 = x + 1 := by
  rw [vr9]; omega
theorem vq_take_div {q : List Nat} {k x : Nat} (h : q[k]? = some x) (hx : x < 8) : vq (q.take (k + 1)) / 9 = vq (q.take k) ∧ vq (q.take (k + 1)) - vq (q.take k) * 9 = x + 1 := by
  rw [vq_take h]; omega
section
variable {P : Nat × (Nat → Int32)} {d o : Nat} {t s ρ : St} {T S L Z : nz_f2} {C : nz_f5} {j : Nat}
/-- what a job has out of its row -/
def JC (t ρ : St) (C : nz_f5) (j : Nat) : Prop :=
  C 8 1 j 0 5 = n32 (rowJ t ρ j 0) ∧ C 8 1 j 0 6 = n32 (ρ j 1) ∧ C 8 1 j 0 12 = b2i (decide (ρ j 1 = 1) && decide (0 < ρ j 4)) ∧ (ρ j 1 ≠ 3 → C 8 1 j 0 13 = n32 (ρ j 2)) ∧ C 8 1 j 0 9 = n32 (rowJ t ρ j 2) ∧ C 8 1 j 0 7 = n32 (rowJ t ρ j 3) ∧ C 8 1 j 0 10 = n32 (rowJ t ρ j 4) ∧
  (ρ j 1 = 1 → C 8 1 j 0 8 = n32 (askS t ρ j) ∧ C 8 1 j 0 11 = b2i (atlS t ρ j)) ∧ ∀ m, m < 10 → C 35 1 j 0 m = n32 (rowJ t ρ j (6 + m))
theorem JC.off {C' : nz_f5} (h : JC t ρ C j) (h8 : ∀ x, C' 8 1 j 0 x = C 8 1 j 0 x) (h35 : ∀ m, C' 35 1 j 0 m = C 35 1 j 0 m) : JC t ρ C' j := by
  unfold JC at h ⊢
  simp only [h8, h35]; exact h
theorem JC.rj (h : JC t ρ C j) (hK : KR t ρ) (hj : j < 8) : RJ 1 t (tk ρ) C j := by
  obtain ⟨a1, a2, a3, a4, a5, a6, a7, a8, a9⟩ := h
  have e : ∀ f, f < 18 → tk ρ j f = ρ j f := fun f hf => tk_at hj hf
  have ea : atlS t (tk ρ) j = atlS t ρ j := atlS_row (fun f hf _ => e f hf)
  have eb : askS t (tk ρ) j = askS t ρ j := askS_row (fun f hf _ => e f hf)
  have m1 := hK.2.1 j hj
  unfold RJ
  rw [ea, eb, e 1 (by omega), e 5 (by omega), e 4 (by omega), e 2 (by omega), e 0 (by omega), e 3 (by omega)]
  have r : ∀ y, ρ j 1 ≠ 3 → rowJ t ρ j y = if y = 0 then ρ j 0 else if y = 1 then ρ j 1 + (if ρ j 1 = 1 ∧ 0 < ρ j 4 then 4 else 0) + 8 * ρ j 2 else if y = 2 then ρ j 3 else if y = 3 then ρ j 5 else if y = 4 then ρ j 4 else if y = 5 then (if ρ j 1 = 1 then 2 * askS t ρ j + (if atlS t ρ j = true then 1 else 0) else 0) else ρ j (2 + y) := fun y h3 => by unfold rowJ; rw [if_neg h3]
  have z : ∀ f, f < 18 → f ≠ 1 → ρ j 1 = 3 → ρ j f = 0 := fun f hf h1 h3 => hK.2.2.1 j f hj hf h3 h1
  refine ⟨a2, ?_, fun m hm => ?_, fun h3 => ⟨a3, a4 h3⟩, fun h12 => ?_, fun h1 => ⟨(a8 h1).2, (a8 h1).1, ?_⟩, fun h4 => ?_, fun h0 => by omega⟩
  · by_cases h3 : ρ j 1 = 3
    · rw [a6, z 5 (by omega) (by omega) h3]; unfold rowJ; rw [if_pos h3]; rfl
    · rw [a6, r 3 h3]; rfl
  · rw [e (8 + m) (by omega), a9 m hm]
    by_cases h3 : ρ j 1 = 3
    · rw [z (8 + m) (by omega) (by omega) h3]; unfold rowJ; rw [if_pos h3, if_neg (by omega)]
    · rw [r (6 + m) h3, if_neg (by omega), if_neg (by omega), if_neg (by omega), if_neg (by omega), if_neg (by omega), if_neg (by omega), show 2 + (6 + m) = 8 + m by omega]
  · rw [a1, r 0 (by omega)]; rfl
  · rw [a5, r 2 (by omega)]; rfl
  · have h3 : ρ j 1 ≠ 3 := fun h3 => by have := z 4 (by omega) (by omega) h3; omega
    rw [a7, r 4 h3]; rfl
theorem c_comes60 {i : Nat} (hT : TV t) (hK : KR t ρ) (hR : RT 1 t C) (hC : CR t ρ C i) (hi : i ≤ 400) (hd : 2 ≤ d) {Q : nz_h → Prop}
    (hq : ∀ C', Fr Wcm C C' → RC 1 t (tk ρ) C' → Q (T, S, L, Z, C')) : ctV P d 60 [sO 1, vr (51, 0, 0, 0), vi (n32 (i * 138))] (T, S, L, Z, C) Q := by
  obtain ⟨d, rfl⟩ := dge hd
  rw [Nat.mul_comm i 138]
  refine sm60_r51 ?_
  have k51 : ∀ C1, Fr Wcm C C1 → ∀ x, C1 51 0 0 0 x = C 51 0 0 0 x := fun C1 hF x => hF _ _ _ _ _ (by unfold Wcm; omega)
  have l212 : ∀ r m, r + m = 10 → ∀ C1, Fr Wcm C C1 → (∀ j, j < 8 → JC t ρ C1 j) → (∀ y, y < m → ∃ q, QK t ρ y q ∧ C1 28 1 0 0 y = n32 q.length ∧ ∀ (k x : Nat), q[k]? = some x → C1 97 1 y 0 k = n32 x) → ∀ l4 l5 l6 l7 l8, nzW P (d + 1) az_k60 212 [some (sO 1), some (vr (51, 0, 0, 0)), some (vi (n32 (138 * i))), some (vi (n32 m)), l4, l5, l6, l7, l8] [] (T, S, L, Z, C1) (nz_RV Q) := by
    intro r
    induction r with
    | zero =>
      intro m hm C1 hF hJ hQ l4 l5 l6 l7 l8
      obtain rfl : m = 10 := by omega
      refine sg60_212_r51 ?_
      simp (disch := omega) only [decide_eq_true_eq, decide_eq_false_iff_not, L32, az01, b2i_01, b2i_n0, b2i_n1, Bool.and_true, true_and, and_true, Classical.not_not, Bool.not_eq_true, Bool.not_eq_false, n32_mul, n32_add, n32_ix, n32_ib, n32_lt, n32_le, n32_inj, l_hb, l_hb0, l_shl, l_wo, l_eqm1, l_m1eq]
      refine ⟨fun _ => hq C1 hF ⟨⟨fun m hm => ?_, fun k hk => ?_, fun k p hk hp => ?_, ?_⟩, fun j hj => (hJ j hj).rj hK hj, fun m hm => ?_⟩, fun hc => by omega⟩
      · rw [hF 7 1 m 0 0 (by unfold Wcm; omega), hF 7 1 m 0 1 (by unfold Wcm; omega)]; exact hR.1 m hm
      · rw [hF 8 1 k 0 0 (by unfold Wcm; omega), hF 8 1 k 0 2 (by unfold Wcm; omega), hF 8 1 k 0 3 (by unfold Wcm; omega), hF 8 1 k 0 4 (by unfold Wcm; omega)]; exact hR.2.1 k hk
      · rw [hF 9 1 k p 0 (by unfold Wcm; omega), hF 9 1 k p 1 (by unfold Wcm; omega), hF 9 1 k p 2 (by unfold Wcm; omega)]; exact hR.2.2.1 k p hk hp
      · rw [hF 1 1 0 0 5 (by unfold Wcm; omega)]; exact hR.2.2.2
      · obtain ⟨q, q1, q2, q3⟩ := hQ m hm
        exact ⟨q, q1.1, q2, q3⟩
    | succ r ih =>
      intro m hm C1 hF hJ hQ l4 l5 l6 l7 l8
      have hm10 : m < 10 := by omega
      obtain ⟨q, q1, q2⟩ := hC.2 m hm10
      have q8 := QK_8 q1
      have lq := vq_lt q8.1 q8.2
      have e51 : C1 51 0 0 0 (138 * i + 128 + m) = n32 (vq q) := by
        rw [k51 C1 hF, show 138 * i + 128 + m = 138 * i + (128 + m) by omega]; exact q2
      have keepJ : ∀ C2 : nz_f5, (∀ kd o' k l x, kd ≠ 28 → kd ≠ 97 → C2 kd o' k l x = C1 kd o' k l x) → ∀ j, j < 8 → JC t ρ C2 j := fun C2 h2 j hj => (hJ j hj).off (fun x => h2 _ _ _ _ _ (by decide) (by decide)) (fun m => h2 _ _ _ _ _ (by decide) (by decide))
      have l275 : ∀ k, k ≤ q.length → ∀ C2, Fr Wcm C C2 → (∀ kd o' k l x, kd ≠ 28 → kd ≠ 97 → C2 kd o' k l x = C1 kd o' k l x) → (∀ y, y < m → C2 28 1 0 0 y = C1 28 1 0 0 y) → C2 28 1 0 0 m = n32 q.length → (∀ y, y ≠ m → ∀ x, C2 97 1 y 0 x = C1 97 1 y 0 x) → (∀ z x, k ≤ z → q[z]? = some x → C2 97 1 m 0 z = n32 x) → ∀ l6 l7 l8, nzW P (d + 1) az_k60 275 [some (sO 1), some (vr (51, 0, 0, 0)), some (vi (n32 (138 * i))), some (vi (n32 m)), some (vi (n32 (vq (q.take k)))), some (vi (n32 k - n32 1)), l6, l7, l8] [] (T, S, L, Z, C2) (nz_RV Q) := by
        intro k
        induction k with
        | zero =>
          intro hk C2 hF2 g1 g2 g3 g4 g5 l6 l7 l8
          refine sg60_275_r51 ?_
          have hneg : (n32 0 - n32 1 < n32 0) = True := by decide
          simp (disch := omega) only [decide_eq_true_eq, decide_eq_false_iff_not, L32, az01, b2i_01, b2i_n0, b2i_n1, Bool.and_true, true_and, and_true, Classical.not_not, Bool.not_eq_true, Bool.not_eq_false, n32_mul, n32_add, n32_ix, n32_ib, n32_lt, n32_le, n32_inj, l_hb, l_hb0, l_shl, l_wo, l_eqm1, l_m1eq, hneg]
          refine ⟨fun _ => ih (m + 1) (by omega) C2 hF2 (keepJ C2 g1) (fun y hy => ?_) _ _ _ _ _, fun hc => (hc trivial).elim⟩
          by_cases hym : y = m
          · subst hym
            exact ⟨q, q1, g3, fun k x hk => g5 k x (by omega) hk⟩
          · obtain ⟨p, p1, p2, p3⟩ := hQ y (by omega)
            refine ⟨p, p1, by rw [g2 y (by omega)]; exact p2, fun k x hk => by rw [g4 y hym]; exact p3 k x hk⟩
        | succ k ihk =>
          intro hk C2 hF2 g1 g2 g3 g4 g5 l6 l7 l8
          have hk' : q[k]? = some q[k] := List.getElem?_eq_getElem (by omega)
          have hx8 : q[k] < 8 := q8.1 _ (List.getElem_mem _)
          have hdv := vq_take_div hk' hx8
          have lq1 := vq_lt (q := q.take (k + 1)) (fun x hx => q8.1 x (List.mem_of_mem_take hx)) (by rw [List.length_take]; omega)
          have lq0 := vq_lt (q := q.take k) (fun x hx => q8.1 x (List.mem_of_mem_take hx)) (by rw [List.length_take]; omega)
          have e1 : n32 (k + 1) - n32 1 = n32 k := by rw [n32_sub (by omega)]; rfl
          have e2 : n32 k + nm1 = n32 k - n32 1 := by
            cases k with
            | zero => rfl
            | succ k => rw [l_m1 (by omega), n32_sub (by omega)]
          have e9 : n32 9 ≠ n32 0 := by decide
          refine sg60_275_r51 ?_
          rw [e1]
          simp (disch := omega) only [decide_eq_true_eq, decide_eq_false_iff_not, L32, az01, b2i_01, b2i_n0, b2i_n1, Bool.and_true, true_and, and_true, Classical.not_not, Bool.not_eq_true, Bool.not_eq_false, n32_mul, n32_add, n32_ix, n32_ib, n32_lt, n32_le, n32_inj, l_hb, l_hb0, l_shl, l_wo, l_eqm1, l_m1eq, n32_div9, uC_row, hdv.1, n32_sub, hdv.2, Nat.add_sub_cancel, e2]
          refine ⟨fun hc => by omega, fun _ => ⟨hm10, by decide, by omega, by decide, ?_⟩⟩
          refine ihk (by omega) _ (hF2.up (by unfold Wcm; omega)) (fun kd o' k l x h1 h2 => by rw [u5_k h2]; exact g1 kd o' k l x h1 h2) (fun y hy => by rw [u5_k (by decide)]; exact g2 y hy) (by rw [u5_k (by decide)]; exact g3) (fun y hy x => by rw [u5_c hy]; exact g4 y hy x) (fun z x hz hx => ?_) _ _ _
          rw [u5_at]
          by_cases hzk : z = k
          · subst hzk
            rw [hk'] at hx; cases hx
            rw [if_pos rfl]
          · rw [if_neg hzk]; exact g5 z x (by omega) hx
      have l240 : ∀ (l : List Nat) c, (∀ x, x ∈ l → x < 8) → l.length + c = q.length → vr9 l ≤ vq q → ∀ C2, Fr Wcm C C2 → (∀ kd o' k l x, kd ≠ 28 → C2 kd o' k l x = C1 kd o' k l x) → (∀ y, y < m → C2 28 1 0 0 y = C1 28 1 0 0 y) → C2 28 1 0 0 m = n32 c → ∀ l6 l7 l8, nzW P (d + 1) az_k60 240 [some (sO 1), some (vr (51, 0, 0, 0)), some (vi (n32 (138 * i))), some (vi (n32 m)), some (vi (n32 (vq q))), some (vi (n32 (vr9 l))), l6, l7, l8] [] (T, S, L, Z, C2) (nz_RV Q) := by
        intro l
        induction l with
        | nil =>
          intro c hl hc hle C2 hF2 g1 g2 g3 l6 l7 l8
          have hc' : c = q.length := by simpa using hc
          subst hc'
          refine sg60_240_r51 ?_
          rw [vr9]
          simp (disch := omega) only [decide_eq_true_eq, decide_eq_false_iff_not, L32, az01, b2i_01, b2i_n0, b2i_n1, Bool.and_true, true_and, and_true, Classical.not_not, Bool.not_eq_true, Bool.not_eq_false, n32_mul, n32_add, n32_ix, n32_ib, n32_lt, n32_le, n32_inj, l_hb, l_hb0, l_shl, l_wo, l_eqm1, l_m1eq, g3]
          refine ⟨fun _ => ⟨hm10, ?_⟩, fun hc => by omega⟩
          have := l275 q.length (Nat.le_refl _) C2 hF2 (fun kd o' k l x h1 _ => g1 kd o' k l x h1) g2 g3 (fun y _ x => g1 _ _ _ _ _ (by decide)) (fun z x hz hx => by
            rw [List.getElem?_eq_none hz] at hx; cases hx) l6 l7 l8
          rw [List.take_length] at this
          exact this
        | cons x l ihl =>
          intro c hl hc hle C2 hF2 g1 g2 g3 l6 l7 l8
          have hx8 := hl x (by simp)
          have hdv := vr9_div (l := l) hx8
          have hpos : 0 < vr9 (x :: l) := by rw [vr9]; omega
          have hle2 : vr9 l ≤ vr9 (x :: l) := by rw [vr9]; omega
          rw [List.length_cons] at hc
          refine sg60_240_r51 ?_
          simp (disch := omega) only [decide_eq_true_eq, decide_eq_false_iff_not, L32, az01, b2i_01, b2i_n0, b2i_n1, Bool.and_true, true_and, and_true, Classical.not_not, Bool.not_eq_true, Bool.not_eq_false, n32_mul, n32_add, n32_ix, n32_ib, n32_lt, n32_le, n32_inj, l_hb, l_hb0, l_shl, l_wo, l_eqm1, l_m1eq, n32_div9, uC_row, hdv.1, g3]
          refine ⟨fun hc => by omega, fun _ => ⟨hm10, hm10, by decide, ?_⟩⟩
          refine ihl (c + 1) (fun y hy => hl y (by simp [hy])) (by omega) (by omega) _ (hF2.up (by unfold Wcm; omega)) (fun kd o' k l x h1 => by rw [u5_k h1]; exact g1 kd o' k l x h1) (fun y hy => by rw [u5_x (by omega)]; exact g2 y hy) u5_eq _ _ _
      refine sg60_212_r51 ?_
      simp (disch := omega) only [decide_eq_true_eq, decide_eq_false_iff_not, L32, az01, b2i_01, b2i_n0, b2i_n1, Bool.and_true, true_and, and_true, Classical.not_not, Bool.not_eq_true, Bool.not_eq_false, n32_mul, n32_add, n32_ix, n32_ib, n32_lt, n32_le, n32_inj, l_hb, l_hb0, l_shl, l_wo, l_eqm1, l_m1eq, e51, uC_row]
      refine ⟨fun hc => by omega, fun _ => ⟨by omega, hm10, ?_⟩⟩
      refine l240 q.reverse 0 (fun x hx => q8.1 x (by simpa using hx)) (by rw [List.length_reverse]; rfl) (Nat.le_refl _) _ (hF.up (by unfold Wcm; omega)) (fun kd o' k l x h1 => u5_k h1) (fun y hy => u5_x (by omega)) u5_eq _ _ _
  have l12 : ∀ r j, r + j = 8 → ∀ C1, Fr Wcm C C1 → (∀ k, k < j → JC t ρ C1 k) → ∀ l6 l7 l8, nzW P (d + 1) az_k60 12 [some (sO 1), some (vr (51, 0, 0, 0)), some (vi (n32 (138 * i))), some (vr (26, 1, 0, 0)), some (vi (n32 8)), some (vi (n32 j)), l6, l7, l8] [] (T, S, L, Z, C1) (nz_RV Q) := by
    intro r
    induction r with
    | zero =>
      intro j hj C1 hF hJ l6 l7 l8
      obtain rfl : j = 8 := by omega
      refine sg60_12_r51 ?_
      simp (disch := omega) only [decide_eq_true_eq, decide_eq_false_iff_not, L32, az01, b2i_01, b2i_n0, b2i_n1, Bool.and_true, true_and, and_true, Classical.not_not, Bool.not_eq_true, Bool.not_eq_false, n32_mul, n32_add, n32_ix, n32_ib, n32_lt, n32_le, n32_inj, l_hb, l_hb0, l_shl, l_wo, l_eqm1, l_m1eq]
      exact ⟨fun _ => l212 10 0 rfl C1 hF hJ (fun y hy => by omega) _ _ _ _ _, fun hc => by omega⟩
    | succ r ih =>
      intro j hj C1 hF hJ l6 l7 l8
      have hj8 : j < 8 := by omega
      have en : C1 8 1 j 0 0 = n32 j := (hF _ _ _ _ _ (by unfold Wcm; omega)).trans (hR.2.1 j hj8).1
      have row : ∀ C2, Fr Wcm C C2 → ∀ y, y < 16 → C2 51 0 0 0 (138 * i + 16 * j + y) = n32 (rowJ t ρ j y) := fun C2 hF2 y hy => by
        rw [k51 C2 hF2, show 138 * i + 16 * j + y = 138 * i + (16 * j + y) by omega]; exact hC.1 j y hj8 hy
      have others : ∀ C2 : nz_f5, (∀ kd o' k l x, k ≠ j → C2 kd o' k l x = C1 kd o' k l x) → ∀ k, k < j → JC t ρ C2 k := fun C2 h2 k hk => (hJ k hk).off (fun x => h2 _ _ _ _ _ (by omega)) (fun m => h2 _ _ _ _ _ (by omega))
      have v1 : rowJ t ρ j 1 < 16 ∧ rowJ t ρ j 1 % 4 = ρ j 1 ∧ (rowJ t ρ j 1 / 4 % 2 = 0 ↔ (decide (ρ j 1 = 1) && decide (0 < ρ j 4)) = false) ∧ (ρ j 1 ≠ 3 → rowJ t ρ j 1 / 8 = ρ j 2) := by
        have m1 := hK.2.1 j hj8
        have j2 := (hK.J hj8).1
        unfold rowJ
        by_cases h3 : ρ j 1 = 3
        · rw [if_pos h3, if_pos rfl, h3]
          refine ⟨by omega, by omega, by simp, fun hc => absurd rfl hc⟩
        · rw [if_neg h3, if_neg (by decide), if_pos rfl, ← Bool.decide_and]
          by_cases hc : ρ j 1 = 1 ∧ 0 < ρ j 4
          · rw [if_pos hc, decide_eq_true hc]
            refine ⟨by omega, by omega, ⟨fun h => by omega, fun h => by cases h⟩, fun _ => by omega⟩
          · rw [if_neg hc, decide_eq_false hc]
            refine ⟨by omega, by omega, ⟨fun _ => rfl, fun _ => by omega⟩, fun _ => by omega⟩
      obtain ⟨w1, w2, w3⟩ := and16 _ v1.1
      have l173 : ∀ r2 m, r2 + m = 10 → ∀ C2, Fr Wcm C C2 → (∀ kd o' k l x, k ≠ j → C2 kd o' k l x = C1 kd o' k l x) → (C2 8 1 j 0 5 = n32 (rowJ t ρ j 0) ∧ C2 8 1 j 0 6 = n32 (ρ j 1) ∧ C2 8 1 j 0 12 = b2i (decide (ρ j 1 = 1) && decide (0 < ρ j 4)) ∧ (ρ j 1 ≠ 3 → C2 8 1 j 0 13 = n32 (ρ j 2)) ∧ C2 8 1 j 0 9 = n32 (rowJ t ρ j 2) ∧ C2 8 1 j 0 7 = n32 (rowJ t ρ j 3) ∧ C2 8 1 j 0 10 = n32 (rowJ t ρ j 4) ∧ (ρ j 1 = 1 → C2 8 1 j 0 8 = n32 (askS t ρ j) ∧ C2 8 1 j 0 11 = b2i (atlS t ρ j))) → (∀ y, y < m → C2 35 1 j 0 y = n32 (rowJ t ρ j (6 + y))) → nzW P (d + 1) az_k60 173 [some (sO 1), some (vr (51, 0, 0, 0)), some (vi (n32 (138 * i))), some (vr (26, 1, 0, 0)), some (vi (n32 8)), some (vi (n32 j)), some (jO 1 j), some (vi (n32 (138 * i + 16 * j))), some (vi (n32 m))] [] (T, S, L, Z, C2) (nz_RV Q) := by
        intro r2
        induction r2 with
        | zero =>
          intro m hm C2 hF2 h2 h8 h35
          obtain rfl : m = 10 := by omega
          refine sg60_173_r51 ?_
          simp (disch := omega) only [decide_eq_true_eq, decide_eq_false_iff_not, L32, az01, b2i_01, b2i_n0, b2i_n1, Bool.and_true, true_and, and_true, Classical.not_not, Bool.not_eq_true, Bool.not_eq_false, n32_mul, n32_add, n32_ix, n32_ib, n32_lt, n32_le, n32_inj, l_hb, l_hb0, l_shl, l_wo, l_eqm1, l_m1eq]
          refine ⟨fun _ => ih (j + 1) (by omega) C2 hF2 (fun k hk => ?_) _ _ _, fun hc => by omega⟩
          by_cases hkj : k = j
          · subst hkj
            obtain ⟨a1, a2, a3, a4, a5, a6, a7, a8⟩ := h8
            exact ⟨a1, a2, a3, a4, a5, a6, a7, a8, h35⟩
          · exact others C2 h2 k (by omega)
        | succ r2 ihr =>
          intro m hm C2 hF2 h2 h8 h35
          have er := row C2 hF2 (6 + m) (by omega)
          rw [show 138 * i + 16 * j + (6 + m) = 138 * i + 16 * j + 6 + m by omega] at er
          refine sg60_173_r51 ?_
          simp (disch := omega) only [decide_eq_true_eq, decide_eq_false_iff_not, L32, az01, b2i_01, b2i_n0, b2i_n1, Bool.and_true, true_and, and_true, Classical.not_not, Bool.not_eq_true, Bool.not_eq_false, n32_mul, n32_add, n32_ix, n32_ib, n32_lt, n32_le, n32_inj, l_hb, l_hb0, l_shl, l_wo, l_eqm1, l_m1eq, er, uC_row]
          refine ⟨fun hc => by omega, fun _ => ⟨by omega, by omega, ?_⟩⟩
          refine ihr (m + 1) (by omega) _ (hF2.up (by unfold Wcm; omega)) (fun kd o' k l x hk => by rw [u5_c hk]; exact h2 kd o' k l x hk) (by simp (disch := decide) only [u5_k]; exact h8) (fun y hy => ?_)
          by_cases hym : y = m
          · rw [hym, u5_eq]
          · rw [u5_x hym]; exact h35 y (by omega)
      have c5 := hK.2.1 j hj8
      have r5 : rowJ t ρ j 5 < 2048 ∧ (ρ j 1 = 1 → rowJ t ρ j 5 / 2 = askS t ρ j ∧ (rowJ t ρ j 5 % 2 = 1 ↔ atlS t ρ j = true)) := by
        unfold rowJ
        by_cases h3 : ρ j 1 = 3
        · rw [if_pos h3, if_neg (by decide)]; exact ⟨by omega, fun h => by omega⟩
        · rw [if_neg h3]
          simp only [show ¬ 5 = 0 by decide, show ¬ 5 = 1 by decide, show ¬ 5 = 2 by decide, show ¬ 5 = 3 by decide, show ¬ 5 = 4 by decide, if_false, if_true]
          by_cases h1 : ρ j 1 = 1
          · have := hK.ask hT hj8 h1
            rw [if_pos h1]
            cases ha : atlS t ρ j with
            | true => rw [if_pos rfl]; exact ⟨by omega, fun _ => ⟨by omega, ⟨fun _ => rfl, fun _ => by omega⟩⟩⟩
            | false => rw [if_neg (by decide)]; exact ⟨by omega, fun _ => ⟨by omega, ⟨fun h => by omega, fun h => by cases h⟩⟩⟩
          · rw [if_neg h1]; exact ⟨by omega, fun h => absurd h h1⟩
      refine sg60_12_r51 ?_
      have r0 := row C1 hF 0 (by omega)
      rw [Nat.add_zero] at r0
      have r1 := row C1 hF 1 (by omega)
      simp (disch := first | omega | decide) only [decide_eq_true_eq, decide_eq_false_iff_not, L32, az01, b2i_01, b2i_n0, b2i_n1, Bool.and_true, true_and, and_true, Classical.not_not, Bool.not_eq_true, Bool.not_eq_false, n32_mul, n32_add, n32_ix, n32_ib, n32_lt, n32_le, n32_inj, l_hb, l_hb0, l_shl, l_wo, l_eqm1, l_m1eq, en, uC_row, r0, u5_k, r1, n32_and, w1, v1.2.1]
      refine ⟨fun hc => by omega, fun _ => ⟨hj8, by omega, by omega, ?_⟩⟩
      have hF2 : Fr Wcm C (nz_u5 (nz_u5 C1 8 1 j 0 5 (n32 (rowJ t ρ j 0))) 8 1 j 0 6 (n32 (ρ j 1))) := by
        refine Fr.up (Fr.up hF ?_) ?_ <;> (unfold Wcm; omega)
      have ho2 : ∀ kd o' k l x, k ≠ j → nz_u5 (nz_u5 C1 8 1 j 0 5 (n32 (rowJ t ρ j 0))) 8 1 j 0 6 (n32 (ρ j 1)) kd o' k l x = C1 kd o' k l x := fun kd o' k l x hk => by rw [u5_c hk, u5_c hk]
      have x5 : nz_u5 (nz_u5 C1 8 1 j 0 5 (n32 (rowJ t ρ j 0))) 8 1 j 0 6 (n32 (ρ j 1)) 8 1 j 0 5 = n32 (rowJ t ρ j 0) := by rw [u5_x (by decide), u5_eq]
      have x6 : nz_u5 (nz_u5 C1 8 1 j 0 5 (n32 (rowJ t ρ j 0))) 8 1 j 0 6 (n32 (ρ j 1)) 8 1 j 0 6 = n32 (ρ j 1) := u5_eq
      generalize nz_u5 (nz_u5 C1 8 1 j 0 5 (n32 (rowJ t ρ j 0))) 8 1 j 0 6 (n32 (ρ j 1)) = C2 at hF2 ho2 x5 x6
      have s148 : ∀ C3, Fr Wcm C C3 → (∀ kd o' k l x, k ≠ j → C3 kd o' k l x = C1 kd o' k l x) → (C3 8 1 j 0 5 = n32 (rowJ t ρ j 0) ∧ C3 8 1 j 0 6 = n32 (ρ j 1) ∧ C3 8 1 j 0 12 = b2i (decide (ρ j 1 = 1) && decide (0 < ρ j 4)) ∧ (ρ j 1 ≠ 3 → C3 8 1 j 0 13 = n32 (ρ j 2)) ∧ C3 8 1 j 0 9 = n32 (rowJ t ρ j 2) ∧ C3 8 1 j 0 7 = n32 (rowJ t ρ j 3) ∧ C3 8 1 j 0 10 = n32 (rowJ t ρ j 4)) → ∀ l8, nzW P (d + 1) az_k60 135 [some (sO 1), some (vr (51, 0, 0, 0)), some (vi (n32 (138 * i))), some (vr (26, 1, 0, 0)), some (vi (n32 8)), some (vi (n32 j)), some (jO 1 j), some (vi (n32 (138 * i + 16 * j))), l8] [] (T, S, L, Z, C3) (nz_RV Q) := fun C3 hF3 ho3 h8 l8 => by
        refine sg60_135_r51 ?_
        have e5 := row C3 hF3 5 (by omega)
        have shr := n32_shr1 _ r5.1
        simp (disch := omega) only [decide_eq_true_eq, decide_eq_false_iff_not, L32, az01, b2i_01, b2i_n0, b2i_n1, Bool.and_true, true_and, and_true, Classical.not_not, Bool.not_eq_true, Bool.not_eq_false, n32_mul, n32_add, n32_ix, n32_ib, n32_lt, n32_le, n32_inj, l_hb, l_hb0, l_shl, l_wo, l_eqm1, l_m1eq, uC_row, e5]
        rw [shr]
        refine ⟨by omega, ?_⟩
        refine sg60_148_r51 ?_
        have hF4 : Fr Wcm C (nz_u5 C3 8 1 j 0 8 (n32 (rowJ t ρ j 5 / 2))) := hF3.up (by unfold Wcm; omega)
        have e5' := row _ hF4 5 (by omega)
        have fin : ∀ b : Bool, (ρ j 1 = 1 → b = atlS t ρ j) → ∀ l8, nzW P (d + 1) az_k60 170 [some (sO 1), some (vr (51, 0, 0, 0)), some (vi (n32 (138 * i))), some (vr (26, 1, 0, 0)), some (vi (n32 8)), some (vi (n32 j)), some (jO 1 j), some (vi (n32 (138 * i + 16 * j))), l8] [] (T, S, L, Z, nz_u5 (nz_u5 C3 8 1 j 0 8 (n32 (rowJ t ρ j 5 / 2))) 8 1 j 0 11 (b2i b)) (nz_RV Q) := fun b hb l8 => by
          refine sg60_170_r51 ?_
          simp only [decide_eq_true_eq, decide_eq_false_iff_not, L32, az01, b2i_01, b2i_n0, b2i_n1, Bool.and_true, true_and, and_true, Classical.not_not, Bool.not_eq_true, Bool.not_eq_false]
          refine l173 10 0 rfl _ (hF4.up (by unfold Wcm; omega)) (fun kd o' k l x hk => by rw [u5_c hk, u5_c hk]; exact ho3 kd o' k l x hk) ?_ (fun y hy => by omega)
          obtain ⟨a1, a2, a3, a4, a5, a6, a7⟩ := h8
          simp (disch := decide) only [u5_x, u5_eq]
          exact ⟨a1, a2, a3, a4, a5, a6, a7, fun h1 => ⟨by rw [(r5.2 h1).1], by rw [hb h1]⟩⟩
        simp (disch := omega) only [decide_eq_true_eq, decide_eq_false_iff_not, L32, az01, b2i_01, b2i_n0, b2i_n1, Bool.and_true, true_and, and_true, Classical.not_not, Bool.not_eq_true, Bool.not_eq_false, n32_mul, n32_add, n32_ix, n32_ib, n32_lt, n32_le, n32_inj, l_hb, l_hb0, l_shl, l_wo, l_eqm1, l_m1eq, uC_row, e5', n32_and, Nat.and_one_is_mod]
        refine ⟨by omega, fun hne => fin false (fun h1 => ?_) _, fun he => fin true (fun h1 => ?_) _⟩
        · cases ha : atlS t ρ j with
          | false => rfl
          | true => exact absurd ((r5.2 h1).2.2 ha) hne
        · exact ((r5.2 h1).2.1 he).symm
      have s102 : ∀ C3, Fr Wcm C C3 → (∀ kd o' k l x, k ≠ j → C3 kd o' k l x = C1 kd o' k l x) → (C3 8 1 j 0 5 = n32 (rowJ t ρ j 0) ∧ C3 8 1 j 0 6 = n32 (ρ j 1) ∧ C3 8 1 j 0 12 = b2i (decide (ρ j 1 = 1) && decide (0 < ρ j 4)) ∧ (ρ j 1 ≠ 3 → C3 8 1 j 0 13 = n32 (ρ j 2))) → ∀ l8, nzW P (d + 1) az_k60 102 [some (sO 1), some (vr (51, 0, 0, 0)), some (vi (n32 (138 * i))), some (vr (26, 1, 0, 0)), some (vi (n32 8)), some (vi (n32 j)), some (jO 1 j), some (vi (n32 (138 * i + 16 * j))), l8] [] (T, S, L, Z, C3) (nz_RV Q) := fun C3 hF3 ho3 h8 l8 => by
        refine sg60_102_r51 ?_
        have e2 := row C3 hF3 2 (by omega)
        have e3 := row C3 hF3 3 (by omega)
        have e4 := row C3 hF3 4 (by omega)
        simp (disch := first | omega | decide) only [decide_eq_true_eq, decide_eq_false_iff_not, L32, az01, b2i_01, b2i_n0, b2i_n1, Bool.and_true, true_and, and_true, Classical.not_not, Bool.not_eq_true, Bool.not_eq_false, n32_mul, n32_add, n32_ix, n32_ib, n32_lt, n32_le, n32_inj, l_hb, l_hb0, l_shl, l_wo, l_eqm1, l_m1eq, uC_row, u5_k, e2, e3, e4]
        refine ⟨by omega, by omega, by omega, s148 _ ?_ (fun kd o' k l x hk => by rw [u5_c hk, u5_c hk, u5_c hk]; exact ho3 kd o' k l x hk) ?_ _⟩
        · refine Fr.up (Fr.up (Fr.up hF3 ?_) ?_) ?_ <;> (unfold Wcm; omega)
        · obtain ⟨a1, a2, a3, a4⟩ := h8
          simp (disch := decide) only [u5_x, u5_eq]
          exact ⟨a1, a2, a3, a4, ⟨⟩, ⟨⟩, ⟨⟩⟩
      have s80 : ∀ b : Bool, b = (decide (ρ j 1 = 1) && decide (0 < ρ j 4)) → ∀ l8, nzW P (d + 1) az_k60 80 [some (sO 1), some (vr (51, 0, 0, 0)), some (vi (n32 (138 * i))), some (vr (26, 1, 0, 0)), some (vi (n32 8)), some (vi (n32 j)), some (jO 1 j), some (vi (n32 (138 * i + 16 * j))), l8] [] (T, S, L, Z, nz_u5 C2 8 1 j 0 12 (b2i b)) (nz_RV Q) := fun b hb l8 => by
        refine sg60_80_r51 ?_
        have hF3 : Fr Wcm C (nz_u5 C2 8 1 j 0 12 (b2i b)) := hF2.up (by unfold Wcm; omega)
        have e1 := row _ hF3 1 (by omega)
        have v8 : ρ j 1 ≠ 3 → (rowJ t ρ j 1 &&& 8 = 0 ↔ ρ j 2 = 0) := fun h3 => by rw [w3, v1.2.2.2 h3]
        have lt8 : rowJ t ρ j 1 &&& 8 < 2147483648 := Nat.lt_of_le_of_lt Nat.and_le_right (by decide)
        have j2 := (hK.J hj8).1
        have go : ∀ c : Nat, (ρ j 1 ≠ 3 → c = ρ j 2) → ∀ l8, nzW P (d + 1) az_k60 102 [some (sO 1), some (vr (51, 0, 0, 0)), some (vi (n32 (138 * i))), some (vr (26, 1, 0, 0)), some (vi (n32 8)), some (vi (n32 j)), some (jO 1 j), some (vi (n32 (138 * i + 16 * j))), l8] [] (T, S, L, Z, nz_u5 (nz_u5 C2 8 1 j 0 12 (b2i b)) 8 1 j 0 13 (n32 c)) (nz_RV Q) := fun c hc l8 => by
          refine s102 _ (hF3.up (by unfold Wcm; omega)) (fun kd o' k l x hk => by rw [u5_c hk, u5_c hk]; exact ho2 kd o' k l x hk) ?_ _
          simp (disch := decide) only [u5_x, u5_eq]
          exact ⟨x5, x6, by rw [hb], fun h3 => by rw [hc h3]⟩
        simp (disch := omega) only [decide_eq_true_eq, decide_eq_false_iff_not, L32, az01, b2i_01, b2i_n0, b2i_n1, Bool.and_true, true_and, and_true, Classical.not_not, Bool.not_eq_true, Bool.not_eq_false, n32_mul, n32_add, n32_ix, n32_ib, n32_lt, n32_le, n32_inj, l_hb, l_hb0, l_shl, l_wo, l_eqm1, l_m1eq, uC_row, e1, n32_and]
        refine ⟨by omega, fun h0 => go 0 (fun h3 => ?_) _, fun h0 => go 1 (fun h3 => ?_) _⟩
        · exact ((v8 h3).1 h0).symm
        · have : ¬ ρ j 2 = 0 := fun hh => h0 ((v8 h3).2 hh)
          omega
      refine sg60_59_r51 ?_
      have e1 := row C2 hF2 1 (by omega)
      have lt4 : rowJ t ρ j 1 &&& 4 < 2147483648 := Nat.lt_of_le_of_lt Nat.and_le_right (by decide)
      simp (disch := omega) only [decide_eq_true_eq, decide_eq_false_iff_not, L32, az01, b2i_01, b2i_n0, b2i_n1, Bool.and_true, true_and, and_true, Classical.not_not, Bool.not_eq_true, Bool.not_eq_false, n32_mul, n32_add, n32_ix, n32_ib, n32_lt, n32_le, n32_inj, l_hb, l_hb0, l_shl, l_wo, l_eqm1, l_m1eq, uC_row, e1, n32_and]
      refine ⟨by omega, fun h0 => s80 false ?_ _, fun h0 => s80 true ?_ _⟩
      · rw [w2, v1.2.2.1] at h0; exact h0.symm
      · rw [w2, v1.2.2.1] at h0
        cases hb : (decide (ρ j 1 = 1) && decide (0 < ρ j 4)) with
        | false => exact absurd hb h0
        | true => rfl
  exact l12 8 0 rfl C (Fr.rfl' C) (fun k hk => by omega) _ _ _
end
