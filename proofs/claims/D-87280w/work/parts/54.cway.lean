/-! the system's way round -/
def eS (t s : St) (u v : Nat) : Bool := decide (s u 1 = 1) && (kpS t s u).testBit v
def aL (f l v : Nat) : Bool := decide (l ≤ v) && decide (v < 8) && !decide (v = f)
theorem aL_ok {f l v : Nat} : aL f l v = true ↔ l ≤ v ∧ v < 8 ∧ v ≠ f := by
  unfold aL; simp [and_assoc]
def Wway (o : Nat) (kd o' x : Nat) : Prop := o' = o ∧ (kd = 30 ∨ kd = 31 ∨ kd = 32 ∨ (kd = 1 ∧ x = 9))
theorem RC.way {o : Nat} {t s : St} {C C' : nz_f5} (hf : Fr (Wway o) C C') (h : RC o t s C) : RC o t s C' :=
  RC.off (fun j x => hf 8 o j 0 x (by unfold Wway; omega)) (fun m x => hf 7 o m 0 x (by unfold Wway; omega)) (fun j p x => hf 9 o j p x (by unfold Wway; omega)) (hf 1 o 0 0 5 (by unfold Wway; omega)) (fun j m => hf 35 o j 0 m (by unfold Wway; omega)) (fun m => hf 28 o 0 0 m (by unfold Wway; omega)) (fun m k => hf 97 o m 0 k (by unfold Wway; omega)) h
section
variable {P : Nat × (Nat → Int32)} {d o : Nat} {t s : St} {T S L Z : nz_f2} {C : nz_f5}
theorem c_tells {f k : Nat} {w : Nat → Nat} (hw0 : w 0 = f) (hf : f < 8) (hk : k < 8) (hw8 : ∀ l, l ≤ k → w l < 8) (hwf : ∀ l, l < k → w (l + 1) ≠ f) (h31 : ∀ l, l < k → C 31 o 0 0 (w (l + 1)) = n32 (w l)) (h9 : C 1 o 0 0 9 = n32 0) (hd : 2 ≤ d) {Q : nz_h → Prop}
    (hq : ∀ C', Fr (Wway o) C C' → C' 1 o 0 0 9 = n32 (k + 1) → (∀ l, l ≤ k → C' 32 o 0 0 l = n32 (w l)) → Q (T, S, L, Z, C')) : ctV P d 45 [sO o, vi (n32 f), vi (n32 (w k))] (T, S, L, Z, C) Q := by
  obtain ⟨d, rfl⟩ := dge hd
  refine sm45 ?_
  have l47 : ∀ l, l ≤ k → ∀ C1, Fr (Wway o) C C1 → (∀ x, C1 31 o 0 0 x = C 31 o 0 0 x) → C1 1 o 0 0 9 = n32 (k + 1) → (∀ i, l < i → i ≤ k → C1 32 o 0 0 i = n32 (w i)) → ∀ l2, nzW P (d + 1) az_k45 47 [some (sO o), some (vi (n32 f)), l2, some (vi (n32 (w l))), some (vi (n32 l))] [] (T, S, L, Z, C1) (nz_RV Q) := by
    intro l
    induction l with
    | zero =>
      intro hl C1 hF h1 h2 h3 l2
      refine sg45_47 ?_
      simp (disch := omega) only [decide_eq_true_eq, decide_eq_false_iff_not, L32, az01, b2i_01, b2i_n0, b2i_n1, Bool.and_true, true_and, and_true, Classical.not_not, Bool.not_eq_true, Bool.not_eq_false, n32_mul, n32_add, n32_ix, n32_ib, n32_lt, n32_le, n32_inj, l_hb, l_hb0, l_shl, l_wo, l_eqm1, l_m1eq, uC_row]
      refine ⟨fun _ => ⟨by decide, hq _ (hF.up (by unfold Wway; omega)) ((u5_ne (Or.inl (by decide))).trans h2) (fun i hi => ?_)⟩, fun hc => by omega⟩
      by_cases h0 : i = 0
      · rw [h0, u5_eq, hw0]
      · rw [u5_ne (Or.inr h0)]; exact h3 i (by omega) hi
    | succ l ih =>
      intro hl C1 hF h1 h2 h3 l2
      have a1 := hw8 (l + 1) hl
      have a2 := h31 l hl
      refine sg45_47 ?_
      have e31 : ∀ x v, nz_u5 C1 32 o 0 0 (l + 1) v 31 o 0 0 x = C 31 o 0 0 x := fun x v => (u5_ne (Or.inl (by decide))).trans (h1 x)
      simp (disch := omega) only [decide_eq_true_eq, decide_eq_false_iff_not, L32, az01, b2i_01, b2i_n0, b2i_n1, Bool.and_true, true_and, and_true, Classical.not_not, Bool.not_eq_true, Bool.not_eq_false, n32_mul, n32_add, n32_ix, n32_ib, n32_lt, n32_le, n32_inj, l_hb, l_hb0, l_shl, l_wo, l_eqm1, l_m1eq, uC_row, e31, a2, l_m1]
      refine ⟨fun hc => by omega, fun _ => ⟨by omega, a1, ?_⟩⟩
      have := ih (by omega) (nz_u5 C1 32 o 0 0 (l + 1) (n32 (w (l + 1)))) (hF.up (by unfold Wway; omega)) (fun x => e31 x _) ((u5_ne (Or.inl (by decide))).trans h2) (fun i hi hik => ?_) l2
      · exact this
      · by_cases h0 : i = l + 1
        · rw [h0, u5_eq]
        · rw [u5_ne (Or.inr h0)]; exact h3 i (by omega) hik
  have l2 : ∀ l, l ≤ k → ∀ C1, Fr (Wway o) C C1 → (∀ x, C1 31 o 0 0 x = C 31 o 0 0 x) → C1 1 o 0 0 9 = n32 (k - l) → ∀ l4, nzW P (d + 1) az_k45 2 [some (sO o), some (vi (n32 f)), some (vi (n32 (w k))), some (vi (n32 (w l))), l4] [] (T, S, L, Z, C1) (nz_RV Q) := by
    intro l
    induction l with
    | zero =>
      intro hl C1 hF h1 h2 l4
      refine sg45_2 ?_
      have a1 := hw8 0 (by omega)
      simp (disch := omega) only [decide_eq_true_eq, decide_eq_false_iff_not, L32, az01, b2i_01, b2i_n0, b2i_n1, Bool.and_true, true_and, and_true, Classical.not_not, Bool.not_eq_true, Bool.not_eq_false, n32_mul, n32_add, n32_ix, n32_ib, n32_lt, n32_le, n32_inj, l_hb, l_hb0, l_shl, l_wo, l_eqm1, l_m1eq, uC_row, h2, u5_eq, hw0, n32_sub]
      refine ⟨fun _ => ?_, fun hc => (hc trivial).elim⟩
      have := l47 k (Nat.le_refl _) (nz_u5 C1 1 o 0 0 9 (n32 (k - 0 + 1))) (hF.up (by unfold Wway; omega)) (fun x => (u5_ne (Or.inl (by decide))).trans (h1 x)) u5_eq (fun i a b => by omega) (some (vi (n32 (w k))))
      rw [show k - 0 + 1 - 1 = k by omega]
      exact this
    | succ l ih =>
      intro hl C1 hF h1 h2 l4
      have a1 := hw8 (l + 1) hl
      have a2 := h31 l hl
      have a3 := hwf l hl
      refine sg45_2 ?_
      have e31 : ∀ x v, nz_u5 C1 1 o 0 0 9 v 31 o 0 0 x = C 31 o 0 0 x := fun x v => (u5_ne (Or.inl (by decide))).trans (h1 x)
      simp (disch := omega) only [decide_eq_true_eq, decide_eq_false_iff_not, L32, az01, b2i_01, b2i_n0, b2i_n1, Bool.and_true, true_and, and_true, Classical.not_not, Bool.not_eq_true, Bool.not_eq_false, n32_mul, n32_add, n32_ix, n32_ib, n32_lt, n32_le, n32_inj, l_hb, l_hb0, l_shl, l_wo, l_eqm1, l_m1eq, uC_row, h2, e31, a2]
      refine ⟨fun hc => (a3 hc).elim, fun _ => ⟨a1, ?_⟩⟩
      exact ih (by omega) (nz_u5 C1 1 o 0 0 9 (n32 (k - (l + 1) + 1))) (hF.up (by unfold Wway; omega)) (fun x => e31 x _) (by rw [u5_eq]; congr 1; omega) _
  exact l2 k (Nat.le_refl _) C (Fr.rfl' C) (fun _ => rfl) (by rw [Nat.sub_self]; exact h9) _
def MI (o : Nat) (q pp : Nat → Nat) (n : Nat) (C : nz_f5) : Prop :=
  (∀ p, p < n → C 30 o 0 0 p = n32 (q p)) ∧ (∀ p, 1 ≤ p → p < n → C 31 o 0 0 (q p) = n32 (q (pp p))) ∧ (∀ v, v < 8 → (∀ p, 1 ≤ p → p < n → q p ≠ v) → C 31 o 0 0 v = nm1) ∧ C 1 o 0 0 9 = n32 0
theorem c_way {f l : Nat} (hT : TV t) (hI : INV t s) (hR : RC o t s C) (hd : 6 ≤ d) (hf : f < 8) (hl : l ≤ 8) {Q : Int32 → nz_h → Prop}
    (hq0 : (∀ w k, ¬ clo (eS t s) (aL f l) f w k) → ∀ C', Fr (Wway o) C C' → C' 1 o 0 0 9 = n32 0 → Q (n32 0) (T, S, L, Z, C'))
    (hq1 : ∀ w k, k < 8 → clo (eS t s) (aL f l) f w k → (∀ w' k', clo (eS t s) (aL f l) f w' k' → vl w k ≤ vl w' k') → ∀ C', Fr (Wway o) C C' → C' 1 o 0 0 9 = n32 (k + 1) → (∀ i, i ≤ k → C' 32 o 0 0 i = n32 (w i)) → Q (n32 1) (T, S, L, Z, C')) : ctI P d 40 [sO o, vi (n32 f), vi (n32 l)] (T, S, L, Z, C) Q := by
  obtain ⟨d, rfl⟩ := dge hd
  refine sm40 ?_
  have ha : ∀ v, aL f l v = true → v < 8 ∧ v ≠ f := fun v h => (aL_ok.1 h).2
  have hk8 : ∀ u, cond (decide (s u 1 = 1)) (kpS t s u) 0 < 256 := fun u => by
    cases decide (s u 1 = 1) with
    | true => exact kpS_lt t s u
    | false => exact (by decide : 0 < 256)
  have hkb : ∀ u v, (cond (decide (s u 1 = 1)) (kpS t s u) 0).testBit v = eS t s u v := fun u v => by
    unfold eS
    cases decide (s u 1 = 1) with
    | true => rfl
    | false => exact Nat.zero_testBit v
  have main : ∀ r n i q pp C1, i + r = 8 → i ≤ n → BI (eS t s) (aL f l) f q pp n → done (eS t s) (aL f l) f q pp n i → (∀ p, 1 ≤ p → p < n → pp p < i) → MI o q pp n C1 → Fr (Wway o) C C1 → ∀ l5 l6, nzW P (d + 5) az_k40 38 [some (sO o), some (vi (n32 f)), some (vi (n32 l)), some (vi (n32 n)), some (vi (n32 i)), l5, l6] [] (T, S, L, Z, C1) (nz_RI Q) := by
    intro r
    induction r with
    | zero =>
      intro n i q pp C1 hr hin hb hdn hpp hM hF l5 l6
      have n8 := hb.n8 ha hf
      refine sg40_38 ?_
      simp (disch := omega) only [decide_eq_true_eq, decide_eq_false_iff_not, L32, az01, b2i_01, b2i_n0, b2i_n1, Bool.and_true, true_and, and_true, Classical.not_not, Bool.not_eq_true, Bool.not_eq_false, n32_mul, n32_add, n32_ix, n32_ib, n32_lt, n32_le, n32_inj, l_hb, l_hb0, l_shl, l_wo, l_eqm1, l_m1eq]
      exact ⟨fun _ => hq0 (fun w k hw => absurd (hb.least ha hdn hw).1 (by omega)) C1 hF hM.2.2.2, fun hc => by omega⟩
    | succ r ih =>
      intro n i q pp C1 hr hin hb hdn hpp hM hF l5 l6
      have n8 := hb.n8 ha hf
      refine sg40_38 ?_
      by_cases hi : i = n
      · simp (disch := omega) only [decide_eq_true_eq, decide_eq_false_iff_not, L32, az01, b2i_01, b2i_n0, b2i_n1, Bool.and_true, true_and, and_true, Classical.not_not, Bool.not_eq_true, Bool.not_eq_false, n32_mul, n32_add, n32_ix, n32_ib, n32_lt, n32_le, n32_inj, l_hb, l_hb0, l_shl, l_wo, l_eqm1, l_m1eq]
        exact ⟨fun _ => hq0 (fun w k hw => absurd (hb.least ha hdn hw).1 (by omega)) C1 hF hM.2.2.2, fun hc => by omega⟩
      · have hi' : i < n := by omega
        have q8 := hb.q8 ha hf hi'
        have e30 := hM.1 i hi'
        have hR1 := hR.way hF
        simp (disch := omega) only [decide_eq_true_eq, decide_eq_false_iff_not, L32, az01, b2i_01, b2i_n0, b2i_n1, Bool.and_true, true_and, and_true, Classical.not_not, Bool.not_eq_true, Bool.not_eq_false, n32_mul, n32_add, n32_ix, n32_ib, n32_lt, n32_le, n32_inj, l_hb, l_hb0, l_shl, l_wo, l_eqm1, l_m1eq, e30]
        refine ⟨fun hc => by omega, fun _ => ⟨by omega, q8, ?_⟩⟩
        rw [c_keepers (h := (T, S, L, Z, C1)) hT hI hR1 (by omega) q8]
        have h256 := hk8 (q i)
        rw [c_has (by omega) (by omega) (by omega), hkb]
        simp (disch := omega) only [decide_eq_true_eq, decide_eq_false_iff_not, L32, az01, b2i_01, b2i_n0, b2i_n1, Bool.and_true, true_and, and_true, Classical.not_not, Bool.not_eq_true, Bool.not_eq_false, n32_mul, n32_add, n32_ix, n32_ib, n32_lt, n32_le, n32_inj, l_hb, l_hb0, l_shl, l_wo, l_eqm1, l_m1eq, e30]
        cases he : eS t s (q i) f with
        | true =>
          refine ⟨fun hc => (by cases hc), fun _ => ⟨by omega, ?_⟩⟩
          obtain ⟨w, ps, k, p1, p2, p3, p4, p5, p6, p7⟩ := hb.path i hi'
          have wk : q i = w k := by rw [(p6 k (Nat.le_refl _)).2, p4]
          rw [wk]
          refine c_tells (w := w) p2.1 hf (by omega) (fun x hx => by rw [(p6 x hx).2]; exact hb.q8 ha hf (p6 x hx).1) (fun x hx => (ha _ (p2.2 x hx).2).2) (fun x hx => ?_) hM.2.2.2 (by omega) (fun C' hF' h9 h32 => ?_)
          · rw [(p6 (x + 1) hx).2, hM.2.1 _ (p7 x hx).1 (p6 (x + 1) hx).1, (p7 x hx).2, (p6 x (by omega)).2]
          · exact hq1 w k (by omega) ⟨p2, by rw [← wk]; exact he⟩ (fun w' k' hw' => by rw [p3]; exact (hb.least ha hdn hw').2) C' (hF.trans hF') h9 h32
        | false =>
          refine ⟨fun _ => ?_, fun hc => (by cases hc)⟩
          have inner : ∀ r2 n k q' pp' C2, k + r2 = 8 + (l - l) → i < n → q' i = q i → BI (eS t s) (aL f l) f q' pp' n → done (eS t s) (aL f l) f q' pp' n i → (∀ p, 1 ≤ p → p < n → pp' p < i ∨ (pp' p = i ∧ q' p < k)) → (∀ v, v < k → aL f l v = true → eS t s (q i) v = true → ∃ p', 1 ≤ p' ∧ p' < n ∧ q' p' = v ∧ pp' p' ≤ i) → l ≤ k → MI o q' pp' n C2 → Fr (Wway o) C C2 → nzW P (d + 5) az_k40 88 [some (sO o), some (vi (n32 f)), some (vi (n32 l)), some (vi (n32 n)), some (vi (n32 i)), some (vi (n32 (cond (decide (s (q i) 1 = 1)) (kpS t s (q i)) 0))), some (vi (n32 k))] [] (T, S, L, Z, C2) (nz_RI Q) := by
            intro r2
            induction r2 with
            | zero =>
              intro n k q' pp' C2 hr2 hin2 hqi hb2 hdn2 hpp2 hv2 hlk hM2 hF2
              have n82 := hb2.n8 ha hf
              obtain rfl : k = 8 := by omega
              refine sg40_88 ?_
              simp (disch := omega) only [decide_eq_true_eq, decide_eq_false_iff_not, L32, az01, b2i_01, b2i_n0, b2i_n1, Bool.and_true, true_and, and_true, Classical.not_not, Bool.not_eq_true, Bool.not_eq_false, n32_mul, n32_add, n32_ix, n32_ib, n32_lt, n32_le, n32_inj, l_hb, l_hb0, l_shl, l_wo, l_eqm1, l_m1eq]
              refine ⟨fun _ => ?_, fun hc => by omega⟩
              refine ih n (i + 1) q' pp' C2 (by omega) (by omega) hb2 (fun p hp => ?_) (fun p a b => by have := hpp2 p a b; omega) hM2 hF2 _ _
              by_cases hpi : p = i
              · subst hpi
                rw [hqi]
                exact ⟨he, fun v hav hev => hv2 v (aL_ok.1 hav).2.1 hav hev⟩
              · exact hdn2 p (by omega)
            | succ r2 ih2 =>
              intro n k q' pp' C2 hr2 hin2 hqi hb2 hdn2 hpp2 hv2 hlk hM2 hF2
              have n82 := hb2.n8 ha hf
              have hk : k < 8 := by omega
              have e30 := hM2.1 i hin2
              have skip : (aL f l k = true → eS t s (q i) k = true → ∃ p', 1 ≤ p' ∧ p' < n ∧ q' p' = k ∧ pp' p' ≤ i) → nzW P (d + 5) az_k40 88 [some (sO o), some (vi (n32 f)), some (vi (n32 l)), some (vi (n32 n)), some (vi (n32 i)), some (vi (n32 (cond (decide (s (q i) 1 = 1)) (kpS t s (q i)) 0))), some (vi (n32 (k + 1)))] [] (T, S, L, Z, C2) (nz_RI Q) := fun hs =>
                ih2 n (k + 1) q' pp' C2 (by omega) hin2 hqi hb2 hdn2 (fun p a b => by have := hpp2 p a b; omega) (fun v hv => by
                  by_cases hvk : v = k
                  · subst hvk; exact hs
                  · exact hv2 v (by omega)) (by omega) hM2 hF2
              refine sg40_88 ?_
              simp (disch := omega) only [decide_eq_true_eq, decide_eq_false_iff_not, L32, az01, b2i_01, b2i_n0, b2i_n1, Bool.and_true, true_and, and_true, Classical.not_not, Bool.not_eq_true, Bool.not_eq_false, n32_mul, n32_add, n32_ix, n32_ib, n32_lt, n32_le, n32_inj, l_hb, l_hb0, l_shl, l_wo, l_eqm1, l_m1eq, c_has, hkb]
              refine ⟨fun hc => by omega, fun _ => ⟨fun hb => skip (fun _ h => by rw [hb] at h; cases h), fun hb => ⟨fun hc => skip (fun h _ => absurd hc (aL_ok.1 h).2.2), fun hc => ⟨hk, ?_⟩⟩⟩⟩
              have hak : aL f l k = true := aL_ok.2 ⟨hlk, hk, hc⟩
              by_cases hx : ∃ p, 1 ≤ p ∧ p < n ∧ q' p = k
              · obtain ⟨p, g1, g2, g3⟩ := hx
                have e31 := hM2.2.1 p g1 g2
                rw [g3] at e31
                have g4 := hpp2 p g1 g2
                have g5 := hb2.q8 ha hf (p := pp' p) (by omega)
                simp (disch := omega) only [e31, decide_eq_true_eq, decide_eq_false_iff_not, L32, az01, b2i_01, b2i_n0, b2i_n1, Bool.and_true, true_and, and_true, Classical.not_not, Bool.not_eq_true, Bool.not_eq_false, n32_mul, n32_add, n32_ix, n32_ib, n32_lt, n32_le, n32_inj, l_hb, l_hb0, l_shl, l_wo, l_eqm1, l_m1eq]
                exact ⟨fun hc => hc.elim, fun _ => skip (fun _ _ => ⟨p, g1, g2, g3, by omega⟩)⟩
              · have hnew : ∀ p, 1 ≤ p → p < n → q' p ≠ k := fun p a b e => hx ⟨p, a, b, e⟩
                have e31 := hM2.2.2.1 k hk hnew
                have hb3 := hb2.push ha hin2 hak (by rw [hqi]; exact hb) hnew hpp2
                have n83 := hb3.n8 ha hf
                simp (disch := omega) only [e31, e30, uC_row, decide_eq_true_eq, decide_eq_false_iff_not, L32, az01, b2i_01, b2i_n0, b2i_n1, Bool.and_true, true_and, and_true, Classical.not_not, Bool.not_eq_true, Bool.not_eq_false, n32_mul, n32_add, n32_ix, n32_ib, n32_lt, n32_le, n32_inj, l_hb, l_hb0, l_shl, l_wo, l_eqm1, l_m1eq]
                refine ⟨fun _ => ⟨by omega, hk, by omega, ?_⟩, fun hc => (hc trivial).elim⟩
                refine ih2 (n + 1) (k + 1) _ _ _ (by omega) (by omega) ?_ hb3 (fun p hp => ?_) (fun p a b => ?_) (fun v hv h1 h2 => ?_) (by omega) ⟨fun p hp => ?_, fun p h1 hp => ?_, fun v hv hnv => ?_, ?_⟩ ((hF2.up (by unfold Wway; omega)).up (by unfold Wway; omega))
                · simp only [if_neg (show ¬ i = n by omega)]; exact hqi
                · simp only [if_neg (show ¬ p = n by omega)]
                  refine ⟨(hdn2 p hp).1, fun v h1 h2 => ?_⟩
                  obtain ⟨p', g1, g2, g3, g4⟩ := (hdn2 p hp).2 v h1 h2
                  refine ⟨p', g1, by omega, ?_⟩
                  simp only [if_neg (show ¬ p' = n by omega)]; exact ⟨g3, g4⟩
                · by_cases hpn : p = n
                  · simp only [if_pos hpn]; exact Or.inr ⟨trivial, Nat.lt_succ_self _⟩
                  · simp only [if_neg hpn]; have := hpp2 p a (by omega); omega
                · by_cases hvk : v = k
                  · subst hvk
                    refine ⟨n, by omega, by omega, ?_⟩
                    simp only [if_true]; exact ⟨trivial, Nat.le_refl _⟩
                  · obtain ⟨p', g1, g2, g3, g4⟩ := hv2 v (by omega) h1 h2
                    refine ⟨p', g1, by omega, ?_⟩
                    simp only [if_neg (show ¬ p' = n by omega)]; exact ⟨g3, g4⟩
                · by_cases hpn : p = n
                  · simp only [hpn, if_true, u5_eq]
                  · simp only [if_neg hpn]; rw [u5_ne (Or.inr hpn), u5_ne (Or.inl (by decide))]; exact hM2.1 p (by omega)
                · rw [u5_ne (Or.inl (by decide))]
                  by_cases hpn : p = n
                  · simp only [hpn, if_true, u5_eq, if_neg (show ¬ i = n by omega)]
                  · have g := hpp2 p h1 (by omega)
                    simp only [if_neg hpn, if_neg (show ¬ pp' p = n by omega)]
                    rw [u5_ne (Or.inr (hnew p h1 (by omega)))]; exact hM2.2.1 p h1 (by omega)
                · rw [u5_ne (Or.inl (by decide))]
                  have hvk : v ≠ k := fun e => by
                    have := hnv n (by omega) (by omega)
                    simp only [if_true] at this; exact this e.symm
                  rw [u5_ne (Or.inr hvk)]
                  refine hM2.2.2.1 v hv (fun p a b => ?_)
                  have := hnv p a (by omega)
                  simp only [if_neg (show ¬ p = n by omega)] at this; exact this
                · rw [u5_ne (Or.inl (by decide)), u5_ne (Or.inl (by decide))]; exact hM2.2.2.2
          by_cases hl8 : l = 8
          · subst hl8
            exact inner 0 n 8 q pp C1 (by omega) hi' rfl hb hdn (fun p a b => Or.inl (hpp p a b)) (fun v hv h => absurd (aL_ok.1 h).1 (by omega)) (Nat.le_refl _) hM hF
          · exact inner (8 - l) n l q pp C1 (by omega) hi' rfl hb hdn (fun p a b => Or.inl (hpp p a b)) (fun v hv h => absurd (aL_ok.1 h).1 (by omega)) (Nat.le_refl _) hM hF
  have l2 : ∀ r m, r + m = 8 → ∀ C1, Fr (Wway o) C C1 → (∀ v, v < m → C1 31 o 0 0 v = nm1) → ∀ l4 l5 l6, nzW P (d + 5) az_k40 2 [some (sO o), some (vi (n32 f)), some (vi (n32 l)), some (vi (n32 m)), l4, l5, l6] [] (T, S, L, Z, C1) (nz_RI Q) := by
    intro r
    induction r with
    | zero =>
      intro m hm C1 hF h31 l4 l5 l6
      obtain rfl : m = 8 := by omega
      refine sg40_2 ?_
      simp (disch := omega) only [decide_eq_true_eq, decide_eq_false_iff_not, L32, az01, b2i_01, b2i_n0, b2i_n1, Bool.and_true, true_and, and_true, Classical.not_not, Bool.not_eq_true, Bool.not_eq_false, n32_mul, n32_add, n32_ix, n32_ib, n32_lt, n32_le, n32_inj, l_hb, l_hb0, l_shl, l_wo, l_eqm1, l_m1eq, uC_row]
      refine ⟨fun _ => ⟨by omega, ?_⟩, fun hc => by omega⟩
      refine main 8 1 0 (fun _ => f) (fun _ => 0) _ (by omega) (by omega) ⟨by omega, rfl, fun p a b => by omega, fun p p' a b _ => by omega, fun p p' a b c => by omega⟩ (fun p hp => by omega) (fun p a b => by omega) ⟨fun p hp => ?_, fun p a b => by omega, fun v hv _ => ?_, u5_eq⟩ ((hF.up (by unfold Wway; omega)).up (by unfold Wway; omega)) _ _
      · obtain rfl : p = 0 := by omega
        rw [u5_ne (Or.inl (by decide)), u5_eq]
      · rw [u5_ne (Or.inl (by decide)), u5_ne (Or.inl (by decide))]; exact h31 v hv
    | succ r ih =>
      intro m hm C1 hF h31 l4 l5 l6
      refine sg40_2 ?_
      simp (disch := omega) only [decide_eq_true_eq, decide_eq_false_iff_not, L32, az01, b2i_01, b2i_n0, b2i_n1, Bool.and_true, true_and, and_true, Classical.not_not, Bool.not_eq_true, Bool.not_eq_false, n32_mul, n32_add, n32_ix, n32_ib, n32_lt, n32_le, n32_inj, l_hb, l_hb0, l_shl, l_wo, l_eqm1, l_m1eq, uC_row]
      refine ⟨fun hc => by omega, fun _ => ⟨by omega, ?_⟩⟩
      refine ih (m + 1) (by omega) _ (hF.up (by unfold Wway; omega)) (fun v hv => ?_) _ _ _
      by_cases hvm : v = m
      · rw [hvm, u5_eq]
      · rw [u5_ne (Or.inr hvm)]; exact h31 v (by omega)
  exact l2 8 0 rfl C (Fr.rfl' C) (fun v hv => by omega) _ _ _
end
