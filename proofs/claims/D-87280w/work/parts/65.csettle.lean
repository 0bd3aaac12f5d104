/-! the system's settles -/
section
variable {P : Nat × (Nat → Int32)} {d o : Nat} {t s : St} {T S L0 L Z : nz_f2} {C : nz_f5} {j : Nat}
theorem c_over (hT : TV t) (hI : INV t s) (hR : RC o t s C) (hG : RG o s L C) (hd : 3 ≤ d) (hj : j < 8) (ht : triS t s j = true) {Q : nz_h → Prop}
    (hq : ∀ C', Fr (Wsh o) C C' → RC o t (passS s j) C' → RG o (passS s j) (incL L 69 j) C' → Q (T, S, L0, Z, C')) : ctV P d 56 [jO o j] (T, S, L0, Z, C) Q := by
  obtain ⟨d, rfl⟩ := dge hd
  have ht2 := ht
  unfold triS at ht2
  simp only [Bool.and_eq_true, decide_eq_true_eq] at ht2
  have h1 := ht2.1.1
  have hA := hI.av hT hj (Or.inl h1)
  have hJ := hR.2.1 j hj
  refine sm56 ?_
  simp (disch := omega) only [decide_eq_true_eq, decide_eq_false_iff_not, L32, az01, b2i_01, b2i_n0, b2i_n1, Bool.and_true, true_and, and_true, Classical.not_not, Bool.not_eq_true, Bool.not_eq_false, uC_row, c_on]
  have hF : FJ o j C (nz_u5 C 8 o j 0 18 (C 8 o j 0 18 + n32 1)) := FJ.up (FJ.rfl' C) (by unfold WJ; omega)
  refine hq _ (onC_FJ hF).sh ?_ ?_
  · unfold passS
    refine hR.go hj hF (by omega) rfl ?_ ((u5_x (by decide)).trans hJ.2.1) (fun m hm => ?_) ?_ ⟨s j 0 + 2, by have := hA.1; omega, ?_, fun _ => ?_, fun h => ?_⟩
    · exact ht2.1.2
    · rw [u5_k (by decide), if_neg (by omega), if_neg (by omega)]; exact hJ.2.2.1 m hm
    · rw [u5_x (by decide)]; exact (hJ.2.2.2.1 (by omega)).2
    · rw [u5_x (by decide), hJ.2.2.2.2.1 (Or.inl h1), n32_add]
    · rfl
    · exact h
  · intro h0
    subst h0
    obtain ⟨g1, g2⟩ := hG rfl
    have el : incL L 69 j = nz_u2 L 69 j (L 69 j + n32 1) := by unfold incL; rw [decide_eq_false g1]; rfl
    rw [el]
    refine ⟨by rw [u2_ne (by decide)]; exact g1, ?_⟩
    unfold passS
    have gj := g2.1 j hj
    refine g2.job hj (fun k x hk => (onC_FJ hF) 8 0 k 0 x (by unfold WJ; omega)) (fun kd k h1 h2 hk => ?_) ⟨?_, ?_, ?_, ?_, ?_, ?_⟩ ?_ (fun y hy => ?_) (fun y hy => ?_)
    · by_cases h69 : kd = 69
      · rw [h69, u2_at, if_neg hk]
      · exact u2_ne h69
    · unfold onC; simp (disch := decide) only [u5_x, u2_ne]; exact gj.1
    · unfold onC; simp (disch := decide) only [u5_x, u2_ne]; exact gj.2.1
    · unfold onC; simp (disch := decide) only [u5_x, u5_eq, u2_eq]; rw [gj.2.2.1]
    · unfold onC; simp (disch := decide) only [u5_x, u2_ne]; exact gj.2.2.2.1
    · unfold onC; simp (disch := decide) only [u5_x, u2_ne]; exact gj.2.2.2.2.1
    · unfold onC; simp (disch := decide) only [u5_x]; exact gj.2.2.2.2.2
    · unfold onC; simp (disch := decide) only [u5_k, u2_ne]; exact g2.2.1
    · unfold onC; simp (disch := decide) only [u5_k, u2_ne]; exact g2.2.2.1 y hy
    · unfold onC; simp (disch := decide) only [u5_k, u2_ne]; exact g2.2.2.2 y hy
theorem c_tires {p : Pr} (hT : TV t) (hI : INV t p.1) (hL : LI1 p.1 p.2) (hR : RC o t p.1 C) (hG : RG o p.1 p.2 C) (hd : 5 ≤ d) {Q : Int32 → nz_h → Prop}
    (hq : ∀ C', Fr (Wsh o) C C' → RC o t (passP t 8 p).1 C' → RG o (passP t 8 p).1 (passP t 8 p).2 C' → Q (b2i (anyB 8 (triS t p.1))) (T, S, L0, Z, C')) : ctI P d 55 [sO o] (T, S, L0, Z, C) Q := by
  obtain ⟨d, rfl⟩ := dge hd
  refine sm55 ?_
  have loop : ∀ n m, n + m = 8 → ∀ C1, Fr (Wsh o) C C1 → RC o t (passP t m p).1 C1 → RG o (passP t m p).1 (passP t m p).2 C1 → ∀ l0 l5, nzW P (d + 4) az_k55 13 [l0, some (vi (b2i (anyB m (triS t p.1)))), some (vr (26, o, 0, 0)), some (vi (n32 8)), some (vi (n32 m)), l5] [] (T, S, L0, Z, C1) (nz_RI Q) := by
    intro n
    induction n with
    | zero =>
      intro m hm C1 hF hR1 hG1 l0 l5
      obtain rfl : m = 8 := by omega
      refine sg55_13 ?_
      simp (disch := omega) only [decide_eq_true_eq, decide_eq_false_iff_not, L32, az01, b2i_01, b2i_n0, b2i_n1, Bool.and_true, true_and, and_true, Classical.not_not, Bool.not_eq_true, Bool.not_eq_false, n32_mul, n32_add, n32_ix, n32_ib, n32_lt, n32_le, n32_inj, l_hb, l_hb0, l_shl, l_wo, l_eqm1, l_m1eq]
      exact ⟨fun _ => hq C1 hF hR1 hG1, fun hc => by omega⟩
    | succ n ih =>
      intro m hm C1 hF hR1 hG1 l0 l5
      have hm8 : m < 8 := by omega
      have hI1 := (passP_inv hT hI hL m (by omega)).1
      have er : triS t (passP t m p).1 m = triS t p.1 m := triS_row (passP_row m m (Nat.le_refl _))
      refine sg55_13 ?_
      simp (disch := omega) only [decide_eq_true_eq, decide_eq_false_iff_not, L32, az01, b2i_01, b2i_n0, b2i_n1, Bool.and_true, true_and, and_true, Classical.not_not, Bool.not_eq_true, Bool.not_eq_false, n32_mul, n32_add, n32_ix, n32_ib, n32_lt, n32_le, n32_inj, l_hb, l_hb0, l_shl, l_wo, l_eqm1, l_m1eq, c_tries (h := (T, S, L0, Z, C1)) hT hI1 hR1, er]
      refine ⟨fun hc => by omega, fun _ => ⟨hm8, fun hb => ?_, fun hb => ?_⟩⟩
      · have ep : passP t (m + 1) p = (passS (passP t m p).1 m, incL (passP t m p).2 69 m) := by rw [passP, er, hb]; rfl
        refine c_over hT hI1 hR1 hG1 (by omega) hm8 (er.trans hb) (fun C2 hF2 hR2 hG2 => ?_)
        have := ih (m + 1) (by omega) C2 (hF.trans hF2) (by rw [ep]; exact hR2) (by rw [ep]; exact hG2)
        rw [anyB_T hb] at this
        exact this _ _
      · have ep : passP t (m + 1) p = passP t m p := by rw [passP, er, hb]; rfl
        have := ih (m + 1) (by omega) C1 hF (by rw [ep]; exact hR1) (by rw [ep]; exact hG1)
        rw [anyB_F hb] at this
        exact this _ _
  exact loop 8 0 rfl C (Fr.rfl' C) hR hG _ _
theorem Fr.safe {C' : nz_f5} (h : Fr (Wsafe o) C C') : Fr (Wsh o) C C' := h.mono (fun kd o' x hw => by unfold Wsafe at hw; unfold Wsh; omega)
theorem RG.safe {C' : nz_f5} (h : Fr (Wsafe o) C C') (hG : RG o s L C) : RG o s L C' := by
  intro h0
  subst h0
  exact hG.keep (fun k x _ => h 8 0 k 0 x (by unfold Wsafe; omega)) (h 11 0 0 0 11 (by unfold Wsafe; omega)) (fun kd x h1 h2 => h kd 0 0 0 x (by unfold Wsafe; omega)) (fun _ => rfl) rfl
theorem c_settles (ho : o < 2) (hT : TV t) (hd : 15 ≤ d) {Q : nz_h → Prop} : ∀ n (p : Pr) C, INV t p.1 → LI1 p.1 p.2 → RC o t p.1 C → RG o p.1 p.2 C → mu p.1 < n →
    (∀ C', Fr (Wsh o) C C' → RC o t (setN t n p).1 C' → RG o (setN t n p).1 (setN t n p).2 C' → Q (T, S, L0, Z, C')) → ctV P d 35 [sO o] (T, S, L0, Z, C) Q := by
  obtain ⟨d, rfl⟩ := dge hd
  intro n p C hI hL hR hG hn hq
  refine sm35 ?_
  have stop : ∀ C1, Q (T, S, L0, Z, C1) → ∀ l2 l3 l4 l5 l6, nzW P (d + 14) az_k35 2 [some (sO o), some (vi (n32 0)), l2, l3, l4, l5, l6] [] (T, S, L0, Z, C1) (nz_RV Q) := by
    intro C1 hqq l2 l3 l4 l5 l6
    refine sg35_2 ?_
    simp (disch := omega) only [decide_eq_true_eq, decide_eq_false_iff_not, L32, az01, b2i_01, b2i_n0, b2i_n1, Bool.and_true, true_and, and_true, Classical.not_not, Bool.not_eq_true, Bool.not_eq_false, n32_mul, n32_add, n32_ix, n32_ib, n32_lt, n32_le, n32_inj, l_hb, l_hb0, l_shl, l_wo, l_eqm1, l_m1eq]
    exact ⟨fun _ => hqq, fun hc => absurd trivial hc⟩
  have main : ∀ n (p : Pr) C, INV t p.1 → LI1 p.1 p.2 → RC o t p.1 C → RG o p.1 p.2 C → mu p.1 < n →
    (∀ C', Fr (Wsh o) C C' → RC o t (setN t n p).1 C' → RG o (setN t n p).1 (setN t n p).2 C' → Q (T, S, L0, Z, C')) → ∀ l2 l3 l4 l5 l6, nzW P (d + 14) az_k35 2 [some (sO o), some (vi (n32 1)), l2, l3, l4, l5, l6] [] (T, S, L0, Z, C) (nz_RV Q) := by
    intro n
    induction n with
    | zero => intro p C _ _ _ _ h; omega
    | succ n ih =>
      intro p C hI hL hR hG hn hq l2 l3 l4 l5 l6
      have hB := hI.B
      refine sg35_2 ?_
      simp (disch := omega) only [decide_eq_true_eq, decide_eq_false_iff_not, L32, az01, b2i_01, b2i_n0, b2i_n1, Bool.and_true, true_and, and_true, Classical.not_not, Bool.not_eq_true, Bool.not_eq_false, n32_mul, n32_add, n32_ix, n32_ib, n32_lt, n32_le, n32_inj, l_hb, l_hb0, l_shl, l_wo, l_eqm1, l_m1eq]
      refine ⟨fun hc => by omega, fun _ => ?_⟩
      have found : ∀ k, fst 8 0 (gojB p.1) = some k → ∀ r m, r + m = 8 → ∀ l6, nzW P (d + 14) az_k35 20 [some (sO o), some (vi (n32 1)), some (jO o k), some (vr (26, o, 0, 0)), some (vi (n32 8)), some (vi (n32 m)), l6] [] (T, S, L0, Z, C) (nz_RV Q) := by
        intro k hk r
        have hk2 := fst_some.1 hk
        have hk8 : k < 8 := by omega
        have hst : p.1 k 1 = 0 := by have := hk2.2.2.1; unfold gojB at this; rw [decide_eq_true_eq] at this; exact this
        induction r with
        | zero =>
          intro m hm l6
          obtain rfl : m = 8 := by omega
          refine sg35_20 ?_
          simp (disch := omega) only [decide_eq_true_eq, decide_eq_false_iff_not, L32, az01, b2i_01, b2i_n0, b2i_n1, Bool.and_true, true_and, and_true, Classical.not_not, Bool.not_eq_true, Bool.not_eq_false, n32_mul, n32_add, n32_ix, n32_ib, n32_lt, n32_le, n32_inj, l_hb, l_hb0, l_shl, l_wo, l_eqm1, l_m1eq]
          refine ⟨fun _ => ⟨fun hc => (by cases hc), fun _ => ?_⟩, fun hc => by omega⟩
          have e : nxtP t p = some (doP t p k) := by unfold nxtP; rw [hk]
          have dk := do_keeps (L := p.2) hT hI hL hk8 hst
          refine c_does (L := p.2) ho hT hI hR hG hL (by omega) hk8 hst (fun C' hF hR' hG' => ?_)
          refine ih (doP t p k) C' dk.1 dk.2.1 hR' hG' (Nat.lt_of_lt_of_le dk.2.2 (Nat.le_of_lt_succ hn)) (fun C'' hF' h1 h2 => ?_) _ _ _ _ _
          refine hq C'' (hF.trans hF') ?_ ?_
          · rw [setN, e]; exact h1
          · rw [setN, e]; exact h2
        | succ r ihr =>
          intro m hm l6
          refine sg35_20 ?_
          simp (disch := omega) only [decide_eq_true_eq, decide_eq_false_iff_not, L32, az01, b2i_01, b2i_n0, b2i_n1, Bool.and_true, true_and, and_true, Classical.not_not, Bool.not_eq_true, Bool.not_eq_false, n32_mul, n32_add, n32_ix, n32_ib, n32_lt, n32_le, n32_inj, l_hb, l_hb0, l_shl, l_wo, l_eqm1, l_m1eq]
          exact ⟨fun hc => by omega, fun _ => ⟨by omega, fun hc => (by cases hc), fun _ => ihr (m + 1) (by omega) _⟩⟩
      have scan : ∀ r m, r + m = 8 → fst r m (gojB p.1) = fst 8 0 (gojB p.1) → ∀ l6, nzW P (d + 14) az_k35 20 [some (sO o), some (vi (n32 1)), some vn, some (vr (26, o, 0, 0)), some (vi (n32 8)), some (vi (n32 m)), l6] [] (T, S, L0, Z, C) (nz_RV Q) := by
        intro r
        induction r with
        | zero =>
          intro m hm hf l6
          obtain rfl : m = 8 := by omega
          have hnone : fst 8 0 (gojB p.1) = none := hf.symm
          refine sg35_20 ?_
          simp (disch := omega) only [decide_eq_true_eq, decide_eq_false_iff_not, L32, az01, b2i_01, b2i_n0, b2i_n1, Bool.and_true, true_and, and_true, Classical.not_not, Bool.not_eq_true, Bool.not_eq_false, n32_mul, n32_add, n32_ix, n32_ib, n32_lt, n32_le, n32_inj, l_hb, l_hb0, l_shl, l_wo, l_eqm1, l_m1eq]
          refine ⟨fun _ => ⟨fun _ => ?_, fun hc => (by cases hc)⟩, fun hc => by omega⟩
          refine c_canAny hT hI hR (by omega) (fun C1 hF1 => ?_)
          simp (disch := omega) only [decide_eq_true_eq, decide_eq_false_iff_not, L32, az01, b2i_01, b2i_n0, b2i_n1, Bool.and_true, true_and, and_true, Classical.not_not, Bool.not_eq_true, Bool.not_eq_false, n32_mul, n32_add, n32_ix, n32_ib, n32_lt, n32_le, n32_inj, l_hb, l_hb0, l_shl, l_wo, l_eqm1, l_m1eq]
          have hR1 := hR.safe hF1
          have hG1 := hG.safe hF1
          refine ⟨fun hb => ?_, fun hb => ?_⟩
          · have e : nxtP t p = none := by unfold nxtP; rw [hnone]; simp only []; rw [hb]; rfl
            refine stop C1 (hq C1 hF1.safe ?_ ?_) _ _ _ _ _
            · rw [setN, e]; exact hR1
            · rw [setN, e]; exact hG1
          · refine c_tires hT hI hL hR1 hG1 (by omega) (fun C2 hF2 hR2 hG2 => ?_)
            have hF := hF1.safe.trans hF2
            simp (disch := omega) only [decide_eq_true_eq, decide_eq_false_iff_not, L32, az01, b2i_01, b2i_n0, b2i_n1, Bool.and_true, true_and, and_true, Classical.not_not, Bool.not_eq_true, Bool.not_eq_false, n32_mul, n32_add, n32_ix, n32_ib, n32_lt, n32_le, n32_inj, l_hb, l_hb0, l_shl, l_wo, l_eqm1, l_m1eq]
            refine ⟨fun hc => ?_, fun hc => ?_⟩
            · have e : nxtP t p = none := by unfold nxtP; rw [hnone]; simp only []; rw [hb, hc]; rfl
              have hpe : passP t 8 p = p := by
                have : ∀ n, n ≤ 8 → passP t n p = p := by
                  intro n
                  induction n with
                  | zero => intro _; rfl
                  | succ n ihn =>
                    intro hn8
                    have hz : triS t p.1 n = false := by
                      cases hz : triS t p.1 n with
                      | false => rfl
                      | true => rw [anyB_of (show n < 8 by omega) hz] at hc; cases hc
                    rw [passP, ihn (by omega), hz]; rfl
                exact this 8 (Nat.le_refl _)
              rw [hpe] at hR2 hG2
              refine stop C2 (hq C2 hF ?_ ?_) _ _ _ _ _
              · rw [setN, e]; exact hR2
              · rw [setN, e]; exact hG2
            · have e : nxtP t p = some (passP t 8 p) := by unfold nxtP; rw [hnone]; simp only []; rw [hb, hc]; rfl
              obtain ⟨i1, i2, i3, i4⟩ := passP_inv hT hI hL 8 (Nat.le_refl _)
              refine ih (passP t 8 p) C2 i1 i2 hR2 hG2 (by have := i4 hc; omega) (fun C3 hF3 h1 h2 => ?_) _ _ _ _ _
              refine hq C3 (hF.trans hF3) ?_ ?_
              · rw [setN, e]; exact h1
              · rw [setN, e]; exact h2
        | succ r ihr =>
          intro m hm hf l6
          have hm8 : m < 8 := by omega
          have e6 := (hR.2.1 m hm8).1
          rw [fst] at hf
          refine sg35_20 ?_
          simp (disch := first | omega | (refine Nat.lt_of_lt_of_le (hB _ _) ?_; omega)) only [decide_eq_true_eq, decide_eq_false_iff_not, L32, az01, b2i_01, b2i_n0, b2i_n1, Bool.and_true, true_and, and_true, Classical.not_not, Bool.not_eq_true, Bool.not_eq_false, n32_mul, n32_add, n32_ix, n32_ib, n32_lt, n32_le, n32_inj, l_hb, l_hb0, l_shl, l_wo, l_eqm1, l_m1eq, e6]
          refine ⟨fun hc => by omega, fun _ => ⟨hm8, fun _ => ⟨fun hb => ?_, fun hb => ?_⟩, fun hc => (by cases hc)⟩⟩
          · have : gojB p.1 m = false := by unfold gojB; rw [decide_eq_false hb]
            rw [this] at hf
            exact ihr (m + 1) (by omega) hf _
          · have : gojB p.1 m = true := by unfold gojB; rw [decide_eq_true hb]
            rw [this] at hf
            exact found m hf.symm r (m + 1) (by omega) _
      exact scan 8 0 rfl rfl _
  exact main n p C hI hL hR hG hn hq _ _ _ _ _
end
