/-! the system's grant -/
theorem nwo_id {a b : Nat} (ha : a < 1024) (hb : b < 4294967296) (h : ∀ i, i < 10 → a.testBit i = true → b.testBit i = false) : nwo a b = a := by
  apply Nat.eq_of_testBit_eq
  intro i
  by_cases hi : i < 10
  · rw [nwo_bit hb (by omega)]
    cases hai : a.testBit i with
    | false => rfl
    | true => rw [h i hi hai]; rfl
  · have h1 := nwo_le a b
    have : 2 ^ 10 ≤ 2 ^ i := Nat.pow_le_pow_right (by decide) (by omega)
    rw [Nat.testBit_lt_two_pow (by omega), Nat.testBit_lt_two_pow (by omega)]
section
variable {t s : St} {j : Nat}
theorem getF_time {m : Nat} (hT : TV t) (hI : INV t s) (hj : j < 8) (h1 : s j 1 = 1) (ha : atlS t s j = false) (hm : m < 10) : getF t s j (8 + m) = if (askS t s j).testBit m = true then (if 0 < s j 4 then s j 4 else 1) else if opS t s j = 9 ∧ (onS t s j).testBit m = true then s j (8 + m) + 1 else s j (8 + m) := by
  have hA := hI.av hT hj (Or.inl h1)
  unfold getF
  rw [ha, cond_false]
  by_cases h4 : 0 < s j 4
  · have h5 := hA.2 h4
    have ea : askS t s j = 2 ^ onS t s j := by unfold askS onlyS; rw [decide_eq_true h4]; rfl
    rw [decide_eq_true h4, cond_true, ea, pow_bit, if_pos h4]
    by_cases e : onS t s j = m
    · rw [if_pos (show 8 + m = 8 + onS t s j by omega), decide_eq_true e, if_pos rfl]
    · rw [if_neg (show ¬ 8 + m = 8 + onS t s j by omega), decide_eq_false e, if_neg (show ¬ false = true by decide), if_neg (fun hh => by omega)]
  · rw [decide_eq_false h4, cond_false, if_neg h4]
    by_cases h9 : opS t s j = 9
    · have ea : (askS t s j).testBit m = ((onS t s j).testBit m && decide (s j (8 + m) = 0)) := by
        unfold askS onlyS
        rw [decide_eq_false h4, h9]
        simp only [decide_true, Bool.not_true, Bool.or_false, cond_false]
        rw [bits_bit, decide_eq_true hm, Bool.true_and]
      rw [decide_eq_true h9, cond_true, ea, show 8 + m - 8 = m by omega]
      cases hb : (onS t s j).testBit m with
      | false => rw [if_neg (fun hh => by cases hh.2.2), if_neg (by simp), if_neg (fun hh => by cases hh.2)]
      | true =>
        rw [if_pos ⟨by omega, by omega, rfl⟩]
        by_cases hz : s j (8 + m) = 0
        · rw [if_pos (by rw [decide_eq_true hz]; rfl), hz]
        · rw [if_neg (by rw [decide_eq_false hz]; simp), if_pos ⟨h9, rfl⟩]
    · have ea : askS t s j = 2 ^ onS t s j := by unfold askS onlyS; rw [decide_eq_false h9]; simp
      rw [decide_eq_false h9, cond_false, if_neg (by omega), ea, pow_bit]
      by_cases e : onS t s j = m
      · rw [if_pos (show 8 + m = 8 + onS t s j by omega), decide_eq_true e, if_pos rfl]
      · rw [if_neg (show ¬ 8 + m = 8 + onS t s j by omega), decide_eq_false e, if_neg (show ¬ false = true by decide), if_neg (fun hh => h9 hh.1)]
theorem getF_5 (hT : TV t) (hI : INV t s) (hj : j < 8) (h1 : s j 1 = 1) (ha : atlS t s j = false) : getF t s j 5 = nwo (s j 5) (askS t s j) := by
  have hA := hI.av hT hj (Or.inl h1)
  have hJ := hI.J hj
  have h5 := hJ.1.2.2.2
  have hask := askS_lt (hA.askO hT)
  unfold getF
  rw [ha, cond_false]
  by_cases h4 : 0 < s j 4
  · have hon := hA.on hT h4
    have ea : askS t s j = 2 ^ onS t s j := by unfold askS onlyS; rw [decide_eq_true h4]; rfl
    have hno := (hJ.2.2.1.2.1 (Or.inr ⟨h1, h4⟩)).2.2
    rw [decide_eq_true h4, cond_true, if_neg (by omega)]
    refine (nwo_id h5 (by omega) (fun i hi hb => ?_)).symm
    rw [ea, pow_bit, decide_eq_false_iff_not]
    intro e
    unfold hasR at hno
    rw [Bool.or_eq_false_iff] at hno
    have e2 : onR t j (s j) = i := e
    rw [e2] at hno
    rw [hb] at hno; cases hno.2
  · rw [decide_eq_false h4, cond_false]
    by_cases h9 : opS t s j = 9
    · rw [decide_eq_true h9, cond_true, if_neg (by omega)]
      refine (nwo_id h5 (by omega) (fun i hi hb => ?_)).symm
      have hok := hJ.2.2.1.1 h1 (by omega)
      have h9' : opR t j (s j) = 9 := h9
      unfold askS onlyS
      rw [decide_eq_false h4, h9]
      simp only [decide_true, Bool.not_true, Bool.or_false, cond_false]
      rw [bits_bit, decide_eq_true hi, Bool.true_and]
      rcases hok with ⟨a, _⟩ | ⟨a, _⟩ | ⟨_, a, _⟩
      · omega
      · omega
      · cases hb2 : (onS t s j).testBit i with
        | false => rfl
        | true => have := a i hi hb2; rw [hb] at this; cases this
    · rw [decide_eq_false h9, cond_false, if_pos rfl]
theorem getF_2 : getF t s j 2 = s j 2 := by
  unfold getF
  cases atlS t s j <;> cases decide (0 < s j 4) <;> cases decide (opS t s j = 9) <;> simp <;> omega
theorem getF_6 : getF t s j 6 = s j 6 := by
  unfold getF
  cases atlS t s j <;> cases decide (0 < s j 4) <;> cases decide (opS t s j = 9) <;> simp <;> omega
end
def Wgr (o kd o' x : Nat) : Prop := Wsh o kd o' x ∨ (o = 0 ∧ glW kd o' x)
theorem Fr.gr {o : Nat} {C C' : nz_f5} (h : Fr (Wsh o) C C') : Fr (Wgr o) C C' := h.mono (fun _ _ _ => Or.inl)
theorem RH.congr {L L' : nz_f2} {C C' : nz_f5} (h : RH L C) (hl : ∀ a x, ((72 ≤ a ∧ a ≤ 74) ∨ (81 ≤ a ∧ a ≤ 85) ∨ (a = 13 ∧ (x = 22 ∨ x = 34))) → L' a x = L a x) (hF : Fr (Wsh 0) C C') : RH L' C' := by
  obtain ⟨h1, h2, h3⟩ := h
  refine ⟨?_, fun i => ?_, h3.congr (fun a x h1 h2 => hl a x (by omega)) (hl 13 34 (by omega)) (hF 10 0 0 0 5 (by unfold Wsh; omega)) (fun kd x h1 h2 => hF kd 0 0 0 x (by unfold Wsh; omega))⟩
  · rw [hF 11 0 0 0 5 (by unfold Wsh; omega), hl 13 22 (by omega)]; exact h1
  · rw [hF 43 0 0 0 i (by unfold Wsh; omega), hF 44 0 0 0 i (by unfold Wsh; omega), hF 45 0 0 0 i (by unfold Wsh; omega), hl 72 i (by omega), hl 73 i (by omega), hl 74 i (by omega)]; exact h2 i
section
variable {P : Nat × (Nat → Int32)} {d o : Nat} {t s : St} {T S L0 L Z : nz_f2} {C : nz_f5} {j : Nat}
theorem RC.try1 (hT : TV t) (hI : INV t s) (hR : RC o t s C) (hj : j < 8) (ht : triS t s j = true) : RC o t (up s j 3 (s j 3 + 1)) (nz_u5 C 8 o j 0 9 (n32 (s j 3 + 1))) := by
  unfold triS at ht
  simp only [Bool.and_eq_true, decide_eq_true_eq] at ht
  have h1 := ht.1.1
  obtain ⟨e6, e7, e35, e12, e5, e11, e10, e0⟩ := hR.2.1 j hj
  rw [try_upj]
  refine hR.job hj (FJ.up (FJ.rfl' C) (by unfold WJ; omega)) (by omega) (by rw [if_neg (by decide)]; omega) ?_
  have ea : atlS t (upj s j (fun f => if f = 3 then s j 3 + 1 else s j f)) j = atlS t s j := by unfold atlS opS; rw [upj_self]; rfl
  have eb : askS t (upj s j (fun f => if f = 3 then s j 3 + 1 else s j f)) j = askS t s j := by
    unfold askS onlyS onS opS
    rw [upj_self]
    simp only [show ¬ 4 = 3 by decide, show ¬ 0 = 3 by decide, if_false]
    congr 1
  unfold RJ
  rw [ea, eb, upj_self]
  simp only [show ¬ 1 = 3 by decide, show ¬ 5 = 3 by decide, show ¬ 4 = 3 by decide, show ¬ 2 = 3 by decide, show ¬ 0 = 3 by decide, if_false, if_true]
  refine ⟨?_, ?_, fun m hm => ?_, fun h => ⟨?_, ?_⟩, fun h => ?_, fun h => ⟨?_, ?_, ?_⟩, fun h => ?_, fun h => by omega⟩
  · rw [u5_x (by decide)]; exact e6
  · rw [u5_x (by decide)]; exact e7
  · rw [u5_k (by decide), if_neg (by omega)]; exact e35 m hm
  · rw [u5_x (by decide)]; exact (e12 h).1
  · rw [u5_x (by decide)]; exact (e12 h).2
  · rw [u5_x (by decide)]; exact e5 h
  · rw [u5_x (by decide)]; exact (e11 h).1
  · rw [u5_x (by decide)]; exact (e11 h).2.1
  · rw [u5_eq]
  · rw [u5_x (by decide)]; exact e10 h
theorem c_over9 {v : Int32} (hT : TV t) (hI : INV t s) (hR : RC o t s C) (hG : RG o s L C) (hd : 3 ≤ d) (hj : j < 8) (ht : triS t s j = true) {Q : nz_h → Prop}
    (hq : ∀ C', Fr (Wsh o) C C' → RC o t (passS s j) C' → RG o (passS s j) (incL L 69 j) C' → Q (T, S, L0, Z, C')) : ctV P d 56 [jO o j] (T, S, L0, Z, nz_u5 C 8 o j 0 9 v) Q := by
  obtain ⟨d, rfl⟩ := dge hd
  have ht2 := ht
  unfold triS at ht2
  simp only [Bool.and_eq_true, decide_eq_true_eq] at ht2
  have h1 := ht2.1.1
  have hA := hI.av hT hj (Or.inl h1)
  have hJ := hR.2.1 j hj
  refine sm56 ?_
  simp (disch := omega) only [decide_eq_true_eq, decide_eq_false_iff_not, L32, az01, b2i_01, b2i_n0, b2i_n1, Bool.and_true, true_and, and_true, Classical.not_not, Bool.not_eq_true, Bool.not_eq_false, uC_row, c_on]
  rw [show nz_u5 C 8 o j 0 9 v 8 o j 0 18 = C 8 o j 0 18 from u5_x (by decide)]
  have hF : FJ o j C (nz_u5 (nz_u5 C 8 o j 0 9 v) 8 o j 0 18 (C 8 o j 0 18 + n32 1)) := FJ.up (FJ.up (FJ.rfl' C) (by unfold WJ; omega)) (by unfold WJ; omega)
  refine hq _ (onC_FJ hF).sh ?_ ?_
  · unfold passS
    refine hR.go hj hF (by omega) rfl ?_ ?_ (fun m hm => ?_) ?_ ⟨s j 0 + 2, by have := hA.1; omega, ?_, fun _ => ?_, fun h => ?_⟩
    · exact ht2.1.2
    · rw [u5_x (by decide), u5_x (by decide)]; exact hJ.2.1
    · rw [u5_k (by decide), u5_k (by decide), if_neg (by omega), if_neg (by omega)]; exact hJ.2.2.1 m hm
    · rw [u5_x (by decide), u5_x (by decide)]; exact (hJ.2.2.2.1 (by omega)).2
    · rw [u5_x (by decide), u5_x (by decide), hJ.2.2.2.2.1 (Or.inl h1), n32_add]
    · rfl
    · exact h
  · intro h0
    subst h0
    obtain ⟨g1, g2⟩ := hG rfl
    have el : incL L 69 j = nz_u2 L 69 j (L 69 j + n32 1) := by unfold incL; rw [decide_eq_false g1]; rfl
    rw [el]
    refine ⟨by rw [u2_ne (by decide)]; exact g1, ?_⟩
    unfold passS
    have gj := g2.1 j hj
    refine g2.job hj (fun k x hk => (onC_FJ hF) 8 0 k 0 x (by unfold WJ; omega)) (fun kd k h1 h2 hk => ?_) ⟨?_, ?_, ?_, ?_, ?_, ?_⟩ ?_ (fun y hy => ?_) (fun y hy => ?_)
    · by_cases h69 : kd = 69
      · rw [h69, u2_at, if_neg hk]
      · exact u2_ne h69
    · unfold onC; simp (disch := decide) only [u5_x, u2_ne]; exact gj.1
    · unfold onC; simp (disch := decide) only [u5_x, u2_ne]; exact gj.2.1
    · unfold onC; simp (disch := decide) only [u5_x, u5_eq, u2_eq]; rw [gj.2.2.1]
    · unfold onC; simp (disch := decide) only [u5_x, u2_ne]; exact gj.2.2.2.1
    · unfold onC; simp (disch := decide) only [u5_x, u2_ne]; exact gj.2.2.2.2.1
    · unfold onC; simp (disch := decide) only [u5_x]; exact gj.2.2.2.2.2
    · unfold onC; simp (disch := decide) only [u5_k, u2_ne]; exact g2.2.1
    · unfold onC; simp (disch := decide) only [u5_k, u2_ne]; exact g2.2.2.1 y hy
    · unfold onC; simp (disch := decide) only [u5_k, u2_ne]; exact g2.2.2.2 y hy
theorem c_tryL {p : Pr} (hT : TV t) (hI : INV t p.1) (hL : LI1 p.1 p.2) {Q : nz_h → Prop}
    (hq : ∀ C', Fr (Wgr o) C C' → RC o t (tryP t 8 p).1 C' → RG o (tryP t 8 p).1 (tryP t 8 p).2 C' → (o = 0 → RH (tryP t 8 p).2 C') → Q (T, S, L0, Z, C')) : ∀ n m, n + m = 8 → ∀ C1, Fr (Wgr o) C C1 → RC o t (tryP t m p).1 C1 → RG o (tryP t m p).1 (tryP t m p).2 C1 → (o = 0 → RH (tryP t m p).2 C1) → ∀ l0 l1 l2 l3 l4 l8, nzW P (d + 5) az_k57 182 [l0, l1, l2, l3, l4, some (vr (26, o, 0, 0)), some (vi (n32 8)), some (vi (n32 m)), l8] [] (T, S, L0, Z, C1) (nz_RV Q) := by
  intro n
  induction n with
  | zero =>
    intro m hm C1 hF hR hG hH l0 l1 l2 l3 l4 l8
    obtain rfl : m = 8 := by omega
    refine sg57_182_o0 ?_
    simp (disch := omega) only [decide_eq_true_eq, decide_eq_false_iff_not, L32, az01, b2i_01, b2i_n0, b2i_n1, Bool.and_true, true_and, and_true, Classical.not_not, Bool.not_eq_true, Bool.not_eq_false, n32_mul, n32_add, n32_ix, n32_ib, n32_lt, n32_le, n32_inj, l_hb, l_hb0, l_shl, l_wo, l_eqm1, l_m1eq]
    exact ⟨fun _ => hq C1 hF hR hG hH, fun hc => by omega⟩
  | succ n ih =>
    intro m hm C1 hF hR hG hH l0 l1 l2 l3 l4 l8
    have hm8 : m < 8 := by omega
    have hI1 := (tryP_inv hT hI hL m (by omega)).1
    have hB := hI1.B
    generalize hp : tryP t m p = p1 at *
    have hst : tryP t (m + 1) p = cond (triS t p1.1 m) (cond (decide (p1.1 m 3 + 1 < t 60 (20 * m + p1.1 m 0))) (up p1.1 m 3 (p1.1 m 3 + 1), p1.2) (passS p1.1 m, incL p1.2 69 m)) p1 := by rw [tryP, hp]
    refine sg57_182_o0 ?_
    simp (disch := omega) only [decide_eq_true_eq, decide_eq_false_iff_not, L32, az01, b2i_01, b2i_n0, b2i_n1, Bool.and_true, true_and, and_true, Classical.not_not, Bool.not_eq_true, Bool.not_eq_false, n32_mul, n32_add, n32_ix, n32_ib, n32_lt, n32_le, n32_inj, l_hb, l_hb0, l_shl, l_wo, l_eqm1, l_m1eq, uC_row, c_tries (h := (T, S, L0, Z, C1)) hT hI1 hR]
    refine ⟨fun hc => by omega, fun _ => ⟨hm8, fun hb => ?_, fun hb => ?_⟩⟩
    · rw [hb, cond_true] at hst
      have ht := hb
      unfold triS at ht
      simp only [Bool.and_eq_true, decide_eq_true_eq] at ht
      have h1 := ht.1.1
      obtain ⟨e6, e7, e35, e12, e5, e11, e10, e0⟩ := hR.2.1 m hm8
      have e9 := (e11 h1).2.2
      have ep := e5 (Or.inl h1)
      have hA := hI1.av hT hm8 (Or.inl h1)
      have hpc := (hI1.J hm8).1.2.2.1 (Or.inl h1)
      have ew := (hR.1.2.2.1 m (p1.1 m 0) hm8 hpc).2.2
      have hw := (hT.2.2.2.2.2.2.1 (20 * m + p1.1 m 0) ht.2)
      have h3 := (hI1.J hm8).2.2.2.2.2.2.2 hb
      have hp20 := hA.1
      simp (disch := first | omega | decide) only [decide_eq_true_eq, decide_eq_false_iff_not, L32, az01, b2i_01, b2i_n0, b2i_n1, Bool.and_true, true_and, and_true, Classical.not_not, Bool.not_eq_true, Bool.not_eq_false, n32_mul, n32_add, n32_ix, n32_ib, n32_lt, n32_le, n32_inj, l_hb, l_hb0, l_shl, l_wo, l_eqm1, l_m1eq, e9, ep, ew, u5_k, u5_x, u5_eq]
      refine ⟨hp20, fun hne => ?_, fun heq => ?_⟩
      · rw [decide_eq_true (by omega), cond_true] at hst
        refine ih (m + 1) (by omega) _ (hF.up ?_) ?_ ?_ (fun h0 => ?_) _ _ _ _ _ _
        · unfold Wgr Wsh; omega
        · rw [hst]; exact hR.try1 hT hI1 hm8 hb
        · rw [hst]
          intro h0
          subst h0
          refine hG.keep (fun k x hx => u5_x (by omega)) (u5_k (by decide)) (fun kd x h1 h2 => u5_k (by omega)) (fun k => ?_) rfl
          show up p1.1 m 3 (p1.1 m 3 + 1) k 6 = p1.1 k 6
          unfold up; rw [if_neg (by omega)]
        · subst h0
          rw [hst]
          exact (hH rfl).congr (fun _ _ _ => rfl) (Fr.up (Fr.rfl' C1) (by unfold Wsh; omega))
      · rw [decide_eq_false (by omega), cond_false] at hst
        refine c_over9 (L := p1.2) hT hI1 hR hG (by omega) hm8 hb (fun C2 hF2 hR2 hG2 => ?_)
        refine ih (m + 1) (by omega) C2 (hF.trans hF2.gr) (by rw [hst]; exact hR2) (by rw [hst]; exact hG2) (fun h0 => ?_) _ _ _ _ _ _
        subst h0
        rw [hst]
        exact (hH rfl).congr (fun a x ha => incL_keep (by omega)) hF2
    · rw [hb, cond_false] at hst
      exact ih (m + 1) (by omega) C1 hF (by rw [hst]; exact hR) (by rw [hst]; exact hG) (fun h0 => by rw [hst]; exact hH h0) _ _ _ _ _ _
end
