/-! grants and tries keep it -/
section
variable {t s : St} {j : Nat}
theorem can_apart (h : canS t s j = true) (ha : atlS t s j = false) : ∀ k, k < 8 → k ≠ j → ∀ m, m < 10 → (askS t s j).testBit m = true → hasS s k m = false := by
  intro k hk hne m hm hb
  unfold canS at h
  simp only [Bool.and_eq_true, decide_eq_true_eq] at h
  have h0 := h.1
  unfold kpS at h0
  rw [ha, cond_false] at h0
  have := bits_zero.mp h0 k hk
  unfold kpB at this
  rw [decide_eq_false hne] at this
  simp only [Bool.not_false, Bool.true_and, Bool.not_eq_false', decide_eq_true_eq] at this
  have hh := congrArg (fun x => x.testBit m) this
  simp only [Nat.testBit_and, Nat.zero_testBit, hb, Bool.and_true] at hh
  unfold hadS at hh
  rw [bits_bit, decide_eq_true hm, Bool.true_and] at hh
  exact hh
theorem can_look (h : canS t s j = true) (ha : atlS t s j = true) : ∀ k, k < 8 → k ≠ j → s k (8 + onS t s j) = 0 := by
  intro k hk hne
  unfold canS at h
  simp only [Bool.and_eq_true, decide_eq_true_eq] at h
  have h0 := h.1
  unfold kpS at h0
  rw [ha, cond_true] at h0
  unfold kpG at h0
  cases hf : fst 8 0 (usB s j (onS t s j)) with
  | some x =>
    rw [hf] at h0
    have := Nat.two_pow_pos x
    simp only at h0
    omega
  | none =>
    have := fst_none.mp hf k (Nat.zero_le _) (by omega)
    unfold usB at this
    rw [decide_eq_false hne] at this
    simp at this
    exact this
theorem INV_gets (hT : TV t) (h : INV t s) (hj : j < 8) (h1 : s j 1 = 1) (hc : canS t s j = true) : INV t (getsS t s j) := by
  have hA := h.av hT hj (Or.inl h1)
  have hp := hA.1
  obtain ⟨⟨a1, a2, a3, a4⟩, b, ⟨c1, c2, c3⟩, ⟨d1, d2, d3, d4⟩, ⟨f1, f2⟩, g1, g2, g3⟩ := h.J hj
  have hn' : opS t s j ≠ 9 → onS t s j < 10 := hT.2.2.2.2.2.1 _
  have e8 : ∀ m, m < 10 → (if 8 + m = 1 ∨ 8 + m = 3 ∨ 8 + m = 4 then 0 else if 8 + m = 0 then s j 0 + 1 else getF t s j (8 + m)) = getF t s j (8 + m) := fun m _ => by
    rw [if_neg (by omega), if_neg (by omega)]
  have hask := askS_lt (hA.askO hT)
  have g2' : getF t s j 2 = s j 2 := by
    unfold getF
    cases atlS t s j <;> cases decide (0 < s j 4) <;> cases decide (opS t s j = 9) <;> simp
    all_goals (intro hh; omega)
  have g6' : getF t s j 6 = s j 6 := by
    unfold getF
    cases atlS t s j <;> cases decide (0 < s j 4) <;> cases decide (opS t s j = 9) <;> simp
    all_goals (intro hh; omega)
  have key : getF t s j 5 < 1024 ∧ (∀ m, m < 10 → 0 < getF t s j (8 + m) → (getF t s j 5).testBit m = false) ∧ (∀ m, m < 10 → getF t s j (8 + m) ≤ s j (8 + m) + 1 ∨ getF t s j (8 + m) ≤ s j 4) ∧
      (∀ k, k < 8 → k ≠ j → ∀ m, m < 10 → (0 < getF t s j (8 + m) → hasS s k m = false) ∧ (0 < s k (8 + m) → (decide (0 < getF t s j (8 + m)) || (getF t s j 5).testBit m) = false)) := by
    cases ha : atlS t s j with
    | true =>
      have hop : s j 4 = 0 ∧ opS t s j = 2 := by unfold atlS at ha; simpa using ha
      have hon := hn' (by omega)
      have hno : hasS s j (onS t s j) = false := by
        rcases c1 h1 hop.1 with ⟨-, hh⟩ | ⟨hh, -⟩ | ⟨hh, -⟩
        · exact hh
        · exfalso; unfold opR at hh; have := hop.2; unfold opS at this; omega
        · exfalso; unfold opR at hh; have := hop.2; unfold opS at this; omega
      have hsk : askS t s j = 2 ^ onS t s j := by unfold askS onlyS; rw [hop.2]; simp
      have e5 : getF t s j 5 = s j 5 ||| askS t s j := by unfold getF; rw [ha]; rfl
      have et : ∀ m, getF t s j (8 + m) = s j (8 + m) := fun m => by unfold getF; rw [ha, cond_true, if_neg (by omega)]
      have hlk := can_look hc ha
      unfold hasS at hno
      simp only [Bool.or_eq_false_iff, decide_eq_false_iff_not] at hno
      refine ⟨by rw [e5]; exact Nat.or_lt_two_pow (n := 10) a4 hask, fun m hm hh => ?_, fun m _ => Or.inl (by rw [et]; omega), fun k hk hne m hm => ⟨fun hh => h.2.1 j k hj hk (Ne.symm hne) m hm (by rw [et] at hh; exact hh), fun hh => ?_⟩⟩
      · rw [et] at hh
        rw [e5, hsk, Nat.testBit_or, pow_bit, b m hm hh]
        have : onS t s j ≠ m := fun e => by rw [e] at hno; omega
        simp [this]
      · have hx := h.2.1 k j hk hj hne m hm hh
        unfold hasS at hx
        simp only [Bool.or_eq_false_iff, decide_eq_false_iff_not] at hx
        have : onS t s j ≠ m := fun e => by have := hlk k hk hne; rw [e] at this; omega
        rw [et, e5, hsk, Nat.testBit_or, pow_bit, hx.2]
        simp [hx.1, this]
    | false =>
      have hap := can_apart hc ha
      by_cases h4 : 0 < s j 4
      · obtain ⟨x1, x2, x3⟩ := c2 (Or.inr ⟨h1, h4⟩)
        have hon : onS t s j < 10 := hn' (by unfold opR at x1; unfold opS; omega)
        have x3 : hasS s j (onS t s j) = false := x3
        have hsk : askS t s j = 2 ^ onS t s j := by unfold askS onlyS; rw [decide_eq_true h4]; rfl
        have e5 : getF t s j 5 = s j 5 := by unfold getF; rw [ha, decide_eq_true h4]; simp only [cond_false, cond_true]; rw [if_neg (by omega)]
        have et : ∀ m, m ≠ onS t s j → getF t s j (8 + m) = s j (8 + m) := fun m hm => by unfold getF; rw [ha, decide_eq_true h4]; simp only [cond_false, cond_true]; rw [if_neg (by omega)]
        have eo : getF t s j (8 + onS t s j) = s j 4 := by unfold getF; rw [ha, decide_eq_true h4]; simp
        unfold hasS at x3
        simp only [Bool.or_eq_false_iff, decide_eq_false_iff_not] at x3
        have hapo : ∀ k, k < 8 → k ≠ j → hasS s k (onS t s j) = false := fun k hk hne => hap k hk hne _ hon (by rw [hsk, pow_bit]; simp)
        refine ⟨by rw [e5]; exact a4, fun m hm hh => ?_, fun m hm => ?_, fun k hk hne m hm => ⟨fun hh => ?_, fun hh => ?_⟩⟩
        · rw [e5]
          by_cases e : m = onS t s j
          · rw [e]; exact x3.2
          · rw [et m e] at hh; exact b m hm hh
        · by_cases e : m = onS t s j
          · rw [e, eo]; exact Or.inr (Nat.le_refl _)
          · rw [et m e]; exact Or.inl (by omega)
        · by_cases e : m = onS t s j
          · rw [e]; exact hapo k hk hne
          · rw [et m e] at hh; exact h.2.1 j k hj hk (Ne.symm hne) m hm hh
        · have hx := h.2.1 k j hk hj hne m hm hh
          unfold hasS at hx
          by_cases e : m = onS t s j
          · have := hapo k hk hne
            unfold hasS at this
            rw [← e] at this
            simp only [Bool.or_eq_false_iff, decide_eq_false_iff_not] at this
            omega
          · rw [et m e, e5]; exact hx
      · have h40 : s j 4 = 0 := by omega
        by_cases h9 : opS t s j = 9
        · have hno := c1 h1 h40
          have hno : ∀ m, m < 10 → (onS t s j).testBit m = true → (s j 5).testBit m = false := by
            rcases hno with ⟨hh, -⟩ | ⟨hh, -⟩ | ⟨-, hh, -⟩
            · exfalso; unfold opR at hh; unfold opS at h9; omega
            · exfalso; unfold opR at hh; unfold opS at h9; omega
            · exact hh
          have hbit : ∀ m, m < 10 → (askS t s j).testBit m = ((onS t s j).testBit m && decide (s j (8 + m) = 0)) := by
            intro m hm
            unfold askS onlyS
            rw [decide_eq_false h4, h9]
            simp only [decide_true, Bool.not_true, Bool.or_false, cond_false]
            rw [bits_bit, decide_eq_true hm, Bool.true_and]
          have e5 : getF t s j 5 = s j 5 := by unfold getF; rw [ha, decide_eq_false h4, decide_eq_true h9]; simp only [cond_false, cond_true]; rw [if_neg (by omega)]
          have et : ∀ m, m < 10 → getF t s j (8 + m) = if (onS t s j).testBit m = true then s j (8 + m) + 1 else s j (8 + m) := fun m hm => by
            unfold getF; rw [ha, decide_eq_false h4, decide_eq_true h9]; simp only [cond_false, cond_true]
            rw [show 8 + m - 8 = m by omega]
            by_cases hb : (onS t s j).testBit m = true
            · rw [if_pos ⟨by omega, by omega, hb⟩, if_pos hb]
            · rw [if_neg (fun hh => hb hh.2.2), if_neg hb]
          have hfree : ∀ m, m < 10 → (onS t s j).testBit m = true → ∀ k, k < 8 → k ≠ j → hasS s k m = false := fun m hm hb k hk hne => by
            by_cases hz : s j (8 + m) = 0
            · exact hap k hk hne m hm (by rw [hbit m hm, hb, decide_eq_true hz]; rfl)
            · exact h.2.1 j k hj hk (Ne.symm hne) m hm (by omega)
          refine ⟨by rw [e5]; exact a4, fun m hm hh => ?_, fun m hm => ?_, fun k hk hne m hm => ⟨fun hh => ?_, fun hh => ?_⟩⟩
          · rw [e5]
            by_cases hb : (onS t s j).testBit m = true
            · exact hno m hm hb
            · rw [et m hm, if_neg hb] at hh; exact b m hm hh
          · rw [et m hm]; left; split <;> omega
          · by_cases hb : (onS t s j).testBit m = true
            · exact hfree m hm hb k hk hne
            · rw [et m hm, if_neg hb] at hh; exact h.2.1 j k hj hk (Ne.symm hne) m hm hh
          · have hx := h.2.1 k j hk hj hne m hm hh
            unfold hasS at hx
            by_cases hb : (onS t s j).testBit m = true
            · have := hfree m hm hb k hk hne
              unfold hasS at this
              simp only [Bool.or_eq_false_iff, decide_eq_false_iff_not] at this
              omega
            · rw [et m hm, if_neg hb, e5]; exact hx
        · have hon := hn' h9
          have hsk : askS t s j = 2 ^ onS t s j := by unfold askS onlyS; rw [decide_eq_false h9]; simp
          have hpw : 2 ^ onS t s j < 1024 := Nat.pow_lt_pow_right (a := 2) (n := 10) (by decide) hon
          have e5 : getF t s j 5 = nwo (s j 5) (2 ^ onS t s j) := by unfold getF; rw [ha, decide_eq_false h4, decide_eq_false h9, hsk]; simp
          have et : ∀ m, m ≠ onS t s j → getF t s j (8 + m) = s j (8 + m) := fun m hm => by unfold getF; rw [ha, decide_eq_false h4, decide_eq_false h9]; simp only [cond_false]; rw [if_neg (by omega), if_neg (by omega)]
          have eo : getF t s j (8 + onS t s j) = 1 := by unfold getF; rw [ha, decide_eq_false h4, decide_eq_false h9]; simp only [cond_false]; rw [if_neg (by omega)]; simp
          have hapo : ∀ k, k < 8 → k ≠ j → hasS s k (onS t s j) = false := fun k hk hne => hap k hk hne _ hon (by rw [hsk, pow_bit]; simp)
          have hle := nwo_le (s j 5) (2 ^ onS t s j)
          refine ⟨by rw [e5]; omega, fun m hm hh => ?_, fun m hm => ?_, fun k hk hne m hm => ⟨fun hh => ?_, fun hh => ?_⟩⟩
          · rw [e5, nwo_pow (by omega) (by omega)]
            by_cases e : m = onS t s j
            · rw [← e]; simp
            · rw [et m e] at hh; rw [b m hm hh]; rfl
          · left
            by_cases e : m = onS t s j
            · rw [e, eo]; omega
            · rw [et m e]; omega
          · by_cases e : m = onS t s j
            · rw [e]; exact hapo k hk hne
            · rw [et m e] at hh; exact h.2.1 j k hj hk (Ne.symm hne) m hm hh
          · have hx := h.2.1 k j hk hj hne m hm hh
            unfold hasS at hx
            by_cases e : m = onS t s j
            · have := hapo k hk hne
              unfold hasS at this
              rw [← e] at this
              simp only [Bool.or_eq_false_iff, decide_eq_false_iff_not] at this
              omega
            · simp only [Bool.or_eq_false_iff, decide_eq_false_iff_not] at hx
              rw [et m e, e5, nwo_pow (by omega) (by omega), hx.2]
              simp [hx.1]
  obtain ⟨k1, k2, k3, k4⟩ := key
  have htb : ∀ m, m < 10 → getF t s j (8 + m) ≤ 60 := fun m hm => by
    have h1 := h.tb hj hm
    have h2 : s j 4 ≤ 50 := by omega
    rcases k3 m hm with hh | hh <;> omega
  refine INV_go (r' := fun f => if f = 1 ∨ f = 3 ∨ f = 4 then 0 else if f = 0 then s j 0 + 1 else getF t s j f) h hj (Or.inr h1) rfl ⟨by simp, by simp; omega⟩ g2' rfl rfl g6' k1 (fun m hm hh => ?_) (fun m hm => ?_) (fun k hk hne m hm => ⟨fun hh => ?_, fun hh => ?_⟩) (fun f => ?_)
  · simp only [e8 m hm] at hh; exact k2 m hm hh
  · simp only [e8 m hm]; exact k3 m hm
  · simp only [e8 m hm] at hh; exact (k4 k hk hne m hm).1 hh
  · simp only [hasR, e8 m hm]; exact (k4 k hk hne m hm).2 hh
  · split; · omega
    split; · omega
    · by_cases hf : 8 ≤ f ∧ f < 18
      · have := htb (f - 8) (by omega)
        rw [show 8 + (f - 8) = f by omega] at this
        omega
      · by_cases h5 : f = 5
        · rw [h5]; omega
        · have : getF t s j f = s j f := by
            have hon : onS t s j < 10 ∨ (0 < s j 4 → False) ∧ opS t s j = 9 := by
              by_cases h9 : opS t s j = 9
              · by_cases h4 : 0 < s j 4
                · exact Or.inl (hA.on hT h4)
                · exact Or.inr ⟨h4, h9⟩
              · exact Or.inl (hn' h9)
            unfold getF
            cases atlS t s j with
            | true => rw [cond_true, if_neg h5]
            | false =>
              rw [cond_false]
              by_cases h4 : 0 < s j 4
              · have := hA.on hT h4
                rw [decide_eq_true h4, cond_true, if_neg (by omega)]
              · rw [decide_eq_false h4, cond_false]
                by_cases h9 : opS t s j = 9
                · rw [decide_eq_true h9, cond_true, if_neg (by omega)]
                · have := hn' h9
                  rw [decide_eq_false h9, cond_false, if_neg h5, if_neg (by omega)]
          rw [this]; exact h.B j f
end
