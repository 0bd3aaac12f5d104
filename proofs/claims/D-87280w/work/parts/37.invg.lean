/-! further moves keep it; refusals left -/
section
variable {t s : St} {j : Nat} {r r' : Nat → Nat}
theorem goes_upj {X : St} (hX : ∀ a f, a ≠ j → X a f = s a f) : goesS X j = upj s j (fun f => if f = 1 then 0 else if f = 0 then X j 0 + 1 else X j f) := by
  funext a f
  unfold goesS upj
  by_cases ha : a = j
  · rw [if_pos ha, if_pos ha]
  · rw [if_neg ha, if_neg ha]; exact hX a f ha
theorem INV_goX {X : St} (h : INV t s) (hj : j < 8) (hm : s j 1 = 0) (hp : s j 0 < 20) (hX : ∀ a f, a ≠ j → X a f = s a f) (x0 : X j 0 = s j 0) (x2 : X j 2 = s j 2) (x3 : X j 3 = s j 3) (x4 : X j 4 = s j 4) (x6 : X j 6 = s j 6) (x5 : X j 5 < 1024) (x5b : ∀ m, m < 10 → (X j 5).testBit m = true → (s j 5).testBit m = true)
    (x8 : ∀ m, m < 10 → X j (8 + m) ≤ s j (8 + m) + 1 ∧ (0 < X j (8 + m) → 0 < s j (8 + m))) (hbf : ∀ f, X j f < 1000000) : INV t (goesS X j) := by
  rw [goes_upj hX]
  obtain ⟨⟨a1, a2, a3, a4⟩, b, ⟨c1, c2, c3⟩, ⟨d1, d2, d3, d4⟩, ⟨f1, f2⟩, g1, g2, g3⟩ := h.J hj
  have hr3 : s j 3 = 0 := g2 (by unfold triR; simp [hm])
  have hr4 := c3 (Or.inl hm)
  have e8 : ∀ m, (if 8 + m = 1 then 0 else if 8 + m = 0 then X j 0 + 1 else X j (8 + m)) = X j (8 + m) := fun m => by
    rw [if_neg (by omega), if_neg (by omega)]
  refine INV_go (r' := fun f => if f = 1 then 0 else if f = 0 then X j 0 + 1 else X j f) h hj (Or.inl hm) rfl ⟨by simp; omega, by simp; omega⟩ x2 (by simp; omega) (by simp; omega) x6 x5 (fun m hm hh => ?_) (fun m hm => ?_) (XJ_sub (r' := fun f => if f = 1 then 0 else if f = 0 then X j 0 + 1 else X j f) h hj (fun m hm hh => ?_) (fun m hm hh => ?_)) (fun f => ?_)
  · simp only [e8] at hh
    cases hb : (X j 5).testBit m with
    | false => exact hb
    | true =>
      have h1 := x5b m hm hb
      have h2 := b m hm ((x8 m hm).2 hh)
      rw [h1] at h2; cases h2
  · simp only [e8]; exact Or.inl (x8 m hm).1
  · simp only [e8] at hh; exact (x8 m hm).2 hh
  · simp only [hasR, e8] at hh
    unfold hasS
    simp only [Bool.or_eq_true, decide_eq_true_eq] at hh ⊢
    rcases hh with hh | hh
    · exact Or.inl ((x8 m hm).2 hh)
    · exact Or.inr (x5b m hm hh)
  · have := hbf f
    split; · omega
    split <;> omega
theorem INV.tb (h : INV t s) (hj : j < 8) {m : Nat} (hm : m < 10) : s j (8 + m) ≤ 50 := by
  obtain ⟨⟨a1, a2, a3, a4⟩, b, c, ⟨d1, d2, d3, d4⟩, ⟨f1, f2⟩, -⟩ := h.J hj
  have := f1 m hm
  omega
theorem INV_ill (h : INV t s) (hj : j < 8) (hm : s j 1 = 0) (hp : s j 0 < 20) : INV t (goesS s j) :=
  INV_goX h hj hm hp (fun _ _ _ => rfl) rfl rfl rfl rfl rfl (h.J hj).1.2.2.2 (fun _ _ hh => hh) (fun m _ => ⟨by omega, fun hh => hh⟩) (h.B j)
theorem INV_tim {m v : Nat} (h : INV t s) (hj : j < 8) (hm : s j 1 = 0) (hp : s j 0 < 20) (hm10 : m < 10) (hv : v ≤ s j (8 + m) + 1) (hv2 : 0 < v → 0 < s j (8 + m)) : INV t (goesS (up s j (8 + m) v) j) := by
  have e : ∀ f, f < 8 → up s j (8 + m) v j f = s j f := fun f hf => by unfold up; rw [if_neg (by omega)]
  refine INV_goX h hj hm hp (fun a f ha => by unfold up; rw [if_neg (by omega)]) (e 0 (by omega)) (e 2 (by omega)) (e 3 (by omega)) (e 4 (by omega)) (e 6 (by omega)) (by rw [e 5 (by omega)]; exact (h.J hj).1.2.2.2) (fun x _ hh => by rw [e 5 (by omega)] at hh; exact hh) (fun x hx => ?_) (fun f => ?_)
  · by_cases ex : x = m
    · subst ex; unfold up; rw [if_pos ⟨rfl, rfl⟩]; exact ⟨hv, hv2⟩
    · unfold up; rw [if_neg (by omega)]; exact ⟨by omega, fun hh => hh⟩
  · have := h.tb hj hm10
    unfold up; split
    · omega
    · exact h.B j f
theorem INV_leave {m : Nat} (h : INV t s) (hj : j < 8) (hm : s j 1 = 0) (hp : s j 0 < 20) (hm10 : m < 10) : INV t (goesS (up s j 5 (nwo (s j 5) (2 ^ m))) j) := by
  have h5 := (h.J hj).1.2.2.2
  have hle := nwo_le (s j 5) (2 ^ m)
  have e : ∀ f, f ≠ 5 → up s j 5 (nwo (s j 5) (2 ^ m)) j f = s j f := fun f hf => by unfold up; rw [if_neg (by omega)]
  have e5 : up s j 5 (nwo (s j 5) (2 ^ m)) j 5 = nwo (s j 5) (2 ^ m) := by unfold up; rw [if_pos ⟨rfl, rfl⟩]
  have hpw : 2 ^ m < 1024 := Nat.pow_lt_pow_right (a := 2) (n := 10) (by decide) hm10
  refine INV_goX h hj hm hp (fun a f ha => by unfold up; rw [if_neg (by omega)]) (e 0 (by omega)) (e 2 (by omega)) (e 3 (by omega)) (e 4 (by omega)) (e 6 (by omega)) (by rw [e5]; omega) (fun x hx hh => ?_) (fun x hx => ?_) (fun f => ?_)
  · rw [e5, nwo_bit (by omega) (by omega)] at hh
    simp only [Bool.and_eq_true] at hh
    exact hh.1
  · rw [e _ (by omega)]; exact ⟨by omega, fun hh => hh⟩
  · by_cases hf : f = 5
    · subst hf; rw [e5]; omega
    · rw [e f hf]; exact h.B j f
theorem INV_sev {b : Nat} (h : INV t s) (hj : j < 8) (hm : s j 1 = 0) (hp : s j 0 < 20) : INV t (goesS (moreS s j b) j) := by
  have e : ∀ f, f < 8 → moreS s j b j f = s j f := fun f hf => by simp only [moreS, upj, if_true]; rw [if_neg (by omega)]
  have e8 : ∀ m, m < 10 → moreS s j b j (8 + m) = s j (8 + m) ∨ (moreS s j b j (8 + m) = s j (8 + m) + 1 ∧ 0 < s j (8 + m)) := fun m hm => by
    simp only [moreS, upj, if_true]
    split
    · rename_i hc; exact Or.inr ⟨rfl, hc.2.2.2⟩
    · exact Or.inl rfl
  refine INV_goX h hj hm hp (fun a f ha => by simp only [moreS, upj]; rw [if_neg ha]) (e 0 (by omega)) (e 2 (by omega)) (e 3 (by omega)) (e 4 (by omega)) (e 6 (by omega)) (by rw [e 5 (by omega)]; exact (h.J hj).1.2.2.2) (fun x _ hh => by rw [e 5 (by omega)] at hh; exact hh) (fun x hx => ?_) (fun f => ?_)
  · rcases e8 x hx with hh | hh <;> omega
  · simp only [moreS, upj, if_true]
    split
    · rename_i hc
      have := h.tb hj (m := f - 8) (by omega)
      rw [show 8 + (f - 8) = f by omega] at this
      omega
    · exact h.B j f
theorem INV_sleep (hT : TV t) {m : Nat} (h : INV t s) (hj : j < 8) (hm : s j 1 = 0) (hp : s j 0 < t 57 j) (ho : opS t s j = 5) (hn : onS t s j = m) (hm10 : m < 10) (hu : 0 < s j (8 + m)) : INV t (sleepS s j m) := by
  obtain ⟨h1, h2, h3, h4, h5⟩ := h
  have h0 : INV t s := ⟨h1, h2, h3, h4, h5⟩
  obtain ⟨r, hr⟩ : ∃ r : Nat → Nat, r = (fun f => if f = 4 then s j (8 + m) else if f = 8 + m then 0 else if f = 1 then 2 else if f = 7 then s 13 12 + 1 else s j f) := ⟨_, rfl⟩
  have hs : sleepS s j m = up (upj s j r) 13 12 (s 13 12 + 1) := by unfold sleepS; rw [hr]
  have e1 : r 1 = 2 := by rw [hr]; simp only []; rw [if_neg (by omega), if_neg (by omega), if_pos trivial]
  have e4 : r 4 = s j (8 + m) := by rw [hr]; simp
  have e7 : r 7 = s 13 12 + 1 := by rw [hr]; simp only []; rw [if_neg (by omega), if_neg (by omega), if_neg (by omega), if_pos trivial]
  have e8 : r (8 + m) = 0 := by rw [hr]; simp only []; rw [if_neg (by omega), if_pos trivial]
  have ef : ∀ f, f ≠ 1 → f ≠ 4 → f ≠ 7 → f ≠ 8 + m → r f = s j f := fun f a b c d => by rw [hr]; simp only []; rw [if_neg b, if_neg d, if_neg a, if_neg c]
  have eR : ∀ k, k < 8 → sleepS s j m k = if k = j then r else s k := by
    intro k hk
    rw [hs]
    funext f
    unfold up upj
    rw [if_neg (by omega)]
    by_cases hkj : k = j
    · rw [if_pos hkj, if_pos hkj]
    · rw [if_neg hkj, if_neg hkj]
  have eC : sleepS s j m 13 12 = s 13 12 + 1 := by rw [hs]; unfold up; rw [if_pos ⟨rfl, rfl⟩]
  have hJ := JR_sleep hT (r' := r) (h1 j hj) hm hp ho hn hu hm10 e1 e4 e8 ef
  have r8 : ∀ x, x < 10 → (0 < r (8 + x) → 0 < s j (8 + x)) := fun x hx hh => by
    by_cases e : x = m
    · subst e; omega
    · rw [ef _ (by omega) (by omega) (by omega) (by omega)] at hh; exact hh
  have rh : ∀ x, x < 10 → hasR r x = true → hasS s j x = true := fun x hx hh => by
    unfold hasR at hh
    unfold hasS
    simp only [Bool.or_eq_true, decide_eq_true_eq] at hh ⊢
    rcases hh with hh | hh
    · exact Or.inl (r8 x hx hh)
    · rw [ef 5 (by decide) (by decide) (by decide) (by omega)] at hh; exact Or.inr hh
  have hx := XJ_sub h0 hj r8 rh
  have hmu : mu (sleepS s j m) + 1 ≤ mu s := by
    have e : mu (sleepS s j m) = mu (upj s j r) := by
      unfold mu
      have : ∀ n, n ≤ 8 → sumN n (fun k => muR (sleepS s j m k)) = sumN n (fun k => muR (upj s j r k)) := by
        intro n
        induction n with
        | zero => intro _; rfl
        | succ n ih =>
          intro hn8
          rw [sumN, sumN, ih (by omega)]
          simp only [eR n (by omega)]
          by_cases hkj : n = j
          · rw [if_pos hkj, hkj, upj_self]
          · rw [if_neg hkj, upj_ne hkj]
      exact this 8 (Nat.le_refl _)
    rw [e]
    have := mu_upj (s := s) (r := r) hj
    have h22 : muR r + 1 ≤ muR (s j) := by
      unfold muR mwt
      rw [e1, hm, ef 0 (by decide) (by decide) (by decide) (by omega), ef 2 (by decide) (by decide) (by decide) (by omega)]
      simp
    omega
  refine ⟨fun k hk => ?_, ?_, ⟨fun k hk h2k => ?_, fun a k ha hk hma hmk hoo he => ?_⟩, by rw [eC]; omega, fun a f => ?_⟩
  · rw [eR k hk]
    by_cases e : k = j
    · rw [if_pos e, e]; exact hJ
    · rw [if_neg e]; exact h1 k hk
  · intro a k ha hk hne x hx10
    unfold hasS
    rw [eR a ha, eR k hk]
    by_cases ea : a = j
    · rw [if_pos ea, if_neg (by omega)]
      exact (hx k hk (by omega) x hx10).1
    · rw [if_neg ea]
      by_cases ek : k = j
      · rw [if_pos ek]
        exact (hx a ha ea x hx10).2
      · rw [if_neg ek]; exact h2 a k ha hk hne x hx10
  · rw [eC]
    rw [eR k hk] at h2k ⊢
    by_cases e : k = j
    · rw [if_pos e, e7]; exact Nat.le_refl _
    · rw [if_neg e] at h2k ⊢; have := h3.1 k hk h2k; omega
  · rw [eR a ha] at hma he
    rw [eR k hk] at hmk he
    by_cases ea : a = j
    · by_cases ek : k = j
      · omega
      · rw [if_pos ea, if_neg ek, e7] at he
        rw [if_neg ek] at hmk
        have := h3.1 k hk hmk
        omega
    · by_cases ek : k = j
      · rw [if_neg ea, if_pos ek, e7] at he
        rw [if_neg ea] at hma
        have := h3.1 a ha hma
        omega
      · rw [if_neg ea] at hma he
        rw [if_neg ek] at hmk he
        unfold onS at hoo
        rw [eR a ha, eR k hk, if_neg ea, if_neg ek] at hoo
        exact h3.2 a k ha hk hma hmk hoo he
  · rw [hs]
    unfold up upj
    split
    · omega
    · split
      · rw [hr]
        have := h0.tb hj hm10
        have := h5 j f
        simp only []
        split; · omega
        split; · omega
        split; · omega
        split <;> omega
      · exact h5 a f
end
