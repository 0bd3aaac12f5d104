/-! the moves keep it -/
section
variable {t s : St} {j : Nat} {r r' : Nat → Nat}
theorem JR_end (h : JR t j r) (e1 : r' 1 = 3) (e0 : r' 0 = r 0) (e3 : r' 3 = 0) (e4 : r' 4 = 0) (e5 : r' 5 = 0) (e8 : ∀ m, m < 10 → r' (8 + m) = 0) (e2 : r' 2 < 2) (e6 : r' 6 < 2) : JR t j r' := by
  obtain ⟨⟨a1, a2, a3, a4⟩, b, ⟨c1, c2, c3⟩, ⟨d1, d2, d3, d4⟩, ⟨f1, f2⟩, g1, g2, g3⟩ := h
  refine ⟨⟨by omega, by omega, fun hh => by omega, by omega⟩, fun m hm hh => by rw [e8 m hm] at hh; omega, ⟨fun hh => by omega, fun hh => by omega, fun _ => e4⟩, ⟨fun _ => ⟨e5, e8⟩, e2, e6, fun _ => e1⟩, ⟨fun m hm => by rw [e8 m hm]; omega, by omega⟩, by omega, fun _ => e3, fun hh => ?_⟩
  unfold triR at hh
  simp [e1] at hh
theorem JR_go (e1 : r' 1 = 0) (e0 : r' 0 < 22) (e3 : r' 3 = 0) (e4 : r' 4 = 0) (e5 : r' 5 < 1024) (h2 : JR2 r') (e2 : r' 2 < 2) (e6 : r' 6 = 0) (hb : ∀ m, m < 10 → r' (8 + m) ≤ r' 0 + 25 * r' 2) : JR t j r' := by
  refine ⟨⟨by omega, e0, fun hh => by omega, e5⟩, h2, ⟨fun hh => by omega, fun hh => by omega, fun _ => e4⟩, ⟨fun hh => by omega, e2, by omega, fun hh => by omega⟩, ⟨hb, by omega⟩, by omega, fun _ => e3, fun hh => ?_⟩
  unfold triR at hh
  simp [e1] at hh
theorem askOK_congr (h0 : r' 0 = r 0) (h5 : r' 5 = r 5) (h8 : ∀ m, m < 10 → r' (8 + m) = r (8 + m)) (hon : opR t j r ≠ 9 → onR t j r < 10) : askOK t j r → askOK t j r' := by
  have eo : opR t j r' = opR t j r := by unfold opR; rw [h0]
  have en : onR t j r' = onR t j r := by unfold onR; rw [h0]
  intro h
  unfold askOK
  rw [eo, en, h5]
  rcases h with ⟨h1, h2⟩ | h | ⟨h1, h2, m, hm, h3, h4⟩
  · left
    refine ⟨h1, ?_⟩
    have := hon (by omega)
    unfold hasR at h2 ⊢
    rw [h8 _ this, h5]; exact h2
  · right; left; exact h
  · right; right; exact ⟨h1, h2, m, hm, h3, by rw [h8 m hm]; exact h4⟩
theorem JR_ask (hT : TV t) (h : JR t j r) (hc : (r 1 = 0 ∧ r 0 < t 57 j ∧ askOK t j r) ∨ r 1 = 2) (e1 : r' 1 = 1) (e3 : r' 3 = 0) (ef : ∀ f, f ≠ 1 → f ≠ 3 → r' f = r f) : JR t j r' := by
  obtain ⟨⟨a1, a2, a3, a4⟩, b, ⟨c1, c2, c3⟩, ⟨d1, d2, d3, d4⟩, ⟨f1, f2⟩, g1, g2, g3⟩ := h
  have e0 := ef 0 (by decide) (by decide)
  have e2 := ef 2 (by decide) (by decide)
  have e4 := ef 4 (by decide) (by decide)
  have e5 := ef 5 (by decide) (by decide)
  have e6 := ef 6 (by decide) (by decide)
  have e8 : ∀ m, m < 10 → r' (8 + m) = r (8 + m) := fun m _ => ef _ (by omega) (by omega)
  have eo : opR t j r' = opR t j r := by unfold opR; rw [e0]
  have en : onR t j r' = onR t j r := by unfold onR; rw [e0]
  have hon : opR t j r ≠ 9 → onR t j r < 10 := hT.2.2.2.2.2.1 _
  refine ⟨⟨by omega, by omega, fun _ => by rw [e0]; exact hc.elim (fun x => x.2.1) (fun x => a3 (Or.inr x)), by omega⟩, fun m hm hh => by rw [e8 m hm] at hh; rw [e5]; exact b m hm hh, ⟨fun _ h4 => ?_, fun hh => ?_, fun hh => by omega⟩, ⟨fun hh => by omega, by omega, by omega, fun hh => ?_⟩, ⟨fun m hm => by rw [e8 m hm, e0, e2]; exact f1 m hm, by rw [e4, e0, e2]; exact f2⟩, by omega, fun _ => e3, fun hh => ?_⟩
  · rcases hc with hc | hc
    · exact askOK_congr e0 e5 e8 hon hc.2.2
    · have := (c2 (Or.inl hc)).2.1; omega
  · have h4 : 0 < r 4 := by omega
    rcases hc with hc | hc
    · have := c3 (Or.inl hc.1); omega
    · obtain ⟨x1, x2, x3⟩ := c2 (Or.inl hc)
      have := hon (by omega)
      refine ⟨by rw [eo]; exact x1, by rw [e4]; exact x2, ?_⟩
      rw [en]
      unfold hasR at x3 ⊢
      rw [e8 _ this, e5]; exact x3
  · rw [e6] at hh
    have := d4 hh
    omega
  · have h8 : opR t j r' = 8 := by unfold triR at hh; simp at hh; exact hh.2
    have := hT.2.2.2.2.2.2.1 (20 * j + r' 0) h8
    rw [e3]; omega
theorem JR_sleep (hT : TV t) {m : Nat} (h : JR t j r) (h0 : r 1 = 0) (hp : r 0 < t 57 j) (ho : opR t j r = 5) (hn : onR t j r = m) (hu : 0 < r (8 + m)) (hm : m < 10) (e1 : r' 1 = 2) (e4 : r' 4 = r (8 + m)) (e8 : r' (8 + m) = 0) (ef : ∀ f, f ≠ 1 → f ≠ 4 → f ≠ 7 → f ≠ 8 + m → r' f = r f) : JR t j r' := by
  obtain ⟨⟨a1, a2, a3, a4⟩, b, ⟨c1, c2, c3⟩, ⟨d1, d2, d3, d4⟩, ⟨f1, f2⟩, g1, g2, g3⟩ := h
  have e0 := ef 0 (by decide) (by decide) (by decide) (by omega)
  have e2 := ef 2 (by decide) (by decide) (by decide) (by omega)
  have e3 := ef 3 (by decide) (by decide) (by decide) (by omega)
  have e5 := ef 5 (by decide) (by decide) (by decide) (by omega)
  have e6 := ef 6 (by decide) (by decide) (by decide) (by omega)
  have eo : opR t j r' = opR t j r := by unfold opR; rw [e0]
  have en : onR t j r' = onR t j r := by unfold onR; rw [e0]
  have hr3 : r 3 = 0 := g2 (by unfold triR; simp [h0])
  have b8 : ∀ x, x < 10 → r' (8 + x) ≤ r (8 + x) := fun x hx => by
    by_cases e : x = m
    · subst e; omega
    · rw [ef (8 + x) (by omega) (by omega) (by omega) (by omega)]; exact Nat.le_refl _
  refine ⟨⟨by omega, by omega, fun _ => by rw [e0]; exact hp, by omega⟩, fun x hx hh => by rw [e5]; exact b x hx (by have := b8 x hx; omega), ⟨fun hh => by omega, fun _ => ⟨by rw [eo]; exact ho, by omega, ?_⟩, fun hh => by omega⟩, ⟨fun hh => by omega, by omega, by omega, fun hh => ?_⟩, ⟨fun x hx => by rw [e0, e2]; exact Nat.le_trans (b8 x hx) (f1 x hx), by rw [e4, e0, e2]; exact f1 m hm⟩, by omega, fun _ => by omega, fun hh => ?_⟩
  · rw [en, hn]
    unfold hasR
    rw [e8, e5, b m hm hu]; rfl
  · rw [e6] at hh; have := d4 hh; omega
  · unfold triR at hh; simp [e1] at hh
/-- what shrinks stays apart -/
theorem XJ_sub (h : INV t s) (hj : j < 8) (h1 : ∀ m, m < 10 → 0 < r' (8 + m) → 0 < s j (8 + m)) (h2 : ∀ m, m < 10 → hasR r' m = true → hasS s j m = true) : ∀ k, k < 8 → k ≠ j → ∀ m, m < 10 → (0 < r' (8 + m) → hasS s k m = false) ∧ (0 < s k (8 + m) → hasR r' m = false) := by
  intro k hk hne m hm
  refine ⟨fun hh => h.2.1 j k hj hk (Ne.symm hne) m hm (h1 m hm hh), fun hh => ?_⟩
  have := h.2.1 k j hk hj hne m hm hh
  cases hr : hasR r' m with
  | false => rfl
  | true => rw [h2 m hm hr] at this; cases this
theorem INV_go (h : INV t s) (hj : j < 8) (hm : s j 1 = 0 ∨ s j 1 = 1) (e1 : r' 1 = 0) (e0 : s j 0 < r' 0 ∧ r' 0 < 22) (e2 : r' 2 = s j 2) (e3 : r' 3 = 0) (e4 : r' 4 = 0) (e6 : r' 6 = s j 6) (e5 : r' 5 < 1024) (h2 : JR2 r') (hb : ∀ m, m < 10 → r' (8 + m) ≤ s j (8 + m) + 1 ∨ r' (8 + m) ≤ s j 4)
    (hx : ∀ k, k < 8 → k ≠ j → ∀ m, m < 10 → (0 < r' (8 + m) → hasS s k m = false) ∧ (0 < s k (8 + m) → hasR r' m = false)) (hbf : ∀ f, r' f < 1000000) : INV t (upj s j r') := by
  obtain ⟨⟨a1, a2, a3, a4⟩, b, ⟨c1, c2, c3⟩, ⟨d1, d2, d3, d4⟩, ⟨f1, f2⟩, g1, g2, g3⟩ := h.J hj
  have h6 : s j 6 = 0 := by
    rcases (by omega : s j 6 = 0 ∨ s j 6 = 1) with hh | hh
    · exact hh
    · have := d4 hh; omega
  refine INV_upj h hj (JR_go e1 e0.2 e3 e4 e5 h2 (by omega) (by omega) (fun m hm10 => ?_)) hx (by omega) ?_ hbf
  · have := f1 m hm10
    rw [e2]
    rcases hb m hm10 with hh | hh <;> omega
  · unfold muR mwt
    rw [e1, e2]
    have : s j 2 < 2 := d2
    rcases hm with hm | hm <;> rw [hm] <;> simp <;> omega
theorem INV_endR (h : INV t s) (hj : j < 8) (e1 : r' 1 = 3) (e0 : r' 0 = s j 0) (e3 : r' 3 = 0) (e4 : r' 4 = 0) (e5 : r' 5 = 0) (e8 : ∀ m, m < 10 → r' (8 + m) = 0) (e2 : r' 2 < 2) (e22 : s j 2 ≤ r' 2) (e6 : r' 6 < 2) (hbf : ∀ f, r' f < 1000000) : INV t (upj s j r') := by
  have hJ := h.J hj
  refine INV_upj h hj (JR_end hJ e1 e0 e3 e4 e5 e8 e2 e6) (XJ_sub h hj (fun m hm hh => ?_) (fun m hm hh => ?_)) (by omega) ?_ hbf
  · rw [e8 m hm] at hh; omega
  · unfold hasR at hh; rw [e8 m hm, e5] at hh; simp at hh
  · unfold muR mwt; rw [e1, e0]; simp; omega
theorem INV_ends (h : INV t s) (hj : j < 8) : INV t (endsS s j) := by
  have hJ := h.J hj
  refine INV_endR (r' := fun f => if f = 1 then 3 else if f = 3 ∨ f = 4 ∨ f = 5 ∨ (8 ≤ f ∧ f < 18) then 0 else s j f) h hj rfl rfl rfl rfl rfl (fun m hm => ?_) hJ.2.2.2.1.2.1 (Nat.le_refl _) hJ.2.2.2.1.2.2.1 (fun f => ?_)
  · rw [if_neg (by omega), if_pos (by omega)]
  · have := h.B j f
    split; · omega
    split <;> omega
theorem INV_comesE (h : INV t s) (hj : j < 8) : INV t (comesE s j) := by
  have hJ := h.J hj
  have h2 := hJ.2.2.2.1.2.1
  refine INV_endR (r' := fun f => if f = 1 then 3 else if f = 2 ∨ f = 6 then 1 else if f = 3 ∨ f = 4 ∨ f = 5 ∨ (8 ≤ f ∧ f < 18) then 0 else s j f) h hj rfl rfl rfl rfl rfl (fun m hm => ?_) (by simp) (by simp; omega) (by simp) (fun f => ?_)
  · rw [if_neg (by omega), if_neg (by omega), if_pos (by omega)]
  · have := h.B j f
    split; · omega
    split; · omega
    split <;> omega
theorem INV_guaR (h : INV t s) (hj : j < 8) (hm : s j 1 = 0 ∨ s j 1 = 2) (hp : s j 0 < 20) (h2 : s j 2 = 0) (e1 : r' 1 = 0) (e0 : r' 0 ≤ 20) (e2 : r' 2 = 1) (e3 : r' 3 = 0) (e4 : r' 4 = 0) (e5 : r' 5 = s j 5) (e6 : r' 6 = s j 6) (e8 : ∀ m, m < 10 → r' (8 + m) = s j (8 + m)) (hbf : ∀ f, r' f < 1000000) : INV t (upj s j r') := by
  obtain ⟨⟨a1, a2, a3, a4⟩, b, ⟨c1, c2, c3⟩, ⟨d1, d2, d3, d4⟩, ⟨f1, f2⟩, g1, g2, g3⟩ := h.J hj
  have h6 : s j 6 = 0 := by
    rcases (by omega : s j 6 = 0 ∨ s j 6 = 1) with hh | hh
    · exact hh
    · have := d4 hh; omega
  refine INV_upj h hj (JR_go e1 (by omega) e3 e4 (by omega) (fun m hm hh => ?_) (by omega) (by omega) (fun m hm => ?_)) (XJ_sub h hj (fun m hm hh => ?_) (fun m hm hh => ?_)) (by omega) ?_ hbf
  · rw [e8 m hm] at hh; rw [e5]; exact b m hm hh
  · rw [e8 m hm, e2]; have := f1 m hm; omega
  · rw [e8 m hm] at hh; exact hh
  · unfold hasR at hh; rw [e8 m hm, e5] at hh; exact hh
  · unfold muR mwt; rw [e1, e2, h2]; rcases hm with hm | hm <;> rw [hm] <;> simp <;> omega
theorem INV_comesG (hT : TV t) (h : INV t s) (hj : j < 8) (hm : s j 1 = 0 ∨ s j 1 = 2) (hp : s j 0 < 20) (hg : grdS t s j = true) : INV t (comesG t s j) := by
  unfold grdS at hg
  simp only [Bool.and_eq_true, decide_eq_true_eq] at hg
  have h57 := hT.2.2.1 j
  have hpc : (if t 61 j < t 57 j then t 61 j else t 57 j) ≤ 20 := by split <;> omega
  refine INV_guaR (r' := fun f => if f = 0 then (if t 61 j < t 57 j then t 61 j else t 57 j) else if f = 1 ∨ f = 3 ∨ f = 4 then 0 else if f = 2 then 1 else s j f) h hj hm hp hg.1 rfl hpc rfl rfl rfl rfl rfl (fun m hm => ?_) (fun f => ?_)
  · rw [if_neg (by omega), if_neg (by omega), if_neg (by omega)]
  · have := h.B j f
    split; · omega
    split; · omega
    split <;> omega
theorem coms_upj : coms s j = upj s j (fun f => if f = 1 then 1 else if f = 3 then 0 else s j f) := by
  unfold coms; funext a f; simp only [up, upj]; (repeat' split) <;> (first | rfl | omega | (exfalso; omega) | (simp_all; done) | (simp_all; omega))
theorem INV_coms (hT : TV t) (h : INV t s) (hj : j < 8) (hc : (s j 1 = 0 ∧ s j 0 < t 57 j ∧ askOK t j (s j)) ∨ s j 1 = 2) : INV t (coms s j) := by
  rw [coms_upj]
  have e8 : ∀ m, (if 8 + m = 1 then 1 else if 8 + m = 3 then 0 else s j (8 + m)) = s j (8 + m) := fun m => by
    rw [if_neg (by omega), if_neg (by omega)]
  refine INV_upj (r := fun f => if f = 1 then 1 else if f = 3 then 0 else s j f) h hj (JR_ask hT (h.J hj) hc rfl rfl (fun f h1 h3 => by rw [if_neg h1, if_neg h3])) (XJ_sub (r' := fun f => if f = 1 then 1 else if f = 3 then 0 else s j f) h hj (fun m hm hh => ?_) (fun m hm hh => ?_)) (by simp) ?_ (fun f => ?_)
  · rw [e8] at hh; exact hh
  · simp only [hasR, e8] at hh; exact hh
  · unfold muR mwt; simp; rcases hc with hc | hc
    · rw [hc.1]; simp
    · rw [hc]; simp
  · split; · omega
    split; · omega
    · exact h.B j f
theorem INV_comes (hT : TV t) (h : INV t s) (hj : j < 8) (hc : (s j 1 = 0 ∧ s j 0 < t 57 j ∧ askOK t j (s j)) ∨ s j 1 = 2) : INV t (comesS t s j) := by
  have h57 := hT.2.2.1 j
  have hp : s j 0 < 20 := by
    rcases hc with hc | hc
    · omega
    · have := (h.J hj).1.2.2.1 (Or.inr hc); omega
  unfold comesS
  cases refS t (coms s j) j with
  | false => exact INV_coms hT h hj hc
  | true =>
    cases hg : grdS t s j with
    | false => exact INV_comesE h hj
    | true => exact INV_comesG hT h hj (hc.elim (fun x => Or.inl x.1) (fun x => Or.inr x)) hp hg
end
