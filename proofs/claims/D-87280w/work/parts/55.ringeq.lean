/-! the reference model's ring is the least way round -/
section
variable {t s : St}
theorem far_at {to x m : Nat} : ∀ n, n ≤ 8 → farL t s to n x = m → m ≠ 100 → farL t s to m x = m ∧ m ≤ n ∧ 1 ≤ m := by
  intro n
  induction n with
  | zero => intro _ h h1; exact absurd h.symm (by rw [farL]; exact h1)
  | succ n ih =>
    intro hn h h1
    by_cases hc : s x 1 = 1 ∧ 100 ≤ farL t s to n x ∧ anyB 8 (farP t s to (farL t s to n) n x) = true
    · have h2 := h
      rw [farL, if_pos hc] at h2
      subst h2
      exact ⟨h, by omega, by omega⟩
    · rw [farL, if_neg hc] at h
      have := ih (by omega) h h1
      exact ⟨this.1, by omega, this.2.2⟩
theorem far_e1 {to u : Nat} (ht : to < 8) (h : eS t s u to = true) : farL t s to 8 u = 1 := by
  unfold eS at h
  rw [Bool.and_eq_true, decide_eq_true_eq] at h
  have h1 : farL t s to (0 + 1) u = 1 := by
    rw [farL, if_pos ⟨h.1, by rw [farL]; exact Nat.le_refl _, anyB_of ht (by unfold farP; rw [h.2]; simp)⟩]
  have := far_st2 (t := t) (s := s) (to := to) (n := 1) (k := u) 7 (by omega) (by rw [h1]; decide)
  rw [h1] at this; exact this
theorem far_e {to u x m : Nat} (hx : x < 8) (h : eS t s u x = true) (hm : farL t s to 8 x = m) (h8 : m < 8) : farL t s to 8 u ≤ m + 1 := by
  unfold eS at h
  rw [Bool.and_eq_true, decide_eq_true_eq] at h
  have h1 := far_at 8 (Nat.le_refl _) hm (by omega)
  by_cases hc : farL t s to m u = 100
  · have h2 : farL t s to (m + 1) u = m + 1 := by
      rw [farL, if_pos ⟨h.1, by omega, anyB_of hx (by unfold farP; rw [h.2, if_neg (by omega), h1.1]; simp)⟩]
    have := far_st2 (t := t) (s := s) (to := to) (n := m + 1) (k := u) (7 - m) (by omega) (by rw [h2]; omega)
    rw [show m + 1 + (7 - m) = 8 by omega, h2] at this
    omega
  · have := far_st2 (t := t) (s := s) (to := to) (n := m) (k := u) (8 - m) (by omega) hc
    rw [show m + (8 - m) = 8 by omega] at this
    have h3 := farL_le t s to m u
    omega
theorem clo_far {to k : Nat} {a : Nat → Bool} {w : Nat → Nat} (ha : ∀ v, a v = true → v < 8) (ht : to < 8) (hk : k < 8) (h : clo (eS t s) a to w k) : ∀ r i, i + r = k → farL t s to 8 (w i) ≤ k + 1 - i := by
  intro r
  induction r with
  | zero =>
    intro i hi
    obtain rfl : i = k := by omega
    rw [far_e1 ht h.2]; omega
  | succ r ih =>
    intro i hi
    have h1 := ih (i + 1) (by omega)
    have h2 := h.1.2 i (by omega)
    have := far_e (ha _ h2.2) h2.1 rfl (show farL t s to 8 (w (i + 1)) < 8 by omega)
    omega
theorem rg_clo {j n : Nat} (hj : j < 8) (hn : farL t s j 8 j = n) (h : n ≠ 100) : 1 ≤ n ∧ n ≤ 8 ∧ clo (eS t s) (aL j 0) j (rgS t s j n) (n - 1) := by
  have hb := far_next hn h
  have ok := rg_ok hj hn h
  refine ⟨hb.1, hb.2.1, ⟨?_, fun i hi => ?_⟩, ?_⟩
  · rw [rgS]
  · have h1 := ok i (by omega)
    have h2 := ok (i + 1) (by omega)
    have h3 := fst_some.1 (h1.2.2.2 (by omega))
    have h4 := h3.2.2.1
    rw [Bool.and_eq_true] at h4
    refine ⟨by unfold eS; rw [decide_eq_true h1.2.2.1, h4.1]; rfl, aL_ok.2 ⟨Nat.zero_le _, h2.1, fun e => ?_⟩⟩
    have := h2.2.1
    rw [e, hn] at this; omega
  · have h1 := ok (n - 1) (by omega)
    have h2 := far_next (m := 1) (k := rgS t s j n (n - 1)) (to := j) (by rw [h1.2.1]; omega) (by decide)
    obtain ⟨x, g1, g2, g3, _⟩ := h2.2.2.2
    rw [g3 rfl] at g2
    unfold eS; rw [decide_eq_true h1.2.2.1, g2]; rfl
theorem rg_least {j k : Nat} {a : Nat → Bool} {w : Nat → Nat} (ha : ∀ v, a v = true → v < 8) (hj : j < 8) (hk : k < 8) (h : clo (eS t s) a j w k) : farL t s j 8 j ≠ 100 ∧ vl (rgS t s j (farL t s j 8 j)) (farL t s j 8 j - 1) ≤ vl w k := by
  have hf := clo_far ha hj hk h
  have hw0 := hf k 0 (by omega)
  rw [h.1.1] at hw0
  have hne : farL t s j 8 j ≠ 100 := by omega
  refine ⟨hne, ?_⟩
  have ok := rg_ok hj rfl hne
  have cl := rg_clo hj rfl hne
  generalize hN : farL t s j 8 j = N at *
  have hw8 : ∀ i, 1 ≤ i → i ≤ k → w i < 8 := fun i h1 h2 => by
    have := (h.1.2 (i - 1) (by omega)).2
    rw [show i - 1 + 1 = i by omega] at this
    exact ha _ this
  by_cases hkN : k + 1 = N
  · have lo : ∀ i, i ≤ k → N ≤ farL t s j 8 (w i) + i := by
      intro i
      induction i with
      | zero => intro _; rw [h.1.1]; omega
      | succ i ih =>
        intro hi
        have h1 := ih (by omega)
        have h2 := h.1.2 i (by omega)
        have h3 := hf (k - (i + 1)) (i + 1) (by omega)
        have := far_e (ha _ h2.2) h2.1 rfl (show farL t s j 8 (w (i + 1)) < 8 by omega)
        omega
    have key : ∀ i, i ≤ k → vl (rgS t s j N) i ≤ vl w i ∧ (vl (rgS t s j N) i = vl w i → rgS t s j N i = w i) := by
      intro i
      induction i with
      | zero => intro _; exact ⟨Nat.le_refl _, fun _ => by rw [rgS, h.1.1]⟩
      | succ i ih =>
        intro hi
        have h1 := ih (by omega)
        have r1 := ok i (by omega)
        have r2 := ok (i + 1) (by omega)
        have w1 := hw8 (i + 1) (by omega) hi
        rw [vl, vl]
        by_cases heq : vl (rgS t s j N) i = vl w i
        · have e1 := h1.2 heq
          have h2 := h.1.2 i (by omega)
          have h3 := hf (k - (i + 1)) (i + 1) (by omega)
          have h4 := lo (i + 1) hi
          have h5 := fst_some.1 (r1.2.2.2 (by omega))
          have hle : rgS t s j N (i + 1) ≤ w (i + 1) := by
            apply Classical.byContradiction
            intro hlt
            have := h5.2.2.2 (w (i + 1)) (Nat.zero_le _) (by omega)
            have he := h2.1
            unfold eS at he
            rw [Bool.and_eq_true] at he
            rw [e1, he.2, Bool.true_and, decide_eq_false_iff_not] at this
            omega
          exact ⟨by omega, fun _ => by omega⟩
        · exact ⟨by omega, fun _ => by omega⟩
    have := key k (Nat.le_refl _)
    rw [show N - 1 = k by omega]
    exact this.1
  · have v1 := vl_pow k hw8
    have v2 := vl_pow (w := rgS t s j N) (N - 1) (fun i a b => (ok i (by omega)).1)
    have h8 : 8 ^ N ≤ 8 ^ k := Nat.pow_le_pow_right (by decide) (by omega)
    have h9 : 8 ^ N = 8 ^ (N - 1) * 8 := by rw [← Nat.pow_succ]; congr 1; omega
    omega
/-- the least closing walk is the ring -/
theorem ring_eq {j k : Nat} {w : Nat → Nat} (hj : j < 8) (hk : k < 8) (h : clo (eS t s) (aL j 0) j w k) (hmin : ∀ w' k', clo (eS t s) (aL j 0) j w' k' → vl w k ≤ vl w' k') : rgN t s j = k + 1 ∧ ∀ i, i ≤ k → rgS t s j (k + 1) i = w i := by
  have ha : ∀ v, aL j 0 v = true → v < 8 := fun v h => (aL_ok.1 h).2.1
  have h1 := rg_least ha hj hk h
  have h2 := rg_clo hj rfl h1.1
  have h3 := hmin _ _ h2.2.2
  have ok := rg_ok hj rfl h1.1
  have hw8 : ∀ i, 1 ≤ i → i ≤ k → w i < 8 := fun i h1 h2 => by
    have := (h.1.2 (i - 1) (by omega)).2
    rw [show i - 1 + 1 = i by omega] at this
    exact ha _ this
  have h4 := vl_inj (w := rgS t s j (farL t s j 8 j)) (w' := w) (farL t s j 8 j - 1) k (fun i a b => (ok i (by omega)).1) hw8 (by omega)
  have h5 : farL t s j 8 j = k + 1 := by omega
  refine ⟨by unfold rgN; rw [if_neg h1.1, h5], fun i hi => ?_⟩
  rw [h5] at h4
  by_cases h0 : i = 0
  · rw [h0, rgS, h.1.1]
  · exact h4.2 i (by omega) (by omega)
theorem ring_no {j : Nat} (hj : j < 8) (h : ∀ w k, ¬ clo (eS t s) (aL j 0) j w k) : rgN t s j = 0 := by
  unfold rgN
  by_cases hc : farL t s j 8 j = 100
  · rw [if_pos hc]
  · exact absurd (rg_clo hj rfl hc).2.2 (h _ _)
end
