/-! what holds of every row on the way -/
def opR (t : St) (j : Nat) (r : Nat → Nat) : Nat := t 58 (20 * j + r 0)
def onR (t : St) (j : Nat) (r : Nat → Nat) : Nat := t 59 (20 * j + r 0)
def hasR (r : Nat → Nat) (m : Nat) : Bool := decide (0 < r (8 + m)) || (r 5).testBit m
def triR (t : St) (j : Nat) (r : Nat → Nat) : Bool := decide (r 1 = 1) && decide (r 4 = 0) && decide (opR t j r = 8)
def askOK (t : St) (j : Nat) (r : Nat → Nat) : Prop :=
  ((opR t j r = 0 ∨ opR t j r = 8 ∨ opR t j r = 2) ∧ hasR r (onR t j r) = false) ∨ (opR t j r = 4 ∧ (r 5).testBit (onR t j r) = true) ∨
  (opR t j r = 9 ∧ (∀ m, m < 10 → (onR t j r).testBit m = true → (r 5).testBit m = false) ∧ ∃ m, m < 10 ∧ (onR t j r).testBit m = true ∧ r (8 + m) = 0)
def JR1 (t : St) (j : Nat) (r : Nat → Nat) : Prop := r 1 < 4 ∧ r 0 < 22 ∧ ((r 1 = 1 ∨ r 1 = 2) → r 0 < t 57 j) ∧ r 5 < 1024
def JR2 (r : Nat → Nat) : Prop := ∀ m, m < 10 → 0 < r (8 + m) → (r 5).testBit m = false
def JR3 (t : St) (j : Nat) (r : Nat → Nat) : Prop := (r 1 = 1 → r 4 = 0 → askOK t j r) ∧ ((r 1 = 2 ∨ (r 1 = 1 ∧ 0 < r 4)) → opR t j r = 5 ∧ 0 < r 4 ∧ hasR r (onR t j r) = false) ∧ ((r 1 = 0 ∨ r 1 = 3) → r 4 = 0)
def JR4 (r : Nat → Nat) : Prop := (r 1 = 3 → r 5 = 0 ∧ ∀ m, m < 10 → r (8 + m) = 0) ∧ r 2 < 2 ∧ r 6 < 2 ∧ (r 6 = 1 → r 1 = 3)
def JR5 (r : Nat → Nat) : Prop := (∀ m, m < 10 → r (8 + m) ≤ r 0 + 25 * r 2) ∧ r 4 ≤ r 0 + 25 * r 2
def JR6 (t : St) (j : Nat) (r : Nat → Nat) : Prop := r 3 < 10 ∧ (triR t j r = false → r 3 = 0) ∧ (triR t j r = true → r 3 < t 60 (20 * j + r 0))
def JR (t : St) (j : Nat) (r : Nat → Nat) : Prop := JR1 t j r ∧ JR2 r ∧ JR3 t j r ∧ JR4 r ∧ JR5 r ∧ JR6 t j r
def sumN : Nat → (Nat → Nat) → Nat
  | 0, _ => 0
  | n + 1, f => sumN n f + f n
def mwt (m : Nat) : Nat := if m = 0 then 3 else if m = 1 then 1 else if m = 2 then 2 else 0
def muR (r : Nat → Nat) : Nat := 4 * ((22 - r 0) + 23 * (1 - r 2)) + mwt (r 1)
def mu (s : St) : Nat := sumN 8 (fun j => muR (s j))
def XI (s : St) : Prop := ∀ j k, j < 8 → k < 8 → j ≠ k → ∀ m, m < 10 → 0 < s j (8 + m) → hasS s k m = false
def SI (t s : St) : Prop := (∀ j, j < 8 → s j 1 = 2 → s j 7 ≤ s 13 12) ∧ ∀ j k, j < 8 → k < 8 → s j 1 = 2 → s k 1 = 2 → onS t s j = onS t s k → s j 7 = s k 7 → j = k
def INV (t s : St) : Prop := (∀ j, j < 8 → JR t j (s j)) ∧ XI s ∧ SI t s ∧ s 13 12 + mu s ≤ 5000 ∧ ∀ j f, s j f < 1000000
theorem upj_self (s : St) (j : Nat) (r : Nat → Nat) : upj s j r j = r := by funext f; unfold upj; rw [if_pos rfl]
theorem upj_ne {s : St} {j k : Nat} {r : Nat → Nat} (h : k ≠ j) : upj s j r k = s k := by funext f; unfold upj; rw [if_neg h]
theorem sumN_upd {f g : Nat → Nat} {j : Nat} : ∀ n, j < n → (∀ k, k < n → k ≠ j → f k = g k) → sumN n f + g j = sumN n g + f j := by
  intro n
  induction n with
  | zero => intro h; omega
  | succ n ih =>
    intro hj h
    rw [sumN, sumN]
    by_cases e : j = n
    · subst e
      have : sumN j f = sumN j g := by
        clear ih
        have key : ∀ m, m ≤ j → sumN m f = sumN m g := by
          intro m
          induction m with
          | zero => intro _; rfl
          | succ m ihm =>
            intro hm
            rw [sumN, sumN, ihm (by omega), h m (by omega) (by omega)]
        exact key j (Nat.le_refl _)
      omega
    · have := ih (by omega) (fun k hk hne => h k (by omega) hne)
      have := h n (by omega) (Ne.symm e)
      omega
theorem mu_upj {s : St} {j : Nat} {r : Nat → Nat} (hj : j < 8) : mu (upj s j r) + muR (s j) = mu s + muR r := by
  have := sumN_upd (f := fun k => muR (upj s j r k)) (g := fun k => muR (s k)) (j := j) 8 hj (fun k _ hne => by simp only [upj_ne hne])
  simp only [upj_self] at this
  unfold mu
  exact this
/-- one job's row changes; nobody falls asleep -/
theorem INV_upj {t s : St} {j : Nat} {r : Nat → Nat} (h : INV t s) (hj : j < 8) (hJ : JR t j r) (hx : ∀ k, k < 8 → k ≠ j → ∀ m, m < 10 → (0 < r (8 + m) → hasS s k m = false) ∧ (0 < s k (8 + m) → hasR r m = false))
    (hs : r 1 ≠ 2) (hm : muR r ≤ muR (s j)) (hb : ∀ f, r f < 1000000) : INV t (upj s j r) := by
  obtain ⟨h1, h2, h3, h4, h5⟩ := h
  have h13 : upj s j r 13 12 = s 13 12 := by rw [upj_ne (by omega)]
  refine ⟨fun k hk => ?_, ?_, ?_, ?_, fun a f => ?_⟩
  · by_cases e : k = j
    · subst e; rw [upj_self]; exact hJ
    · rw [upj_ne e]; exact h1 k hk
  · intro a k ha hk hne m hm10
    by_cases ea : a = j
    · subst ea
      rw [upj_self]
      unfold hasS
      rw [upj_ne (Ne.symm hne)]
      exact (hx k hk (Ne.symm hne) m hm10).1
    · rw [upj_ne ea]
      by_cases ek : k = j
      · subst ek
        unfold hasS
        rw [upj_self]
        exact (hx a ha ea m hm10).2
      · unfold hasS
        rw [upj_ne ek]
        exact h2 a k ha hk hne m hm10
  · refine ⟨fun a ha h2m => ?_, fun a k ha hk hm1 hm2 ho he => ?_⟩
    · rw [h13]
      by_cases ea : a = j
      · subst ea; rw [upj_self] at h2m; exact absurd h2m hs
      · rw [upj_ne ea] at h2m ⊢; exact h3.1 a ha h2m
    · by_cases ea : a = j
      · subst ea; rw [upj_self] at hm1; exact absurd hm1 hs
      · by_cases ek : k = j
        · subst ek; rw [upj_self] at hm2; exact absurd hm2 hs
        · unfold onS at ho
          rw [upj_ne ea] at hm1 he ho; rw [upj_ne ek] at hm2 he ho
          exact h3.2 a k ha hk hm1 hm2 ho he
  · rw [h13]
    have := mu_upj (s := s) (r := r) hj
    omega
  · unfold upj
    split
    · exact hb f
    · exact h5 a f
theorem INV.B {t s : St} (h : INV t s) : ∀ j f, s j f < 1000000 := h.2.2.2.2
theorem INV.J {t s : St} (h : INV t s) {j : Nat} (hj : j < 8) : JR t j (s j) := h.1 j hj
theorem INV.av {t s : St} (h : INV t s) (hT : TV t) {j : Nat} (hj : j < 8) (hm : s j 1 = 1 ∨ s j 1 = 2) : AV t s j := by
  obtain ⟨⟨a1, a2, a3, a4⟩, b, ⟨c1, c2, c3⟩, -⟩ := h.J hj
  have := hT.2.2.1 j
  refine ⟨by have := a3 hm; omega, fun h4 => ?_⟩
  rcases hm with hm | hm
  · exact (c2 (Or.inr ⟨hm, h4⟩)).1
  · exact (c2 (Or.inl hm)).1
theorem INV.av0 {t s : St} (h : INV t s) {j : Nat} (hj : j < 8) (hm : s j 1 = 0) (hp : s j 0 < 20) : AV t s j := by
  obtain ⟨-, -, ⟨-, -, c3⟩, -⟩ := h.J hj
  refine ⟨hp, fun h4 => ?_⟩
  have := c3 (Or.inl hm)
  omega
