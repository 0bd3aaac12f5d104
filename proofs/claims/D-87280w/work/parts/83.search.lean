/-! the search, plainly -/
abbrev Sch : Type := Nat × (Nat → St) × (Nat → Nat) × (Nat → Nat)
def z0 : St := fun _ _ => 0
def newR (t ρ : St) (j : Nat) : St := kF t (nS t (tk ρ) j)
def metB (A : Sch) (ρ : St) : Bool := anyB A.1 (fun k => sameB (A.2.1 k) ρ)
def pushA (A : Sch) (ρ : St) (i j : Nat) : Sch := (A.1 + 1, updN A.2.1 A.1 ρ, updN A.2.2.1 A.1 i, updN A.2.2.2 A.1 j)
def stepA (t : St) (A : Sch) (i j : Nat) : Sch := cond (mayS t (tk (A.2.1 i)) j) (cond (metB A (newR t (A.2.1 i) j)) A (pushA A (newR t (A.2.1 i) j) i j)) A
def firstR (t : St) : St := kF t (setP t (z0, zL)).1
def seqA (t : St) : Nat → Sch
  | 0 => (1, fun _ => firstR t, fun _ => 0, fun _ => 0)
  | k + 1 => stepA t (seqA t k) (k / 8) (k % 8)
def endR (ρ : St) : Bool := !anyB 8 (notE ρ)
def endA (A : Sch) : Bool := anyB A.1 (fun i => endR (A.2.1 i))
def stuckR (t ρ : St) : Bool := !anyB 8 (mayS t (tk ρ)) && !endR ρ
section
variable {t s : St} {j : Nat}
theorem beg_z0 (h : GZ s) : begS s = z0 := by
  funext a f
  unfold begS z0
  by_cases hc : (a < 8 ∧ f < 18) ∨ (a = 13 ∧ f = 12)
  · rw [if_pos hc]
  · rw [if_neg hc]; exact h a f (by omega) (by omega)
theorem z0_GZ : GZ z0 := fun _ _ _ _ => rfl
theorem z0_INV : INV t z0 := by
  have := begS_INV (t := t) (s := z0) (fun _ _ => by show 0 < 1000000; omega)
  rw [beg_z0 z0_GZ] at this; exact this
/-- a row that is met: the state that comes by a grant -/
theorem nS_inv {ρ : St} (hT : TV t) (hI : INV t (tk ρ)) (hj : j < 8) (hm : mayS t (tk ρ) j = true) : INV t (nS t (tk ρ) j) ∧ (∀ k, k < 8 → nS t (tk ρ) j k 1 ≠ 0) ∧ GZ (nS t (tk ρ) j) := by
  obtain ⟨c1, c2⟩ := mayS_can hm
  obtain ⟨g1, g2, g3⟩ := (zGI hI).grant hT hj c1 c2
  obtain ⟨s1, s2, s3⟩ := g1.set hT
  refine ⟨s1.1, set_done hT 6000 _ g1.1 g1.2.1 g1.fuel, ?_⟩
  exact GZ.xsetN hT 6000 _ (GZ.grant (p := (tk ρ, zL)) hT hI tk_GZ hj c1)
theorem first_inv (hT : TV t) : INV t (setP t (z0, zL)).1 ∧ (∀ k, k < 8 → (setP t (z0, zL)).1 k 1 ≠ 0) ∧ GZ (setP t (z0, zL)).1 := by
  have g := zGI (t := t) z0_INV
  obtain ⟨s1, s2, s3⟩ := g.set hT
  exact ⟨s1.1, set_done hT 6000 _ g.1 g.2.1 g.fuel, GZ.xsetN hT 6000 _ z0_GZ⟩
theorem firstR_KR (hT : TV t) : KR t (firstR t) := kF_KR hT (first_inv hT).1 (first_inv hT).2.1
theorem newR_KR {ρ : St} (hT : TV t) (hK : KR t ρ) (hj : j < 8) (hm : mayS t (tk ρ) j = true) : KR t (newR t ρ j) := kF_KR hT (nS_inv hT hK.1 hj hm).1 (nS_inv hT hK.1 hj hm).2.1
theorem seqA_KR (hT : TV t) : ∀ k i, KR t ((seqA t k).2.1 i) := by
  intro k
  induction k with
  | zero => intro i; exact firstR_KR hT
  | succ k ih =>
    intro i
    rw [seqA]; unfold stepA
    cases hm : mayS t (tk ((seqA t k).2.1 (k / 8))) (k % 8) with
    | false => exact ih i
    | true =>
      rw [cond_true]
      cases metB (seqA t k) (newR t ((seqA t k).2.1 (k / 8)) (k % 8)) with
      | true => exact ih i
      | false =>
        show KR t (updN (seqA t k).2.1 (seqA t k).1 (newR t ((seqA t k).2.1 (k / 8)) (k % 8)) i)
        unfold updN
        split
        · exact newR_KR hT (ih _) (by omega) hm
        · exact ih i
theorem stepA_cases (A : Sch) (i : Nat) : stepA t A i j = A ∨ (mayS t (tk (A.2.1 i)) j = true ∧ metB A (newR t (A.2.1 i) j) = false ∧ stepA t A i j = pushA A (newR t (A.2.1 i) j) i j) := by
  unfold stepA
  cases mayS t (tk (A.2.1 i)) j with
  | false => exact Or.inl rfl
  | true =>
    cases metB A (newR t (A.2.1 i) j) with
    | true => exact Or.inl rfl
    | false => exact Or.inr ⟨rfl, rfl, rfl⟩
theorem seqA_n : ∀ k, 1 ≤ (seqA t k).1 ∧ (seqA t k).1 ≤ k + 1 := by
  intro k
  induction k with
  | zero => exact ⟨Nat.le_refl _, Nat.le_refl _⟩
  | succ k ih =>
    rw [seqA]
    rcases stepA_cases (t := t) (j := k % 8) (seqA t k) (k / 8) with h | ⟨_, _, h⟩
    · rw [h]; omega
    · rw [h]; show 1 ≤ (seqA t k).1 + 1 ∧ (seqA t k).1 + 1 ≤ k + 1 + 1; omega
theorem push_row {A : Sch} {ρ : St} {i x : Nat} (h : x < A.1) : (pushA A ρ i j).2.1 x = A.2.1 x ∧ (pushA A ρ i j).2.2.1 x = A.2.2.1 x ∧ (pushA A ρ i j).2.2.2 x = A.2.2.2 x := by
  refine ⟨updN_ne (by omega), updN_ne (by omega), updN_ne (by omega)⟩
/-- where it came from lies before -/
theorem seqA_fr : ∀ k, (∀ x, x < 8 * (seqA t k).1 → True) → (∀ k', k' < k → k' / 8 < (seqA t k').1) → ∀ i, 0 < i → i < (seqA t k).1 → (seqA t k).2.2.1 i < i ∧ (seqA t k).2.2.2 i < 8 := by
  intro k
  induction k with
  | zero => intro _ _ i h1 h2; have : (seqA t 0).1 = 1 := rfl; omega
  | succ k ih =>
    intro _ hv i h1 h2
    rw [seqA] at h2 ⊢
    have hv' := ih (fun _ _ => trivial) (fun k' hk' => hv k' (by omega))
    rcases stepA_cases (t := t) (j := k % 8) (seqA t k) (k / 8) with h | ⟨_, _, h⟩
    · rw [h] at h2 ⊢; exact hv' i h1 h2
    · rw [h] at h2 ⊢
      have h2 : i < (seqA t k).1 + 1 := h2
      by_cases hin : i = (seqA t k).1
      · rw [hin]
        have e1 : (pushA (seqA t k) (newR t ((seqA t k).2.1 (k / 8)) (k % 8)) (k / 8) (k % 8)).2.2.1 (seqA t k).1 = k / 8 := updN_eq
        have e2 : (pushA (seqA t k) (newR t ((seqA t k).2.1 (k / 8)) (k % 8)) (k / 8) (k % 8)).2.2.2 (seqA t k).1 = k % 8 := updN_eq
        rw [e1, e2]
        exact ⟨hv k (by omega), by omega⟩
      · obtain ⟨a, b, c⟩ := push_row (A := seqA t k) (ρ := newR t ((seqA t k).2.1 (k / 8)) (k % 8)) (i := k / 8) (j := k % 8) (x := i) (by omega)
        rw [b, c]; exact hv' i h1 (by omega)
/-- the way to a state: who was granted -/
def way8 (A : Sch) : Nat → Nat → List Nat
  | 0, _ => []
  | f + 1, k => if k = 0 then [] else way8 A f (A.2.2.1 k) ++ [A.2.2.2 k]
theorem way8_len {A : Sch} : ∀ f k, (way8 A f k).length ≤ f := by
  intro f
  induction f with
  | zero => intro k; exact Nat.le_refl _
  | succ f ih =>
    intro k
    rw [way8]
    split
    · simp
    · rw [List.length_append]; have := ih (A.2.2.1 k); simp; omega
theorem way8_fuel {A : Sch} (hA : ∀ i, 0 < i → i < A.1 → A.2.2.1 i < i) : ∀ f k, k ≤ f → k < A.1 → way8 A f k = way8 A k k := by
  intro f
  induction f using Nat.strongRecOn with
  | ind f ih =>
    intro k hk hk1
    cases f with
    | zero => obtain rfl : k = 0 := by omega
              rfl
    | succ f =>
      cases k with
      | zero => rfl
      | succ k =>
        have h1 := hA (k + 1) (by omega) hk1
        rw [way8, way8, if_neg (by omega), if_neg (by omega)]
        rw [ih f (by omega) _ (by omega) (by omega)]
        rw [ih k (by omega) _ (by omega) (by omega)]
/-- the plan's search stops -/
def stopP (t : St) (k : Nat) : Prop := endA (seqA t k) = true ∨ (seqA t k).1 = 401 ∨ (k % 8 = 0 ∧ (seqA t k).1 ≤ k / 8)
def stopQ (t : St) (k : Nat) : Prop := (seqA t k).1 = 401 ∨ (k % 8 = 0 ∧ (seqA t k).1 ≤ k / 8)
def leastK (p : Nat → Prop) (K : Nat) : Prop := p K ∧ ∀ k, k < K → ¬ p k
theorem leastK_eq {p : Nat → Prop} {K K' : Nat} (h : leastK p K) (h' : leastK p K') : K = K' := by
  rcases Nat.lt_trichotomy K K' with hl | he | hg
  · exact absurd h.1 (h'.2 K hl)
  · exact he
  · exact absurd h'.1 (h.2 K' hg)
/-- before it stops: in range -/
theorem stop_range {k : Nat} (h : ∀ k', k' < k → ¬ stopQ t k') : ∀ k', k' < k → k' / 8 < (seqA t k').1 := by
  intro k'
  induction k' with
  | zero => intro _; have : (seqA t 0).1 = 1 := rfl; omega
  | succ k' ih =>
    intro hk
    have h1 := ih (by omega)
    have hmono : (seqA t k').1 ≤ (seqA t (k' + 1)).1 := by
      rw [seqA]
      rcases stepA_cases (t := t) (j := k' % 8) (seqA t k') (k' / 8) with h | ⟨_, _, h⟩
      · rw [h]; exact Nat.le_refl _
      · rw [h]; show (seqA t k').1 ≤ (seqA t k').1 + 1; omega
    by_cases h8 : (k' + 1) % 8 = 0
    · have := h (k' + 1) hk
      unfold stopQ at this
      omega
    · omega
theorem stop_n {k : Nat} (h : ∀ k', k' < k → ¬ stopQ t k') : (seqA t k).1 ≤ 401 := by
  cases k with
  | zero => have : (seqA t 0).1 = 1 := rfl; omega
  | succ k =>
    have hk : (seqA t k).1 ≤ 400 := by
      have : ∀ m, m ≤ k → (seqA t m).1 ≤ 400 := by
        intro m
        induction m with
        | zero => intro _; have : (seqA t 0).1 = 1 := rfl; omega
        | succ m ih =>
          intro hm
          have h1 := ih (by omega)
          have h2 := h (m + 1) (by omega)
          unfold stopQ at h2
          have hstep : (seqA t (m + 1)).1 ≤ (seqA t m).1 + 1 := by
            rw [seqA]
            rcases stepA_cases (t := t) (j := m % 8) (seqA t m) (m / 8) with h | ⟨_, _, h⟩
            · rw [h]; omega
            · rw [h]; exact Nat.le_refl _
          omega
      exact this k (Nat.le_refl _)
    rw [seqA]
    rcases stepA_cases (t := t) (j := k % 8) (seqA t k) (k / 8) with h | ⟨_, _, h⟩
    · rw [h]; omega
    · rw [h]; show (seqA t k).1 + 1 ≤ 401; omega
theorem P_Q {k : Nat} (h : ∀ k', k' < k → ¬ stopP t k') : ∀ k', k' < k → ¬ stopQ t k' := fun k' hk hq => h k' hk (Or.inr hq)
end
