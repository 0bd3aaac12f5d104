/-! breadth first: the least way round -/
theorem pigeon : ∀ (m n : Nat) (f : Nat → Nat), (∀ p, p < n → f p < m) → (∀ p p', p < n → p' < n → f p = f p' → p = p') → n ≤ m := by
  intro m
  induction m with
  | zero => intro n f h _; cases n with
    | zero => exact Nat.le_refl _
    | succ n => exact absurd (h 0 (by omega)) (by omega)
  | succ m ih =>
    intro n f h hi
    by_cases hx : ∃ p0, p0 < n ∧ f p0 = m
    · obtain ⟨p0, h1, h2⟩ := hx
      have := ih (n - 1) (fun p => if p = p0 then f (n - 1) else f p) (fun p hp => ?_) (fun p p' hp hp' he => ?_)
      · omega
      · split
        · have a := h (n - 1) (by omega)
          have b : f (n - 1) ≠ m := fun e => by have := hi (n - 1) p0 (by omega) h1 (by rw [e, h2]); omega
          omega
        · have a := h p (by omega)
          have b : f p ≠ m := fun e => by have := hi p p0 (by omega) h1 (by rw [e, h2]); omega
          omega
      · by_cases e1 : p = p0
        · by_cases e2 : p' = p0
          · omega
          · rw [if_pos e1, if_neg e2] at he
            have := hi _ _ (by omega) (by omega) he; omega
        · by_cases e2 : p' = p0
          · rw [if_neg e1, if_pos e2] at he
            have := hi _ _ (by omega) (by omega) he; omega
          · rw [if_neg e1, if_neg e2] at he
            exact hi _ _ (by omega) (by omega) he
    · have := ih n f (fun p hp => by
        have a := h p hp
        have : f p ≠ m := fun e => hx ⟨p, hp, e⟩
        omega) hi
      omega
/-- the number of a walk: first by length, then by its places -/
def vl (w : Nat → Nat) : Nat → Nat
  | 0 => 1
  | k + 1 => 8 * vl w k + w (k + 1)
def wlk (e : Nat → Nat → Bool) (a : Nat → Bool) (f : Nat) (w : Nat → Nat) (k : Nat) : Prop := w 0 = f ∧ ∀ i, i < k → e (w i) (w (i + 1)) = true ∧ a (w (i + 1)) = true
def clo (e : Nat → Nat → Bool) (a : Nat → Bool) (f : Nat) (w : Nat → Nat) (k : Nat) : Prop := wlk e a f w k ∧ e (w k) f = true
theorem vl_congr {w w' : Nat → Nat} : ∀ k, (∀ i, i ≤ k → w i = w' i) → vl w k = vl w' k := by
  intro k
  induction k with
  | zero => intro _; rfl
  | succ k ih => intro h; rw [vl, vl, ih (fun i hi => h i (by omega)), h (k + 1) (by omega)]
theorem vl_pow {w : Nat → Nat} : ∀ k, (∀ i, 1 ≤ i → i ≤ k → w i < 8) → 8 ^ k ≤ vl w k ∧ vl w k < 2 * 8 ^ k := by
  intro k
  induction k with
  | zero => intro _; rw [vl]; exact ⟨by decide, by decide⟩
  | succ k ih =>
    intro h
    have := ih (fun i a b => h i a (by omega))
    have h1 := h (k + 1) (by omega) (by omega)
    rw [vl, Nat.pow_succ]
    omega
theorem vl_inj {w w' : Nat → Nat} : ∀ k k', (∀ i, 1 ≤ i → i ≤ k → w i < 8) → (∀ i, 1 ≤ i → i ≤ k' → w' i < 8) → vl w k = vl w' k' → k = k' ∧ ∀ i, 1 ≤ i → i ≤ k → w i = w' i := by
  intro k
  induction k with
  | zero =>
    intro k' h h' e
    cases k' with
    | zero => exact ⟨rfl, fun i a b => by omega⟩
    | succ k' =>
      have := (vl_pow k' (fun i a b => h' i a (by omega))).1
      have h8 : 1 ≤ 8 ^ k' := Nat.pow_pos (by decide)
      rw [vl, vl] at e; omega
  | succ k ih =>
    intro k' h h' e
    cases k' with
    | zero =>
      have := (vl_pow k (fun i a b => h i a (by omega))).1
      have h8 : 1 ≤ 8 ^ k := Nat.pow_pos (by decide)
      rw [vl, vl] at e; omega
    | succ k' =>
      have h1 := h (k + 1) (by omega) (by omega)
      have h2 := h' (k' + 1) (by omega) (by omega)
      rw [vl, vl] at e
      have := ih k' (fun i a b => h i a (by omega)) (fun i a b => h' i a (by omega)) (by omega)
      refine ⟨by omega, fun i a b => ?_⟩
      by_cases hi : i = k + 1
      · subst hi
        rw [show k' = k by omega] at e
        rw [show k' = k by omega] at this
        have e2 := vl_congr (w := fun i => if i = 0 then 0 else w i) (w' := fun i => if i = 0 then 0 else w' i) k (fun i hi => by
          by_cases h0 : i = 0
          · rw [h0]; rfl
          · simp only [if_neg h0]; exact this.2 i (by omega) hi)
        have z : ∀ (u : Nat → Nat) n, vl (fun i => if i = 0 then 0 else u i) n = vl u n := by
          intro u n
          induction n with
          | zero => rfl
          | succ n ih => rw [vl, vl, ih]; simp
        rw [z, z] at e2
        omega
      · exact this.2 i a (by omega)
def BI (e : Nat → Nat → Bool) (a : Nat → Bool) (f : Nat) (q pp : Nat → Nat) (n : Nat) : Prop :=
  1 ≤ n ∧ q 0 = f ∧ (∀ p, 1 ≤ p → p < n → pp p < p ∧ e (q (pp p)) (q p) = true ∧ a (q p) = true) ∧
  (∀ p p', p < n → p' < n → q p = q p' → p = p') ∧
  (∀ p p', 1 ≤ p → p < p' → p' < n → pp p < pp p' ∨ (pp p = pp p' ∧ q p < q p'))
section
variable {e : Nat → Nat → Bool} {a : Nat → Bool} {f n : Nat} {q pp : Nat → Nat}
theorem BI.n1 (h : BI e a f q pp n) : 1 ≤ n := h.1
theorem BI.q0 (h : BI e a f q pp n) : q 0 = f := h.2.1
theorem BI.par (h : BI e a f q pp n) : ∀ p, 1 ≤ p → p < n → pp p < p ∧ e (q (pp p)) (q p) = true ∧ a (q p) = true := h.2.2.1
theorem BI.inj (h : BI e a f q pp n) : ∀ p p', p < n → p' < n → q p = q p' → p = p' := h.2.2.2.1
theorem BI.mono (h : BI e a f q pp n) : ∀ p p', 1 ≤ p → p < p' → p' < n → pp p < pp p' ∨ (pp p = pp p' ∧ q p < q p') := h.2.2.2.2
end
def pv (q pp : Nat → Nat) : Nat → Nat → Nat
  | 0, _ => 1
  | l + 1, p => if p = 0 then 1 else 8 * pv q pp l (pp p) + q p
theorem pv_fuel {q pp : Nat → Nat} {n : Nat} (h : ∀ p, 1 ≤ p → p < n → pp p < p) : ∀ l l' p, p < n → p ≤ l → p ≤ l' → pv q pp l p = pv q pp l' p := by
  intro l
  induction l with
  | zero =>
    intro l' p hn a b
    obtain rfl : p = 0 := by omega
    cases l' with
    | zero => rfl
    | succ l' => rw [pv, pv, if_pos rfl]
  | succ l ih =>
    intro l' p hn a b
    cases l' with
    | zero =>
      obtain rfl : p = 0 := by omega
      rw [pv, pv, if_pos rfl]
    | succ l' =>
      rw [pv, pv]
      by_cases hp : p = 0
      · rw [if_pos hp, if_pos hp]
      · rw [if_neg hp, if_neg hp]
        have := h p (by omega) hn
        rw [ih l' (pp p) (by omega) (by omega) (by omega)]
def vp (q pp : Nat → Nat) (p : Nat) : Nat := pv q pp p p
section
variable {e : Nat → Nat → Bool} {a : Nat → Bool} {f n : Nat} {q pp : Nat → Nat}
theorem BI.vp0 : vp q pp 0 = 1 := rfl
theorem BI.vpS (h : BI e a f q pp n) {p : Nat} (h1 : 1 ≤ p) (hp : p < n) : vp q pp p = 8 * vp q pp (pp p) + q p := by
  have hl := (h.par p h1 hp).1
  unfold vp
  obtain ⟨p, rfl⟩ : ∃ p', p = p' + 1 := ⟨p - 1, by omega⟩
  rw [pv, if_neg (by omega), pv_fuel (fun p a b => (h.par p a b).1) p (pp (p + 1)) (pp (p + 1)) (by omega) (by omega) (Nat.le_refl _)]
theorem BI.vlt (h : BI e a f q pp n) (ha : ∀ v, a v = true → v < 8 ∧ v ≠ f) : ∀ p', p' < n → ∀ p, p < p' → vp q pp p < vp q pp p' := by
  intro p'
  induction p' using Nat.strongRecOn with
  | _ p' ih =>
    intro hn p hp
    have h1 := h.par p' (by omega) hn
    have e1 := h.vpS (p := p') (by omega) hn
    have a1 := ha _ h1.2.2
    by_cases h0 : p = 0
    · subst h0
      have : 1 ≤ vp q pp (pp p') := by
        by_cases hz : pp p' = 0
        · rw [hz]; exact Nat.le_refl _
        · have := ih (pp p') h1.1 (by omega) 0 (by omega)
          omega
      have : vp q pp 0 = 1 := rfl
      omega
    · have h2 := h.par p (by omega) (by omega)
      have e2 := h.vpS (p := p) (by omega) (by omega)
      have a2 := ha _ h2.2.2
      rcases h.mono p p' (by omega) hp hn with hm | hm
      · have := ih (pp p') h1.1 (by omega) (pp p) hm
        omega
      · rw [hm.1] at e2; omega
theorem BI.vle (h : BI e a f q pp n) (ha : ∀ v, a v = true → v < 8 ∧ v ≠ f) {p p' : Nat} (hn : p' < n) (hp : p ≤ p') : vp q pp p ≤ vp q pp p' := by
  by_cases hh : p = p'
  · rw [hh]; exact Nat.le_refl _
  · exact Nat.le_of_lt (h.vlt ha p' hn p (by omega))
/-- what is done before place i -/
def done (e : Nat → Nat → Bool) (a : Nat → Bool) (f : Nat) (q pp : Nat → Nat) (n i : Nat) : Prop := ∀ p, p < i → e (q p) f = false ∧ ∀ v, a v = true → e (q p) v = true → ∃ p', 1 ≤ p' ∧ p' < n ∧ q p' = v ∧ pp p' ≤ p
theorem BI.reach (h : BI e a f q pp n) (ha : ∀ v, a v = true → v < 8 ∧ v ≠ f) {i : Nat} (hd : done e a f q pp n i) {w : Nat → Nat} : ∀ k, wlk e a f w k → (∃ p, p < i ∧ p < n ∧ q p = w k ∧ vp q pp p ≤ vl w k) ∨ (∃ l p, l ≤ k ∧ i ≤ p ∧ p < n ∧ q p = w l ∧ vp q pp p ≤ vl w l) := by
  intro k
  induction k with
  | zero =>
    intro hw
    by_cases hi : 0 < i
    · exact Or.inl ⟨0, hi, h.n1, by rw [h.q0, hw.1], Nat.le_refl _⟩
    · exact Or.inr ⟨0, 0, Nat.le_refl _, by omega, h.n1, by rw [h.q0, hw.1], Nat.le_refl _⟩
  | succ k ih =>
    intro hw
    rcases ih ⟨hw.1, fun i hi => hw.2 i (by omega)⟩ with ⟨p, h1, h2, h3, h4⟩ | ⟨l, p, h1, h2⟩
    · have hs := hw.2 k (by omega)
      obtain ⟨p', g1, g2, g3, g4⟩ := (hd p h1).2 _ hs.2 (by rw [h3]; exact hs.1)
      have g5 := h.vpS g1 g2
      have g6 := h.vle ha (p := pp p') (p' := p) h2 g4
      have g7 : vp q pp p' ≤ vl w (k + 1) := by rw [vl, g5, g3]; omega
      by_cases hi : p' < i
      · exact Or.inl ⟨p', hi, g2, g3, g7⟩
      · exact Or.inr ⟨k + 1, p', Nat.le_refl _, by omega, g2, g3, g7⟩
    · exact Or.inr ⟨l, p, by omega, h2⟩
theorem vl_mono {w : Nat → Nat} : ∀ k l, l ≤ k → vl w l ≤ vl w k := by
  intro k
  induction k with
  | zero => intro l hl; obtain rfl : l = 0 := by omega
            exact Nat.le_refl _
  | succ k ih =>
    intro l hl
    by_cases hh : l = k + 1
    · rw [hh]; exact Nat.le_refl _
    · have := ih l (by omega)
      rw [vl]; omega
theorem BI.least (h : BI e a f q pp n) (ha : ∀ v, a v = true → v < 8 ∧ v ≠ f) {i : Nat} (hd : done e a f q pp n i) {w : Nat → Nat} {k : Nat} (hw : clo e a f w k) : i < n ∧ vp q pp i ≤ vl w k := by
  rcases h.reach ha hd k hw.1 with ⟨p, h1, h2, h3, h4⟩ | ⟨l, p, h1, h2, h3, h4, h5⟩
  · have := (hd p h1).1
    rw [h3, hw.2] at this; cases this
  · exact ⟨by omega, Nat.le_trans (Nat.le_trans (h.vle ha h3 h2) h5) (vl_mono k l h1)⟩
/-- the way back -/
theorem BI.path (h : BI e a f q pp n) : ∀ p, p < n → ∃ (w : Nat → Nat) (ps : Nat → Nat) (k : Nat), k ≤ p ∧ wlk e a f w k ∧ vl w k = vp q pp p ∧ ps k = p ∧ ps 0 = 0 ∧ (∀ l, l ≤ k → ps l < n ∧ w l = q (ps l)) ∧ (∀ l, l < k → 1 ≤ ps (l + 1) ∧ pp (ps (l + 1)) = ps l) := by
  intro p
  induction p using Nat.strongRecOn with
  | _ p ih =>
    intro hn
    by_cases h0 : p = 0
    · subst h0
      exact ⟨fun _ => f, fun _ => 0, 0, Nat.le_refl _, ⟨rfl, fun i hi => by omega⟩, rfl, rfl, rfl, fun l hl => ⟨hn, h.q0.symm⟩, fun l hl => by omega⟩
    · have h1 := h.par p (by omega) hn
      obtain ⟨w, ps, k, c1, c2, c3, c4, c5, c6, c7⟩ := ih (pp p) h1.1 (by omega)
      have wk : w k = q (pp p) := by rw [(c6 k (Nat.le_refl _)).2, c4]
      refine ⟨fun l => if l = k + 1 then q p else w l, fun l => if l = k + 1 then p else ps l, k + 1, by omega, ⟨?_, fun i hi => ?_⟩, ?_, ?_, ?_, fun l hl => ?_, fun l hl => ?_⟩
      · simp only [if_neg (show ¬ 0 = k + 1 by omega)]; exact c2.1
      · by_cases hi2 : i = k
        · subst hi2
          simp only [if_neg (show ¬ i = i + 1 by omega), if_true, wk]; exact h1.2
        · simp only [if_neg (show ¬ i = k + 1 by omega), if_neg (show ¬ i + 1 = k + 1 by omega)]
          exact c2.2 i (by omega)
      · rw [vl, h.vpS (by omega) hn, ← c3, vl_congr (w' := w) k (fun i hi => by simp only [if_neg (show ¬ i = k + 1 by omega)])]
        simp only [if_true]
      · simp only [if_true]
      · simp only [if_neg (show ¬ 0 = k + 1 by omega)]; exact c5
      · by_cases hl2 : l = k + 1
        · simp only [hl2, if_true]; exact ⟨hn, trivial⟩
        · simp only [if_neg hl2]; exact c6 l (by omega)
      · by_cases hl2 : l = k
        · subst hl2
          simp only [if_true, if_neg (show ¬ l = l + 1 by omega), c4]; exact ⟨by omega, trivial⟩
        · simp only [if_neg (show ¬ l + 1 = k + 1 by omega), if_neg (show ¬ l = k + 1 by omega)]; exact c7 l (by omega)
theorem BI.n8 (h : BI e a f q pp n) (ha : ∀ v, a v = true → v < 8 ∧ v ≠ f) (hf : f < 8) : n ≤ 8 := by
  refine pigeon 8 n q (fun p hp => ?_) h.inj
  by_cases h0 : p = 0
  · rw [h0, h.q0]; exact hf
  · exact (ha _ (h.par p (by omega) hp).2.2).1
theorem BI.q8 (h : BI e a f q pp n) (ha : ∀ v, a v = true → v < 8 ∧ v ≠ f) (hf : f < 8) {p : Nat} (hp : p < n) : q p < 8 := by
  by_cases h0 : p = 0
  · rw [h0, h.q0]; exact hf
  · exact (ha _ (h.par p (by omega) hp).2.2).1
/-- one more -/
theorem BI.push (h : BI e a f q pp n) (ha : ∀ v, a v = true → v < 8 ∧ v ≠ f) {i v : Nat} (hi : i < n) (hv : a v = true) (he : e (q i) v = true) (hnew : ∀ p, 1 ≤ p → p < n → q p ≠ v) (hpp : ∀ p, 1 ≤ p → p < n → pp p < i ∨ (pp p = i ∧ q p < v)) : BI e a f (fun p => if p = n then v else q p) (fun p => if p = n then i else pp p) (n + 1) := by
  have n1 := h.n1
  refine ⟨by omega, ?_, fun p h1 h2 => ?_, fun p p' h1 h2 h3 => ?_, fun p p' h1 h2 h3 => ?_⟩
  · simp only [if_neg (show ¬ 0 = n by omega)]; exact h.q0
  · by_cases hp : p = n
    · subst hp
      simp only [if_true, if_neg (show ¬ i = p by omega)]; exact ⟨hi, he, hv⟩
    · have := h.par p h1 (by omega)
      simp only [if_neg hp, if_neg (show ¬ pp p = n by omega)]; exact this
  · have hz : ∀ p, p < n → q p ≠ v := fun p hp => by
      by_cases h0 : p = 0
      · rw [h0, h.q0]; exact fun e => (ha v hv).2 e.symm
      · exact hnew p (by omega) hp
    simp only [] at h3
    by_cases e1 : p = n
    · by_cases e2 : p' = n
      · omega
      · rw [if_pos e1, if_neg e2] at h3; exact absurd h3.symm (hz p' (by omega))
    · by_cases e2 : p' = n
      · rw [if_neg e1, if_pos e2] at h3; exact absurd h3 (hz p (by omega))
      · rw [if_neg e1, if_neg e2] at h3; exact h.inj _ _ (by omega) (by omega) h3
  · by_cases e2 : p' = n
    · simp only [if_pos e2, if_neg (show ¬ p = n by omega)]; exact hpp p h1 (by omega)
    · simp only [if_neg e2, if_neg (show ¬ p = n by omega)]; exact h.mono p p' h1 h2 (by omega)
end
