/-! states as rows that are compared -/
def trnB (t s : St) (j k : Nat) : Bool := decide (s j 1 = 2) && decide (s k 1 = 2) && decide (onS t s k = onS t s j) && decide (s k 7 ≤ s j 7)
def trn (t s : St) (j : Nat) : Nat := cnt 8 (trnB t s j)
def kF (t s : St) : St := fun j f => if s j 1 = 3 then (if f = 1 then 3 else 0) else if f = 7 then trn t s j else s j f
def tk (ρ : St) : St := fun j f => if j < 8 ∧ f < 18 then ρ j f else if j = 13 ∧ f = 12 then 100 else 0
theorem tk_at {ρ : St} {j f : Nat} (hj : j < 8) (hf : f < 18) : tk ρ j f = ρ j f := by unfold tk; rw [if_pos ⟨hj, hf⟩]
theorem tk_GZ {ρ : St} : GZ (tk ρ) := fun a f h1 h2 => by unfold tk; rw [if_neg h1, if_neg h2]
theorem tk_congr {ρ ρ' : St} (h : ∀ j f, j < 8 → f < 18 → ρ j f = ρ' j f) : tk ρ = tk ρ' := by
  funext j f
  unfold tk
  by_cases hc : j < 8 ∧ f < 18
  · rw [if_pos hc, if_pos hc]; exact h j f hc.1 hc.2
  · rw [if_neg hc, if_neg hc]
theorem tk_tk {ρ : St} {j f : Nat} (hj : j < 8) (hf : f < 18) : tk (tk ρ) j f = tk ρ j f := by rw [tk_at hj hf]
theorem cnt_zero {n : Nat} {p : Nat → Bool} (h : ∀ k, k < n → p k = false) : cnt n p = 0 := by
  induction n with
  | zero => rfl
  | succ n ih => rw [cnt, h n (by omega), ih (fun k hk => h k (by omega))]; rfl
theorem cnt_list {n : Nat} : ∀ (l : List Nat), l.Nodup → (∀ x, x ∈ l → x < n) → cnt n (fun y => decide (y ∈ l)) = l.length := by
  intro l
  induction l with
  | nil => intro _ _; exact cnt_zero (fun k _ => by simp)
  | cons a l ih =>
    intro hn hl
    rw [List.nodup_cons] at hn
    have := cnt_upd (p := fun y => decide (y ∈ a :: l)) (q := fun y => decide (y ∈ l)) (j := a) (by simp) (by simp [hn.1]) n (hl a (by simp)) (fun k _ hne => by simp [hne])
    rw [← this, ih hn.2 (fun x hx => hl x (by simp [hx])), List.length_cons]
section
variable {t s : St} {m : Nat} {q : List Nat}
theorem QL_at (h : QL t s m q) {k x : Nat} (hk : q[k]? = some x) : x < 8 ∧ s x 1 = 2 ∧ onS t s x = m := (h.1 x).1 (List.mem_of_getElem? hk)
theorem QL_lt (h : QL t s m q) {i k x y : Nat} (hi : q[i]? = some x) (hk : q[k]? = some y) (hlt : i < k) : s x 7 < s y 7 := by
  obtain ⟨a, b⟩ := List.getElem?_eq_some_iff.1 hi
  obtain ⟨c, d⟩ := List.getElem?_eq_some_iff.1 hk
  have := List.pairwise_iff_getElem.1 h.2 i k a c hlt
  rw [b, d] at this; exact this
theorem QL_nodup (h : QL t s m q) : q.Nodup := h.2.imp (fun {a b} hab e => by rw [e] at hab; omega)
theorem trn_idx (h : QL t s m q) {k x : Nat} (hk : q[k]? = some x) : trn t s x = k + 1 := by
  obtain ⟨h8, h2, hm⟩ := QL_at h hk
  obtain ⟨hl, he⟩ := List.getElem?_eq_some_iff.1 hk
  have hnd : (q.take (k + 1)).Nodup := (List.take_sublist _ _).nodup (QL_nodup h)
  have e := cnt_list (n := 8) (q.take (k + 1)) hnd (fun y hy => ((h.1 y).1 (List.mem_of_mem_take hy)).1)
  rw [List.length_take, Nat.min_eq_left (by omega)] at e
  rw [← e]
  unfold trn
  refine cnt_congr (fun y hy => ?_)
  have iff : (s y 1 = 2 ∧ onS t s y = onS t s x ∧ s y 7 ≤ s x 7) ↔ y ∈ q.take (k + 1) := by
    rw [List.mem_take_iff_getElem]
    constructor
    · rintro ⟨a, b, c⟩
      have hmem := (h.1 y).2 ⟨hy, a, b.trans hm⟩
      obtain ⟨i, hi, hiy⟩ := List.mem_iff_getElem.1 hmem
      refine ⟨i, ?_, hiy⟩
      rw [Nat.lt_min]
      refine ⟨?_, hi⟩
      apply Classical.byContradiction
      intro hgt
      have := QL_lt h hk (List.getElem?_eq_some_iff.2 ⟨hi, hiy⟩) (by omega)
      omega
    · rintro ⟨i, hi, hiy⟩
      rw [Nat.lt_min] at hi
      have hiy' : q[i]? = some y := List.getElem?_eq_some_iff.2 ⟨hi.2, hiy⟩
      obtain ⟨a, b, c⟩ := QL_at h hiy'
      refine ⟨b, c.trans hm.symm, ?_⟩
      by_cases hik : i = k
      · subst hik; rw [hiy'] at hk; cases hk; exact Nat.le_refl _
      · exact Nat.le_of_lt (QL_lt h hiy' hk (by omega))
  unfold trnB
  rw [decide_eq_true h2, Bool.true_and, ← Bool.decide_and, ← Bool.decide_and]
  exact decide_eq_decide.2 ((and_assoc).trans iff)
theorem trn_0 {j : Nat} (h : s j 1 ≠ 2) : trn t s j = 0 := by
  unfold trn trnB
  exact cnt_zero (fun k _ => by rw [decide_eq_false h]; rfl)
theorem trn_le {j : Nat} : trn t s j ≤ 8 := cnt_le 8 _
theorem trn_inj {a b : Nat} (hI : INV t s) (ha : a < 8) (hb : b < 8) (h1 : s a 1 = 2) (h2 : s b 1 = 2) (ho : onS t s a = onS t s b) (h : s a 7 < s b 7) : trn t s a < trn t s b := by
  unfold trn
  refine cnt_lt (i := b) ?_ ?_ 8 hb (fun k _ hk => ?_)
  · unfold trnB; rw [decide_eq_false (show ¬ s b 7 ≤ s a 7 by omega), Bool.and_false]
  · unfold trnB; simp [h2]
  · unfold trnB at hk ⊢
    simp only [Bool.and_eq_true, decide_eq_true_eq] at hk ⊢
    exact ⟨⟨⟨h2, hk.1.1.2⟩, hk.1.2.trans ho⟩, by omega⟩
theorem kF_1 {j : Nat} : kF t s j 1 = s j 1 := by
  unfold kF
  by_cases h : s j 1 = 3
  · rw [if_pos h, if_pos rfl, h]
  · rw [if_neg h, if_neg (by decide)]
theorem kF_ne {j f : Nat} (h : s j 1 ≠ 3) (hf : f ≠ 7) : kF t s j f = s j f := by unfold kF; rw [if_neg h, if_neg hf]
theorem kF_7 {j : Nat} (h : s j 1 ≠ 3) : kF t s j 7 = trn t s j := by unfold kF; rw [if_neg h, if_pos rfl]
theorem kF_E {j f : Nat} (h : s j 1 = 3) (hf : f ≠ 1) : kF t s j f = 0 := by unfold kF; rw [if_pos h, if_neg hf]
theorem onS_row {s s' : St} {j : Nat} (h : s' j 0 = s j 0) : onS t s' j = onS t s j := by unfold onS; rw [h]
theorem opS_row {s s' : St} {j : Nat} (h : s' j 0 = s j 0) : opS t s' j = opS t s j := by unfold opS; rw [h]
theorem JR_congr {j : Nat} {r r' : Nat → Nat} (hT : TV t) (h : ∀ f, f < 18 → f ≠ 7 → r' f = r f) (hJ : JR t j r) : JR t j r' := by
  obtain ⟨⟨a1, a2, a3, a4⟩, b, ⟨c1, c2, c3⟩, ⟨d1, d2, d3, d4⟩, ⟨f1, f2⟩, g1, g2, g3⟩ := hJ
  have e0 := h 0 (by omega) (by omega)
  have e1 := h 1 (by omega) (by omega)
  have e2 := h 2 (by omega) (by omega)
  have e3 := h 3 (by omega) (by omega)
  have e4 := h 4 (by omega) (by omega)
  have e5 := h 5 (by omega) (by omega)
  have e6 := h 6 (by omega) (by omega)
  have e8 : ∀ m, m < 10 → r' (8 + m) = r (8 + m) := fun m hm => h (8 + m) (by omega) (by omega)
  have eo : opR t j r' = opR t j r := by unfold opR; rw [e0]
  have en : onR t j r' = onR t j r := by unfold onR; rw [e0]
  have et : triR t j r' = triR t j r := by unfold triR; rw [eo, e1, e4]
  refine ⟨⟨by omega, by omega, by rw [e1, e0]; exact a3, by omega⟩, fun m hm hh => by rw [e8 m hm] at hh; rw [e5]; exact b m hm hh, ⟨fun h1 h4 => ?_, fun hh => ?_, by rw [e1, e4]; exact c3⟩, ⟨fun hh => ?_, by omega, by omega, by rw [e6, e1]; exact d4⟩, ⟨fun m hm => by rw [e8 m hm, e0, e2]; exact f1 m hm, by rw [e4, e0, e2]; exact f2⟩, by omega, fun hh => ?_, fun hh => ?_⟩
  · exact askOK_congr e0 e5 (fun m hm => e8 m hm) (hT.2.2.2.2.2.1 _) (c1 (by omega) (by omega))
  · rw [e1, e4] at hh
    obtain ⟨x1, x2, x3⟩ := c2 hh
    have ho : onR t j r < 10 := hT.2.2.2.2.2.1 _ (by show opR t j r ≠ 9; omega)
    refine ⟨by rw [eo]; exact x1, by omega, ?_⟩
    rw [en]; unfold hasR at x3 ⊢; rw [e8 _ ho, e5]; exact x3
  · rw [e1] at hh
    exact ⟨by rw [e5]; exact (d1 hh).1, fun m hm => by rw [e8 m hm]; exact (d1 hh).2 m hm⟩
  · rw [et] at hh; rw [e3]; exact g2 hh
  · rw [et] at hh; rw [e3, e0]; exact g3 hh
theorem muR_le (r : Nat → Nat) : muR r ≤ 183 := by
  unfold muR mwt
  have : (if r 1 = 0 then 3 else if r 1 = 1 then 1 else if r 1 = 2 then 2 else 0) ≤ 3 := by
    split
    · omega
    · split
      · omega
      · split <;> omega
  omega
theorem mu_le (s : St) : mu s ≤ 1464 := by
  have : ∀ n, sumN n (fun j => muR (s j)) ≤ 183 * n := by
    intro n
    induction n with
    | zero => exact Nat.le_refl _
    | succ n ih => rw [sumN]; have := muR_le (s n); omega
  exact this 8
theorem tk_INV (hT : TV t) (hI : INV t s) : INV t (tk (kF t s)) := by
  have k1 : ∀ j, j < 8 → tk (kF t s) j 1 = s j 1 := fun j hj => by rw [tk_at hj (by omega), kF_1]
  have kn : ∀ j f, j < 8 → f < 18 → f ≠ 7 → s j 1 ≠ 3 → tk (kF t s) j f = s j f := fun j f hj hf h7 h3 => by rw [tk_at hj hf, kF_ne h3 h7]
  have kE : ∀ j f, j < 8 → f < 18 → f ≠ 1 → s j 1 = 3 → tk (kF t s) j f = 0 := fun j f hj hf h1 h3 => by rw [tk_at hj hf, kF_E h3 h1]
  refine ⟨fun j hj => ?_, fun j k hj hk hne m hm h => ?_, ⟨fun j hj h => ?_, fun j k hj hk h1 h2 ho he => ?_⟩, ?_, fun j f => ?_⟩
  · by_cases h3 : s j 1 = 3
    · have r1 := k1 j hj
      have z : ∀ f, f < 18 → f ≠ 1 → tk (kF t s) j f = 0 := fun f hf h1 => kE j f hj hf h1 h3
      have r0 := z 0 (by omega) (by omega)
      have r2 := z 2 (by omega) (by omega)
      have r3 := z 3 (by omega) (by omega)
      have r4 := z 4 (by omega) (by omega)
      have r5 := z 5 (by omega) (by omega)
      have r6 := z 6 (by omega) (by omega)
      have r8 : ∀ m, m < 10 → tk (kF t s) j (8 + m) = 0 := fun m hm => z (8 + m) (by omega) (by omega)
      refine ⟨⟨by omega, by omega, by omega, by omega⟩, fun m hm h => by have := r8 m hm; omega, ⟨by omega, fun h => by omega, fun _ => r4⟩, ⟨fun _ => ⟨r5, r8⟩, by omega, by omega, by omega⟩, ⟨fun m hm => by have := r8 m hm; omega, by omega⟩, by omega, fun _ => r3, fun h => ?_⟩
      unfold triR at h
      rw [r1, h3] at h
      cases h
    · exact JR_congr hT (fun f hf h7 => kn j f hj hf h7 h3) (hI.J hj)
  · by_cases h3 : s j 1 = 3
    · rw [kE j (8 + m) hj (by omega) (by omega) h3] at h; omega
    · rw [kn j (8 + m) hj (by omega) (by omega) h3] at h
      have hx := hI.2.1 j k hj hk hne m hm h
      unfold hasS at hx ⊢
      by_cases g3 : s k 1 = 3
      · rw [kE k (8 + m) hk (by omega) (by omega) g3, kE k 5 hk (by omega) (by omega) g3]; simp
      · rw [kn k (8 + m) hk (by omega) (by omega) g3, kn k 5 hk (by omega) (by omega) g3]; exact hx
  · rw [k1 j hj] at h
    have e : tk (kF t s) 13 12 = 100 := rfl
    rw [e, tk_at hj (by omega), kF_7 (by omega)]
    have := trn_le (t := t) (s := s) (j := j)
    omega
  · rw [k1 j hj] at h1
    rw [k1 k hk] at h2
    rw [onS_row (s := s) (kn j 0 hj (by omega) (by omega) (by omega)), onS_row (s := s) (kn k 0 hk (by omega) (by omega) (by omega))] at ho
    rw [tk_at hj (by omega), tk_at hk (by omega), kF_7 (by omega), kF_7 (by omega)] at he
    apply hI.2.2.1.2 j k hj hk h1 h2 ho
    rcases Nat.lt_trichotomy (s j 7) (s k 7) with h | h | h
    · have := trn_inj hI hj hk h1 h2 ho h; omega
    · exact h
    · have := trn_inj hI hk hj h2 h1 ho.symm h; omega
  · have e : tk (kF t s) 13 12 = 100 := rfl
    have := mu_le (tk (kF t s))
    omega
  · unfold tk
    by_cases hc : j < 8 ∧ f < 18
    · rw [if_pos hc]
      unfold kF
      by_cases h3 : s j 1 = 3
      · rw [if_pos h3]; split <;> omega
      · rw [if_neg h3]
        by_cases h7 : f = 7
        · rw [if_pos h7]; have := trn_le (t := t) (s := s) (j := j); omega
        · rw [if_neg h7]; exact hI.B j f
    · rw [if_neg hc]; split <;> omega
/-- what holds of a row that is compared -/
def KR (t ρ : St) : Prop := INV t (tk ρ) ∧ (∀ j, j < 8 → ρ j 1 = 1 ∨ ρ j 1 = 2 ∨ ρ j 1 = 3) ∧ (∀ j f, j < 8 → f < 18 → ρ j 1 = 3 → f ≠ 1 → ρ j f = 0) ∧ (∀ j, j < 8 → ρ j 1 ≠ 2 → ρ j 7 = 0)
theorem kF_KR (hT : TV t) (hI : INV t s) (h0 : ∀ j, j < 8 → s j 1 ≠ 0) : KR t (kF t s) := by
  refine ⟨tk_INV hT hI, fun j hj => ?_, fun j f hj hf h3 h1 => ?_, fun j hj h2 => ?_⟩
  · rw [kF_1]; have := (hI.J hj).1.1; have := h0 j hj; omega
  · rw [kF_1] at h3; exact kF_E h3 h1
  · rw [kF_1] at h2
    by_cases h3 : s j 1 = 3
    · exact kF_E h3 (by decide)
    · rw [kF_7 h3, trn_0 h2]
/-- the line of those that sleep, by what is compared -/
theorem QL_kF (h : QL t s m q) : QL t (tk (kF t s)) m q ∧ ∀ k x, q[k]? = some x → kF t s x 7 = k + 1 := by
  have hi : ∀ k x, q[k]? = some x → kF t s x 7 = k + 1 := fun k x hk => by
    have := QL_at h hk
    rw [kF_7 (by omega), trn_idx h hk]
  refine ⟨⟨fun x => ?_, ?_⟩, hi⟩
  · rw [h.1 x]
    constructor
    · rintro ⟨a, b, c⟩
      refine ⟨a, by rw [tk_at a (by omega), kF_1]; exact b, ?_⟩
      rw [onS_row (s := s) (by rw [tk_at a (by omega), kF_ne (by omega) (by omega)])]; exact c
    · rintro ⟨a, b, c⟩
      rw [tk_at a (by omega), kF_1] at b
      refine ⟨a, b, ?_⟩
      rw [onS_row (s := s) (by rw [tk_at a (by omega), kF_ne (by omega) (by omega)])] at c; exact c
  · rw [List.pairwise_iff_getElem]
    intro i k hi' hk' hlt
    have e1 := hi i _ (List.getElem?_eq_some_iff.2 ⟨hi', rfl⟩)
    have e2 := hi k _ (List.getElem?_eq_some_iff.2 ⟨hk', rfl⟩)
    have a1 := QL_at h (List.getElem?_eq_some_iff.2 ⟨hi', rfl⟩)
    have a2 := QL_at h (List.getElem?_eq_some_iff.2 ⟨hk', rfl⟩)
    rw [tk_at a1.1 (by omega), tk_at a2.1 (by omega), e1, e2]; omega
/-- a line of a row: who, at which turn -/
def QK (t ρ : St) (m : Nat) (q : List Nat) : Prop := QL t (tk ρ) m q ∧ ∀ k x, q[k]? = some x → ρ x 7 = k + 1
theorem QK_eq {ρ : St} {q' : List Nat} (h : QK t ρ m q) (h' : QK t ρ m q') : q = q' := by
  have half : ∀ {q q' : List Nat}, QK t ρ m q → QK t ρ m q' → ∀ k x, q[k]? = some x → q'[k]? = some x := fun {q q'} h h' k x hk => by
    have hm := (h'.1.1 x).2 ((h.1.1 x).1 (List.mem_of_getElem? hk))
    obtain ⟨i, hi, hiy⟩ := List.mem_iff_getElem.1 hm
    have e1 := h.2 k x hk
    have hiy' : q'[i]? = some x := List.getElem?_eq_some_iff.2 ⟨hi, hiy⟩
    have e2 := h'.2 i x hiy'
    rw [show k = i by omega]; exact hiy'
  apply List.ext_getElem?
  intro i
  cases hq : q[i]? with
  | some x => exact (half h h' i x hq).symm
  | none =>
    cases hq' : q'[i]? with
    | none => rfl
    | some y => rw [half h' h i y hq'] at hq; cases hq
theorem QK_congr {ρ ρ' : St} (he : ∀ j f, j < 8 → f < 18 → ρ j f = ρ' j f) (h : QK t ρ m q) : QK t ρ' m q := by
  refine ⟨by rw [← tk_congr he]; exact h.1, fun k x hk => ?_⟩
  have := QL_at h.1 hk
  rw [← he x 7 this.1 (by omega)]; exact h.2 k x hk
end
