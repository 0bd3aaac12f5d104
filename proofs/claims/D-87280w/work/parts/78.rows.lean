/-! the system's rows against the rows that the reference compares -/
def rowJ (t ρ : St) (j y : Nat) : Nat := if ρ j 1 = 3 then (if y = 1 then 3 else 0) else if y = 0 then ρ j 0 else if y = 1 then ρ j 1 + (if ρ j 1 = 1 ∧ 0 < ρ j 4 then 4 else 0) + 8 * ρ j 2 else if y = 2 then ρ j 3 else if y = 3 then ρ j 5 else if y = 4 then ρ j 4 else if y = 5 then (if ρ j 1 = 1 then 2 * askS t ρ j + (if atlS t ρ j = true then 1 else 0) else 0) else ρ j (2 + y)
def vr9 : List Nat → Nat
  | [] => 0
  | x :: l => 9 * vr9 l + x + 1
def vq (q : List Nat) : Nat := vr9 q.reverse
theorem vr9_inj : ∀ {l l' : List Nat}, (∀ x, x ∈ l → x < 8) → (∀ x, x ∈ l' → x < 8) → vr9 l = vr9 l' → l = l' := by
  intro l
  induction l with
  | nil =>
    intro l' _ _ h
    cases l' with
    | nil => rfl
    | cons y l' => rw [vr9, vr9] at h; omega
  | cons x l ih =>
    intro l' h1 h2 h
    cases l' with
    | nil => rw [vr9, vr9] at h; omega
    | cons y l' =>
      rw [vr9, vr9] at h
      have a := h1 x (by simp)
      have b := h2 y (by simp)
      have e : x = y := by omega
      subst e
      rw [ih (l' := l') (fun z hz => h1 z (by simp [hz])) (fun z hz => h2 z (by simp [hz])) (by omega)]
theorem vr9_lt : ∀ (l : List Nat), (∀ x, x ∈ l → x < 8) → vr9 l < 9 ^ l.length := by
  intro l
  induction l with
  | nil => intro _; decide
  | cons x l ih =>
    intro h
    have a := h x (by simp)
    have b := ih (fun z hz => h z (by simp [hz]))
    rw [vr9, List.length_cons, Nat.pow_succ]; omega
theorem vq_inj {q q' : List Nat} (h1 : ∀ x, x ∈ q → x < 8) (h2 : ∀ x, x ∈ q' → x < 8) (h : vq q = vq q') : q = q' := by
  have := vr9_inj (l := q.reverse) (l' := q'.reverse) (fun x hx => h1 x (by simpa using hx)) (fun x hx => h2 x (by simpa using hx)) h
  exact List.reverse_inj.1 this
theorem vq_lt {q : List Nat} (h1 : ∀ x, x ∈ q → x < 8) (hl : q.length ≤ 8) : vq q < 43046721 + 1 := by
  have := vr9_lt q.reverse (fun x hx => h1 x (by simpa using hx))
  rw [List.length_reverse] at this
  have h9 : 9 ^ q.length ≤ 9 ^ 8 := Nat.pow_le_pow_right (by decide) hl
  have : vq q < 9 ^ q.length := this
  omega
theorem vq_snoc {q : List Nat} {x : Nat} : vq (q ++ [x]) = 9 * vq q + x + 1 := by
  unfold vq; rw [List.reverse_append]; rfl
theorem vq_take {q : List Nat} {k x : Nat} (h : q[k]? = some x) : vq (q.take (k + 1)) = 9 * vq (q.take k) + x + 1 := by
  rw [List.take_succ, h]; exact vq_snoc
section
variable {t ρ ρ' : St} {j : Nat}
theorem askS_row {s s' : St} (h : ∀ f, f < 18 → f ≠ 7 → s' j f = s j f) : askS t s' j = askS t s j := by
  have e0 := h 0 (by omega) (by omega)
  have e4 := h 4 (by omega) (by omega)
  unfold askS onlyS
  rw [onS_row e0, opS_row e0, e4]
  congr 1
  exact bits_congr (fun m hm => by rw [h (8 + m) (by omega) (by omega)])
theorem atlS_row {s s' : St} (h : ∀ f, f < 18 → f ≠ 7 → s' j f = s j f) : atlS t s' j = atlS t s j := by
  unfold atlS; rw [opS_row (h 0 (by omega) (by omega)), h 4 (by omega) (by omega)]
theorem rowJ_row {s s' : St} (h : ∀ f, f < 18 → f ≠ 7 → s' j f = s j f) {y : Nat} (hy : y < 16) : rowJ t s' j y = rowJ t s j y := by
  unfold rowJ
  rw [askS_row h, atlS_row h, h 1 (by omega) (by omega), h 0 (by omega) (by omega), h 4 (by omega) (by omega), h 2 (by omega) (by omega), h 3 (by omega) (by omega), h 5 (by omega) (by omega)]
  by_cases h6 : 6 ≤ y
  · rw [h (2 + y) (by omega) (by omega)]
  · by_cases h3 : s j 1 = 3
    · rw [if_pos h3, if_pos h3]
    · rw [if_neg h3, if_neg h3]
      have : y = 0 ∨ y = 1 ∨ y = 2 ∨ y = 3 ∨ y = 4 ∨ y = 5 := by omega
      rcases this with rfl | rfl | rfl | rfl | rfl | rfl <;> rfl
theorem rowJ_tk {y : Nat} (hj : j < 8) (hy : y < 16) : rowJ t (tk ρ) j y = rowJ t ρ j y := rowJ_row (fun f hf _ => tk_at hj hf) hy
theorem rowJ_kF {s : St} {y : Nat} (hy : y < 16) : rowJ t (kF t s) j y = rowJ t s j y := by
  by_cases h3 : s j 1 = 3
  · unfold rowJ; rw [kF_1, if_pos h3, if_pos h3]
  · exact rowJ_row (fun f _ h7 => kF_ne h3 h7) hy
theorem KR.ask (hT : TV t) (h : KR t ρ) (hj : j < 8) (h1 : ρ j 1 = 1) : askS t ρ j < 1024 := by
  have hA := h.1.av hT hj (Or.inl (by rw [tk_at hj (by omega)]; exact h1))
  have := askS_lt (hA.askO hT)
  rw [askS_row (s := ρ) (fun f hf _ => tk_at hj hf)] at this; exact this
theorem KR.B (h : KR t ρ) {f : Nat} (hj : j < 8) (hf : f < 18) : ρ j f < 1000000 := by
  have := h.1.B j f; rw [tk_at hj hf] at this; exact this
theorem KR.J (h : KR t ρ) (hj : j < 8) : ρ j 2 < 2 ∧ ρ j 6 < 2 ∧ (ρ j 6 = 1 → ρ j 1 = 3) := by
  have := (h.1.J hj).2.2.2.1
  have e2 : tk ρ j 2 = ρ j 2 := tk_at hj (by omega)
  have e6 : tk ρ j 6 = ρ j 6 := tk_at hj (by omega)
  have e1 : tk ρ j 1 = ρ j 1 := tk_at hj (by omega)
  refine ⟨?_, ?_, ?_⟩
  · rw [← e2]; exact this.2.1
  · rw [← e6]; exact this.2.2.1
  · rw [← e6, ← e1]; exact this.2.2.2
theorem rowJ_lt (hT : TV t) (h : KR t ρ) (hj : j < 8) {y : Nat} (hy : y < 16) : rowJ t ρ j y < 2000000 := by
  have hB : ∀ f, f < 18 → ρ j f < 1000000 := fun f hf => h.B hj hf
  have hJ := h.J hj
  have h1 := h.2.1 j hj
  unfold rowJ
  split
  · split <;> omega
  · split
    · have := hB 0 (by omega); omega
    · split
      · have : (if ρ j 1 = 1 ∧ 0 < ρ j 4 then 4 else 0) ≤ 4 := by split <;> omega
        omega
      · split
        · have := hB 3 (by omega); omega
        · split
          · have := hB 5 (by omega); omega
          · split
            · have := hB 4 (by omega); omega
            · split
              · split
                · rename_i h1'
                  have := h.ask hT hj h1'
                  have : (if atlS t ρ j = true then 1 else 0) ≤ 1 := by split <;> omega
                  omega
                · omega
              · have := hB (2 + y) (by omega); omega
/-- alike rows of the system are alike rows of the reference -/
theorem row_eq (h : KR t ρ) (h' : KR t ρ') (hr : ∀ j y, j < 8 → y < 16 → rowJ t ρ j y = rowJ t ρ' j y) (hq : ∀ m, m < 10 → ∃ q, QK t ρ m q ∧ QK t ρ' m q) (hT : TV t) : ∀ j f, j < 8 → f < 18 → ρ j f = ρ' j f := by
  intro j f hj hf
  have r := fun y hy => hr j y hj hy
  have m1 := h.2.1 j hj
  have m2 := h'.2.1 j hj
  have j1 := h.J hj
  have j2 := h'.J hj
  have e1 := r 1 (by omega)
  unfold rowJ at e1
  simp only [show ¬ 1 = 0 by decide, if_false, if_true] at e1
  have emode : ρ j 1 = ρ' j 1 ∧ (ρ j 1 ≠ 3 → ρ j 2 = ρ' j 2) := by
    by_cases a : ρ j 1 = 3
    · rw [if_pos a] at e1
      by_cases b : ρ' j 1 = 3
      · exact ⟨by omega, fun hh => absurd a hh⟩
      · rw [if_neg b] at e1
        exfalso
        by_cases c : ρ' j 1 = 1 ∧ 0 < ρ' j 4
        · rw [if_pos c] at e1; omega
        · rw [if_neg c] at e1; omega
    · rw [if_neg a] at e1
      by_cases b : ρ' j 1 = 3
      · rw [if_pos b] at e1
        exfalso
        by_cases c : ρ j 1 = 1 ∧ 0 < ρ j 4
        · rw [if_pos c] at e1; omega
        · rw [if_neg c] at e1; omega
      · rw [if_neg b] at e1
        by_cases c : ρ j 1 = 1 ∧ 0 < ρ j 4
        · by_cases c' : ρ' j 1 = 1 ∧ 0 < ρ' j 4
          · rw [if_pos c, if_pos c'] at e1; omega
          · rw [if_pos c, if_neg c'] at e1; omega
        · by_cases c' : ρ' j 1 = 1 ∧ 0 < ρ' j 4
          · rw [if_neg c, if_pos c'] at e1; omega
          · rw [if_neg c, if_neg c'] at e1; omega
  obtain ⟨em, er⟩ := emode
  by_cases h3 : ρ j 1 = 3
  · by_cases hf1 : f = 1
    · rw [hf1]; exact em
    · rw [h.2.2.1 j f hj hf h3 hf1, h'.2.2.1 j f hj hf (by omega) hf1]
  · have h3' : ρ' j 1 ≠ 3 := by omega
    have rr : ∀ y, y < 16 → y ≠ 1 → y ≠ 5 → (if y = 0 then ρ j 0 else if y = 2 then ρ j 3 else if y = 3 then ρ j 5 else if y = 4 then ρ j 4 else ρ j (2 + y)) = (if y = 0 then ρ' j 0 else if y = 2 then ρ' j 3 else if y = 3 then ρ' j 5 else if y = 4 then ρ' j 4 else ρ' j (2 + y)) := fun y hy y1 y5 => by
      have := r y hy
      unfold rowJ at this
      rw [if_neg h3, if_neg h3'] at this
      simp only [if_neg y1, if_neg y5] at this
      exact this
    have e0 : ρ j 0 = ρ' j 0 := rr 0 (by omega) (by omega) (by omega)
    have e3 : ρ j 3 = ρ' j 3 := rr 2 (by omega) (by omega) (by omega)
    have e5 : ρ j 5 = ρ' j 5 := rr 3 (by omega) (by omega) (by omega)
    have e4 : ρ j 4 = ρ' j 4 := rr 4 (by omega) (by omega) (by omega)
    have e8 : ∀ m, m < 10 → ρ j (8 + m) = ρ' j (8 + m) := fun m hm => by
      have := rr (6 + m) (by omega) (by omega) (by omega)
      rw [if_neg (by omega), if_neg (by omega), if_neg (by omega), if_neg (by omega), if_neg (by omega), if_neg (by omega), if_neg (by omega), if_neg (by omega), show 2 + (6 + m) = 8 + m by omega] at this
      exact this
    have e2 := er h3
    have e6 : ρ j 6 = ρ' j 6 := by have a := j1.2; have b := j2.2; omega
    have e7 : ρ j 7 = ρ' j 7 := by
      by_cases h2 : ρ j 1 = 2
      · have hA := h.1.av hT hj (Or.inr (by rw [tk_at hj (by omega)]; exact h2))
        have h4 := ((h.1.J hj).2.2.1.2.1 (Or.inl (by rw [tk_at hj (by omega)]; exact h2))).2.1
        have hon := hA.on hT h4
        obtain ⟨q, hq1, hq2⟩ := hq _ hon
        have hmem := (hq1.1.1 j).2 ⟨hj, by rw [tk_at hj (by omega)]; exact h2, rfl⟩
        obtain ⟨i, hi, hiy⟩ := List.mem_iff_getElem.1 hmem
        have hiy' : q[i]? = some j := List.getElem?_eq_some_iff.2 ⟨hi, hiy⟩
        rw [hq1.2 i j hiy', hq2.2 i j hiy']
      · rw [h.2.2.2 j hj h2, h'.2.2.2 j hj (by omega)]
    have : f = 0 ∨ f = 1 ∨ f = 2 ∨ f = 3 ∨ f = 4 ∨ f = 5 ∨ f = 6 ∨ f = 7 ∨ ∃ m, m < 10 ∧ f = 8 + m := by
      by_cases h8 : 8 ≤ f
      · exact Or.inr (Or.inr (Or.inr (Or.inr (Or.inr (Or.inr (Or.inr (Or.inr ⟨f - 8, by omega, by omega⟩)))))))
      · omega
    rcases this with rfl | rfl | rfl | rfl | rfl | rfl | rfl | rfl | ⟨m, hm, rfl⟩
    · exact e0
    · exact em
    · exact e2
    · exact e3
    · exact e4
    · exact e5
    · exact e6
    · exact e7
    · exact e8 m hm
/-- a row of the system's search -/
def CR (t ρ : St) (C : nz_f5) (i : Nat) : Prop := (∀ j y, j < 8 → y < 16 → C 51 0 0 0 (138 * i + (16 * j + y)) = n32 (rowJ t ρ j y)) ∧ ∀ m, m < 10 → ∃ q, QK t ρ m q ∧ C 51 0 0 0 (138 * i + (128 + m)) = n32 (vq q)
theorem QK_8 {m : Nat} {q : List Nat} (h : QK t ρ m q) : (∀ x, x ∈ q → x < 8) ∧ q.length ≤ 8 := ⟨fun x hx => ((h.1.1 x).1 hx).1, QL_len h.1⟩
theorem CR_same {C : nz_f5} {a b : Nat} (hT : TV t) (h : KR t ρ) (h' : KR t ρ') (ha : CR t ρ C a) (hb : CR t ρ' C b) : (∀ x, x < 138 → C 51 0 0 0 (138 * a + x) = C 51 0 0 0 (138 * b + x)) ↔ ∀ j f, j < 8 → f < 18 → ρ j f = ρ' j f := by
  constructor
  · intro hx
    refine row_eq h h' (fun j y hj hy => ?_) (fun m hm => ?_) hT
    · have := hx (16 * j + y) (by omega)
      rw [ha.1 j y hj hy, hb.1 j y hj hy, n32_inj (by have := rowJ_lt hT h hj hy; omega) (by have := rowJ_lt hT h' hj hy; omega)] at this
      exact this
    · obtain ⟨q, q1, q2⟩ := ha.2 m hm
      obtain ⟨q', q1', q2'⟩ := hb.2 m hm
      have := hx (128 + m) (by omega)
      have l1 := vq_lt (QK_8 q1).1 (QK_8 q1).2
      have l2 := vq_lt (QK_8 q1').1 (QK_8 q1').2
      rw [q2, q2', n32_inj (by omega) (by omega)] at this
      have := vq_inj (QK_8 q1).1 (QK_8 q1').1 this
      subst this
      exact ⟨q, q1, q1'⟩
  · intro he x hx
    by_cases h128 : x < 128
    · have e : x = 16 * (x / 16) + x % 16 := by omega
      rw [e, ha.1 (x / 16) (x % 16) (by omega) (by omega), hb.1 (x / 16) (x % 16) (by omega) (by omega)]
      rw [rowJ_row (fun f hf _ => he (x / 16) f (by omega) hf) (by omega)]
    · have e : x = 128 + (x - 128) := by omega
      obtain ⟨q, q1, q2⟩ := ha.2 (x - 128) (by omega)
      obtain ⟨q', q1', q2'⟩ := hb.2 (x - 128) (by omega)
      rw [e, q2, q2', QK_eq (QK_congr he q1) q1']
end
