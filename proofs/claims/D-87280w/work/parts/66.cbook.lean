/-! the system's order book -/
theorem cnt_mono {p q : Nat → Bool} : ∀ n, (∀ k, k < n → p k = true → q k = true) → cnt n p ≤ cnt n q := by
  intro n
  induction n with
  | zero => intro _; exact Nat.le_refl _
  | succ n ih =>
    intro h
    have := ih (fun k hk => h k (by omega))
    rw [cnt, cnt]
    cases hp : p n with
    | false => cases q n <;> simp <;> omega
    | true => rw [h n (by omega) hp]; simp; omega
theorem cnt_lt {p q : Nat → Bool} {i : Nat} (hp : p i = false) (hq : q i = true) : ∀ n, i < n → (∀ k, k < n → p k = true → q k = true) → cnt n p + 1 ≤ cnt n q := by
  intro n
  induction n with
  | zero => intro h; omega
  | succ n ih =>
    intro hi h
    rw [cnt, cnt]
    by_cases hin : i = n
    · subst hin
      have := cnt_mono i (fun k hk => h k (by omega))
      rw [hp, hq]; simp; omega
    · have := ih (by omega) (fun k hk => h k (by omega))
      cases hpn : p n with
      | false => cases q n <;> simp <;> omega
      | true => rw [h n (by omega) hpn]; simp; omega
def ndg (i : Nat) : Bool := !decide (i / 10 = i % 10)
theorem cnt_ndg : cnt 100 ndg = 90 := by decide
def RB (L : nz_f2) (C : nz_f5) : Prop :=
  LI3 L ∧ (∀ i, i < 100 → ordB L i = true → ndg i = true) ∧ C 10 0 0 0 5 = L 13 34 ∧ (∀ i, C 36 0 0 0 i = L 81 i ∧ C 37 0 0 0 i = L 82 i ∧ C 38 0 0 0 i = L 83 i ∧ C 39 0 0 0 i = L 84 i) ∧
  ∀ f, f < 10 → ∃ a, a < 1024 ∧ C 40 0 0 0 f = n32 a ∧ ∀ g, g < 10 → a.testBit g = ordB L (10 * f + g)
def bookW (kd o' x : Nat) : Prop := o' = 0 ∧ ((kd = 10 ∧ x = 5) ∨ (36 ≤ kd ∧ kd ≤ 40))
section
variable {P : Nat × (Nat → Int32)} {d : Nat} {t s : St} {T S L0 L Z : nz_f2} {C : nz_f5} {j : Nat}
theorem lrn1_at {b i : Nat} (h : lrnB s j b L i = true) (a x : Nat) : lrn1 s j b L i a x = if a = 13 ∧ x = 34 then n32 (nz_ix (L 13 34) + 1) else if a = 84 ∧ x = nz_ix (L 13 34) then n32 (s j 0) else if a = 83 ∧ x = nz_ix (L 13 34) then n32 j else if a = 82 ∧ x = nz_ix (L 13 34) then n32 (i % 10) else if a = 81 ∧ x = nz_ix (L 13 34) then n32 (i / 10) else if a = 85 ∧ x = i then n32 1 else L a x := by
  unfold lrn1; rw [h, cond_true]; rfl
theorem c_learn {b i f g : Nat} (hd : 3 ≤ d) (hf : f < 10) (hg : g < 10) (hfg : f ≠ g) (ei : i = 10 * f + g) (hh : hasS s j f = true) (hb : b.testBit g = true) (hRB : RB L C) {Q : nz_h → Prop}
    (hq : ∀ C', Fr bookW C C' → RB (lrn1 s j b L i) C' → Q (T, S, L0, Z, C')) : ctV P d 86 [vr (10, 0, 0, 0), vi (n32 f), vi (n32 g), vi (n32 j), vi (n32 (s j 0))] (T, S, L0, Z, C) Q := by
  obtain ⟨d, rfl⟩ := dge hd
  have hRB0 := hRB
  obtain ⟨h3, hdg, h5, h36, h40⟩ := hRB
  obtain ⟨a, ha, e40, hbit⟩ := h40 f hf
  have i1 : i / 10 = f := by omega
  have i2 : i % 10 = g := by omega
  have hi : i < 100 := by omega
  have hlb : lrnB s j b L i = decide (L 85 i = n32 0) := by
    unfold lrnB; rw [i1, i2, hh, hb, decide_eq_false hfg]; rfl
  have hbg := hbit g hg
  rw [← ei] at hbg
  refine sm86 ?_
  simp (disch := omega) only [decide_eq_true_eq, decide_eq_false_iff_not, L32, az01, b2i_01, b2i_n0, b2i_n1, Bool.and_true, true_and, and_true, Classical.not_not, Bool.not_eq_true, Bool.not_eq_false, n32_mul, n32_add, n32_ix, n32_ib, n32_lt, n32_le, n32_inj, l_hb, l_hb0, l_shl, l_wo, l_eqm1, l_m1eq, e40, c_has, uC_row]
  refine ⟨hf, fun hz => ⟨hf, hf, ?_⟩, fun hz => ?_⟩
  · have ho : ordB L i = false := by rw [← hbg]; exact hz
    have hl : lrnB s j b L i = true := by
      rw [hlb]; unfold ordB at ho; simpa using ho
    have hc : cnt 100 (ordB L) + 1 ≤ 90 := by
      rw [← cnt_ndg]
      exact cnt_lt ho (by unfold ndg; rw [i1, i2, decide_eq_false hfg]; rfl) 100 hi hdg
    have h34 := h3
    unfold LI3 at h34
    rw [h34] at h5
    have hix : nz_ix (L 13 34) = cnt 100 (ordB L) := by rw [h34, n32_ix (by omega)]
    simp (disch := first | omega | decide) only [decide_eq_true_eq, decide_eq_false_iff_not, L32, az01, b2i_01, b2i_n0, b2i_n1, Bool.and_true, true_and, and_true, Classical.not_not, Bool.not_eq_true, Bool.not_eq_false, n32_mul, n32_add, n32_ix, n32_ib, n32_lt, n32_le, n32_inj, l_hb, l_hb0, l_shl, l_wo, l_eqm1, l_m1eq, h5, u5_k, u5_x, l_shl2, n32_or]
    refine ⟨by omega, by omega, by omega, by omega, ?_⟩
    refine hq _ ?_ ⟨lrn1_LI3 hi h3, fun k hk hok => ?_, ?_, fun k => ?_, fun f' hf' => ?_⟩
    · refine Fr.up (Fr.up (Fr.up (Fr.up (Fr.up (Fr.up (Fr.rfl' C) ?_) ?_) ?_) ?_) ?_) ?_ <;> (unfold bookW; omega)
    · by_cases hki : k = i
      · rw [hki]; unfold ndg; rw [i1, i2, decide_eq_false hfg]; rfl
      · refine hdg k hk ?_
        unfold ordB at hok ⊢
        rw [lrn1_at hl, if_neg (by omega), if_neg (by omega), if_neg (by omega), if_neg (by omega), if_neg (by omega), if_neg (by omega)] at hok
        exact hok
    · rw [u5_eq, lrn1_at hl, if_pos ⟨rfl, rfl⟩, hix]
    · have hk := h36 k
      rw [lrn1_at hl, lrn1_at hl, lrn1_at hl, lrn1_at hl, hix]
      simp (disch := decide) only [u5_k, u5_at]
      by_cases hkc : k = cnt 100 (ordB L)
      · simp [hkc, i1, i2]
      · simp [hkc, hk.1, hk.2.1, hk.2.2.1, hk.2.2.2]
    · have ho' : ∀ k, ordB (lrn1 s j b L i) k = (decide (k = i) || ordB L k) := fun k => by
        unfold ordB
        rw [lrn1_at hl, if_neg (by omega), if_neg (by omega), if_neg (by omega), if_neg (by omega), if_neg (by omega)]
        by_cases hki : k = i
        · rw [if_pos ⟨rfl, hki⟩, decide_eq_true hki]; rfl
        · rw [if_neg (fun hh => hki hh.2), decide_eq_false hki]; rfl
      by_cases hff : f' = f
      · subst hff
        refine ⟨a ||| 2 ^ g, ?_, ?_, fun g' hg' => ?_⟩
        · refine Nat.or_lt_two_pow (n := 10) ha ?_
          exact Nat.pow_lt_pow_right (by decide) hg
        · simp (disch := decide) only [u5_k, u5_eq]
        · rw [Nat.testBit_or, pow_bit, hbit g' hg', ho', Bool.or_comm]
          congr 1
          apply decide_eq_decide.2
          omega
      · obtain ⟨a', h1, h2, h4⟩ := h40 f' hf'
        refine ⟨a', h1, ?_, fun g' hg' => ?_⟩
        · simp (disch := decide) only [u5_k]; rw [u5_x hff]; exact h2
        · rw [ho', decide_eq_false (by omega), Bool.false_or]; exact h4 g' hg'
  · have ho : ordB L i = true := by rw [← hbg]; exact hz
    have hl : lrn1 s j b L i = L := by
      unfold lrn1; rw [hlb]; unfold ordB at ho
      rw [Bool.not_eq_true', decide_eq_false_iff_not] at ho
      rw [decide_eq_false ho]; rfl
    rw [hl] at hq
    exact hq C (Fr.rfl' C) hRB0
end
