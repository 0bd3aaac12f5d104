/-! refusals: who, and what is written of them -/
theorem fst_some {p : Nat → Bool} {x : Nat} : ∀ {n k : Nat}, fst n k p = some x ↔ (k ≤ x ∧ x < k + n ∧ p x = true ∧ ∀ y, k ≤ y → y < x → p y = false) := by
  intro n
  induction n with
  | zero =>
    intro k
    constructor
    · intro h; cases h
    · rintro ⟨h1, h2, -⟩; omega
  | succ n ih =>
    intro k
    rw [fst]
    cases hp : p k with
    | true =>
      rw [cond_true]
      constructor
      · intro h; cases h; exact ⟨Nat.le_refl _, by omega, hp, fun y h1 h2 => by omega⟩
      · rintro ⟨h1, h2, h3, h4⟩
        by_cases hx : x = k
        · rw [hx]
        · have := h4 k (Nat.le_refl _) (by omega)
          rw [hp] at this; cases this
    | false =>
      rw [cond_false, ih]
      constructor
      · rintro ⟨h1, h2, h3, h4⟩
        refine ⟨by omega, by omega, h3, fun y a b => ?_⟩
        by_cases hy : y = k
        · rw [hy]; exact hp
        · exact h4 y (by omega) b
      · rintro ⟨h1, h2, h3, h4⟩
        have : x ≠ k := fun e => by rw [e, hp] at h3; cases h3
        exact ⟨by omega, by omega, h3, fun y a b => h4 y (by omega) b⟩
theorem fst_none {p : Nat → Bool} : ∀ {n k : Nat}, fst n k p = none ↔ ∀ y, k ≤ y → y < k + n → p y = false := by
  intro n
  induction n with
  | zero =>
    intro k
    exact ⟨fun _ y h1 h2 => by omega, fun _ => rfl⟩
  | succ n ih =>
    intro k
    rw [fst]
    cases hp : p k with
    | true =>
      rw [cond_true]
      constructor
      · intro h; cases h
      · intro h
        have := h k (Nat.le_refl _) (by omega)
        rw [hp] at this; cases this
    | false =>
      rw [cond_false, ih]
      constructor
      · intro h y a b
        by_cases hy : y = k
        · rw [hy]; exact hp
        · exact h y (by omega) (by omega)
      · intro h y a b; exact h y (by omega) (by omega)
theorem fst_congr {p q : Nat → Bool} : ∀ {n k : Nat}, (∀ y, k ≤ y → y < k + n → p y = q y) → fst n k p = fst n k q := by
  intro n
  induction n with
  | zero => intro k _; rfl
  | succ n ih =>
    intro k h
    rw [fst, fst, h k (Nat.le_refl _) (by omega), ih (fun y a b => h y (by omega) (by omega))]
theorem fst_ex {p : Nat → Bool} {n y : Nat} (hy : y < n) (hp : p y = true) : ∃ x, fst n 0 p = some x := by
  cases h : fst n 0 p with
  | some x => exact ⟨x, rfl⟩
  | none =>
    have := fst_none.mp h y (Nat.zero_le _) (by omega)
    rw [hp] at this; cases this
def lowS (a : Nat) : Nat := (fst 10 0 a.testBit).getD 0
def plainS (t s : St) (j : Nat) : Bool := decide (s j 4 = 0) && !decide (opS t s j = 4)
def rankB (t s : St) (j m : Nat) : Bool := (askS t s j).testBit m && anyB 10 (fun h => hasS s j h && decide (t 55 m ≤ t 55 h))
def refS (t s : St) (j : Nat) : Bool :=
  cond (decide (t 13 8 = 1)) (plainS t s j && anyB 10 (rankB t s j))
    (cond (decide (t 13 8 = 3)) (plainS t s j && !decide (nwo (askS t s j) (t 62 j) = 0))
      (cond (decide (t 13 8 = 2)) (decide (farL t s j 8 j < 100)) false))
def refZ (t s : St) (Z : nz_f2) (j : Nat) : nz_f2 := cond (decide (t 13 8 = 2)) (zf Z (farL t s j 8)) Z
def ringL (L : nz_f2) (kd b n : Nat) (f : Nat → Nat) : nz_f2 := fun a x => if a = kd ∧ b ≤ x ∧ x < b + n then n32 (f (x - b)) else L a x
def rgS (t s : St) (j n : Nat) : Nat → Nat
  | 0 => j
  | i + 1 => (fst 8 0 (fun y => (kpS t s (rgS t s j n i)).testBit y && decide (farL t s j 8 y = n - 1 - i))).getD 0
def rgN (t s : St) (j : Nat) : Nat := if farL t s j 8 j = 100 then 0 else farL t s j 8 j
theorem AV.askO {t s : St} {j : Nat} (hT : TV t) (h : AV t s j) : onS t s j < 10 ∨ onlyS t s j = false := by
  cases ho : onlyS t s j with
  | false => right; rfl
  | true =>
    left
    unfold onlyS at ho
    simp only [Bool.or_eq_true, decide_eq_true_eq, Bool.not_eq_true', decide_eq_false_iff_not] at ho
    rcases ho with ho | ho
    · exact h.on hT ho
    · exact hT.2.2.2.2.2.1 _ ho
section
variable {P : Nat × (Nat → Int32)} {d : Nat} {t s : St} {L Z : nz_f2} {C : nz_f5}
theorem m_lowest {a x : Nat} {h : nz_h} (ha : a < 1024) (hx : fst 10 0 a.testBit = some x) (hd : 2 ≤ d) (Q : Int32 → nz_h → Prop) : ctI P d 139 [vi (n32 a)] h Q = Q (n32 x) h := by
  obtain ⟨d, rfl⟩ := dge hd
  refine ctI_det (fun Q hq => sm139 ?_) Q
  have loop : ∀ n m, n + m = 10 → fst n m a.testBit = some x → nzW P (d + 1) az_k139 2 [some (vi (n32 a)), some (vi (n32 m))] [] h (nz_RI Q) := by
    intro n
    induction n with
    | zero => intro m _ hf; cases hf
    | succ n ih =>
      intro m hm hf
      refine sg139_2 ?_
      rw [fst] at hf
      simp (disch := omega) only [decide_eq_true_eq, decide_eq_false_iff_not, L32, az01, b2i_01, b2i_n0, b2i_n1, Bool.and_true, true_and, and_true, Classical.not_not, Bool.not_eq_true, Bool.not_eq_false, n32_mul, n32_add, n32_ix, n32_ib, n32_lt, n32_le, n32_inj, l_hb, l_hb0, l_shl, l_wo, l_eqm1, l_m1eq]
      refine ⟨fun hb => ?_, fun hb => ?_⟩
      · rw [hb] at hf; cases hf; exact hq
      · rw [hb] at hf; exact ih (m + 1) (by omega) hf
  exact loop 10 0 rfl hx
theorem m_isRefused {j : Nat} (hB : ∀ j f, s j f < 1000000) (hT : TV t) (hd : 10 ≤ d) (hj : j < 8) (hA : ∀ k, k < 8 → s k 1 = 1 → AV t s k) (hA1 : AV t s j) (Q : Int32 → nz_h → Prop) : ctI P d 130 [mO, vi (n32 j)] (rowf t, rowf s, L, Z, C) Q = Q (b2i (refS t s j)) (rowf t, rowf s, L, refZ t s Z j, C) := by
  obtain ⟨d, rfl⟩ := dge hd
  refine ctI_det (fun Q hq => sm130 ?_) Q
  have hp := hA1.1
  have ho : opS t s j < 10 := hT.2.2.2.1 _
  have hm : t 13 8 < 4 := hT.2.2.2.2.2.2.2.2.2.1
  have hon := hA1.on hT
  have hask := askS_lt (hA1.askO hT)
  have hcl : t 62 j < 1024 := hT.2.2.2.2.2.2.2.2.1 _
  have hrk := hT.1
  have rest : t 13 8 ≠ 1 ∨ plainS t s j = false → ∀ l4 l5, nzW P (d + 9) az_k130 115 [some mO, some (vi (n32 j)), some (vi (b2i (plainS t s j))), some (vi (n32 (askS t s j))), l4, l5] [] (rowf t, rowf s, L, Z, C) (nz_RI Q) := by
    intro hcase l4 l5
    refine sg130_115 ?_
    have hwo : nwo (askS t s j) (t 62 j) < 1024 := Nat.lt_of_le_of_lt (nwo_le _ _) hask
    have hfar := farL_le t s j 8 j
    simp (disch := first | omega | (refine Nat.lt_of_lt_of_le (hB _ _) ?_; omega)) only [decide_eq_true_eq, decide_eq_false_iff_not, L32, az01, b2i_01, b2i_n0, b2i_n1, Bool.and_true, true_and, and_true, Classical.not_not, Bool.not_eq_true, Bool.not_eq_false, n32_mul, n32_add, n32_ix, n32_ib, n32_lt, n32_le, n32_inj, l_hb, l_hb0, l_shl, l_wo, l_eqm1, l_m1eq, rowf_at, m_measures hB hT, zf_at, hA, hj, implies_true]
    refine ⟨fun h3 => ⟨fun h2 => ⟨fun hf => ?_, fun hf => ?_⟩, fun h2 => ?_⟩, fun h3 => ⟨fun hb => ?_, fun hb => ⟨fun hw => ?_, fun hw => ?_⟩⟩⟩
    · have hz : refZ t s Z j = zf Z (farL t s j 8) := by unfold refZ; rw [decide_eq_true h2]; rfl
      rw [hz] at hq
      exact ans0 hq (by unfold refS; simp [h2]; omega)
    · have hz : refZ t s Z j = zf Z (farL t s j 8) := by unfold refZ; rw [decide_eq_true h2]; rfl
      rw [hz] at hq
      exact ans1 hq (by unfold refS; simp [h2]; omega)
    · have hz : refZ t s Z j = Z := by unfold refZ; rw [decide_eq_false h2]; rfl
      rw [hz] at hq
      refine ans0 hq ?_
      unfold refS
      by_cases h1 : t 13 8 = 1
      · have : plainS t s j = false := hcase.resolve_left (fun hh => hh h1)
        simp [h1, this]
      · simp [h1, h2, h3]
    · have hz : refZ t s Z j = Z := by unfold refZ; rw [decide_eq_false (by omega)]; rfl
      rw [hz] at hq
      exact ans0 hq (by unfold refS; simp [h3, hb])
    · have hz : refZ t s Z j = Z := by unfold refZ; rw [decide_eq_false (by omega)]; rfl
      rw [hz] at hq
      exact ans0 hq (by unfold refS; simp [h3, hw])
    · have hz : refZ t s Z j = Z := by unfold refZ; rw [decide_eq_false (by omega)]; rfl
      rw [hz] at hq
      exact ans1 hq (by unfold refS; simp [h3, hb, hw])
  have loop : t 13 8 = 1 → plainS t s j = true → ∀ n m, n + m = 10 → (anyB 10 (rankB t s j) = anyB m (rankB t s j) → anyB m (rankB t s j) = false → Q 0 (rowf t, rowf s, L, Z, C)) → anyB m (rankB t s j) = false → ∀ l2 l5, nzW P (d + 9) az_k130 45 [some mO, some (vi (n32 j)), l2, some (vi (n32 (askS t s j))), some (vi (n32 m)), l5] [] (rowf t, rowf s, L, Z, C) (nz_RI Q) := by
    intro h1 hpl n
    have hz : refZ t s Z j = Z := by unfold refZ; rw [decide_eq_false (by omega)]; rfl
    rw [hz] at hq
    induction n with
    | zero =>
      intro m hm10 hq0 hno l2 l5
      obtain rfl : m = 10 := by omega
      refine sg130_45 ?_
      simp (disch := first | omega | (refine Nat.lt_of_lt_of_le (hB _ _) ?_; omega)) only [decide_eq_true_eq, decide_eq_false_iff_not, L32, az01, b2i_01, b2i_n0, b2i_n1, Bool.and_true, true_and, and_true, Classical.not_not, Bool.not_eq_true, Bool.not_eq_false, n32_mul, n32_add, n32_ix, n32_ib, n32_lt, n32_le, n32_inj, l_hb, l_hb0, l_shl, l_wo, l_eqm1, l_m1eq]
      exact ⟨fun _ => hq0 rfl hno, fun hc => by omega⟩
    | succ n ih =>
      intro m hm10 hq0 hno l2 l5
      refine sg130_45 ?_
      have hm1 : m < 10 := by omega
      simp (disch := first | omega | (refine Nat.lt_of_lt_of_le (hB _ _) ?_; omega)) only [decide_eq_true_eq, decide_eq_false_iff_not, L32, az01, b2i_01, b2i_n0, b2i_n1, Bool.and_true, true_and, and_true, Classical.not_not, Bool.not_eq_true, Bool.not_eq_false, n32_mul, n32_add, n32_ix, n32_ib, n32_lt, n32_le, n32_inj, l_hb, l_hb0, l_shl, l_wo, l_eqm1, l_m1eq]
      refine ⟨fun hc => by omega, fun _ => ?_⟩
      have inner : ∀ n2 x, n2 + x = 10 → (anyB x (fun h => hasS s j h && decide (t 55 m ≤ t 55 h)) = false ∨ (askS t s j).testBit m = false) → nzW P (d + 9) az_k130 55 [some mO, some (vi (n32 j)), l2, some (vi (n32 (askS t s j))), some (vi (n32 m)), some (vi (n32 x))] [] (rowf t, rowf s, L, Z, C) (nz_RI Q) := by
        intro n2
        induction n2 with
        | zero =>
          intro x hx hnn
          obtain rfl : x = 10 := by omega
          refine sg130_55 ?_
          simp (disch := first | omega | (refine Nat.lt_of_lt_of_le (hB _ _) ?_; omega)) only [decide_eq_true_eq, decide_eq_false_iff_not, L32, az01, b2i_01, b2i_n0, b2i_n1, Bool.and_true, true_and, and_true, Classical.not_not, Bool.not_eq_true, Bool.not_eq_false, n32_mul, n32_add, n32_ix, n32_ib, n32_lt, n32_le, n32_inj, l_hb, l_hb0, l_shl, l_wo, l_eqm1, l_m1eq]
          refine ⟨fun _ => ?_, fun hc => by omega⟩
          have hr : rankB t s j m = false := by
            unfold rankB
            rcases hnn with hh | hh
            · rw [hh, Bool.and_false]
            · rw [hh, Bool.false_and]
          refine ih (m + 1) (by omega) (fun e1 e2 => ?_) (by rw [anyB_F hr]; exact hno) _ _
          rw [anyB_F hr] at e1 e2
          exact hq0 e1 e2
        | succ n2 ih2 =>
          intro x hx hnn
          refine sg130_55 ?_
          have hx1 : x < 10 := by omega
          have r1 := hrk m
          have r2 := hrk x
          have go : (hasS s j x && decide (t 55 m ≤ t 55 x)) = false ∨ (askS t s j).testBit m = false → nzW P (d + 9) az_k130 101 [some mO, some (vi (n32 j)), l2, some (vi (n32 (askS t s j))), some (vi (n32 m)), some (vi (n32 x))] [] (rowf t, rowf s, L, Z, C) (nz_RI Q) := by
            intro hh
            refine sg130_101 ?_
            simp (disch := first | omega | (refine Nat.lt_of_lt_of_le (hB _ _) ?_; omega)) only [decide_eq_true_eq, decide_eq_false_iff_not, L32, az01, b2i_01, b2i_n0, b2i_n1, Bool.and_true, true_and, and_true, Classical.not_not, Bool.not_eq_true, Bool.not_eq_false, n32_mul, n32_add, n32_ix, n32_ib, n32_lt, n32_le, n32_inj, l_hb, l_hb0, l_shl, l_wo, l_eqm1, l_m1eq]
            refine ih2 (x + 1) (by omega) ?_
            rcases hh with hh | hh
            · rcases hnn with h9 | h9
              · left; rw [anyB_F hh]; exact h9
              · right; exact h9
            · right; exact hh
          simp (disch := first | omega | (refine Nat.lt_of_lt_of_le (hB _ _) ?_; omega)) only [decide_eq_true_eq, decide_eq_false_iff_not, L32, az01, b2i_01, b2i_n0, b2i_n1, Bool.and_true, true_and, and_true, Classical.not_not, Bool.not_eq_true, Bool.not_eq_false, n32_mul, n32_add, n32_ix, n32_ib, n32_lt, n32_le, n32_inj, l_hb, l_hb0, l_shl, l_wo, l_eqm1, l_m1eq, m_has hB, rowf_at]
          refine ⟨fun hc => by omega, fun _ => ⟨fun hb => go (Or.inr hb), fun hb => ⟨fun hh => go (Or.inl (by rw [hh]; rfl)), fun hh => ⟨hm1, hx1, fun hr => go (Or.inl (by rw [hh, decide_eq_false (by omega)]; rfl)), fun hr => ?_⟩⟩⟩⟩
          refine ans1 hq ?_
          unfold refS
          rw [decide_eq_true h1, cond_true, hpl, Bool.true_and, anyB_iff]
          refine ⟨m, hm1, ?_⟩
          unfold rankB
          rw [hb, Bool.true_and, anyB_iff]
          exact ⟨x, hx1, by rw [hh, decide_eq_true (by omega)]; rfl⟩
      exact inner 10 0 rfl (Or.inl rfl)
  have mid : ∀ l3 l4 l5, nzW P (d + 9) az_k130 24 [some mO, some (vi (n32 j)), some (vi (b2i (plainS t s j))), l3, l4, l5] [] (rowf t, rowf s, L, Z, C) (nz_RI Q) := by
    intro l3 l4 l5
    refine sg130_24 ?_
    simp (disch := first | omega | (refine Nat.lt_of_lt_of_le (hB _ _) ?_; omega)) only [decide_eq_true_eq, decide_eq_false_iff_not, L32, az01, b2i_01, b2i_n0, b2i_n1, Bool.and_true, true_and, and_true, Classical.not_not, Bool.not_eq_true, Bool.not_eq_false, n32_mul, n32_add, n32_ix, n32_ib, n32_lt, n32_le, n32_inj, l_hb, l_hb0, l_shl, l_wo, l_eqm1, l_m1eq, rowf_at, m_asked hB hT]
    refine ⟨fun h1 => rest (Or.inl h1) _ _, fun h1 => ⟨fun hb => rest (Or.inr hb) _ _, fun hb => ?_⟩⟩
    refine loop h1 hb 10 0 rfl (fun e1 e2 => ?_) rfl _ _
    have hz : refZ t s Z j = Z := by unfold refZ; rw [decide_eq_false (by omega)]; rfl
    rw [hz] at hq
    refine ans0 hq ?_
    unfold refS
    rw [decide_eq_true h1, cond_true, hb, e1]; rfl
  simp (disch := first | omega | (refine Nat.lt_of_lt_of_le (hB _ _) ?_; omega)) only [decide_eq_true_eq, decide_eq_false_iff_not, L32, az01, b2i_01, b2i_n0, b2i_n1, Bool.and_true, true_and, and_true, Classical.not_not, Bool.not_eq_true, Bool.not_eq_false, n32_mul, n32_add, n32_ix, n32_ib, n32_lt, n32_le, n32_inj, l_hb, l_hb0, l_shl, l_wo, l_eqm1, l_m1eq, m_getr, m_op hB]
  refine ⟨fun h4 => ?_, fun h4 => ⟨fun h5 => ?_, fun h5 => ?_⟩⟩
  · have : plainS t s j = false := by unfold plainS; simp [h4]
    have := this ▸ mid none none none
    exact this
  · have : plainS t s j = false := by unfold plainS; simp [h5]
    have := this ▸ mid none none none
    exact this
  · have : plainS t s j = true := by unfold plainS; simp [h4, h5]
    have := this ▸ mid none none none
    exact this
end
