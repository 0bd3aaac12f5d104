/-! safe shops: the order in which all could end -/
def leftS (s : St) : Nat := bits 8 (fun j => !decide (s j 1 = 3))
def frB (t s : St) (rem j : Nat) : Bool := rem.testBit j && !anyB 8 (fun k => !decide (k = j) && rem.testBit k && !decide (hadS s k &&& t 62 j = 0))
def sfL (t s : St) : Nat → Nat → List Nat
  | 0, _ => []
  | n + 1, rem => match fst 8 0 (frB t s rem) with
    | none => []
    | some j => j :: sfL t s n (nwo rem (2 ^ j))
def sfR (t s : St) : Nat → Nat → Nat
  | 0, rem => rem
  | n + 1, rem => match fst 8 0 (frB t s rem) with
    | none => rem
    | some j => sfR t s n (nwo rem (2 ^ j))
def safeS (t s : St) : Bool := decide (sfR t s 8 (leftS s) = 0)
def ordZ (l : List Nat) (Z0 Z : nz_f2) : Prop := Z 13 48 = n32 l.length ∧ (∀ (i : Nat) (x : Nat), l[i]? = some x → Z 91 i = n32 x) ∧ ∀ b, Z 92 b = Z0 92 b
theorem cnt_congr {n : Nat} {p q : Nat → Bool} (h : ∀ k, k < n → p k = q k) : cnt n p = cnt n q := by
  induction n with
  | zero => rfl
  | succ n ih => rw [cnt, cnt, h n (by omega), ih (fun k hk => h k (by omega))]
theorem cnt_upd {p q : Nat → Bool} {j : Nat} (hp : p j = true) (hq : q j = false) : ∀ n, j < n → (∀ k, k < n → k ≠ j → p k = q k) → cnt n q + 1 = cnt n p := by
  intro n
  induction n with
  | zero => intro h; omega
  | succ n ih =>
    intro hj h
    rw [cnt, cnt]
    by_cases e : j = n
    · subst e
      rw [hp, hq, cnt_congr (p := q) (q := p) (fun k hk => (h k (by omega) (by omega)).symm)]; simp
    · have := ih (by omega) (fun k hk hne => h k (by omega) hne)
      rw [h n (by omega) (Ne.symm e)]
      omega
theorem nwo_pow {rem j k : Nat} (hj : j < 31) (hk : k < 32) : (nwo rem (2 ^ j)).testBit k = (rem.testBit k && !decide (j = k)) := by
  have : 2 ^ j < 2 ^ 31 := Nat.pow_lt_pow_right (by decide) hj
  rw [nwo_bit (by omega) hk, pow_bit]
theorem cnt_nwo {rem j : Nat} (hj : j < 8) (h : rem.testBit j = true) : cnt 8 (nwo rem (2 ^ j)).testBit + 1 = cnt 8 rem.testBit := by
  refine cnt_upd h ?_ 8 hj (fun k hk hne => ?_)
  · rw [nwo_pow (by omega) (by omega)]; simp
  · rw [nwo_pow (by omega) (by omega), decide_eq_false (Ne.symm hne)]; simp
theorem nwo_or {l g j : Nat} (hl : l < 256) (hg : g < 256) (hj : j < 8) : nwo l (g ||| 2 ^ j) = nwo (nwo l g) (2 ^ j) := by
  apply Nat.eq_of_testBit_eq
  intro i
  have h1 : 2 ^ j < 256 := Nat.pow_lt_pow_right (a := 2) (n := 8) (by decide) hj
  have h2 : g ||| 2 ^ j < 256 := Nat.or_lt_two_pow (n := 8) hg h1
  by_cases hi : i < 32
  · rw [nwo_bit (by omega) hi, nwo_bit (by omega) hi, nwo_bit (by omega) hi, Nat.testBit_or]
    cases l.testBit i <;> cases g.testBit i <;> simp
  · have a : ∀ x y : Nat, x < 256 → (nwo x y).testBit i = false := fun x y hx => Nat.testBit_lt_two_pow (Nat.lt_of_le_of_lt (nwo_le x y) (Nat.lt_of_lt_of_le hx (by
      have : 2 ^ 8 ≤ 2 ^ i := Nat.pow_le_pow_right (by decide) (by omega)
      omega)))
    rw [a _ _ hl, a _ _ (Nat.lt_of_le_of_lt (nwo_le l g) hl)]
theorem nwo_0 {l : Nat} (hl : l < 256) : nwo l 0 = l := by
  apply Nat.eq_of_testBit_eq
  intro i
  by_cases hi : i < 32
  · rw [nwo_bit (by omega) hi]; simp
  · have a : ∀ x : Nat, x < 256 → x.testBit i = false := fun x hx => Nat.testBit_lt_two_pow (Nat.lt_of_lt_of_le hx (by
      have : 2 ^ 8 ≤ 2 ^ i := Nat.pow_le_pow_right (by decide) (by omega)
      omega))
    rw [a _ hl, a _ (Nat.lt_of_le_of_lt (nwo_le l 0) hl)]
theorem nwo_zero_iff {l g : Nat} (hl : l < 256) (hg : g < 256) (hs : ∀ i, g.testBit i = true → l.testBit i = true) : nwo l g = 0 ↔ g = l := by
  constructor
  · intro h
    apply Nat.eq_of_testBit_eq
    intro i
    by_cases hi : i < 32
    · have := nwo_bit (a := l) (b := g) (by omega) hi
      rw [h] at this
      have hs := hs i
      cases h1 : l.testBit i <;> cases h2 : g.testBit i <;> simp_all
    · have a : ∀ x : Nat, x < 256 → x.testBit i = false := fun x hx => Nat.testBit_lt_two_pow (Nat.lt_of_lt_of_le hx (by
        have : 2 ^ 8 ≤ 2 ^ i := Nat.pow_le_pow_right (by decide) (by omega)
        omega))
      rw [a _ hl, a _ hg]
  · rintro rfl
    apply Nat.eq_of_testBit_eq
    intro i
    by_cases hi : i < 32
    · rw [nwo_bit (by omega) hi]; simp
    · have a : ∀ x : Nat, x < 256 → x.testBit i = false := fun x hx => Nat.testBit_lt_two_pow (Nat.lt_of_lt_of_le hx (by
        have : 2 ^ 8 ≤ 2 ^ i := Nat.pow_le_pow_right (by decide) (by omega)
        omega))
      rw [a _ (Nat.lt_of_le_of_lt (nwo_le g g) hg)]; simp
theorem and_pow_zero {a k : Nat} : (a &&& 2 ^ k = 0) ↔ a.testBit k = false := by
  constructor
  · intro h
    have := congrArg (fun x => x.testBit k) h
    simpa [Nat.testBit_and, pow_bit] using this
  · intro h
    apply Nat.eq_of_testBit_eq
    intro i
    rw [Nat.testBit_and, pow_bit]
    by_cases e : k = i
    · subst e; simp [h]
    · simp [e]
section
variable {P : Nat × (Nat → Int32)} {d : Nat} {t s : St} {L Z : nz_f2} {C : nz_f5}
theorem m_isSafe (hB : ∀ j f, s j f < 1000000) (hT : TV t) (hd : 7 ≤ d) {Q : Int32 → nz_h → Prop} (hq : ∀ Z', ordZ (sfL t s 8 (leftS s)) Z Z' → Q (b2i (safeS t s)) (rowf t, rowf s, L, Z', C)) : ctI P d 150 [mO] (rowf t, rowf s, L, Z, C) Q := by
  obtain ⟨d, rfl⟩ := dge hd
  refine sm150 ?_
  have hl256 : leftS s < 256 := bits_lt 8 _
  have fin : ∀ g Z, g < 256 → (∀ i, g.testBit i = true → (leftS s).testBit i = true) → Q (b2i (decide (nwo (leftS s) g = 0))) (rowf t, rowf s, L, Z, C) → ∀ l4 l5 l6, nzW P (d + 6) az_k150 43 [some mO, some (vi (n32 g)), some (vi (n32 (leftS s))), some (vi (b2i false)), l4, l5, l6] [] (rowf t, rowf s, L, Z, C) (nz_RI Q) := by
    intro g Z hg hsub hq l4 l5 l6
    have hz := nwo_zero_iff hl256 hg hsub
    refine sg150_43 ?_
    simp (disch := omega) only [decide_eq_true_eq, decide_eq_false_iff_not, L32, az01, b2i_01, b2i_n0, b2i_n1, Bool.and_true, true_and, and_true, Classical.not_not, Bool.not_eq_true, Bool.not_eq_false, n32_mul, n32_add, n32_ix, n32_ib, n32_lt, n32_le, n32_inj, l_hb, l_hb0, l_shl, l_wo, l_eqm1, l_m1eq]
    refine ⟨fun _ => ⟨fun he => ans0 hq (decide_eq_false (fun h => he (hz.mp h))), fun he => ans1 hq (decide_eq_true (hz.mpr he))⟩, fun hc => (hc trivial).elim⟩
  have scan : ∀ g Z len, g < 256 → len < 8 → Z 13 48 = n32 len → ∀ m j, m + j = 8 →
      (fst m j (frB t s (nwo (leftS s) g)) = none → ∀ l4 l5 l6, nzW P (d + 6) az_k150 43 [some mO, some (vi (n32 g)), some (vi (n32 (leftS s))), some (vi (b2i false)), l4, l5, l6] [] (rowf t, rowf s, L, Z, C) (nz_RI Q)) →
      (∀ x, fst m j (frB t s (nwo (leftS s) g)) = some x → ∀ l4 l5 l6, nzW P (d + 6) az_k150 43 [some mO, some (vi (n32 (g ||| 2 ^ x))), some (vi (n32 (leftS s))), some (vi (b2i true)), l4, l5, l6] [] (rowf t, rowf s, L, nz_u2 (nz_u2 Z 91 len (n32 x)) 13 48 (n32 (len + 1)), C) (nz_RI Q)) →
      ∀ l5 l6, nzW P (d + 6) az_k150 52 [some mO, some (vi (n32 g)), some (vi (n32 (leftS s))), some (vi (b2i false)), some (vi (n32 j)), l5, l6] [] (rowf t, rowf s, L, Z, C) (nz_RI Q) := by
    intro g Z len hg hlen hZ m
    have hrem : nwo (leftS s) g < 256 := Nat.lt_of_le_of_lt (nwo_le _ _) hl256
    induction m with
    | zero =>
      intro j hj h0 h1 l5 l6
      obtain rfl : j = 8 := by omega
      refine sg150_52 ?_
      simp (disch := omega) only [decide_eq_true_eq, decide_eq_false_iff_not, L32, az01, b2i_01, b2i_n0, b2i_n1, Bool.and_true, true_and, and_true, Classical.not_not, Bool.not_eq_true, Bool.not_eq_false, n32_mul, n32_add, n32_ix, n32_ib, n32_lt, n32_le, n32_inj, l_hb, l_hb0, l_shl, l_wo, l_eqm1, l_m1eq]
      exact ⟨fun _ => h0 rfl _ _ _, fun hc => by omega⟩
    | succ m ih =>
      intro j hj h0 h1 l5 l6
      have hj8 : j < 8 := by omega
      refine sg150_52 ?_
      simp (disch := omega) only [decide_eq_true_eq, decide_eq_false_iff_not, L32, az01, b2i_01, b2i_n0, b2i_n1, Bool.and_true, true_and, and_true, Classical.not_not, Bool.not_eq_true, Bool.not_eq_false, n32_mul, n32_add, n32_ix, n32_ib, n32_lt, n32_le, n32_inj, l_hb, l_hb0, l_shl, l_wo, l_eqm1, l_m1eq]
      have next : frB t s (nwo (leftS s) g) j = false → ∀ l5 l6, nzW P (d + 6) az_k150 52 [some mO, some (vi (n32 g)), some (vi (n32 (leftS s))), some (vi (b2i false)), some (vi (n32 (j + 1))), l5, l6] [] (rowf t, rowf s, L, Z, C) (nz_RI Q) := by
        intro hf l5 l6
        refine ih (j + 1) (by omega) (fun hn => h0 ?_) (fun x hx => h1 x ?_) l5 l6
        · rw [fst, hf]; exact hn
        · rw [fst, hf]; exact hx
      refine ⟨fun hc => by omega, fun _ => ⟨fun hc => (hc trivial).elim, fun _ => ⟨fun hb => ?_, fun hb => next (by unfold frB; rw [hb]; rfl) _ _⟩⟩⟩
      have good : ∀ n2 k, n2 + k = 8 → nzW P (d + 6) az_k150 85 [some mO, some (vi (n32 g)), some (vi (n32 (leftS s))), some (vi (b2i false)), some (vi (n32 j)), some (vi (b2i (!anyB k (fun k => !decide (k = j) && (nwo (leftS s) g).testBit k && !decide (hadS s k &&& t 62 j = 0))))), some (vi (n32 k))] [] (rowf t, rowf s, L, Z, C) (nz_RI Q) := by
        intro n2
        induction n2 with
        | zero =>
          intro k hk
          obtain rfl : k = 8 := by omega
          refine sg150_85 ?_
          simp (disch := first | omega | decide) only [decide_eq_true_eq, decide_eq_false_iff_not, L32, az01, b2i_01, b2i_n0, b2i_n1, Bool.and_true, true_and, and_true, Classical.not_not, Bool.not_eq_true, Bool.not_eq_false, n32_mul, n32_add, n32_ix, n32_ib, n32_lt, n32_le, n32_inj, l_hb, l_hb0, l_shl, l_wo, l_eqm1, l_m1eq, hZ, uZ_row, u2_ne, n32_or]
          refine ⟨fun _ => ⟨fun hg => ⟨by omega, ?_⟩, fun hg => ?_⟩, fun hc => by omega⟩
          · have hx : fst (m + 1) j (frB t s (nwo (leftS s) g)) = some j := by
              rw [fst]
              have : frB t s (nwo (leftS s) g) j = true := by unfold frB; rw [hb, hg]; rfl
              rw [this]; rfl
            have := h1 j hx
            refine sg150_52 ?_
            simp (disch := omega) only [decide_eq_true_eq, decide_eq_false_iff_not, L32, az01, b2i_01, b2i_n0, b2i_n1, Bool.and_true, true_and, and_true, Classical.not_not, Bool.not_eq_true, Bool.not_eq_false, n32_mul, n32_add, n32_ix, n32_ib, n32_lt, n32_le, n32_inj, l_hb, l_hb0, l_shl, l_wo, l_eqm1, l_m1eq]
            refine ⟨fun _ => this _ _ _, fun _ => ⟨fun _ => this _ _ _, fun hc => by cases hc⟩⟩
          · exact next (by unfold frB; rw [hb, hg]; rfl) _ _
        | succ n2 ih2 =>
          intro k hk
          have hk8 : k < 8 := by omega
          have h2 := ih2 (k + 1) (by omega)
          rw [anyB] at h2
          refine sg150_85 ?_
          have hpk : 2 ^ k < 256 := Nat.pow_lt_pow_right (a := 2) (n := 8) (by decide) hk8
          have hcl : t 62 j < 1024 := hT.2.2.2.2.2.2.2.2.1 _
          have ha1 : nwo (leftS s) g &&& 2 ^ k < 256 := Nat.and_lt_two_pow (n := 8) _ hpk
          have ha2 : hadS s k &&& t 62 j < 1024 := Nat.and_lt_two_pow (n := 10) _ hcl
          simp (disch := first | omega | decide) only [decide_eq_true_eq, decide_eq_false_iff_not, L32, az01, b2i_01, b2i_n0, b2i_n1, Bool.and_true, true_and, and_true, Classical.not_not, Bool.not_eq_true, Bool.not_eq_false, m_had hB, rowf_at, n32_ix, n32_ib, n32_le, l_shl, l_wo, n32_and, n32_inj, n32_add, hj8, l_shl2, and_pow_zero]
          refine ⟨fun hc => by omega, fun _ => ⟨fun hg => ?_, fun hg => ⟨fun he => ?_, fun he => ⟨fun h3 => ?_, fun h3 => ⟨fun h4 => ?_, fun h4 => ?_⟩⟩⟩⟩⟩
          · simp only [Bool.not_eq_false', Bool.not_eq_eq_eq_not, Bool.not_false] at hg
            rw [hg] at h2; exact h2
          · simp only [Bool.not_eq_true', Bool.not_eq_eq_eq_not, Bool.not_true] at hg
            rw [hg, decide_eq_true he] at h2; exact h2
          · simp only [Bool.not_eq_true', Bool.not_eq_eq_eq_not, Bool.not_true] at hg
            rw [hg, h3] at h2; simp only [Bool.and_false, Bool.false_and, Bool.or_false] at h2; exact h2
          · simp only [Bool.not_eq_true', Bool.not_eq_eq_eq_not, Bool.not_true] at hg
            rw [hg, h3, decide_eq_false he, decide_eq_false h4] at h2; exact h2
          · simp only [Bool.not_eq_true', Bool.not_eq_eq_eq_not, Bool.not_true] at hg
            rw [hg, h3, decide_eq_false he, decide_eq_true h4] at h2; exact h2
      exact good 8 0 rfl
  have open43 : ∀ g Z, (∀ l5 l6, nzW P (d + 6) az_k150 52 [some mO, some (vi (n32 g)), some (vi (n32 (leftS s))), some (vi (b2i false)), some (vi (n32 0)), l5, l6] [] (rowf t, rowf s, L, Z, C) (nz_RI Q)) → ∀ l4 l5 l6, nzW P (d + 6) az_k150 43 [some mO, some (vi (n32 g)), some (vi (n32 (leftS s))), some (vi (b2i true)), l4, l5, l6] [] (rowf t, rowf s, L, Z, C) (nz_RI Q) := by
    intro g Z h l4 l5 l6
    refine sg150_43 ?_
    simp (disch := omega) only [decide_eq_true_eq, decide_eq_false_iff_not, L32, az01, b2i_01, b2i_n0, b2i_n1, Bool.and_true, true_and, and_true, Classical.not_not, Bool.not_eq_true, Bool.not_eq_false, n32_mul, n32_add, n32_ix, n32_ib, n32_lt, n32_le, n32_inj, l_hb, l_hb0, l_shl, l_wo, l_eqm1, l_m1eq]
    exact ⟨fun hc => (by cases hc), fun _ => h _ _⟩
  have empty : ∀ g Z, g < 256 → nwo (leftS s) g = 0 → (∀ l4 l5 l6, nzW P (d + 6) az_k150 43 [some mO, some (vi (n32 g)), some (vi (n32 (leftS s))), some (vi (b2i false)), l4, l5, l6] [] (rowf t, rowf s, L, Z, C) (nz_RI Q)) → ∀ l5 l6, nzW P (d + 6) az_k150 52 [some mO, some (vi (n32 g)), some (vi (n32 (leftS s))), some (vi (b2i false)), some (vi (n32 0)), l5, l6] [] (rowf t, rowf s, L, Z, C) (nz_RI Q) := by
    intro g Z hg hz h
    have key : ∀ m j, m + j = 8 → ∀ l5 l6, nzW P (d + 6) az_k150 52 [some mO, some (vi (n32 g)), some (vi (n32 (leftS s))), some (vi (b2i false)), some (vi (n32 j)), l5, l6] [] (rowf t, rowf s, L, Z, C) (nz_RI Q) := by
      intro m
      induction m with
      | zero =>
        intro j hj l5 l6
        obtain rfl : j = 8 := by omega
        refine sg150_52 ?_
        simp (disch := omega) only [decide_eq_true_eq, decide_eq_false_iff_not, L32, az01, b2i_01, b2i_n0, b2i_n1, Bool.and_true, true_and, and_true, Classical.not_not, Bool.not_eq_true, Bool.not_eq_false, n32_mul, n32_add, n32_ix, n32_ib, n32_lt, n32_le, n32_inj, l_hb, l_hb0, l_shl, l_wo, l_eqm1, l_m1eq]
        exact ⟨fun _ => h _ _ _, fun hc => by omega⟩
      | succ m ih =>
        intro j hj l5 l6
        refine sg150_52 ?_
        simp (disch := omega) only [decide_eq_true_eq, decide_eq_false_iff_not, L32, az01, b2i_01, b2i_n0, b2i_n1, Bool.and_true, true_and, and_true, Classical.not_not, Bool.not_eq_true, Bool.not_eq_false, n32_mul, n32_add, n32_ix, n32_ib, n32_lt, n32_le, n32_inj, l_hb, l_hb0, l_shl, l_wo, l_eqm1, l_m1eq, hz, Nat.zero_testBit]
        exact ⟨fun hc => by omega, fun _ => ⟨fun hc => (hc trivial).elim, fun _ => ⟨fun hc => (hc trivial).elim, fun _ => ih (j + 1) (by omega) _ _⟩⟩⟩
    exact key 8 0 rfl
  have main : ∀ n g pre Z1, g < 256 → (∀ i, g.testBit i = true → (leftS s).testBit i = true) → cnt 8 (nwo (leftS s) g).testBit ≤ n → pre.length + cnt 8 (nwo (leftS s) g).testBit ≤ 8 → ordZ pre Z Z1 → (∀ Z', ordZ (pre ++ sfL t s n (nwo (leftS s) g)) Z Z' → Q (b2i (decide (sfR t s n (nwo (leftS s) g) = 0))) (rowf t, rowf s, L, Z', C)) → ∀ l4 l5 l6,
      nzW P (d + 6) az_k150 43 [some mO, some (vi (n32 g)), some (vi (n32 (leftS s))), some (vi (b2i true)), l4, l5, l6] [] (rowf t, rowf s, L, Z1, C) (nz_RI Q) := by
    intro n
    induction n with
    | zero =>
      intro g pre Z1 hg hsub hc hlen hord hqq
      have hno : ∀ k, k < 8 → (nwo (leftS s) g).testBit k = false := fun k hk => by
        cases hb : (nwo (leftS s) g).testBit k with
        | false => rfl
        | true => have := cnt_any.mpr (anyB_iff.mpr ⟨k, hk, hb⟩); omega
      have hz : nwo (leftS s) g = 0 := by
        apply Nat.eq_of_testBit_eq
        intro i
        by_cases hi : i < 8
        · rw [hno i hi]; simp
        · rw [Nat.testBit_lt_two_pow (Nat.lt_of_lt_of_le (Nat.lt_of_le_of_lt (nwo_le _ _) hl256) (by
            have : 2 ^ 8 ≤ 2 ^ i := Nat.pow_le_pow_right (by decide) (by omega)
            omega))]; simp
      refine open43 g Z1 (empty g Z1 hg hz (fin g Z1 hg hsub (hqq Z1 ?_)))
      rw [sfL, List.append_nil]; exact hord
    | succ n ih =>
      intro g pre Z1 hg hsub hc hlen hord hqq
      by_cases hz : cnt 8 (nwo (leftS s) g).testBit = 0
      · have hno : ∀ k, k < 8 → (nwo (leftS s) g).testBit k = false := fun k hk => by
          cases hb : (nwo (leftS s) g).testBit k with
          | false => rfl
          | true => have := cnt_any.mpr (anyB_iff.mpr ⟨k, hk, hb⟩); omega
        have hz0 : nwo (leftS s) g = 0 := by
          apply Nat.eq_of_testBit_eq
          intro i
          by_cases hi : i < 8
          · rw [hno i hi]; simp
          · rw [Nat.testBit_lt_two_pow (Nat.lt_of_lt_of_le (Nat.lt_of_le_of_lt (nwo_le _ _) hl256) (by
              have : 2 ^ 8 ≤ 2 ^ i := Nat.pow_le_pow_right (by decide) (by omega)
              omega))]; simp
        have hfn : fst 8 0 (frB t s (nwo (leftS s) g)) = none := fst_none.mpr (fun y _ hy => by unfold frB; rw [hno y (by omega)]; rfl)
        have h := hqq Z1 (by rw [sfL, hfn]; simp only [List.append_nil]; exact hord)
        rw [sfR, hfn] at h
        exact open43 g Z1 (empty g Z1 hg hz0 (fin g Z1 hg hsub h))
      · refine open43 g Z1 (scan g Z1 pre.length hg (by omega) hord.1 8 0 rfl (fun hn => ?_) (fun x hx => ?_))
        · have h := hqq Z1 (by rw [sfL, hn]; simp only [List.append_nil]; exact hord)
          rw [sfR, hn] at h
          exact fin g Z1 hg hsub h
        · have hx2 := fst_some.mp hx
          have hx8 : x < 8 := by omega
          have hxb : (nwo (leftS s) g).testBit x = true := by
            have := hx2.2.2.1; unfold frB at this; simp only [Bool.and_eq_true] at this; exact this.1
          have hpx : 2 ^ x < 256 := Nat.pow_lt_pow_right (a := 2) (n := 8) (by decide) hx8
          have hcn := cnt_nwo hx8 hxb
          have e := nwo_or hl256 hg hx8
          refine ih (g ||| 2 ^ x) (pre ++ [x]) _ (Nat.or_lt_two_pow (n := 8) hg hpx) (fun i hi => ?_) (by rw [e]; omega) (by rw [e, List.length_append]; simp; omega) ?_ ?_
          · rw [Nat.testBit_or, Bool.or_eq_true] at hi
            rcases hi with hi | hi
            · exact hsub i hi
            · rw [pow_bit] at hi
              have : x = i := of_decide_eq_true hi
              subst this
              rw [nwo_bit (by omega) (by omega), Bool.and_eq_true] at hxb
              exact hxb.1
          · refine ⟨by rw [u2_eq, List.length_append]; rfl, fun i y hy => ?_, fun b => by rw [u2_ne (by decide), u2_ne (by decide)]; exact hord.2.2 b⟩
            rw [u2_ne (by decide)]
            by_cases hi : i = pre.length
            · subst hi
              rw [List.getElem?_append_right (Nat.le_refl _), Nat.sub_self] at hy
              simp at hy
              rw [u2_eq, hy]
            · have hi2 : i < pre.length := by
                have := (List.getElem?_eq_some_iff.mp hy).1
                rw [List.length_append] at this
                simp at this
                omega
              rw [List.getElem?_append_left hi2] at hy
              unfold nz_u2
              rw [if_neg (by omega)]
              exact hord.2.1 i y hy
          · intro Z' hZ'
            rw [e] at hZ' ⊢
            have h := hqq Z'
            rw [sfL, sfR, hx] at h
            simp only [List.append_assoc, List.singleton_append] at h hZ'
            exact h hZ'
  have left : ∀ n k, n + k = 8 → ∀ l4 l5 l6, nzW P (d + 6) az_k150 11 [some mO, some (vi (n32 0)), some (vi (n32 (bits k (fun j => !decide (s j 1 = 3))))), some (vi (n32 k)), l4, l5, l6] [] (rowf t, rowf s, L, nz_u2 Z 13 48 (n32 0), C) (nz_RI Q) := by
    intro n
    induction n with
    | zero =>
      intro k hk l4 l5 l6
      obtain rfl : k = 8 := by omega
      refine sg150_11 ?_
      simp (disch := omega) only [decide_eq_true_eq, decide_eq_false_iff_not, L32, az01, b2i_01, b2i_n0, b2i_n1, Bool.and_true, true_and, and_true, Classical.not_not, Bool.not_eq_true, Bool.not_eq_false, n32_mul, n32_add, n32_ix, n32_ib, n32_lt, n32_le, n32_inj, l_hb, l_hb0, l_shl, l_wo, l_eqm1, l_m1eq]
      refine ⟨fun _ => ?_, fun hc => by omega⟩
      have hc8 := cnt_le 8 (leftS s).testBit
      have e0 := nwo_0 hl256
      refine main 8 0 [] _ (by decide) (fun i hi => by simp at hi) (by rw [e0]; exact hc8) (by rw [e0]; simpa using hc8) ⟨u2_eq, fun i x hx => by simp at hx, fun b => u2_ne (by decide)⟩ ?_ _ _ _
      rw [e0]
      exact hq
    | succ n ih =>
      intro k hk l4 l5 l6
      have h2 := ih (k + 1) (by omega)
      refine sg150_11 ?_
      simp (disch := omega) only [decide_eq_true_eq, decide_eq_false_iff_not, L32, az01, b2i_01, b2i_n0, b2i_n1, Bool.and_true, true_and, and_true, Classical.not_not, Bool.not_eq_true, Bool.not_eq_false, n32_mul, n32_add, n32_ix, n32_ib, n32_lt, n32_le, n32_inj, l_hb, l_hb0, l_shl, l_wo, l_eqm1, l_m1eq, m_isLeft hB, n32_or, Nat.or_zero]
      refine ⟨fun hc => by omega, fun _ => ⟨fun hb => ?_, fun hb => ?_⟩⟩
      · rw [← bits_F hb] at h2; exact h2 _ _ _
      · rw [← bits_T hb] at h2; exact h2 _ _ _
  exact left 8 0 rfl _ _ _
end
