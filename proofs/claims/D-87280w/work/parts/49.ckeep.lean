/-! who keeps whom, in the system -/
def usr (s : St) (m : Nat) : Option Nat := fst 8 0 (fun k => decide (0 < s k (8 + m)))
def lkg (s : St) (m : Nat) : Nat := bits 8 (fun k => (s k 5).testBit m)
def ckB (t s : St) (j m : Nat) : Nat := match usr s m with
  | some u => 2 ^ u
  | none => if atlS t s j = false ∨ t 56 m ≤ cnt 8 (lkg s m).testBit then lkg s m else 0
def ckN (t s : St) (j : Nat) : Nat → Nat
  | 0 => 0
  | m + 1 => cond ((askS t s j).testBit m) (ckN t s j m ||| ckB t s j m) (ckN t s j m)
theorem ckN_bit (t s : St) (j n k : Nat) : (ckN t s j n).testBit k = anyB n (fun m => (askS t s j).testBit m && (ckB t s j m).testBit k) := by
  induction n with
  | zero => simp [ckN, anyB]
  | succ n ih =>
    rw [ckN, anyB]
    cases hb : (askS t s j).testBit n with
    | true => rw [cond_true, Nat.testBit_or, ih]; simp
    | false => rw [cond_false, ih]; simp
theorem usr_lt {s : St} {m u : Nat} (h : usr s m = some u) : u < 8 ∧ 0 < s u (8 + m) := by
  have := fst_some.mp h
  exact ⟨by omega, of_decide_eq_true this.2.2.1⟩
theorem ckB_lt (t s : St) (j m : Nat) : ckB t s j m < 256 := by
  unfold ckB
  split
  · rename_i u hu
    exact Nat.pow_lt_pow_right (a := 2) (n := 8) (by decide) (usr_lt hu).1
  · split
    · exact bits_lt 8 _
    · decide
theorem ckN_lt (t s : St) (j : Nat) : ∀ n, ckN t s j n < 256 := by
  intro n
  induction n with
  | zero => show 0 < 256; decide
  | succ n ih =>
    rw [ckN]
    cases (askS t s j).testBit n with
    | true => exact Nat.or_lt_two_pow (n := 8) ih (ckB_lt t s j n)
    | false => exact ih
section
variable {t s : St} {j : Nat}
theorem usr_none {m : Nat} (h : usr s m = none) : ∀ k, k < 8 → s k (8 + m) = 0 := fun k hk => by
  have := fst_none.mp h k (Nat.zero_le _) (by omega)
  have := of_decide_eq_false this
  omega
/-- a job that asks does not use what it asks for -/
theorem ask_free (hT : TV t) (hI : INV t s) (hj : j < 8) (h1 : s j 1 = 1) : ∀ m, m < 10 → (askS t s j).testBit m = true → s j (8 + m) = 0 := by
  intro m hm hb
  obtain ⟨-, b, ⟨c1, c2, c3⟩, -⟩ := hI.J hj
  have hn' : opS t s j ≠ 9 → onS t s j < 10 := hT.2.2.2.2.2.1 _
  by_cases h4 : 0 < s j 4
  · obtain ⟨x1, x2, x3⟩ := c2 (Or.inr ⟨h1, h4⟩)
    have hsk : askS t s j = 2 ^ onS t s j := by unfold askS onlyS; rw [decide_eq_true h4]; rfl
    rw [hsk, pow_bit] at hb
    have e : onS t s j = m := of_decide_eq_true hb
    have x3 : hasS s j (onS t s j) = false := x3
    unfold hasS at x3
    simp only [Bool.or_eq_false_iff, decide_eq_false_iff_not] at x3
    rw [e] at x3; omega
  · by_cases h9 : opS t s j = 9
    · have : (askS t s j).testBit m = ((onS t s j).testBit m && decide (s j (8 + m) = 0)) := by
        unfold askS onlyS
        rw [decide_eq_false h4, h9]
        simp only [decide_true, Bool.not_true, Bool.or_false, cond_false]
        rw [bits_bit, decide_eq_true hm, Bool.true_and]
      rw [this] at hb
      simp only [Bool.and_eq_true, decide_eq_true_eq] at hb
      exact hb.2
    · have hsk : askS t s j = 2 ^ onS t s j := by unfold askS onlyS; rw [decide_eq_false h9]; simp
      rw [hsk, pow_bit] at hb
      have e : onS t s j = m := of_decide_eq_true hb
      rcases c1 h1 (by omega) with ⟨-, hh⟩ | ⟨hh, hl⟩ | ⟨hh, -⟩
      · have hh : hasS s j (onS t s j) = false := hh
        unfold hasS at hh
        simp only [Bool.or_eq_false_iff, decide_eq_false_iff_not] at hh
        rw [e] at hh; omega
      · have hl : (s j 5).testBit (onS t s j) = true := hl
        rw [e] at hl
        rcases Nat.eq_zero_or_pos (s j (8 + m)) with hz | hz
        · exact hz
        · have := b m hm hz; rw [hl] at this; cases this
      · exact absurd hh h9
theorem atl_free (hI : INV t s) (hj : j < 8) (h1 : s j 1 = 1) (ha : atlS t s j = true) : hasS s j (onS t s j) = false := by
  have hop : s j 4 = 0 ∧ opS t s j = 2 := by unfold atlS at ha; simpa using ha
  obtain ⟨-, -, ⟨c1, -⟩, -⟩ := hI.J hj
  rcases c1 h1 hop.1 with ⟨-, hh⟩ | ⟨hh, -⟩ | ⟨hh, -⟩
  · exact hh
  · exfalso; have := hop.2; unfold opS at this; unfold opR at hh; omega
  · exfalso; have := hop.2; unfold opS at this; unfold opR at hh; omega
theorem lkg_bit {m k : Nat} : (lkg s m).testBit k = (decide (k < 8) && (s k 5).testBit m) := bits_bit 8 _ k
theorem ck_eq (hT : TV t) (hI : INV t s) (hj : j < 8) (h1 : s j 1 = 1) : nwo (ckN t s j 10) (2 ^ j) = kpS t s j := by
  have hcl := ckN_lt t s j 10
  have hkl := kpS_lt t s j
  have hn' : opS t s j ≠ 9 → onS t s j < 10 := hT.2.2.2.2.2.1 _
  apply Nat.eq_of_testBit_eq
  intro k
  by_cases hk : k < 8
  · rw [nwo_pow (by omega) (by omega), ckN_bit]
    cases ha : atlS t s j with
    | false =>
      unfold kpS
      rw [ha, cond_false, bits_bit, decide_eq_true hk, Bool.true_and]
      unfold kpB
      by_cases hkj : k = j
      · subst hkj; simp
      · rw [decide_eq_false hkj, decide_eq_false (Ne.symm hkj)]
        simp only [Bool.not_false, Bool.and_true, Bool.true_and]
        have hb : ∀ m, m < 10 → (askS t s j).testBit m = true → (ckB t s j m).testBit k = hasS s k m := by
          intro m hm hbm
          unfold ckB
          cases hu : usr s m with
          | some u =>
            simp only
            obtain ⟨hu8, hup⟩ := usr_lt hu
            rw [pow_bit]
            by_cases e : u = k
            · subst e
              unfold hasS
              simp [hup]
            · rw [decide_eq_false e, hI.2.1 u k hu8 hk e m hm hup]
          | none =>
            simp only
            rw [if_pos (Or.inl ha), lkg_bit, decide_eq_true hk, Bool.true_and]
            unfold hasS
            rw [decide_eq_false (by rw [usr_none hu k hk]; omega), Bool.false_or]
        cases hz : decide (hadS s k &&& askS t s j = 0) with
        | true =>
          have hz := of_decide_eq_true hz
          cases hany : anyB 10 (fun m => (askS t s j).testBit m && (ckB t s j m).testBit k) with
          | false => rfl
          | true =>
            obtain ⟨m, hm, hp⟩ := anyB_iff.mp hany
            simp only [Bool.and_eq_true] at hp
            have h3 := hb m hm hp.1
            have := congrArg (fun x => x.testBit m) hz
            simp only [Nat.testBit_and, Nat.zero_testBit, hp.1, Bool.and_true] at this
            unfold hadS at this
            rw [bits_bit, decide_eq_true hm, Bool.true_and, ← h3, hp.2] at this
            cases this
        | false =>
          have hz := of_decide_eq_false hz
          have : ∃ m, m < 10 ∧ hasS s k m = true ∧ (askS t s j).testBit m = true := by
            apply Classical.byContradiction
            intro hno
            apply hz
            apply Nat.eq_of_testBit_eq
            intro i
            rw [Nat.testBit_and, Nat.zero_testBit]
            unfold hadS
            rw [bits_bit]
            by_cases hi : i < 10
            · rw [decide_eq_true hi, Bool.true_and]
              cases hh : hasS s k i with
              | false => rfl
              | true =>
                cases hh2 : (askS t s j).testBit i with
                | false => rfl
                | true => exact absurd ⟨i, hi, hh, hh2⟩ hno
            · rw [decide_eq_false hi]; rfl
          obtain ⟨m, hm, h2, h3⟩ := this
          exact anyB_iff.mpr ⟨m, hm, by rw [hb m hm h3, h2, h3]; rfl⟩
    | true =>
      have hop : s j 4 = 0 ∧ opS t s j = 2 := by unfold atlS at ha; simpa using ha
      have hon := hn' (by omega)
      have hfree := atl_free hI hj h1 ha
      unfold hasS at hfree
      simp only [Bool.or_eq_false_iff, decide_eq_false_iff_not] at hfree
      have hsk : askS t s j = 2 ^ onS t s j := by unfold askS onlyS; rw [hop.2]; simp
      have hany : anyB 10 (fun m => (askS t s j).testBit m && (ckB t s j m).testBit k) = (ckB t s j (onS t s j)).testBit k := by
        cases hb : (ckB t s j (onS t s j)).testBit k with
        | true => exact anyB_iff.mpr ⟨_, hon, by simp only [hsk, pow_bit, hb]; simp⟩
        | false =>
          cases hx : anyB 10 (fun m => (askS t s j).testBit m && (ckB t s j m).testBit k) with
          | false => rfl
          | true =>
            obtain ⟨m, hm, hp⟩ := anyB_iff.mp hx
            simp only [Bool.and_eq_true, hsk, pow_bit, decide_eq_true_eq] at hp
            rw [← hp.1, hb] at hp
            cases hp.2
      rw [hany]
      unfold kpS
      rw [ha, cond_true]
      unfold kpG ckB
      have hus : fst 8 0 (usB s j (onS t s j)) = usr s (onS t s j) := by
        unfold usr
        apply fst_congr
        intro y _ hy
        unfold usB
        by_cases e : y = j
        · subst e; simp; omega
        · rw [decide_eq_false e]; simp
      rw [hus]
      cases hu : usr s (onS t s j) with
      | some u =>
        simp only
        obtain ⟨hu8, hup⟩ := usr_lt hu
        have : u ≠ j := fun e => by rw [e] at hup; omega
        rw [pow_bit]
        by_cases e : u = k
        · subst e; simp [Ne.symm this]
        · simp [e]
      | none =>
        simp only
        have hcnt : cnt 8 (lkg s (onS t s j)).testBit = cnt 8 (lkB s j (onS t s j)) := by
          apply cnt_congr
          intro x hx
          rw [lkg_bit, decide_eq_true hx, Bool.true_and]
          unfold lkB
          by_cases e : x = j
          · rw [e, hfree.2]; simp
          · rw [decide_eq_false e]; simp
        rw [hcnt]
        by_cases hlt : cnt 8 (lkB s j (onS t s j)) < t 56 (onS t s j)
        · rw [if_neg (by rw [ha]; simp; omega), if_pos hlt]; simp
        · rw [if_pos (Or.inr (by omega)), if_neg hlt, lkg_bit, bits_bit, decide_eq_true hk, Bool.true_and, Bool.true_and]
          unfold lkB
          by_cases e : k = j
          · rw [e, hfree.2]; simp
          · rw [decide_eq_false e, decide_eq_false (Ne.symm e)]; simp
  · have hp : 2 ^ 8 ≤ 2 ^ k := Nat.pow_le_pow_right (by decide) (by omega)
    rw [Nat.testBit_lt_two_pow (Nat.lt_of_lt_of_le hkl hp), Nat.testBit_lt_two_pow (Nat.lt_of_lt_of_le (Nat.lt_of_le_of_lt (nwo_le _ _) hcl) hp)]
theorem can_eq (hT : TV t) (hI : INV t s) (hj : j < 8) (h1 : s j 1 = 1) (ha : atlS t s j = true) : canS t s j = (decide (usr s (onS t s j) = none) && decide (cnt 8 (lkg s (onS t s j)).testBit < t 56 (onS t s j))) := by
  have hop : s j 4 = 0 ∧ opS t s j = 2 := by unfold atlS at ha; simpa using ha
  have hfree := atl_free hI hj h1 ha
  unfold hasS at hfree
  simp only [Bool.or_eq_false_iff, decide_eq_false_iff_not] at hfree
  have hus : fst 8 0 (usB s j (onS t s j)) = usr s (onS t s j) := by
    unfold usr
    apply fst_congr
    intro y _ hy
    unfold usB
    by_cases e : y = j
    · subst e; simp; omega
    · rw [decide_eq_false e]; simp
  have hcnt : cnt 8 (lkg s (onS t s j)).testBit = cnt 8 (lkB s j (onS t s j)) := by
    apply cnt_congr
    intro x hx
    rw [lkg_bit, decide_eq_true hx, Bool.true_and]
    unfold lkB
    by_cases e : x = j
    · rw [e, hfree.2]; simp
    · rw [decide_eq_false e]; simp
  unfold canS kpS kpG
  rw [ha, cond_true, hus, hcnt]
  cases hu : usr s (onS t s j) with
  | some u =>
    have : 2 ^ u ≠ 0 := by have := Nat.two_pow_pos u; omega
    simp [this]
  | none =>
    by_cases hlt : cnt 8 (lkB s j (onS t s j)) < t 56 (onS t s j)
    · simp [hlt]; omega
    · rw [if_neg hlt]
      by_cases hz : bits 8 (lkB s j (onS t s j)) = 0
      · have : cnt 8 (lkB s j (onS t s j)) = 0 := by
          have h0 := bits_zero.mp hz
          rcases Nat.eq_zero_or_pos (cnt 8 (lkB s j (onS t s j))) with h | h
          · exact h
          · obtain ⟨x, hx, hp⟩ := anyB_iff.mp (cnt_any.mp h)
            rw [h0 x hx] at hp; cases hp
        simp [hlt]; omega
      · simp [hz, hlt]
end
section
variable {P : Nat × (Nat → Int32)} {d o : Nat} {t s : St} {h : nz_h} {j : Nat}
theorem c_usr {m : Nat} (hB : ∀ j f, s j f < 1000000) (hR : RC o t s h.2.2.2.2) (hd : 3 ≤ d) (hm : m < 10) (Q : Int32 → nz_h → Prop) : ctI P d 42 [sO o, vi (n32 m)] h Q = Q (o2i (usr s m)) h := c_user hB hR hd hm Q
theorem c_lkg {m : Nat} (hB : ∀ j f, s j f < 1000000) (hR : RC o t s h.2.2.2.2) (hd : 3 ≤ d) (hm : m < 10) (Q : Int32 → nz_h → Prop) : ctI P d 43 [sO o, vi (n32 m)] h Q = Q (n32 (lkg s m)) h := c_looking hB hR hd hm Q
theorem c_keepers (hT : TV t) (hI : INV t s) (hR : RC o t s h.2.2.2.2) (hd : 4 ≤ d) (hj : j < 8) (Q : Int32 → nz_h → Prop) : ctI P d 41 [sO o, jO o j] h Q = Q (n32 (cond (decide (s j 1 = 1)) (kpS t s j) 0)) h := by
  obtain ⟨d, rfl⟩ := dge hd
  refine ctI_det (fun Q hq => sm41 ?_) Q
  have hB := hI.B
  obtain ⟨e6, e7, e35, e12, e5, e11, e10, e0⟩ := hR.2.1 j hj
  have en := (hR.1.2.1 j hj).1
  by_cases h1 : s j 1 = 1
  · rw [decide_eq_true h1, cond_true] at hq
    obtain ⟨w11, w8, w9⟩ := e11 h1
    have hask := askS_lt ((hI.av hT hj (Or.inl h1)).askO hT)
    rw [h1] at e6
    simp (disch := first | omega | (refine Nat.lt_of_lt_of_le (hB _ _) ?_; omega)) only [decide_eq_true_eq, decide_eq_false_iff_not, L32, az01, b2i_01, b2i_n0, b2i_n1, Bool.and_true, true_and, and_true, Classical.not_not, Bool.not_eq_true, Bool.not_eq_false, n32_mul, n32_add, n32_ix, n32_ib, n32_lt, n32_le, n32_inj, l_hb, l_hb0, l_shl, l_wo, l_eqm1, l_m1eq, e6]
    refine ⟨fun _ => ?_, fun hc => (hc trivial).elim⟩
    have loop : ∀ n m, n + m = 10 → ∀ l4 l5, nzW P (d + 3) az_k41 14 [some (sO o), some (jO o j), some (vi (n32 (ckN t s j m))), some (vi (n32 m)), l4, l5] [] h (nz_RI Q) := by
      intro n
      induction n with
      | zero =>
        intro m hm l4 l5
        obtain rfl : m = 10 := by omega
        refine sg41_14 ?_
        have hpj : 2 ^ j < 256 := Nat.pow_lt_pow_right (a := 2) (n := 8) (by decide) hj
        simp (disch := first | omega | (refine Nat.lt_of_lt_of_le (hB _ _) ?_; omega)) only [decide_eq_true_eq, decide_eq_false_iff_not, L32, az01, b2i_01, b2i_n0, b2i_n1, Bool.and_true, true_and, and_true, Classical.not_not, Bool.not_eq_true, Bool.not_eq_false, n32_mul, n32_add, n32_ix, n32_ib, n32_lt, n32_le, n32_inj, l_hb, l_hb0, l_shl, l_wo, l_eqm1, l_m1eq, en]
        refine ⟨fun _ => ?_, fun hc => by omega⟩
        rw [ck_eq hT hI hj h1]; exact hq
      | succ n ih =>
        intro m hm l4 l5
        have hm10 : m < 10 := by omega
        have hlk := (hR.1.1 m hm10).2
        have hlk8 : t 56 m < 9 := hT.2.1 m
        have hlg : lkg s m < 256 := bits_lt 8 _
        have hcn := cnt_le 8 (lkg s m).testBit
        have h2 := ih (m + 1) (by omega)
        rw [ckN] at h2
        unfold ckB at h2
        refine sg41_14 ?_
        simp (disch := first | omega | (refine Nat.lt_of_lt_of_le (hB _ _) ?_; omega)) only [decide_eq_true_eq, decide_eq_false_iff_not, L32, az01, b2i_01, b2i_n0, b2i_n1, Bool.and_true, true_and, and_true, Classical.not_not, Bool.not_eq_true, Bool.not_eq_false, n32_mul, n32_add, n32_ix, n32_ib, n32_lt, n32_le, n32_inj, l_hb, l_hb0, l_shl, l_wo, l_eqm1, l_m1eq, w8, c_has]
        refine ⟨fun hc => by omega, fun _ => ⟨fun hb => ?_, fun hb => ?_⟩⟩
        · rw [hb, cond_true] at h2
          rw [c_usr hB hR (by omega) hm10, c_lkg hB hR (by omega) hm10]
          cases hu : usr s m with
          | none =>
            rw [hu] at h2
            simp (disch := first | omega | (refine Nat.lt_of_lt_of_le (hB _ _) ?_; omega)) only [decide_eq_true_eq, decide_eq_false_iff_not, L32, az01, b2i_01, b2i_n0, b2i_n1, Bool.and_true, true_and, and_true, Classical.not_not, Bool.not_eq_true, Bool.not_eq_false, n32_mul, n32_add, n32_ix, n32_ib, n32_lt, n32_le, n32_inj, l_hb, l_hb0, l_shl, l_wo, l_eqm1, l_m1eq, o2i, w11, c_many hlg, hlk, n32_or]
            refine ⟨fun _ => ⟨fun ha => ?_, fun ha => ⟨hm10, fun hlt => ?_, fun hlt => ?_⟩⟩, fun hc => (hc trivial).elim⟩
            · simp only [ha, true_or, if_true] at h2; exact h2 _ _
            · simp only [ha] at h2; rw [if_neg (by simp; omega), Nat.or_zero] at h2; exact h2 _ _
            · simp only [ha] at h2; rw [if_pos (Or.inr (by omega))] at h2; exact h2 _ _
          | some u =>
            rw [hu] at h2
            obtain ⟨hu8, hup⟩ := usr_lt hu
            simp (disch := first | omega | (refine Nat.lt_of_lt_of_le (hB _ _) ?_; omega)) only [decide_eq_true_eq, decide_eq_false_iff_not, L32, az01, b2i_01, b2i_n0, b2i_n1, Bool.and_true, true_and, and_true, Classical.not_not, Bool.not_eq_true, Bool.not_eq_false, n32_mul, n32_add, n32_ix, n32_ib, n32_lt, n32_le, n32_inj, l_hb, l_hb0, l_shl, l_wo, l_eqm1, l_m1eq, o2i, n32_or]
            exact ⟨fun hc => hc.elim, fun _ => h2 _ _⟩
        · rw [hb, cond_false] at h2; exact h2 _ _
    exact loop 10 0 rfl _ _
  · rw [decide_eq_false h1, cond_false] at hq
    simp (disch := first | omega | (refine Nat.lt_of_lt_of_le (hB _ _) ?_; omega)) only [decide_eq_true_eq, decide_eq_false_iff_not, L32, az01, b2i_01, b2i_n0, b2i_n1, Bool.and_true, true_and, and_true, Classical.not_not, Bool.not_eq_true, Bool.not_eq_false, n32_mul, n32_add, n32_ix, n32_ib, n32_lt, n32_le, n32_inj, l_hb, l_hb0, l_shl, l_wo, l_eqm1, l_m1eq, e6, h1]
    exact ⟨fun hc => hc.elim, fun _ => hq⟩
theorem c_can (hT : TV t) (hI : INV t s) (hR : RC o t s h.2.2.2.2) (hd : 5 ≤ d) (hj : j < 8) (Q : Int32 → nz_h → Prop) : ctI P d 51 [sO o, jO o j] h Q = Q (b2i (decide (s j 1 = 1) && canS t s j)) h := by
  obtain ⟨d, rfl⟩ := dge hd
  refine ctI_det (fun Q hq => sm51 ?_) Q
  have hB := hI.B
  obtain ⟨e6, e7, e35, e12, e5, e11, e10, e0⟩ := hR.2.1 j hj
  by_cases h1 : s j 1 = 1
  · rw [decide_eq_true h1, Bool.true_and] at hq
    obtain ⟨w11, w8, w9⟩ := e11 h1
    have hA := hI.av hT hj (Or.inl h1)
    have hask := askS_lt (hA.askO hT)
    have hkl := kpS_lt t s j
    have hn' : opS t s j ≠ 9 → onS t s j < 10 := hT.2.2.2.2.2.1 _
    rw [h1] at e6
    simp (disch := first | omega | (refine Nat.lt_of_lt_of_le (hB _ _) ?_; omega)) only [decide_eq_true_eq, decide_eq_false_iff_not, L32, az01, b2i_01, b2i_n0, b2i_n1, Bool.and_true, true_and, and_true, Classical.not_not, Bool.not_eq_true, Bool.not_eq_false, n32_mul, n32_add, n32_ix, n32_ib, n32_lt, n32_le, n32_inj, l_hb, l_hb0, l_shl, l_wo, l_eqm1, l_m1eq, e6, w11, w8, c_keepers hT hI hR, h1, decide_true, cond_true]
    refine ⟨fun _ => ⟨fun ha => ?_, fun ha => ⟨fun hk => ans0 hq (by unfold canS; simp [hk]), fun hk => ans1 hq (by unfold canS; simp [hk, ha])⟩⟩, fun hc => (by cases hc)⟩
    have hop : s j 4 = 0 ∧ opS t s j = 2 := by unfold atlS at ha; simpa using ha
    have hon := hn' (by omega)
    have hsk : askS t s j = 2 ^ onS t s j := by unfold askS onlyS; rw [hop.2]; simp
    have hf : fst 10 0 (askS t s j).testBit = some (onS t s j) := fst_some.mpr ⟨Nat.zero_le _, by omega, by rw [hsk, pow_bit]; simp, fun y _ hy => by rw [hsk, pow_bit]; simp; omega⟩
    have hlk := (hR.1.1 _ hon).2
    have hlk8 : t 56 (onS t s j) < 9 := hT.2.1 _
    have hlg : lkg s (onS t s j) < 256 := bits_lt 8 _
    have hcn := cnt_le 8 (lkg s (onS t s j)).testBit
    rw [can_eq hT hI hj h1 ha] at hq
    rw [c_lowest hask hf (by omega), c_usr hB hR (by omega) hon, o2i_m1 (fun k hk => by have := (usr_lt hk).1; omega), c_lkg hB hR (by omega) hon]
    simp (disch := first | omega | (refine Nat.lt_of_lt_of_le (hB _ _) ?_; omega)) only [decide_eq_true_eq, decide_eq_false_iff_not, L32, az01, b2i_01, b2i_n0, b2i_n1, Bool.and_true, true_and, and_true, Classical.not_not, Bool.not_eq_true, Bool.not_eq_false, n32_mul, n32_add, n32_ix, n32_ib, n32_lt, n32_le, n32_inj, l_hb, l_hb0, l_shl, l_wo, l_eqm1, l_m1eq, c_many hlg, hlk]
    refine ⟨fun hu => ans0 hq (by simp [hu]), fun hu => ⟨hon, fun hle => ans0 hq (by simp [hu]; omega), fun hle => ans1 hq (by simp [hu]; omega)⟩⟩
  · rw [decide_eq_false h1, Bool.false_and] at hq
    simp (disch := first | omega | (refine Nat.lt_of_lt_of_le (hB _ _) ?_; omega)) only [decide_eq_true_eq, decide_eq_false_iff_not, L32, az01, b2i_01, b2i_n0, b2i_n1, Bool.and_true, true_and, and_true, Classical.not_not, Bool.not_eq_true, Bool.not_eq_false, n32_mul, n32_add, n32_ix, n32_ib, n32_lt, n32_le, n32_inj, l_hb, l_hb0, l_shl, l_wo, l_eqm1, l_m1eq, e6, h1]
    exact ⟨fun hc => hc.elim, fun _ => hq⟩
end
