/-! the reference's rows -/
theorem cnt_F {n : Nat} {p : Nat → Bool} (h : p n = false) : cnt (n + 1) p = cnt n p := by rw [cnt, h]; rfl
theorem cnt_T {n : Nat} {p : Nat → Bool} (h : p n = true) : cnt (n + 1) p = cnt n p + 1 := by rw [cnt, h]; rfl
def sameB (ρ ρ' : St) : Bool := !anyB 144 (fun k => !decide (ρ (k / 18) (k % 18) = ρ' (k / 18) (k % 18)))
theorem sameB_iff {ρ ρ' : St} : sameB ρ ρ' = true ↔ ∀ j f, j < 8 → f < 18 → ρ j f = ρ' j f := by
  unfold sameB
  rw [Bool.not_eq_true']
  constructor
  · intro h j f hj hf
    apply Classical.byContradiction
    intro hne
    have e1 : (18 * j + f) / 18 = j := by omega
    have e2 : (18 * j + f) % 18 = f := by omega
    rw [anyB_of (k := 18 * j + f) (by omega) (by rw [e1, e2, decide_eq_false hne]; rfl)] at h
    cases h
  · intro h
    cases ha : anyB 144 (fun k => !decide (ρ (k / 18) (k % 18) = ρ' (k / 18) (k % 18))) with
    | false => rfl
    | true =>
      obtain ⟨k, hk, hp⟩ := anyB_iff.1 ha
      rw [h (k / 18) (k % 18) (by omega) (by omega)] at hp
      simp at hp
def MR (ρ : St) (L : nz_f2) (i : Nat) : Prop := ∀ j f, j < 8 → f < 18 → L 86 (144 * i + 18 * j + f) = n32 (ρ j f)
section
variable {P : Nat × (Nat → Int32)} {d : Nat} {t s : St} {T S L Z : nz_f2} {C : nz_f5} {j : Nat}
theorem m_keeps {i : Nat} (hT : TV t) (hI : INV t s) (hi : i ≤ 401) (hd : 5 ≤ d) {Q : nz_h → Prop}
    (hq : ∀ L', (∀ a b, ¬ (a = 86 ∧ 144 * i ≤ b ∧ b < 144 * i + 144) → L' a b = L a b) → MR (kF t s) L' i → Q (rowf t, rowf s, L', Z, C)) : ctV P d 175 [mO, vi (n32 i)] (rowf t, rowf s, L, Z, C) Q := by
  obtain ⟨d, rfl⟩ := dge hd
  have hB := hI.B
  refine sm175 ?_
  have loop : ∀ n j, n + j = 8 → ∀ L1, (∀ a b, ¬ (a = 86 ∧ 144 * i ≤ b ∧ b < 144 * i + 144) → L1 a b = L a b) → (∀ k f, k < j → f < 18 → L1 86 (144 * i + 18 * k + f) = n32 (kF t s k f)) → ∀ l3 l4 l5, nzW P (d + 4) az_k175 2 [some mO, some (vi (n32 i)), some (vi (n32 j)), l3, l4, l5] [] (rowf t, rowf s, L1, Z, C) (nz_RV Q) := by
    intro n
    induction n with
    | zero =>
      intro j hj L1 ho hr l3 l4 l5
      obtain rfl : j = 8 := by omega
      refine sg175_2 ?_
      simp (disch := omega) only [decide_eq_true_eq, decide_eq_false_iff_not, L32, az01, b2i_01, b2i_n0, b2i_n1, Bool.and_true, true_and, and_true, Classical.not_not, Bool.not_eq_true, Bool.not_eq_false, n32_mul, n32_add, n32_ix, n32_ib, n32_lt, n32_le, n32_inj, l_hb, l_hb0, l_shl, l_wo, l_eqm1, l_m1eq]
      exact ⟨fun _ => hq L1 ho hr, fun hc => by omega⟩
    | succ n ih =>
      intro j hj L1 ho hr l3 l4 l5
      have hj8 : j < 8 := by omega
      have l109 : ∀ x3 : Bool, x3 = decide (s j 1 = 3) → ∀ r f, r + f = 18 → ∀ L2, (∀ a b, ¬ (a = 86 ∧ 144 * i ≤ b ∧ b < 144 * i + 144) → L2 a b = L a b) → (∀ k f, k < j → f < 18 → L2 86 (144 * i + 18 * k + f) = n32 (kF t s k f)) → (∀ g, g < f → L2 86 (144 * i + 18 * j + g) = n32 (kF t s j g)) → nzW P (d + 4) az_k175 109 [some mO, some (vi (n32 i)), some (vi (n32 j)), some (vi (b2i x3)), some (vi (n32 (trn t s j))), some (vi (n32 f))] [] (rowf t, rowf s, L2, Z, C) (nz_RV Q) := by
        intro x3 hx3 r
        induction r with
        | zero =>
          intro f hf L2 go gr gf
          obtain rfl : f = 18 := by omega
          refine sg175_109 ?_
          simp (disch := omega) only [decide_eq_true_eq, decide_eq_false_iff_not, L32, az01, b2i_01, b2i_n0, b2i_n1, Bool.and_true, true_and, and_true, Classical.not_not, Bool.not_eq_true, Bool.not_eq_false, n32_mul, n32_add, n32_ix, n32_ib, n32_lt, n32_le, n32_inj, l_hb, l_hb0, l_shl, l_wo, l_eqm1, l_m1eq]
          refine ⟨fun _ => ih (j + 1) (by omega) L2 go (fun k f hk hf => ?_) _ _ _, fun hc => by omega⟩
          by_cases hkj : k = j
          · subst hkj; exact gf f hf
          · exact gr k f (by omega) hf
        | succ r ihr =>
          intro f hf L2 go gr gf
          have hf18 : f < 18 := by omega
          have put : ∀ v, v = n32 (kF t s j f) → nzW P (d + 4) az_k175 109 [some mO, some (vi (n32 i)), some (vi (n32 j)), some (vi (b2i x3)), some (vi (n32 (trn t s j))), some (vi (n32 (f + 1)))] [] (rowf t, rowf s, nz_u2 L2 86 (144 * i + 18 * j + f) v, Z, C) (nz_RV Q) := fun v hv => by
            refine ihr (f + 1) (by omega) _ (fun a b hab => ?_) (fun k g hk hg => ?_) (fun g hg => ?_)
            · unfold nz_u2; rw [if_neg (by omega)]; exact go a b hab
            · rw [u2_at, if_neg (by omega)]; exact gr k g hk hg
            · rw [u2_at]
              by_cases hgf : g = f
              · rw [hgf, if_pos rfl, hv]
              · rw [if_neg (by omega)]; exact gf g (by omega)
          refine sg175_109 ?_
          by_cases h3 : s j 1 = 3
          · rw [decide_eq_true h3] at hx3
            subst hx3
            simp (disch := omega) only [decide_eq_true_eq, decide_eq_false_iff_not, L32, az01, b2i_01, b2i_n0, b2i_n1, Bool.and_true, true_and, and_true, Classical.not_not, Bool.not_eq_true, Bool.not_eq_false, n32_mul, n32_add, n32_ix, n32_ib, n32_lt, n32_le, n32_inj, l_hb, l_hb0, l_shl, l_wo, l_eqm1, l_m1eq, uL_row]
            refine ⟨fun hc => by omega, fun _ => ⟨fun hc => (by cases hc), fun _ => ⟨fun h1 => ⟨by omega, put _ ?_⟩, fun h1 => ⟨by omega, put _ ?_⟩⟩⟩⟩
            · rw [kF_E h3 h1]
            · rw [h1, kF_1, h3]
          · rw [decide_eq_false h3] at hx3
            subst hx3
            simp (disch := omega) only [decide_eq_true_eq, decide_eq_false_iff_not, L32, az01, b2i_01, b2i_n0, b2i_n1, Bool.and_true, true_and, and_true, Classical.not_not, Bool.not_eq_true, Bool.not_eq_false, n32_mul, n32_add, n32_ix, n32_ib, n32_lt, n32_le, n32_inj, l_hb, l_hb0, l_shl, l_wo, l_eqm1, l_m1eq, uL_row, m_getr]
            refine ⟨fun hc => by omega, fun _ => ⟨fun _ => ⟨fun h7 => ⟨by omega, put _ ?_⟩, fun h7 => ⟨by omega, put _ ?_⟩⟩, fun hc => (hc trivial).elim⟩⟩
            · rw [kF_ne h3 h7]
            · rw [h7, kF_7 h3]
      have l30 : ∀ x3 : Bool, x3 = decide (s j 1 = 3) → ∀ r k, r + k = 8 → nzW P (d + 4) az_k175 30 [some mO, some (vi (n32 i)), some (vi (n32 j)), some (vi (b2i x3)), some (vi (n32 (cnt k (trnB t s j)))), some (vi (n32 k))] [] (rowf t, rowf s, L1, Z, C) (nz_RV Q) := by
        intro x3 hx3 r
        induction r with
        | zero =>
          intro k hk
          obtain rfl : k = 8 := by omega
          refine sg175_30 ?_
          simp (disch := omega) only [decide_eq_true_eq, decide_eq_false_iff_not, L32, az01, b2i_01, b2i_n0, b2i_n1, Bool.and_true, true_and, and_true, Classical.not_not, Bool.not_eq_true, Bool.not_eq_false, n32_mul, n32_add, n32_ix, n32_ib, n32_lt, n32_le, n32_inj, l_hb, l_hb0, l_shl, l_wo, l_eqm1, l_m1eq]
          exact ⟨fun _ => l109 x3 hx3 18 0 rfl L1 ho hr (fun g hg => by omega), fun hc => by omega⟩
        | succ r ihr =>
          intro k hk
          have hk8 : k < 8 := by omega
          have nx := ihr (k + 1) (by omega)
          have no : trnB t s j k = false → nzW P (d + 4) az_k175 30 [some mO, some (vi (n32 i)), some (vi (n32 j)), some (vi (b2i x3)), some (vi (n32 (cnt k (trnB t s j)))), some (vi (n32 (k + 1)))] [] (rowf t, rowf s, L1, Z, C) (nz_RV Q) := fun h => by
            rw [cnt_F h] at nx; exact nx
          have s1 := hB j 1
          have s2 := hB k 1
          have s7 := hB j 7
          have s8 := hB k 7
          refine sg175_30 ?_
          by_cases h2 : s j 1 = 2
          · by_cases h2k : s k 1 = 2
            · have p1 := (hI.av hT hj8 (Or.inr h2)).1
              have p2 := (hI.av hT hk8 (Or.inr h2k)).1
              have o1 : onS t s j < 1024 := hT.2.2.2.2.1 _
              have o2 : onS t s k < 1024 := hT.2.2.2.2.1 _
              simp (disch := omega) only [decide_eq_true_eq, decide_eq_false_iff_not, L32, az01, b2i_01, b2i_n0, b2i_n1, Bool.and_true, true_and, and_true, Classical.not_not, Bool.not_eq_true, Bool.not_eq_false, n32_mul, n32_add, n32_ix, n32_ib, n32_lt, n32_le, n32_inj, l_hb, l_hb0, l_shl, l_wo, l_eqm1, l_m1eq, m_getr, m_on hB, Nat.add_zero]
              refine ⟨fun hc => by omega, fun _ => ⟨fun hc => absurd h2 hc, fun _ => ⟨fun hc => absurd h2k hc, fun _ => ⟨fun hne => no ?_, fun he => ⟨fun hlt => no ?_, fun hge => ?_⟩⟩⟩⟩⟩
              · unfold trnB; rw [decide_eq_false hne]; simp
              · unfold trnB; rw [decide_eq_false (show ¬ s k 7 ≤ s j 7 by omega)]; simp
              · rw [cnt_T (show trnB t s j k = true by unfold trnB; simp [h2, h2k, he]; omega)] at nx; exact nx
            · simp (disch := omega) only [decide_eq_true_eq, decide_eq_false_iff_not, L32, az01, b2i_01, b2i_n0, b2i_n1, Bool.and_true, true_and, and_true, Classical.not_not, Bool.not_eq_true, Bool.not_eq_false, n32_mul, n32_add, n32_ix, n32_ib, n32_lt, n32_le, n32_inj, l_hb, l_hb0, l_shl, l_wo, l_eqm1, l_m1eq, m_getr, Nat.add_zero]
              refine ⟨fun hc => by omega, fun _ => ⟨fun hc => absurd h2 hc, fun _ => ⟨fun _ => no ?_, fun hc => absurd hc h2k⟩⟩⟩
              unfold trnB; rw [decide_eq_false h2k]; simp
          · simp (disch := omega) only [decide_eq_true_eq, decide_eq_false_iff_not, L32, az01, b2i_01, b2i_n0, b2i_n1, Bool.and_true, true_and, and_true, Classical.not_not, Bool.not_eq_true, Bool.not_eq_false, n32_mul, n32_add, n32_ix, n32_ib, n32_lt, n32_le, n32_inj, l_hb, l_hb0, l_shl, l_wo, l_eqm1, l_m1eq, m_getr, Nat.add_zero]
            refine ⟨fun hc => by omega, fun _ => ⟨fun _ => no ?_, fun hc => absurd hc h2⟩⟩
            unfold trnB; rw [decide_eq_false h2]; rfl
      have s1 := hB j 1
      refine sg175_2 ?_
      simp (disch := omega) only [decide_eq_true_eq, decide_eq_false_iff_not, L32, az01, b2i_01, b2i_n0, b2i_n1, Bool.and_true, true_and, and_true, Classical.not_not, Bool.not_eq_true, Bool.not_eq_false, n32_mul, n32_add, n32_ix, n32_ib, n32_lt, n32_le, n32_inj, l_hb, l_hb0, l_shl, l_wo, l_eqm1, l_m1eq, m_getr]
      refine ⟨fun hc => by omega, fun _ => ⟨fun h3 => ?_, fun h3 => ?_⟩⟩
      · exact l30 false (by rw [decide_eq_false h3]) 8 0 rfl
      · exact l30 true (by rw [decide_eq_true h3]) 8 0 rfl
  exact loop 8 0 rfl L (fun _ _ _ => rfl) (fun k f hk => by omega) _ _ _
def tkP (ρ s : St) (k : Nat) : St := fun j f => if f < 18 ∧ 18 * j + f < k then ρ j f else s j f
theorem m_takes {i : Nat} {ρ : St} (hz : GZ s) (hi : i ≤ 401) (hr : MR ρ L i) (hd : 2 ≤ d) (Q : nz_h → Prop) : ctV P d 177 [mO, vi (n32 i)] (T, rowf s, L, Z, C) Q = Q (T, rowf (tk ρ), L, Z, C) := by
  obtain ⟨d, rfl⟩ := dge hd
  refine ctV_det (fun Q hq => sm177 ?_) Q
  have loop : ∀ n k, n + k = 144 → nzW P (d + 1) az_k177 2 [some mO, some (vi (n32 i)), some (vi (n32 k))] [] (T, rowf (tkP ρ s k), L, Z, C) (nz_RV Q) := by
    intro n
    induction n with
    | zero =>
      intro k hk
      obtain rfl : k = 144 := by omega
      have e : up (tkP ρ s 144) 13 12 100 = tk ρ := by
        funext j f
        unfold up tkP tk
        by_cases h : j = 13 ∧ f = 12
        · rw [if_pos h, if_neg (by omega), if_pos h]
        · rw [if_neg h]
          by_cases h2 : f < 18 ∧ 18 * j + f < 144
          · rw [if_pos h2, if_pos (by omega)]
          · rw [if_neg h2, if_neg (by omega), if_neg h]; exact hz j f (by omega) h
      refine sg177_2 ?_
      simp (disch := omega) only [decide_eq_true_eq, decide_eq_false_iff_not, L32, az01, b2i_01, b2i_n0, b2i_n1, Bool.and_true, true_and, and_true, Classical.not_not, Bool.not_eq_true, Bool.not_eq_false, n32_mul, n32_add, n32_ix, n32_ib, n32_lt, n32_le, n32_inj, l_hb, l_hb0, l_shl, l_wo, l_eqm1, l_m1eq, uS_row, e]
      exact ⟨fun _ => hq, fun hc => by omega⟩
    | succ n ih =>
      intro k hk
      have e : L 86 (144 * i + k) = n32 (ρ (k / 18) (k % 18)) := by
        have := hr (k / 18) (k % 18) (by omega) (by omega)
        rw [show 144 * i + 18 * (k / 18) + k % 18 = 144 * i + k by omega] at this; exact this
      have e2 : up (tkP ρ s k) (k / 18) (k % 18) (ρ (k / 18) (k % 18)) = tkP ρ s (k + 1) := by
        funext j f
        unfold up tkP
        by_cases h : j = k / 18 ∧ f = k % 18
        · rw [if_pos h, if_pos (by omega), h.1, h.2]
        · rw [if_neg h]
          by_cases h2 : f < 18 ∧ 18 * j + f < k
          · rw [if_pos h2, if_pos (by omega)]
          · rw [if_neg h2, if_neg (by omega)]
      refine sg177_2 ?_
      simp (disch := omega) only [decide_eq_true_eq, decide_eq_false_iff_not, L32, az01, b2i_01, b2i_n0, b2i_n1, Bool.and_true, true_and, and_true, Classical.not_not, Bool.not_eq_true, Bool.not_eq_false, n32_mul, n32_add, n32_ix, n32_ib, n32_lt, n32_le, n32_inj, l_hb, l_hb0, l_shl, l_wo, l_eqm1, l_m1eq, e, uS_row, e2]
      exact ⟨fun hc => by omega, fun _ => ⟨by omega, by omega, ih (k + 1) (by omega)⟩⟩
  have := loop 144 0 rfl
  have e : tkP ρ s 0 = s := by funext j f; unfold tkP; rw [if_neg (by omega)]
  rw [e] at this
  exact this
theorem m_allEnded {i : Nat} {ρ : St} (hi : i ≤ 401) (hr : MR ρ L i) (hb : ∀ j, j < 8 → ρ j 1 < 1000000) (hd : 2 ≤ d) (Q : Int32 → nz_h → Prop) : ctI P d 176 [mO, vi (n32 i)] (T, S, L, Z, C) Q = Q (b2i (!anyB 8 (notE ρ))) (T, S, L, Z, C) := by
  obtain ⟨d, rfl⟩ := dge hd
  refine ctI_det (fun Q hq => sm176 ?_) Q
  have loop : ∀ n j, n + j = 8 → (∀ k, k < j → notE ρ k = false) → nzW P (d + 1) az_k176 2 [some mO, some (vi (n32 i)), some (vi (n32 j))] [] (T, S, L, Z, C) (nz_RI Q) := by
    intro n
    induction n with
    | zero =>
      intro j hj hno
      obtain rfl : j = 8 := by omega
      refine sg176_2 ?_
      simp (disch := omega) only [decide_eq_true_eq, decide_eq_false_iff_not, L32, az01, b2i_01, b2i_n0, b2i_n1, Bool.and_true, true_and, and_true, Classical.not_not, Bool.not_eq_true, Bool.not_eq_false, n32_mul, n32_add, n32_ix, n32_ib, n32_lt, n32_le, n32_inj, l_hb, l_hb0, l_shl, l_wo, l_eqm1, l_m1eq]
      refine ⟨fun _ => ans1 hq ?_, fun hc => by omega⟩
      rw [Bool.not_eq_true']
      cases ha : anyB 8 (notE ρ) with
      | false => rfl
      | true => obtain ⟨k, hk, hp⟩ := anyB_iff.1 ha; rw [hno k hk] at hp; cases hp
    | succ n ih =>
      intro j hj hno
      have e := hr j 1 (by omega) (by omega)
      have hb1 := hb j (by omega)
      refine sg176_2 ?_
      simp (disch := omega) only [decide_eq_true_eq, decide_eq_false_iff_not, L32, az01, b2i_01, b2i_n0, b2i_n1, Bool.and_true, true_and, and_true, Classical.not_not, Bool.not_eq_true, Bool.not_eq_false, n32_mul, n32_add, n32_ix, n32_ib, n32_lt, n32_le, n32_inj, l_hb, l_hb0, l_shl, l_wo, l_eqm1, l_m1eq, e]
      refine ⟨fun hc => by omega, fun _ => ⟨by omega, fun h3 => ih (j + 1) (by omega) (fun k hk => ?_), fun h3 => ans0 hq ?_⟩⟩
      · by_cases hkj : k = j
        · rw [hkj]; unfold notE; rw [decide_eq_true h3]; rfl
        · exact hno k (by omega)
      · rw [Bool.not_eq_false']
        exact anyB_of (k := j) (by omega) (by unfold notE; rw [decide_eq_false h3]; rfl)
  exact loop 8 0 rfl (fun k hk => by omega)
theorem m_isMet {n : Nat} {ρ : Nat → St} (hn : n ≤ 401) (hr : ∀ i, i ≤ n → MR (ρ i) L i) (hb : ∀ i j f, i ≤ n → j < 8 → f < 18 → ρ i j f < 1000000) (hd : 2 ≤ d) (Q : Int32 → nz_h → Prop) : ctI P d 178 [mO, vi (n32 n)] (T, S, L, Z, C) Q = Q (b2i (anyB n (fun i => sameB (ρ i) (ρ n)))) (T, S, L, Z, C) := by
  obtain ⟨d, rfl⟩ := dge hd
  refine ctI_det (fun Q hq => sm178 ?_) Q
  have loop : ∀ r i, r + i = n → (∀ k, k < i → sameB (ρ k) (ρ n) = false) → ∀ l3 l4, nzW P (d + 1) az_k178 2 [some mO, some (vi (n32 n)), some (vi (n32 i)), l3, l4] [] (T, S, L, Z, C) (nz_RI Q) := by
    intro r
    induction r with
    | zero =>
      intro i hi hno l3 l4
      obtain rfl : i = n := by omega
      refine sg178_2 ?_
      simp (disch := omega) only [decide_eq_true_eq, decide_eq_false_iff_not, L32, az01, b2i_01, b2i_n0, b2i_n1, Bool.and_true, true_and, and_true, Classical.not_not, Bool.not_eq_true, Bool.not_eq_false, n32_mul, n32_add, n32_ix, n32_ib, n32_lt, n32_le, n32_inj, l_hb, l_hb0, l_shl, l_wo, l_eqm1, l_m1eq]
      refine ⟨fun _ => ans0 hq ?_, fun hc => by omega⟩
      cases ha : anyB i (fun k => sameB (ρ k) (ρ i)) with
      | false => rfl
      | true => obtain ⟨k, hk, hp⟩ := anyB_iff.1 ha; rw [hno k hk] at hp; cases hp
    | succ r ih =>
      intro i hi hno l3 l4
      have hin : i < n := by omega
      have nxt : sameB (ρ i) (ρ n) = false → ∀ l3 l4, nzW P (d + 1) az_k178 2 [some mO, some (vi (n32 n)), some (vi (n32 (i + 1))), l3, l4] [] (T, S, L, Z, C) (nz_RI Q) := fun hs => ih (i + 1) (by omega) (fun k hk => by
        by_cases hki : k = i
        · rw [hki]; exact hs
        · exact hno k (by omega))
      have l12 : ∀ q k, q + k = 144 → (∀ x, x < k → ρ i (x / 18) (x % 18) = ρ n (x / 18) (x % 18)) → nzW P (d + 1) az_k178 12 [some mO, some (vi (n32 n)), some (vi (n32 i)), some (vi (n32 1)), some (vi (n32 k))] [] (T, S, L, Z, C) (nz_RI Q) := by
        intro q
        induction q with
        | zero =>
          intro k hk he
          obtain rfl : k = 144 := by omega
          refine sg178_12 ?_
          simp (disch := omega) only [decide_eq_true_eq, decide_eq_false_iff_not, L32, az01, b2i_01, b2i_n0, b2i_n1, Bool.and_true, true_and, and_true, Classical.not_not, Bool.not_eq_true, Bool.not_eq_false, n32_mul, n32_add, n32_ix, n32_ib, n32_lt, n32_le, n32_inj, l_hb, l_hb0, l_shl, l_wo, l_eqm1, l_m1eq]
          refine ⟨fun _ => ⟨fun hc => by omega, fun _ => ans1 hq (anyB_of hin (sameB_iff.2 (fun j f hj hf => ?_)))⟩, fun hc => by omega⟩
          have := he (18 * j + f) (by omega)
          rw [show (18 * j + f) / 18 = j by omega, show (18 * j + f) % 18 = f by omega] at this; exact this
        | succ q ihq =>
          intro k hk he
          have rd : ∀ a, a ≤ n → L 86 (144 * a + k) = n32 (ρ a (k / 18) (k % 18)) := fun a ha => by
            have := hr a ha (k / 18) (k % 18) (by omega) (by omega)
            rw [show 144 * a + 18 * (k / 18) + k % 18 = 144 * a + k by omega] at this; exact this
          have b1 := hb i (k / 18) (k % 18) (by omega) (by omega) (by omega)
          have b2 := hb n (k / 18) (k % 18) (by omega) (by omega) (by omega)
          refine sg178_12 ?_
          simp (disch := omega) only [decide_eq_true_eq, decide_eq_false_iff_not, L32, az01, b2i_01, b2i_n0, b2i_n1, Bool.and_true, true_and, and_true, Classical.not_not, Bool.not_eq_true, Bool.not_eq_false, n32_mul, n32_add, n32_ix, n32_ib, n32_lt, n32_le, n32_inj, l_hb, l_hb0, l_shl, l_wo, l_eqm1, l_m1eq, rd i (by omega), rd n (Nat.le_refl _)]
          refine ⟨fun hc => by omega, fun _ => ⟨fun hc => by omega, fun _ => ⟨by omega, by omega, fun hne => ?_, fun he2 => ihq (k + 1) (by omega) (fun x hx => ?_)⟩⟩⟩
          · have hs : sameB (ρ i) (ρ n) = false := by
              cases hs : sameB (ρ i) (ρ n) with
              | false => rfl
              | true => exact absurd (sameB_iff.1 hs (k / 18) (k % 18) (by omega) (by omega)) hne
            refine sg178_12 ?_
            simp (disch := omega) only [decide_eq_true_eq, decide_eq_false_iff_not, L32, az01, b2i_01, b2i_n0, b2i_n1, Bool.and_true, true_and, and_true, Classical.not_not, Bool.not_eq_true, Bool.not_eq_false, n32_mul, n32_add, n32_ix, n32_ib, n32_lt, n32_le, n32_inj, l_hb, l_hb0, l_shl, l_wo, l_eqm1, l_m1eq]
            exact ⟨fun _ => ⟨fun _ => nxt hs _ _, fun hc => (hc trivial).elim⟩, fun _ => ⟨fun _ => ⟨fun _ => nxt hs _ _, fun hc => (hc trivial).elim⟩, fun hc => (hc trivial).elim⟩⟩
          · by_cases hxk : x = k
            · rw [hxk]; exact he2
            · exact he x (by omega)
      refine sg178_2 ?_
      simp (disch := omega) only [decide_eq_true_eq, decide_eq_false_iff_not, L32, az01, b2i_01, b2i_n0, b2i_n1, Bool.and_true, true_and, and_true, Classical.not_not, Bool.not_eq_true, Bool.not_eq_false, n32_mul, n32_add, n32_ix, n32_ib, n32_lt, n32_le, n32_inj, l_hb, l_hb0, l_shl, l_wo, l_eqm1, l_m1eq]
      exact ⟨fun hc => by omega, fun _ => l12 144 0 rfl (fun x hx => by omega)⟩
  exact loop n 0 rfl (fun k hk => by omega) _ _
end
