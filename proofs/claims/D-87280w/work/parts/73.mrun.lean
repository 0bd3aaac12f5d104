/-! the reference's run -/
def asl (t s : St) (m : Nat) : Nat := bits 8 (fun k => decide (s k 1 = 2) && decide (onS t s k = m))
def notE (s : St) (j : Nat) : Bool := !decide (s j 1 = 3)
def RUNL (t s : St) (L L' : nz_f2) : Prop :=
  (∀ a b, a ≠ 65 → a ≠ 66 → a ≠ 80 → a ≠ 93 → a ≠ 94 → ¬ (a = 13 ∧ (b = 13 ∨ b = 32)) → L' a b = L a b) ∧ L' 13 13 = n32 0 ∧
  (∀ b, b < 8 → L' 66 b = n32 (if s b 1 = 3 then t 57 b else s b 0)) ∧ (∀ b, b < 144 → L' 65 b = n32 (s (b / 18) (b % 18))) ∧
  (∀ m, m < 10 → L' 93 m = o2i (slpF t s m 8)) ∧ (∀ m, m < 10 → L' 94 m = n32 (asl t s m)) ∧ L' 13 32 = n32 (rwN t s) ∧ ∀ i, i < rwN t s → L' 80 i = n32 (rwS t s i)
def runA (s : St) (L : nz_f2) : Int32 := cond (anyB 8 (notE s)) (n32 1) (if L 13 26 ≤ n32 0 then n32 0 else n32 2)
section
variable {P : Nat × (Nat → Int32)} {d : Nat} {t s : St} {L Z : nz_f2} {C : nz_f5}
theorem m_runL (hT : TV t) {Q : Int32 → nz_h → Prop} : ∀ n (p : Pr) Z, GI t p → p.2 13 13 ≠ n32 0 → mu p.1 < n →
    (∀ Z' x l4, nzW P (d + 20) az_k114 155 [some mO, x, some (vi (n32 0)), some (vi (n32 0)), l4] [] (rowf t, rowf (runN t n p).1, nz_u2 (runN t n p).2 13 13 (n32 0), Z', C) (nz_RI Q)) →
    ∀ l2 l3 l4, nzW P (d + 20) az_k114 87 [some mO, some (vi (o2i (fst 8 0 (mayS t p.1)))), l2, l3, l4] [] (rowf t, rowf p.1, p.2, Z, C) (nz_RI Q) := by
  intro n
  induction n with
  | zero => intro p Z _ _ h; omega
  | succ n ih =>
    intro p Z h h13 hn hq l2 l3 l4
    obtain ⟨hI, hL, hL2, hL3⟩ := id h
    obtain ⟨g, hg, hgr⟩ := hL2.resolve_left h13
    rw [runN, hg, n32_ix (by omega)] at hq
    have h100 := hT.2.2.2.2.2.2.2.2.2.2.2.1
    have h63 := hT.2.2.2.2.2.2.2.2.2.2.1 g
    refine sg114_87 ?_
    cases hf : fst 8 0 (mayS t p.1) with
    | none =>
      have hp : pickS t g p.1 = none := by unfold pickS; rw [hf]
      rw [hp] at hq
      simp (disch := omega) only [decide_eq_true_eq, decide_eq_false_iff_not, L32, az01, b2i_01, b2i_n0, b2i_n1, Bool.and_true, true_and, and_true, Classical.not_not, Bool.not_eq_true, Bool.not_eq_false, n32_mul, n32_add, n32_ix, n32_ib, n32_lt, n32_le, n32_inj, l_hb, l_hb0, l_shl, l_wo, l_eqm1, l_m1eq, o2i, uL_row]
      exact ⟨fun _ => hq _ _ _, fun hc => (hc trivial).elim⟩
    | some j =>
      have hj := fst_some.1 hf
      have hj8 : j < 8 := by omega
      have go : ∀ x Z, pickS t g p.1 = some x → ctV P (d + 20) 155 [mO, vi (n32 x)] (rowf t, rowf p.1, p.2, Z, C) (fun h1 => ctV P (d + 20) 116 [mO] h1 (fun h2 => ctI P (d + 20) 154 [mO] h2 (fun y1 h3 => nzW P (d + 20) az_k114 87 [some mO, some (vi y1), l2, l3, l4] [] h3 (nz_RI Q)))) := fun x Z hx => by
        obtain ⟨hx8, hm⟩ := pickS_some hT hx
        obtain ⟨c1, c2⟩ := mayS_can hm
        rw [m_grants (L := p.2) hT hI hL hL2 hL3 (by omega) hx8 c1 c2]
        obtain ⟨g1, g2, g3⟩ := h.grant hT hx8 c1 c2
        obtain ⟨s1, s2, s3⟩ := g1.set hT
        refine m_toState (p := grantP t p x) (n := 6000) hT (by omega) g1.1 g1.2.1 g1.fuel (fun Z2 _ _ => ?_)
        refine m_least hT s1.1 (by omega) (fun Z3 => ?_)
        rw [hx] at hq
        exact ih (setP t (grantP t p x)) Z3 s1 (by rw [s3, g3]; exact h13) (by omega) hq _ _ _
      simp (disch := omega) only [decide_eq_true_eq, decide_eq_false_iff_not, L32, az01, b2i_01, b2i_n0, b2i_n1, Bool.and_true, true_and, and_true, Classical.not_not, Bool.not_eq_true, Bool.not_eq_false, n32_mul, n32_add, n32_ix, n32_ib, n32_lt, n32_le, n32_inj, l_hb, l_hb0, l_shl, l_wo, l_eqm1, l_m1eq, o2i, rowf_at, hg]
      refine ⟨fun hc => hc.elim, fun _ => ⟨fun hle => go j Z (by unfold pickS; rw [hf]; simp only; rw [if_neg (by omega)]), fun hlt => ⟨by omega, ?_⟩⟩⟩
      refine m_mayI hT hI (by omega) h63 (fun Z2 => ?_)
      simp (disch := omega) only [decide_eq_true_eq, decide_eq_false_iff_not, L32, az01, b2i_01, b2i_n0, b2i_n1, Bool.and_true, true_and, and_true, Classical.not_not, Bool.not_eq_true, Bool.not_eq_false, n32_mul, n32_add, n32_ix, n32_ib, n32_lt, n32_le, n32_inj, l_hb, l_hb0, l_shl, l_wo, l_eqm1, l_m1eq, rowf_at, hg]
      refine ⟨fun hm => go j Z2 (by unfold pickS; rw [hf]; simp only; rw [if_neg (fun hh => by rw [hm] at hh; cases hh.2)]), fun hm => ⟨by omega, go _ Z2 (by unfold pickS; rw [hf]; simp only; rw [if_pos ⟨by omega, hm⟩])⟩⟩
theorem m_runE (hT : TV t) (hI : INV t s) (h32 : L 13 32 = n32 0) {Q : Int32 → nz_h → Prop}
    (hq : ∀ L' Z', RUNL t s L L' → Q (runA s L) (rowf t, rowf s, L', Z', C)) {x l4 : Option nz_V} : nzW P (d + 20) az_k114 155 [some mO, x, some (vi (n32 0)), some (vi (n32 0)), l4] [] (rowf t, rowf s, nz_u2 L 13 13 (n32 0), Z, C) (nz_RI Q) := by
  have hB := hI.B
  have hlast : ∀ L4 Z4, RUNL t s L L4 → ∀ l4, nzW P (d + 20) az_k114 276 [some mO, x, some (vi (b2i (anyB 8 (notE s)))), some (vi (n32 10)), l4] [] (rowf t, rowf s, L4, Z4, C) (nz_RI Q) := fun L4 Z4 hL4 l4 => by
    have e26 : L4 13 26 = L 13 26 := hL4.1 13 26 (by decide) (by decide) (by decide) (by decide) (by decide) (by omega)
    have hA := hq L4 Z4 hL4
    unfold runA at hA
    refine sg114_276 ?_
    simp (disch := omega) only [decide_eq_true_eq, decide_eq_false_iff_not, L32, az01, b2i_01, b2i_n0, b2i_n1, Bool.and_true, true_and, and_true, Classical.not_not, Bool.not_eq_true, Bool.not_eq_false, n32_mul, n32_add, n32_ix, n32_ib, n32_lt, n32_le, n32_inj, l_hb, l_hb0, l_shl, l_wo, l_eqm1, l_m1eq, e26]
    refine ⟨fun _ => ⟨fun ha => ⟨fun hz => ?_, fun hz => ?_⟩, fun ha => ?_⟩, fun hc => by omega⟩
    · rw [ha, cond_false, if_pos hz] at hA; exact hA
    · rw [ha, cond_false, if_neg hz] at hA; exact hA
    · rw [ha, cond_true] at hA; exact hA
  have l276 : ∀ n m, n + m = 10 → ∀ L3 Z3, (∀ L4, (∀ a b, a ≠ 94 → L4 a b = L3 a b) → (∀ b, b < 10 → L4 94 b = n32 (asl t s b)) → RUNL t s L L4) → (∀ b, b < m → L3 94 b = n32 (asl t s b)) → ∀ l4, nzW P (d + 20) az_k114 276 [some mO, x, some (vi (b2i (anyB 8 (notE s)))), some (vi (n32 m)), l4] [] (rowf t, rowf s, L3, Z3, C) (nz_RI Q) := by
    intro n
    induction n with
    | zero =>
      intro m hm L3 Z3 hfin h94 l4
      obtain rfl : m = 10 := by omega
      exact hlast L3 Z3 (hfin L3 (fun _ _ _ => rfl) h94) l4
    | succ n ih =>
      intro m hm L3 Z3 hfin h94 l4
      have hm10 : m < 10 := by omega
      have inner : ∀ r k, r + k = 8 → ∀ L5, (∀ a b, ¬ (a = 94 ∧ b = m) → L5 a b = L3 a b) → L5 94 m = n32 (bits k (fun k => decide (s k 1 = 2) && decide (onS t s k = m))) → nzW P (d + 20) az_k114 292 [some mO, x, some (vi (b2i (anyB 8 (notE s)))), some (vi (n32 m)), some (vi (n32 k))] [] (rowf t, rowf s, L5, Z3, C) (nz_RI Q) := by
        intro r
        induction r with
        | zero =>
          intro k hk L5 ho h5
          obtain rfl : k = 8 := by omega
          refine sg114_292 ?_
          simp (disch := omega) only [decide_eq_true_eq, decide_eq_false_iff_not, L32, az01, b2i_01, b2i_n0, b2i_n1, Bool.and_true, true_and, and_true, Classical.not_not, Bool.not_eq_true, Bool.not_eq_false, n32_mul, n32_add, n32_ix, n32_ib, n32_lt, n32_le, n32_inj, l_hb, l_hb0, l_shl, l_wo, l_eqm1, l_m1eq]
          refine ⟨fun _ => ?_, fun hc => by omega⟩
          refine ih (m + 1) (by omega) L5 Z3 (fun L4 g1 g2 => hfin L4 (fun a b ha => (g1 a b ha).trans (ho a b (fun hh => ha hh.1))) g2) (fun b hb => ?_) _
          by_cases hbm : b = m
          · rw [hbm]; exact h5
          · rw [ho 94 b (by omega)]; exact h94 b (by omega)
        | succ r ihr =>
          intro k hk L5 ho h5
          have hk8 : k < 8 := by omega
          have set : ∀ v, v = n32 (bits (k + 1) (fun k => decide (s k 1 = 2) && decide (onS t s k = m))) → nzW P (d + 20) az_k114 292 [some mO, x, some (vi (b2i (anyB 8 (notE s)))), some (vi (n32 m)), some (vi (n32 (k + 1)))] [] (rowf t, rowf s, nz_u2 L5 94 m v, Z3, C) (nz_RI Q) := fun v hv => by
            refine ihr (k + 1) (by omega) _ (fun a b hab => ?_) (by rw [u2_eq, hv])
            unfold nz_u2; rw [if_neg hab]; exact ho a b hab
          have hs1 := hB k 1
          refine sg114_292 ?_
          by_cases h2 : s k 1 = 2
          · have hp := hI.av hT hk8 (Or.inr h2)
            have hp0 := hp.1
            have hon : onS t s k < 10 := hp.on hT (((hI.J hk8).2.2.1.2.1 (Or.inl h2)).2.1)
            simp (disch := first | omega | (refine Nat.lt_of_lt_of_le (hB _ _) ?_; omega)) only [decide_eq_true_eq, decide_eq_false_iff_not, L32, az01, b2i_01, b2i_n0, b2i_n1, Bool.and_true, true_and, and_true, Classical.not_not, Bool.not_eq_true, Bool.not_eq_false, n32_mul, n32_add, n32_ix, n32_ib, n32_lt, n32_le, n32_inj, l_hb, l_hb0, l_shl, l_wo, l_eqm1, l_m1eq, m_getr, m_on hB, uL_row, h5, n32_or, Nat.or_zero]
            refine ⟨fun hc => by omega, fun _ => ⟨hm10, fun hc => absurd h2 hc, fun _ => ⟨fun hne => ⟨hm10, set _ ?_⟩, fun he => ⟨hm10, set _ ?_⟩⟩⟩⟩
            · rw [← bits_F (p := fun k => decide (s k 1 = 2) && decide (onS t s k = m)) (by rw [decide_eq_false hne, Bool.and_false])]
            · rw [← bits_T (p := fun k => decide (s k 1 = 2) && decide (onS t s k = m)) (by rw [decide_eq_true h2, decide_eq_true he]; rfl)]
          · simp (disch := first | omega | (refine Nat.lt_of_lt_of_le (hB _ _) ?_; omega)) only [decide_eq_true_eq, decide_eq_false_iff_not, L32, az01, b2i_01, b2i_n0, b2i_n1, Bool.and_true, true_and, and_true, Classical.not_not, Bool.not_eq_true, Bool.not_eq_false, n32_mul, n32_add, n32_ix, n32_ib, n32_lt, n32_le, n32_inj, l_hb, l_hb0, l_shl, l_wo, l_eqm1, l_m1eq, m_getr, uL_row, h5, n32_or, Nat.or_zero]
            refine ⟨fun hc => by omega, fun _ => ⟨hm10, fun _ => ⟨hm10, set _ ?_⟩, fun hc => absurd hc h2⟩⟩
            rw [← bits_F (p := fun k => decide (s k 1 = 2) && decide (onS t s k = m)) (by rw [decide_eq_false h2]; rfl)]
      refine sg114_276 ?_
      simp (disch := omega) only [decide_eq_true_eq, decide_eq_false_iff_not, L32, az01, b2i_01, b2i_n0, b2i_n1, Bool.and_true, true_and, and_true, Classical.not_not, Bool.not_eq_true, Bool.not_eq_false, n32_mul, n32_add, n32_ix, n32_ib, n32_lt, n32_le, n32_inj, l_hb, l_hb0, l_shl, l_wo, l_eqm1, l_m1eq, uL_row]
      refine ⟨fun hc => by omega, fun _ => ⟨hm10, ?_⟩⟩
      refine inner 8 0 rfl _ (fun a b hab => by unfold nz_u2; rw [if_neg hab]) (by rw [u2_eq]; rfl)
  have l251 : ∀ n m, n + m = 10 → ∀ L3 Z3, (∀ L4, (∀ a b, a ≠ 93 → a ≠ 94 → L4 a b = L3 a b) → (∀ b, b < 10 → L4 93 b = o2i (slpF t s b 8)) → (∀ b, b < 10 → L4 94 b = n32 (asl t s b)) → RUNL t s L L4) → (∀ b, b < m → L3 93 b = o2i (slpF t s b 8)) → ∀ l4, nzW P (d + 20) az_k114 251 [some mO, x, some (vi (b2i (anyB 8 (notE s)))), some (vi (n32 m)), l4] [] (rowf t, rowf s, L3, Z3, C) (nz_RI Q) := by
    intro n
    induction n with
    | zero =>
      intro m hm L3 Z3 hfin h93 l4
      obtain rfl : m = 10 := by omega
      refine sg114_251 ?_
      simp (disch := omega) only [decide_eq_true_eq, decide_eq_false_iff_not, L32, az01, b2i_01, b2i_n0, b2i_n1, Bool.and_true, true_and, and_true, Classical.not_not, Bool.not_eq_true, Bool.not_eq_false, n32_mul, n32_add, n32_ix, n32_ib, n32_lt, n32_le, n32_inj, l_hb, l_hb0, l_shl, l_wo, l_eqm1, l_m1eq]
      refine ⟨fun _ => ?_, fun hc => by omega⟩
      exact l276 10 0 rfl L3 Z3 (fun L4 g1 g2 => hfin L4 (fun a b ha hb => g1 a b hb) (fun b hb => by rw [g1 93 b (by decide)]; exact h93 b hb) g2) (fun b hb => by omega) _
    | succ n ih =>
      intro m hm L3 Z3 hfin h93 l4
      refine sg114_251 ?_
      simp (disch := omega) only [decide_eq_true_eq, decide_eq_false_iff_not, L32, az01, b2i_01, b2i_n0, b2i_n1, Bool.and_true, true_and, and_true, Classical.not_not, Bool.not_eq_true, Bool.not_eq_false, n32_mul, n32_add, n32_ix, n32_ib, n32_lt, n32_le, n32_inj, l_hb, l_hb0, l_shl, l_wo, l_eqm1, l_m1eq, m_sleeper hT hI, uL_row]
      refine ⟨fun hc => by omega, fun _ => ⟨by omega, ?_⟩⟩
      refine ih (m + 1) (by omega) _ Z3 (fun L4 g1 g2 g3 => hfin L4 (fun a b ha hb => by rw [g1 a b ha hb, u2_ne ha]) g2 g3) (fun b hb => ?_) _
      rw [u2_at]
      by_cases hbm : b = m
      · rw [if_pos hbm, hbm]
      · rw [if_neg hbm]; exact h93 b (by omega)
  have l224 : ∀ n k, n + k = 144 → ∀ L3 Z3, (∀ L4, (∀ a b, a ≠ 65 → a ≠ 93 → a ≠ 94 → L4 a b = L3 a b) → (∀ b, b < 144 → L4 65 b = n32 (s (b / 18) (b % 18))) → (∀ b, b < 10 → L4 93 b = o2i (slpF t s b 8)) → (∀ b, b < 10 → L4 94 b = n32 (asl t s b)) → RUNL t s L L4) → (∀ b, b < k → L3 65 b = n32 (s (b / 18) (b % 18))) → ∀ l4, nzW P (d + 20) az_k114 224 [some mO, x, some (vi (b2i (anyB 8 (notE s)))), some (vi (n32 k)), l4] [] (rowf t, rowf s, L3, Z3, C) (nz_RI Q) := by
    intro n
    induction n with
    | zero =>
      intro k hk L3 Z3 hfin h65 l4
      obtain rfl : k = 144 := by omega
      refine sg114_224 ?_
      simp (disch := omega) only [decide_eq_true_eq, decide_eq_false_iff_not, L32, az01, b2i_01, b2i_n0, b2i_n1, Bool.and_true, true_and, and_true, Classical.not_not, Bool.not_eq_true, Bool.not_eq_false, n32_mul, n32_add, n32_ix, n32_ib, n32_lt, n32_le, n32_inj, l_hb, l_hb0, l_shl, l_wo, l_eqm1, l_m1eq]
      refine ⟨fun _ => ?_, fun hc => by omega⟩
      exact l251 10 0 rfl L3 Z3 (fun L4 g1 g2 g3 => hfin L4 (fun a b _ ha hb => g1 a b ha hb) (fun b hb => by rw [g1 65 b (by decide) (by decide)]; exact h65 b hb) g2 g3) (fun b hb => by omega) _
    | succ n ih =>
      intro k hk L3 Z3 hfin h65 l4
      refine sg114_224 ?_
      simp (disch := omega) only [decide_eq_true_eq, decide_eq_false_iff_not, L32, az01, b2i_01, b2i_n0, b2i_n1, Bool.and_true, true_and, and_true, Classical.not_not, Bool.not_eq_true, Bool.not_eq_false, n32_mul, n32_add, n32_ix, n32_ib, n32_lt, n32_le, n32_inj, l_hb, l_hb0, l_shl, l_wo, l_eqm1, l_m1eq, uL_row, rowf_at]
      refine ⟨fun hc => by omega, fun _ => ⟨by omega, by omega, ?_⟩⟩
      refine ih (k + 1) (by omega) _ Z3 (fun L4 g1 g2 g3 g4 => hfin L4 (fun a b ha hb hc => by rw [g1 a b ha hb hc, u2_ne ha]) g2 g3 g4) (fun b hb => ?_) _
      rw [u2_at]
      by_cases hbm : b = k
      · rw [if_pos hbm, hbm]
      · rw [if_neg hbm]; exact h65 b (by omega)
  have fin : ∀ L3, (∀ a b, a ≠ 66 → a ≠ 80 → ¬ (a = 13 ∧ (b = 13 ∨ b = 32)) → L3 a b = L a b) → L3 13 13 = n32 0 → (∀ b, b < 8 → L3 66 b = n32 (if s b 1 = 3 then t 57 b else s b 0)) → L3 13 32 = n32 (rwN t s) → (∀ i, i < rwN t s → L3 80 i = n32 (rwS t s i)) → ∀ Z3 l4, nzW P (d + 20) az_k114 224 [some mO, x, some (vi (b2i (anyB 8 (notE s)))), some (vi (n32 0)), l4] [] (rowf t, rowf s, L3, Z3, C) (nz_RI Q) := fun L3 g1 g2 g3 g4 g5 Z3 l4 =>
    l224 144 0 rfl L3 Z3 (fun L4 f1 f2 f3 f4 => ⟨fun a b a1 a2 a3 a4 a5 a6 => (f1 a b a1 a4 a5).trans (g1 a b a2 a3 a6), (f1 13 13 (by decide) (by decide) (by decide)).trans g2, fun b hb => (f1 66 b (by decide) (by decide) (by decide)).trans (g3 b hb), f2, f3, f4, (f1 13 32 (by decide) (by decide) (by decide)).trans g4, fun i hi => (f1 80 i (by decide) (by decide) (by decide)).trans (g5 i hi)⟩) (fun b hb => by omega) l4
  have l155 : ∀ n k, n + k = 8 → ∀ L3, (∀ a b, a ≠ 66 → L3 a b = nz_u2 L 13 13 (n32 0) a b) → (∀ b, b < k → L3 66 b = n32 (if s b 1 = 3 then t 57 b else s b 0)) → nzW P (d + 20) az_k114 155 [some mO, x, some (vi (b2i (anyB k (notE s)))), some (vi (n32 k)), l4] [] (rowf t, rowf s, L3, Z, C) (nz_RI Q) := by
    intro n
    induction n with
    | zero =>
      intro k hk L3 ho h66
      obtain rfl : k = 8 := by omega
      have o1 : ∀ a b, a ≠ 66 → ¬ (a = 13 ∧ b = 13) → L3 a b = L a b := fun a b h1 h2 => by rw [ho a b h1]; unfold nz_u2; rw [if_neg h2]
      have o2 : L3 13 13 = n32 0 := by rw [ho 13 13 (by decide), u2_eq]
      have o3 : L3 13 32 = n32 0 := (o1 13 32 (by decide) (by omega)).trans h32
      refine sg114_155 ?_
      simp (disch := omega) only [decide_eq_true_eq, decide_eq_false_iff_not, L32, az01, b2i_01, b2i_n0, b2i_n1, Bool.and_true, true_and, and_true, Classical.not_not, Bool.not_eq_true, Bool.not_eq_false, n32_mul, n32_add, n32_ix, n32_ib, n32_lt, n32_le, n32_inj, l_hb, l_hb0, l_shl, l_wo, l_eqm1, l_m1eq]
      refine ⟨fun _ => ⟨fun ha => ?_, fun ha => ?_⟩, fun hc => by omega⟩
      · have e : rwN t s = 0 := rwN_0 (fun j hj => by
          apply Classical.byContradiction
          intro hne
          rw [anyB_of hj (show notE s j = true by unfold notE; rw [decide_eq_false hne]; rfl)] at ha
          cases ha)
        exact fin L3 (fun a b h1 h2 h3 => o1 a b h1 (fun hh => h3 ⟨hh.1, Or.inl hh.2⟩)) o2 h66 (by rw [e]; exact o3) (fun i hi => by omega) Z _
      · refine m_rings hT hI (by omega) (fun L4 Z4 g1 g2 g3 g4 => ?_)
        refine fin L4 (fun a b h1 h2 h3 => (g1 a b h2 (fun hh => h3 ⟨hh.1, Or.inr hh.2⟩)).trans (o1 a b h1 (fun hh => h3 ⟨hh.1, Or.inl hh.2⟩))) ((g1 13 13 (by decide) (by omega)).trans o2) (fun b hb => (g1 66 b (by decide) (by omega)).trans (h66 b hb)) ?_ g4 Z4 _
        cases hw : whoF t s 8 with
        | none => rw [g2 hw, o3]; unfold rwN; rw [hw]
        | some w => exact g3 (by rw [hw]; simp)
    | succ n ih =>
      intro k hk L3 ho h66
      have hk8 : k < 8 := by omega
      have nx : ∀ v y, v = n32 (if s k 1 = 3 then t 57 k else s k 0) → y = b2i (anyB (k + 1) (notE s)) → nzW P (d + 20) az_k114 155 [some mO, x, some (vi y), some (vi (n32 (k + 1))), l4] [] (rowf t, rowf s, nz_u2 L3 66 k v, Z, C) (nz_RI Q) := fun v y hv hy => by
        rw [hy]
        refine ih (k + 1) (by omega) _ (fun a b ha => by rw [u2_ne ha]; exact ho a b ha) (fun b hb => ?_)
        rw [u2_at]
        by_cases hbk : b = k
        · rw [if_pos hbk, hv, hbk]
        · rw [if_neg hbk]; exact h66 b (by omega)
      refine sg114_155 ?_
      by_cases h3 : s k 1 = 3
      · have en : notE s k = false := by unfold notE; rw [decide_eq_true h3]; rfl
        have nx2 := nx (n32 (t 57 k)) (b2i (anyB k (notE s))) (by rw [if_pos h3]) (by rw [anyB_F en])
        simp (disch := first | omega | (refine Nat.lt_of_lt_of_le (hB _ _) ?_; omega)) only [decide_eq_true_eq, decide_eq_false_iff_not, L32, az01, b2i_01, b2i_n0, b2i_n1, Bool.and_true, true_and, and_true, Classical.not_not, Bool.not_eq_true, Bool.not_eq_false, n32_mul, n32_add, n32_ix, n32_ib, n32_lt, n32_le, n32_inj, l_hb, l_hb0, l_shl, l_wo, l_eqm1, l_m1eq, m_isLeft hB, m_getr, uL_row, rowf_at, h3, not_true_eq_false, not_false_eq_true, decide_true, Bool.not_true]
        refine ⟨fun hc => by omega, fun _ => ⟨fun ha => ⟨fun _ => ⟨hk8, hk8, ?_⟩, fun hc => (by cases hc)⟩, fun ha => ⟨fun _ => ⟨fun _ => ⟨hk8, hk8, ?_⟩, fun hc => (by cases hc)⟩, fun hc => (by cases hc)⟩⟩⟩
        · rw [ha] at nx2; exact nx2
        · rw [ha] at nx2; exact nx2
      · have en : notE s k = true := by unfold notE; rw [decide_eq_false h3]; rfl
        have nx2 := nx (n32 (s k 0)) (n32 1) (by rw [if_neg h3]) (by rw [anyB_T en]; rfl)
        simp (disch := first | omega | (refine Nat.lt_of_lt_of_le (hB _ _) ?_; omega)) only [decide_eq_true_eq, decide_eq_false_iff_not, L32, az01, b2i_01, b2i_n0, b2i_n1, Bool.and_true, true_and, and_true, Classical.not_not, Bool.not_eq_true, Bool.not_eq_false, n32_mul, n32_add, n32_ix, n32_ib, n32_lt, n32_le, n32_inj, l_hb, l_hb0, l_shl, l_wo, l_eqm1, l_m1eq, m_isLeft hB, m_getr, uL_row, rowf_at, h3, decide_false, Bool.not_false]
        refine ⟨fun hc => by omega, fun _ => ⟨fun ha => ⟨fun hc => (by cases hc), fun _ => ⟨hk8, nx2⟩⟩, fun ha => ⟨fun hc => (by cases hc), fun _ => ⟨fun hc => (by cases hc), fun _ => ⟨hk8, nx2⟩⟩⟩⟩⟩
  exact l155 8 0 rfl _ (fun _ _ _ => rfl) (fun b hb => by omega)
theorem m_run (hT : TV t) (hB : ∀ j f, s j f < 1000000) (h3 : LI3 L) (hd : 21 ≤ d) {Q : Int32 → nz_h → Prop}
    (hq : ∀ L' Z', RUNL t (runP t s L).1 (runP t s L).2 L' → Q (runA (runP t s L).1 (runP t s L).2) (rowf t, rowf (runP t s L).1, L', Z', C)) : ctI P d 114 [mO] (rowf t, rowf s, L, Z, C) Q := by
  obtain ⟨d, rfl⟩ := dge hd
  refine sm114 ?_
  have hg := beg_GI (t := t) hB h3
  obtain ⟨s1, s2, s3⟩ := hg.set hT
  obtain ⟨r1, r2, r3⟩ := runP_inv (t := t) (s := s) (L := L) hT hB h3
  have h32 : (runP t s L).2 13 32 = n32 0 := by
    unfold runP
    rw [run_keep (by unfold keepL; omega) (by omega) (by omega)]
    have e : (setP t (begS s, begL L)).2 13 32 = begL L 13 32 := setN_keep (by unfold keepL; omega) 6000 _
    rw [e]; unfold begL; rw [if_neg (by omega), if_pos (by omega)]
  have loop : ∀ n k, n + k = 8 → ∀ L1, (∀ a b, ¬ (67 ≤ a ∧ a ≤ 71 ∧ b < 8) → L1 a b = begL L a b) → (∀ a b, 67 ≤ a → a ≤ 71 → b < k → L1 a b = n32 0) → ∀ l2 l3 l4, nzW P (d + 20) az_k114 31 [some mO, some (vi (n32 k)), l2, l3, l4] [] (rowf t, rowf (begS s), L1, Z, C) (nz_RI Q) := by
    intro n
    induction n with
    | zero =>
      intro k hk L1 h1 h2 l2 l3 l4
      obtain rfl : k = 8 := by omega
      have e : L1 = begL L := by
        funext a b
        by_cases hc : 67 ≤ a ∧ a ≤ 71 ∧ b < 8
        · rw [h2 a b hc.1 hc.2.1 hc.2.2]; unfold begL; rw [if_neg (by omega), if_neg (by omega), if_pos hc]
        · exact h1 a b hc
      subst e
      refine sg114_31 ?_
      simp (disch := omega) only [decide_eq_true_eq, decide_eq_false_iff_not, L32, az01, b2i_01, b2i_n0, b2i_n1, Bool.and_true, true_and, and_true, Classical.not_not, Bool.not_eq_true, Bool.not_eq_false, n32_mul, n32_add, n32_ix, n32_ib, n32_lt, n32_le, n32_inj, l_hb, l_hb0, l_shl, l_wo, l_eqm1, l_m1eq]
      refine ⟨fun _ => ?_, fun hc => by omega⟩
      refine m_toState (p := (begS s, begL L)) (n := 6000) hT (by omega) hg.1 hg.2.1 hg.fuel (fun Z2 _ _ => ?_)
      refine m_least hT s1.1 (by omega) (fun Z3 => ?_)
      refine m_runL (d := d) hT 6000 (setP t (begS s, begL L)) Z3 s1 ?_ s1.fuel (fun Z4 x l4 => ?_) _ _ _
      · rw [s3]
        show begL L 13 13 ≠ n32 0
        unfold begL; rw [if_pos (by omega)]; decide
      · exact m_runE hT r1.1 h32 hq
    | succ n ih =>
      intro k hk L1 h1 h2 l2 l3 l4
      refine sg114_31 ?_
      simp (disch := omega) only [decide_eq_true_eq, decide_eq_false_iff_not, L32, az01, b2i_01, b2i_n0, b2i_n1, Bool.and_true, true_and, and_true, Classical.not_not, Bool.not_eq_true, Bool.not_eq_false, n32_mul, n32_add, n32_ix, n32_ib, n32_lt, n32_le, n32_inj, l_hb, l_hb0, l_shl, l_wo, l_eqm1, l_m1eq, uL_row]
      refine ⟨fun hc => by omega, fun _ => ⟨by omega, by omega, by omega, by omega, by omega, ?_⟩⟩
      refine ih (k + 1) (by omega) _ (fun a b hab => ?_) (fun a b h67 h71 hb => ?_) _ _ _
      · unfold nz_u2
        rw [if_neg (by omega), if_neg (by omega), if_neg (by omega), if_neg (by omega), if_neg (by omega)]
        exact h1 a b hab
      · by_cases hbk : b = k
        · rw [hbk]
          have : a = 67 ∨ a = 68 ∨ a = 69 ∨ a = 70 ∨ a = 71 := by omega
          rcases this with rfl | rfl | rfl | rfl | rfl <;> simp (disch := decide) only [u2_ne, u2_eq]
        · unfold nz_u2
          rw [if_neg (by omega), if_neg (by omega), if_neg (by omega), if_neg (by omega), if_neg (by omega)]
          exact h2 a b h67 h71 (by omega)
  simp (disch := omega) only [decide_eq_true_eq, decide_eq_false_iff_not, L32, az01, b2i_01, b2i_n0, b2i_n1, Bool.and_true, true_and, and_true, Classical.not_not, Bool.not_eq_true, Bool.not_eq_false, n32_mul, n32_add, n32_ix, n32_ib, n32_lt, n32_le, n32_inj, l_hb, l_hb0, l_shl, l_wo, l_eqm1, l_m1eq, uL_row, m_begin]
  refine loop 8 0 rfl _ (fun a b hab => ?_) (fun a b _ _ hb => by omega) _ _ _
  unfold nz_u2 begL
  by_cases h13 : a = 13
  · subst h13
    simp only [true_and]
    by_cases b32 : b = 32
    · subst b32; rfl
    · by_cases b26 : b = 26
      · subst b26; rfl
      · by_cases b22 : b = 22
        · subst b22; rfl
        · by_cases b14 : b = 14
          · subst b14; rfl
          · by_cases b13 : b = 13
            · subst b13; rfl
            · rw [if_neg b32, if_neg b26, if_neg b22, if_neg b14, if_neg b13, if_neg (by omega), if_neg (by omega), if_neg (by omega)]
  · rw [if_neg (by omega), if_neg (by omega), if_neg (by omega), if_neg (by omega), if_neg (by omega), if_neg (by omega), if_neg (by omega), if_neg hab]
end
