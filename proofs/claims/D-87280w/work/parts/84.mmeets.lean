/-! the reference's search -/
theorem cnt_0 {p : Nat → Bool} : ∀ n, cnt n p = 0 ↔ anyB n p = false := by
  intro n
  induction n with
  | zero => exact ⟨fun _ => rfl, fun _ => rfl⟩
  | succ n ih =>
    cases h : p n with
    | true => rw [cnt_T h, anyB_T h]; simp
    | false => rw [cnt_F h, anyB_F h]; exact ih
theorem anyB_or {p : Nat → Bool} {n : Nat} : anyB (n + 1) p = (anyB n p || p n) := by rw [anyB]
def FL (L L' : nz_f2) : Prop := ∀ a b, a ≠ 86 → a ≠ 87 → a ≠ 88 → ¬ (a = 13 ∧ (b = 40 ∨ b = 56 ∨ b = 57)) → L' a b = L a b
theorem FL.trans {L L1 L2 : nz_f2} (h1 : FL L L1) (h2 : FL L1 L2) : FL L L2 := fun a b x y z w => (h2 a b x y z w).trans (h1 a b x y z w)
theorem FL.up {L L1 : nz_f2} {a b : Nat} {v : Int32} (h : FL L L1) (hw : a = 86 ∨ a = 87 ∨ a = 88 ∨ (a = 13 ∧ (b = 40 ∨ b = 56 ∨ b = 57))) : FL L (nz_u2 L1 a b v) := fun x y h1 h2 h3 h4 => by
  unfold nz_u2
  rw [if_neg (by omega)]; exact h x y h1 h2 h3 h4
def MS (A : Sch) (L : nz_f2) : Prop := (∀ i, i < A.1 → MR (A.2.1 i) L i) ∧ L 13 40 = n32 A.1 ∧ L 87 0 = nm1 ∧ (∀ i, 0 < i → i < A.1 → L 87 i = n32 (A.2.2.1 i) ∧ L 88 i = n32 (A.2.2.2 i)) ∧ L 13 56 = b2i (endA A)
def newB (t : St) (A : Sch) (k : Nat) : Bool := mayS t (tk (A.2.1 (k / 8))) (k % 8) && !metB A (newR t (A.2.1 (k / 8)) (k % 8))
/-- the search goes on as told till here -/
def vis (t : St) (e : Bool) (most k : Nat) : Prop := ∀ k', k' < k → k' / 8 < (seqA t k').1 ∧ ¬ (e = true ∧ endA (seqA t k') = true) ∧ ¬ (newB t (seqA t k') k' = true ∧ (seqA t k').1 = most)
section
variable {P : Nat × (Nat → Int32)} {d : Nat} {t s : St} {L Z : nz_f2} {C : nz_f5} {j : Nat}
theorem vis_n {e : Bool} {most : Nat} (hm : 1 ≤ most) : ∀ k, vis t e most k → (seqA t k).1 ≤ most := by
  intro k
  induction k with
  | zero => intro _; exact hm
  | succ k ih =>
    intro hv
    have h1 := ih (fun k' hk' => hv k' (by omega))
    have h2 := (hv k (by omega)).2.2
    rw [seqA]
    rcases stepA_cases (t := t) (j := k % 8) (seqA t k) (k / 8) with h | ⟨a, b, h⟩
    · rw [h]; exact h1
    · rw [h]
      show (seqA t k).1 + 1 ≤ most
      have hne : (seqA t k).1 ≠ most := fun he => h2 ⟨by unfold newB; rw [a, b]; rfl, he⟩
      omega
theorem endA_push {A : Sch} {ρ : St} {i : Nat} : endA (pushA A ρ i j) = (endA A || endR ρ) := by
  show anyB (A.1 + 1) (fun x => endR (updN A.2.1 A.1 ρ x)) = _
  rw [anyB_or]
  simp only [updN_eq]
  congr 1
  exact anyB_congr (fun k hk => by rw [updN_ne (by omega)])
theorem KR.b (h : KR t s) {f : Nat} (hj : j < 8) (hf : f < 18) : s j f < 1000000 := h.B hj hf
theorem m_meetsL {e : Bool} {most : Nat} (hT : TV t) (h0 : L 13 13 = n32 0) (h3 : LI3 L) (h1m : 1 ≤ most) (hm : most ≤ 401) {Q : Int32 → nz_h → Prop}
    (hE : ∀ k L' Z' s', vis t e most k → FL L L' → MS (seqA t k) L' → (e = false → L' 13 57 = b2i (anyB (k / 8) (fun i => stuckR t ((seqA t k).2.1 i)))) → GZ s' → (∀ j f, s' j f < 1000000) → (k % 8 = 0 ∧ (seqA t k).1 ≤ k / 8) ∨ (e = true ∧ endA (seqA t k) = true) → Q (n32 0) (rowf t, rowf s', L', Z', C))
    (hM : ∀ k L' Z' s', vis t e most k → k / 8 < (seqA t k).1 → ¬ (e = true ∧ endA (seqA t k) = true) → FL L L' → MS (seqA t k) L' → (e = false → L' 13 57 = b2i (anyB (k / 8) (fun i => stuckR t ((seqA t k).2.1 i)))) → GZ s' → (∀ j f, s' j f < 1000000) → newB t (seqA t k) k = true → (seqA t k).1 = most → Q (n32 1) (rowf t, rowf s', L', Z', C)) :
    ∀ f k, f + k = 3216 → vis t e most k → k / 8 < (seqA t k).1 → ∀ L1 Z1 s1, FL L L1 → MS (seqA t k) L1 → L1 13 57 = b2i (anyB (k / 8) (fun i => stuckR t ((seqA t k).2.1 i))) → GZ s1 → (∀ j f, s1 j f < 1000000) →
      nzW P (d + 20) az_k174 66 [some mO, some (vi (n32 most)), some (vi (b2i e)), some (vi (n32 (k / 8))), some (vi (n32 (cnt (k % 8) (mayS t (tk ((seqA t k).2.1 (k / 8))))))), some (vi (n32 (k % 8)))] [] (rowf t, rowf s1, L1, Z1, C) (nz_RI Q) := by
  intro f
  induction f with
  | zero =>
    intro k hk hv hin
    have := vis_n h1m k hv
    omega
  | succ f ih =>
    intro k hk hv hin L1 Z1 s1 hF hS h57 hz hb
    have hn := vis_n h1m k hv
    have hKR := seqA_KR (t := t) hT k
    obtain ⟨m1, m2, m3, m4, m5⟩ := hS
    -- the end of a line of grants; then the next state
    have b41 : ∀ K L2 Z2 s2, vis t e most K → K % 8 = 0 → (K / 8 < (seqA t K).1 → ¬ (e = true ∧ endA (seqA t K) = true) → nzW P (d + 20) az_k174 66 [some mO, some (vi (n32 most)), some (vi (b2i e)), some (vi (n32 (K / 8))), some (vi (n32 0)), some (vi (n32 0))] [] (rowf t, rowf s2, L2, Z2, C) (nz_RI Q)) → FL L L2 → MS (seqA t K) L2 → (e = false → L2 13 57 = b2i (anyB (K / 8) (fun i => stuckR t ((seqA t K).2.1 i)))) → GZ s2 → (∀ j f, s2 j f < 1000000) → K ≤ 3216 → ∀ l4 l5, nzW P (d + 20) az_k174 41 [some mO, some (vi (n32 most)), some (vi (b2i e)), some (vi (n32 (K / 8))), l4, l5] [] (rowf t, rowf s2, L2, Z2, C) (nz_RI Q) := fun K L2 Z2 s2 hvK hK8 hgo hF2 hS2 h572 hz2 hb2 hK l4 l5 => by
      have hnK := vis_n h1m K hvK
      have e40 := hS2.2.1
      have e56 := hS2.2.2.2.2
      refine sg174_41 ?_
      simp (disch := omega) only [decide_eq_true_eq, decide_eq_false_iff_not, L32, az01, b2i_01, b2i_n0, b2i_n1, Bool.and_true, true_and, and_true, Classical.not_not, Bool.not_eq_true, Bool.not_eq_false, n32_mul, n32_add, n32_ix, n32_ib, n32_lt, n32_le, n32_inj, l_hb, l_hb0, l_shl, l_wo, l_eqm1, l_m1eq, e40, e56]
      refine ⟨fun hle => hE K L2 Z2 s2 hvK hF2 hS2 h572 hz2 hb2 (Or.inl ⟨hK8, hle⟩), fun hlt => ⟨fun he => hgo (by omega) (fun hh => by rw [he] at hh; cases hh.1), fun he => ⟨fun hend => hE K L2 Z2 s2 hvK hF2 hS2 h572 hz2 hb2 (Or.inr ⟨he, hend⟩), fun hend => hgo (by omega) (fun hh => by rw [hend] at hh; cases hh.2)⟩⟩⟩
    by_cases hend : e = true ∧ endA (seqA t k) = true
    · -- it stops here
      have out : ∀ v, ∀ l4 l5, nzW P (d + 20) az_k174 41 [some mO, some (vi (n32 most)), some (vi (b2i e)), some (vi (n32 (k / 8 + 1))), l4, l5] [] (rowf t, rowf s1, nz_u2 L1 13 57 v, Z1, C) (nz_RI Q) := fun v l4 l5 => by
        have e40 : nz_u2 L1 13 57 v 13 40 = n32 (seqA t k).1 := by unfold nz_u2; rw [if_neg (by omega)]; exact m2
        have e56 : nz_u2 L1 13 57 v 13 56 = b2i (endA (seqA t k)) := by unfold nz_u2; rw [if_neg (by omega)]; exact m5
        have hS2 : MS (seqA t k) (nz_u2 L1 13 57 v) := ⟨fun i hi j f hj hf => by rw [u2_ne (by decide)]; exact m1 i hi j f hj hf, e40, by rw [u2_ne (by decide)]; exact m3, fun i h1 h2 => by rw [u2_ne (by decide), u2_ne (by decide)]; exact m4 i h1 h2, e56⟩
        have q := hE k _ Z1 s1 hv (hF.up (by omega)) hS2 (fun hf => by rw [hf] at hend; cases hend.1) hz hb (Or.inr hend)
        refine sg174_41 ?_
        rw [hend.2] at e56
        rw [hend.1]
        simp (disch := omega) only [decide_eq_true_eq, decide_eq_false_iff_not, L32, az01, b2i_01, b2i_n0, b2i_n1, Bool.and_true, true_and, and_true, Classical.not_not, Bool.not_eq_true, Bool.not_eq_false, n32_mul, n32_add, n32_ix, n32_ib, n32_lt, n32_le, n32_inj, l_hb, l_hb0, l_shl, l_wo, l_eqm1, l_m1eq, e40, e56]
        exact ⟨fun _ => q, fun _ => ⟨fun hc => (by cases hc), fun _ => ⟨fun _ => q, fun hc => (hc trivial).elim⟩⟩⟩
      refine sg174_66 ?_
      have me := m_allEnded (P := P) (d := d + 20) (T := rowf t) (S := rowf s1) (Z := Z1) (C := C) (i := k / 8) (ρ := (seqA t k).2.1 (k / 8)) (by omega) (m1 (k / 8) hin) (fun j hj => (hKR (k / 8)).B hj (by omega)) (by omega)
      rw [hend.2] at m5
      rw [hend.1] at out ⊢
      simp (disch := omega) only [decide_eq_true_eq, decide_eq_false_iff_not, L32, az01, b2i_01, b2i_n0, b2i_n1, Bool.and_true, true_and, and_true, Classical.not_not, Bool.not_eq_true, Bool.not_eq_false, n32_mul, n32_add, n32_ix, n32_ib, n32_lt, n32_le, n32_inj, l_hb, l_hb0, l_shl, l_wo, l_eqm1, l_m1eq, m5, h57, uL_row, me]
      refine ⟨fun hc => by omega, fun _ => ⟨fun hc => (by cases hc), fun _ => ⟨fun _ => ⟨fun _ => out _ _ _, fun _ => ⟨fun _ => out _ _ _, fun _ => ⟨fun _ => out _ _ _, fun _ => out _ _ _⟩⟩⟩, fun hc => (hc trivial).elim⟩⟩⟩
    · -- a grant is tried
      have hj8 : k % 8 < 8 := by omega
      have hk8 : k / 8 ≤ 401 := by omega
      -- what comes next
      have next : ∀ c L2 Z2 s2, c = n32 (cnt (k % 8 + 1) (mayS t (tk ((seqA t k).2.1 (k / 8))))) → vis t e most (k + 1) → FL L L2 → MS (seqA t (k + 1)) L2 → L2 13 57 = b2i (anyB (k / 8) (fun i => stuckR t ((seqA t k).2.1 i))) → GZ s2 → (∀ j f, s2 j f < 1000000) → nzW P (d + 20) az_k174 66 [some mO, some (vi (n32 most)), some (vi (b2i e)), some (vi (n32 (k / 8))), some (vi c), some (vi (n32 (k % 8 + 1)))] [] (rowf t, rowf s2, L2, Z2, C) (nz_RI Q) := fun c L2 Z2 s2 hc hv2 hF2 hS2 h572 hz2 hb2 => by
        rw [hc]
        have row : ∀ i, i < (seqA t k).1 → (seqA t (k + 1)).2.1 i = (seqA t k).2.1 i := fun i hi => by
          rw [seqA]
          rcases stepA_cases (t := t) (j := k % 8) (seqA t k) (k / 8) with h | ⟨_, _, h⟩
          · rw [h]
          · rw [h]; exact (push_row hi).1
        have nle : (seqA t k).1 ≤ (seqA t (k + 1)).1 := by
          rw [seqA]
          rcases stepA_cases (t := t) (j := k % 8) (seqA t k) (k / 8) with h | ⟨_, _, h⟩
          · rw [h]; exact Nat.le_refl _
          · rw [h]; show (seqA t k).1 ≤ (seqA t k).1 + 1; omega
        have stk : ∀ n, n ≤ (seqA t k).1 → anyB n (fun i => stuckR t ((seqA t (k + 1)).2.1 i)) = anyB n (fun i => stuckR t ((seqA t k).2.1 i)) := fun n hn => anyB_congr (fun i hi => by rw [row i (by omega)])
        by_cases hj7 : k % 8 = 7
        · have hkk : (k + 1) / 8 = k / 8 + 1 := by omega
          have hkm : (k + 1) % 8 = 0 := by omega
          obtain ⟨g1, g2, g3, g4, g5⟩ := hS2
          have fin : ∀ b : Bool, b = anyB (k / 8 + 1) (fun i => stuckR t ((seqA t k).2.1 i)) → ∀ l4 l5, nzW P (d + 20) az_k174 41 [some mO, some (vi (n32 most)), some (vi (b2i e)), some (vi (n32 (k / 8 + 1))), l4, l5] [] (rowf t, rowf s2, nz_u2 L2 13 57 (b2i b), Z2, C) (nz_RI Q) := fun b hb l4 l5 => by
            have hS3 : MS (seqA t (k + 1)) (nz_u2 L2 13 57 (b2i b)) := ⟨fun i hi j f hj hf => by rw [u2_ne (by decide)]; exact g1 i hi j f hj hf, by unfold nz_u2; rw [if_neg (by omega)]; exact g2, by rw [u2_ne (by decide)]; exact g3, fun i h1 h2 => by rw [u2_ne (by decide), u2_ne (by decide)]; exact g4 i h1 h2, by unfold nz_u2; rw [if_neg (by omega)]; exact g5⟩
            have h573 : nz_u2 L2 13 57 (b2i b) 13 57 = b2i (anyB ((k + 1) / 8) (fun i => stuckR t ((seqA t (k + 1)).2.1 i))) := by
              rw [u2_eq, hb, hkk, stk (k / 8 + 1) (by omega)]
            have := b41 (k + 1) (nz_u2 L2 13 57 (b2i b)) Z2 s2 hv2 hkm (fun hin2 _ => by
              have := ih (k + 1) (by omega) hv2 hin2 _ Z2 s2 (hF2.up (by omega)) hS3 h573 hz2 hb2
              rw [hkm] at this
              exact this) (hF2.up (by omega)) hS3 (fun _ => h573) hz2 hb2 (by omega) l4 l5
            rw [hkk] at this
            exact this
          rw [hj7]
          simp only [Nat.reduceAdd]
          have me := m_allEnded (P := P) (d := d + 20) (T := rowf t) (S := rowf s2) (Z := Z2) (C := C) (i := k / 8) (ρ := (seqA t (k + 1)).2.1 (k / 8)) (by omega) (g1 (k / 8) (by omega)) (fun j hj => (seqA_KR (t := t) hT (k + 1) (k / 8)).B hj (by omega)) (by omega)
          rw [row (k / 8) hin] at me
          have c8 := cnt_0 (p := mayS t (tk ((seqA t k).2.1 (k / 8)))) 8
          have cl := cnt_le 8 (mayS t (tk ((seqA t k).2.1 (k / 8))))
          refine sg174_66 ?_
          simp (disch := omega) only [decide_eq_true_eq, decide_eq_false_iff_not, L32, az01, b2i_01, b2i_n0, b2i_n1, Bool.and_true, true_and, and_true, Classical.not_not, Bool.not_eq_true, Bool.not_eq_false, n32_mul, n32_add, n32_ix, n32_ib, n32_lt, n32_le, n32_inj, l_hb, l_hb0, l_shl, l_wo, l_eqm1, l_m1eq, h572, uL_row, me]
          refine ⟨fun _ => ⟨fun ha => fin true ?_ _ _, fun ha => ⟨fun hc => fin false ?_ _ _, fun hc => ⟨fun he => fin false ?_ _ _, fun he => fin true ?_ _ _⟩⟩⟩, fun hc => by omega⟩
          · rw [anyB_or, ha, Bool.true_or]
          · rw [anyB_or, ha, Bool.false_or]
            unfold stuckR
            cases ha8 : anyB 8 (mayS t (tk ((seqA t k).2.1 (k / 8)))) with
            | true => rfl
            | false => exact absurd (c8.2 ha8) hc
          · rw [anyB_or, ha, Bool.false_or]
            unfold stuckR endR
            rw [he]; simp
          · rw [anyB_or, ha, Bool.false_or]
            unfold stuckR endR
            rw [c8.1 hc, he]; rfl
        · have hkk : (k + 1) / 8 = k / 8 := by omega
          have hkm : (k + 1) % 8 = k % 8 + 1 := by omega
          have := ih (k + 1) (by omega) hv2 (by omega) L2 Z2 s2 hF2 hS2 (by rw [hkk, stk _ (by omega)]; exact h572) hz2 hb2
          rw [hkk, hkm, row _ hin] at this
          exact this
      have vis1 : ¬ (newB t (seqA t k) k = true ∧ (seqA t k).1 = most) → vis t e most (k + 1) := fun hnew k' hk' => by
        by_cases hkk : k' = k
        · subst hkk; exact ⟨hin, hend, hnew⟩
        · exact hv k' (by omega)
      have hK := hKR (k / 8)
      have hmr := m1 (k / 8) hin
      have L0 : ∀ L2, FL L L2 → L2 13 13 = n32 0 := fun L2 h => (h 13 13 (by decide) (by decide) (by decide) (by omega)).trans h0
      have L3 : ∀ L2, FL L L2 → LI3 L2 := fun L2 h => h3.congr (fun x => h 85 x (by decide) (by decide) (by decide) (by omega)) (h 13 34 (by decide) (by decide) (by decide) (by omega))
      have tB : ∀ j f, tk ((seqA t k).2.1 (k / 8)) j f < 1000000 := hK.1.B
      -- not granted
      have noM : mayS t (tk ((seqA t k).2.1 (k / 8))) (k % 8) = false → ∀ Z2, nzW P (d + 20) az_k174 66 [some mO, some (vi (n32 most)), some (vi (b2i e)), some (vi (n32 (k / 8))), some (vi (n32 (cnt (k % 8) (mayS t (tk ((seqA t k).2.1 (k / 8))))))), some (vi (n32 (k % 8 + 1)))] [] (rowf t, rowf (tk ((seqA t k).2.1 (k / 8))), L1, Z2, C) (nz_RI Q) := fun hmf Z2 => by
        refine next _ L1 Z2 _ (by rw [cnt_F hmf]) (vis1 (fun hh => by unfold newB at hh; rw [hmf] at hh; cases hh.1)) hF ?_ h57 tk_GZ tB
        rw [seqA]; unfold stepA; rw [hmf]
        exact ⟨m1, m2, m3, m4, m5⟩
      have tail : mayS t (tk ((seqA t k).2.1 (k / 8))) (k % 8) = true → ∀ Z2 (R : Int32 → nz_h → Prop),
          (∀ L3 Z3, (∀ a b, ¬ (a = 86 ∧ 144 * (seqA t k).1 ≤ b ∧ b < 144 * (seqA t k).1 + 144) → L3 a b = L1 a b) → MR (newR t ((seqA t k).2.1 (k / 8)) (k % 8)) L3 (seqA t k).1 → R (b2i (metB (seqA t k) (newR t ((seqA t k).2.1 (k / 8)) (k % 8)))) (rowf t, rowf (nS t (tk ((seqA t k).2.1 (k / 8))) (k % 8)), L3, Z3, C)) →
          ctV P (d + 20) 155 [mO, vi (n32 (k % 8))] (rowf t, rowf (tk ((seqA t k).2.1 (k / 8))), L1, Z2, C) (fun h4 => ctV P (d + 20) 116 [mO] h4 (fun h5 => ctV P (d + 20) 175 [mO, vi (h5.2.2.1 13 40)] h5 (fun h6 => ctI P (d + 20) 178 [mO, vi (h6.2.2.1 13 40)] h6 R))) := fun hmt Z2 R hR => by
        obtain ⟨c1, c2⟩ := mayS_can hmt
        obtain ⟨n1, n2, n3⟩ := nS_inv hT hK.1 hj8 hmt
        have l0 := L0 L1 hF
        rw [m_grants (L := L1) hT hK.1 (Or.inl l0) (Or.inl l0) (L3 L1 hF) (by omega) hj8 c1 c2]
        obtain ⟨g1, g2, g3⟩ := (zGI hK.1).grant hT hj8 c1 c2
        rw [grant0 l0]
        refine m_toState (p := ((grantP t (tk ((seqA t k).2.1 (k / 8)), zL) (k % 8)).1, L1)) (n := 6000) hT (by omega) g1.1 (Or.inl l0) g1.fuel (fun Z3 _ _ => ?_)
        have en : setN t 6000 ((grantP t (tk ((seqA t k).2.1 (k / 8)), zL) (k % 8)).1, L1) = (nS t (tk ((seqA t k).2.1 (k / 8))) (k % 8), L1) := by
          have := next0 (t := t) (s := tk ((seqA t k).2.1 (k / 8))) (j := k % 8) l0
          rw [grant0 l0] at this
          exact this
        rw [en]
        simp only [m2]
        refine m_keeps hT n1 (by omega) (by omega) (fun L4 hL4 hM4 => ?_)
        have e40 : L4 13 40 = n32 (seqA t k).1 := by rw [hL4 13 40 (by omega)]; exact m2
        simp only [e40]
        rw [m_isMet (ρ := updN (seqA t k).2.1 (seqA t k).1 (newR t ((seqA t k).2.1 (k / 8)) (k % 8))) (by omega) (fun i hi => ?_) (fun i j f hi hj hf => ?_) (by omega)]
        · have em : anyB (seqA t k).1 (fun i => sameB (updN (seqA t k).2.1 (seqA t k).1 (newR t ((seqA t k).2.1 (k / 8)) (k % 8)) i) (updN (seqA t k).2.1 (seqA t k).1 (newR t ((seqA t k).2.1 (k / 8)) (k % 8)) (seqA t k).1)) = metB (seqA t k) (newR t ((seqA t k).2.1 (k / 8)) (k % 8)) := by
            unfold metB
            exact anyB_congr (fun i hi => by rw [updN_eq, updN_ne (by omega)])
          rw [em]
          exact hR L4 Z3 hL4 hM4
        · by_cases hin' : i = (seqA t k).1
          · rw [hin', updN_eq]; exact hM4
          · rw [updN_ne hin']
            intro j f hj hf
            rw [hL4 86 _ (by omega)]; exact m1 i (by omega) j f hj hf
        · by_cases hin' : i = (seqA t k).1
          · rw [hin', updN_eq]; exact (newR_KR hT hK hj8 hmt).B hj hf
          · rw [updN_ne hin']; exact (hKR i).B hj hf
      have m147 : ∀ (R : Int32 → nz_h → Prop), (∀ Z2, R (b2i (mayS t (tk ((seqA t k).2.1 (k / 8))) (k % 8))) (rowf t, rowf (tk ((seqA t k).2.1 (k / 8))), L1, Z2, C)) → ctV P (d + 20) 177 [mO, vi (n32 (k / 8))] (rowf t, rowf s1, L1, Z1, C) (fun h2 => ctI P (d + 20) 147 [mO, vi (n32 (k % 8))] h2 R) := fun R hR => by
        rw [m_takes hz (by omega) hmr (by omega)]
        exact m_mayI hT hK.1 (by omega) hj8 hR
      have nB : GZ (nS t (tk ((seqA t k).2.1 (k / 8))) (k % 8)) → True := fun _ => trivial
      -- met already
      have metK : mayS t (tk ((seqA t k).2.1 (k / 8))) (k % 8) = true → metB (seqA t k) (newR t ((seqA t k).2.1 (k / 8)) (k % 8)) = true → ∀ L4 Z3, (∀ a b, ¬ (a = 86 ∧ 144 * (seqA t k).1 ≤ b ∧ b < 144 * (seqA t k).1 + 144) → L4 a b = L1 a b) → nzW P (d + 20) az_k174 66 [some mO, some (vi (n32 most)), some (vi (b2i e)), some (vi (n32 (k / 8))), some (vi (n32 (cnt (k % 8) (mayS t (tk ((seqA t k).2.1 (k / 8)))) + 1))), some (vi (n32 (k % 8 + 1)))] [] (rowf t, rowf (nS t (tk ((seqA t k).2.1 (k / 8))) (k % 8)), L4, Z3, C) (nz_RI Q) := fun hmt hmet L4 Z3 hL4 => by
        obtain ⟨n1, n2, n3⟩ := nS_inv hT hK.1 hj8 hmt
        refine next _ L4 Z3 _ (by rw [cnt_T hmt]) (vis1 (fun hh => by unfold newB at hh; rw [hmt, hmet] at hh; cases hh.1)) (fun a b h1 h2 h3 h4 => (hL4 a b (by omega)).trans (hF a b h1 h2 h3 h4)) ?_ (by rw [hL4 13 57 (by omega)]; exact h57) n3 n1.B
        rw [seqA]; unfold stepA; rw [hmt, hmet, cond_true, cond_true]
        exact ⟨fun i hi j f hj hf => by rw [hL4 86 _ (by omega)]; exact m1 i hi j f hj hf, by rw [hL4 13 40 (by omega)]; exact m2, by rw [hL4 87 0 (by omega)]; exact m3, fun i h1 h2 => by rw [hL4 87 i (by omega), hL4 88 i (by omega)]; exact m4 i h1 h2, by rw [hL4 13 56 (by omega)]; exact m5⟩
      -- new, and there is room
      have newK : mayS t (tk ((seqA t k).2.1 (k / 8))) (k % 8) = true → metB (seqA t k) (newR t ((seqA t k).2.1 (k / 8)) (k % 8)) = false → (seqA t k).1 ≠ most → ∀ L4 Z3, (∀ a b, ¬ (a = 86 ∧ 144 * (seqA t k).1 ≤ b ∧ b < 144 * (seqA t k).1 + 144) → L4 a b = L1 a b) → MR (newR t ((seqA t k).2.1 (k / 8)) (k % 8)) L4 (seqA t k).1 → ∀ b : Bool, b = (endA (seqA t k) || endR (newR t ((seqA t k).2.1 (k / 8)) (k % 8))) → nzW P (d + 20) az_k174 66 [some mO, some (vi (n32 most)), some (vi (b2i e)), some (vi (n32 (k / 8))), some (vi (n32 (cnt (k % 8) (mayS t (tk ((seqA t k).2.1 (k / 8)))) + 1))), some (vi (n32 (k % 8 + 1)))] [] (rowf t, rowf (nS t (tk ((seqA t k).2.1 (k / 8))) (k % 8)), nz_u2 (nz_u2 (nz_u2 (nz_u2 L4 87 (seqA t k).1 (n32 (k / 8))) 88 (seqA t k).1 (n32 (k % 8))) 13 56 (b2i b)) 13 40 (n32 ((seqA t k).1 + 1)), Z3, C) (nz_RI Q) := fun hmt hmet hne L4 Z3 hL4 hM4 b hb => by
        obtain ⟨n1, n2, n3⟩ := nS_inv hT hK.1 hj8 hmt
        have ge := (seqA_n (t := t) k).1
        have rd : ∀ a x, a ≠ 13 → a ≠ 87 → a ≠ 88 → nz_u2 (nz_u2 (nz_u2 (nz_u2 L4 87 (seqA t k).1 (n32 (k / 8))) 88 (seqA t k).1 (n32 (k % 8))) 13 56 (b2i b)) 13 40 (n32 ((seqA t k).1 + 1)) a x = L4 a x := fun a x h1 h2 h3 => by rw [u2_ne h1, u2_ne h1, u2_ne h3, u2_ne h2]
        have r13 : ∀ x, x ≠ 40 → x ≠ 56 → nz_u2 (nz_u2 (nz_u2 (nz_u2 L4 87 (seqA t k).1 (n32 (k / 8))) 88 (seqA t k).1 (n32 (k % 8))) 13 56 (b2i b)) 13 40 (n32 ((seqA t k).1 + 1)) 13 x = L4 13 x := fun x h1 h2 => by
          rw [u2_at, if_neg h1, u2_at, if_neg h2, u2_ne (by decide), u2_ne (by decide)]
        have r87 : ∀ x, nz_u2 (nz_u2 (nz_u2 (nz_u2 L4 87 (seqA t k).1 (n32 (k / 8))) 88 (seqA t k).1 (n32 (k % 8))) 13 56 (b2i b)) 13 40 (n32 ((seqA t k).1 + 1)) 87 x = if x = (seqA t k).1 then n32 (k / 8) else L4 87 x := fun x => by
          rw [u2_ne (by decide), u2_ne (by decide), u2_ne (by decide), u2_at]
        have r88 : ∀ x, nz_u2 (nz_u2 (nz_u2 (nz_u2 L4 87 (seqA t k).1 (n32 (k / 8))) 88 (seqA t k).1 (n32 (k % 8))) 13 56 (b2i b)) 13 40 (n32 ((seqA t k).1 + 1)) 88 x = if x = (seqA t k).1 then n32 (k % 8) else L4 88 x := fun x => by
          rw [u2_ne (by decide), u2_ne (by decide), u2_at, u2_ne (by decide)]
        refine next _ _ Z3 _ (by rw [cnt_T hmt]) (vis1 (fun hh => hne hh.2)) ?_ ?_ ?_ n3 n1.B
        · refine FL.up (FL.up (FL.up (FL.up (fun a b h1 h2 h3 h4 => (hL4 a b (by omega)).trans (hF a b h1 h2 h3 h4)) ?_) ?_) ?_) ?_ <;> omega
        · rw [seqA]; unfold stepA; rw [hmt, hmet]
          refine ⟨fun i hi j f hj hf => ?_, by rw [u2_eq]; rfl, ?_, fun i h1 h2 => ?_, ?_⟩
          · have hi : i < (seqA t k).1 + 1 := hi
            show nz_u2 _ 13 40 _ 86 _ = n32 (updN (seqA t k).2.1 (seqA t k).1 (newR t ((seqA t k).2.1 (k / 8)) (k % 8)) i j f)
            rw [rd 86 _ (by decide) (by decide) (by decide)]
            by_cases hin' : i = (seqA t k).1
            · subst hin'; rw [updN_eq]; exact hM4 j f hj hf
            · rw [updN_ne hin', hL4 86 _ (by omega)]; exact m1 i (by omega) j f hj hf
          · rw [r87, if_neg (by omega), hL4 87 0 (by omega)]; exact m3
          · have h2 : i < (seqA t k).1 + 1 := h2
            show nz_u2 _ 13 40 _ 87 i = n32 (updN (seqA t k).2.2.1 (seqA t k).1 (k / 8) i) ∧ nz_u2 _ 13 40 _ 88 i = n32 (updN (seqA t k).2.2.2 (seqA t k).1 (k % 8) i)
            rw [r87, r88]
            by_cases hin' : i = (seqA t k).1
            · rw [if_pos hin', if_pos hin', hin', updN_eq, updN_eq]; exact ⟨rfl, rfl⟩
            · rw [if_neg hin', if_neg hin', updN_ne hin', updN_ne hin', hL4 87 i (by omega), hL4 88 i (by omega)]; exact m4 i h1 (by omega)
          · show _ = b2i (endA (pushA (seqA t k) (newR t ((seqA t k).2.1 (k / 8)) (k % 8)) (k / 8) (k % 8)))
            rw [endA_push, u2_at, if_neg (by decide), u2_eq, hb]
        · rw [r13 57 (by decide) (by decide), hL4 13 57 (by omega)]; exact h57
      -- new, and there is no room
      have fullK : mayS t (tk ((seqA t k).2.1 (k / 8))) (k % 8) = true → metB (seqA t k) (newR t ((seqA t k).2.1 (k / 8)) (k % 8)) = false → (seqA t k).1 = most → ∀ L4 Z3, (∀ a b, ¬ (a = 86 ∧ 144 * (seqA t k).1 ≤ b ∧ b < 144 * (seqA t k).1 + 144) → L4 a b = L1 a b) → Q (n32 1) (rowf t, rowf (nS t (tk ((seqA t k).2.1 (k / 8))) (k % 8)), L4, Z3, C) := fun hmt hmet hne L4 Z3 hL4 => by
        obtain ⟨n1, n2, n3⟩ := nS_inv hT hK.1 hj8 hmt
        refine hM k L4 Z3 _ hv hin hend (fun a b h1 h2 h3 h4 => (hL4 a b (by omega)).trans (hF a b h1 h2 h3 h4)) ?_ (fun _ => by rw [hL4 13 57 (by omega)]; exact h57) n3 n1.B (by unfold newB; rw [hmt, hmet]; rfl) hne
        exact ⟨fun i hi j f hj hf => by rw [hL4 86 _ (by omega)]; exact m1 i hi j f hj hf, by rw [hL4 13 40 (by omega)]; exact m2, by rw [hL4 87 0 (by omega)]; exact m3, fun i h1 h2 => by rw [hL4 87 i (by omega), hL4 88 i (by omega)]; exact m4 i h1 h2, by rw [hL4 13 56 (by omega)]; exact m5⟩
      refine sg174_66 ?_
      simp (disch := omega) only [decide_eq_true_eq, decide_eq_false_iff_not, L32, az01, b2i_01, b2i_n0, b2i_n1, Bool.and_true, true_and, and_true, Classical.not_not, Bool.not_eq_true, Bool.not_eq_false, n32_mul, n32_add, n32_ix, n32_ib, n32_lt, n32_le, n32_inj, l_hb, l_hb0, l_shl, l_wo, l_eqm1, l_m1eq, m5]
      refine ⟨fun hc => by omega, fun _ => ⟨fun he => ?_, fun he => ⟨fun hh => absurd ⟨he, hh⟩ hend, fun hh => ?_⟩⟩⟩
      all_goals
        refine m147 _ (fun Z2 => ?_)
        simp (disch := omega) only [decide_eq_true_eq, decide_eq_false_iff_not, L32, az01, b2i_01, b2i_n0, b2i_n1, Bool.and_true, true_and, and_true, Classical.not_not, Bool.not_eq_true, Bool.not_eq_false, n32_mul, n32_add, n32_ix, n32_ib, n32_lt, n32_le, n32_inj, l_hb, l_hb0, l_shl, l_wo, l_eqm1, l_m1eq]
        refine ⟨fun hmt => tail hmt Z2 _ (fun L4 Z3 hL4 hM4 => ?_), fun hmf => noM hmf Z2⟩
        have e40 : L4 13 40 = n32 (seqA t k).1 := by rw [hL4 13 40 (by omega)]; exact m2
        have e56 : L4 13 56 = b2i (endA (seqA t k)) := by rw [hL4 13 56 (by omega)]; exact m5
        simp (disch := first | omega | decide) only [decide_eq_true_eq, decide_eq_false_iff_not, L32, az01, b2i_01, b2i_n0, b2i_n1, Bool.and_true, true_and, and_true, Classical.not_not, Bool.not_eq_true, Bool.not_eq_false, n32_mul, n32_add, n32_ix, n32_ib, n32_lt, n32_le, n32_inj, l_hb, l_hb0, l_shl, l_wo, l_eqm1, l_m1eq, e40, e56, uL_row, u2_ne]
        refine ⟨fun hmet => ⟨fun hne => ⟨by omega, by omega, fun hend1 => ?_, fun hend0 => ?_⟩, fun he => fullK hmt hmet he L4 Z3 hL4⟩, fun hmet => metK hmt hmet L4 Z3 hL4⟩
        · have := newK hmt hmet hne L4 Z3 hL4 hM4 true (by rw [hend1]; rfl)
          simp only [u2_at, e40, u2_ne (show (13 : Nat) ≠ 87 by decide), u2_ne (show (13 : Nat) ≠ 88 by decide), show ¬ (40 : Nat) = 56 by decide, if_false, n32_add]
          exact this
        · have hM4' : MR (newR t ((seqA t k).2.1 (k / 8)) (k % 8)) (nz_u2 (nz_u2 L4 87 (seqA t k).1 (n32 (k / 8))) 88 (seqA t k).1 (n32 (k % 8))) (seqA t k).1 := fun j f hj hf => by rw [u2_ne (by decide), u2_ne (by decide)]; exact hM4 j f hj hf
          rw [m_allEnded (by omega) hM4' (fun j hj => (newR_KR hT hK hj8 hmt).B hj (by omega)) (by omega)]
          simp (disch := first | omega | decide) only [decide_eq_true_eq, decide_eq_false_iff_not, L32, az01, b2i_01, b2i_n0, b2i_n1, Bool.and_true, true_and, and_true, Classical.not_not, Bool.not_eq_true, Bool.not_eq_false, n32_mul, n32_add, n32_ix, n32_ib, n32_lt, n32_le, n32_inj, l_hb, l_hb0, l_shl, l_wo, l_eqm1, l_m1eq, e40, uL_row, u2_ne, u2_at, show ¬ (40 : Nat) = 56 by decide, if_false]
          refine ⟨fun hr => ?_, fun hr => ?_⟩
          · have := newK hmt hmet hne L4 Z3 hL4 hM4 false (by rw [hend0]; unfold endR; rw [Bool.false_or]; simpa using hr)
            exact this
          · have := newK hmt hmet hne L4 Z3 hL4 hM4 true (by rw [hend0]; unfold endR; rw [Bool.false_or]; simpa using hr)
            exact this
end
