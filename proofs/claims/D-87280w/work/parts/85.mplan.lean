/-! the reference's plans -/
def planW (t : St) (K : Nat) : List Nat := cond (endA (seqA t K)) (way8 (seqA t K) ((seqA t K).1 - 1) ((seqA t K).1 - 1)) []
def planA (t : St) (K : Nat) : Int32 := cond (endA (seqA t K)) (n32 (planW t K).length) (if (seqA t K).1 = 401 then nm2 else nm1)
theorem leastK_ex {p : Nat → Prop} : ∀ k, p k → ∃ K, K ≤ k ∧ leastK p K := by
  intro k
  induction k using Nat.strongRecOn with
  | ind k ih =>
    intro hk
    by_cases h : ∃ k', k' < k ∧ p k'
    · obtain ⟨k', h1, h2⟩ := h
      obtain ⟨K, h3, h4⟩ := ih k' h1 h2
      exact ⟨K, by omega, h4⟩
    · exact ⟨k, Nat.le_refl _, hk, fun k' hk' hp => h ⟨k', hk', hp⟩⟩
section
variable {P : Nat × (Nat → Int32)} {d : Nat} {t s : St} {L Z : nz_f2} {C : nz_f5} {j : Nat}
theorem vis_const {e : Bool} {most k k' : Nat} (hv : vis t e most k) (h : (seqA t k').1 = most) : ∀ m, k' ≤ m → m ≤ k → seqA t m = seqA t k' := by
  intro m
  induction m with
  | zero => intro h1 _; obtain rfl : k' = 0 := by omega
            rfl
  | succ m ih =>
    intro h1 h2
    by_cases hm : k' = m + 1
    · rw [hm]
    · have e1 := ih (by omega) (by omega)
      have hvm := (hv m (by omega)).2.2
      rw [seqA]
      rcases stepA_cases (t := t) (j := m % 8) (seqA t m) (m / 8) with h' | ⟨a, b, _⟩
      · rw [h', e1]
      · exact absurd ⟨by unfold newB; rw [a, b]; rfl, by rw [e1]; exact h⟩ hvm
theorem vis_mono {e : Bool} {most k k' : Nat} (hv : vis t e most k) (h : k' ≤ k) : (seqA t k').1 ≤ (seqA t k).1 := by
  have : ∀ r, (seqA t k').1 ≤ (seqA t (k' + r)).1 := by
    intro r
    induction r with
    | zero => exact Nat.le_refl _
    | succ r ih =>
      rw [show k' + (r + 1) = k' + r + 1 by omega, seqA]
      rcases stepA_cases (t := t) (j := (k' + r) % 8) (seqA t (k' + r)) ((k' + r) / 8) with h' | ⟨_, _, h'⟩
      · rw [h']; exact ih
      · rw [h']; show (seqA t k').1 ≤ (seqA t (k' + r)).1 + 1; omega
  have := this (k - k')
  rw [show k' + (k - k') = k by omega] at this; exact this
/-- the first end is the newest state -/
theorem end_last {k : Nat} (h : endA (seqA t k) = true) (hno : ∀ k', k' < k → endA (seqA t k') = false) : endR ((seqA t k).2.1 ((seqA t k).1 - 1)) = true := by
  cases k with
  | zero =>
    have e : endA (seqA t 0) = (false || endR (firstR t)) := rfl
    rw [e, Bool.false_or] at h
    exact h
  | succ k =>
    have h0 := hno k (by omega)
    rw [seqA] at h ⊢
    rcases stepA_cases (t := t) (j := k % 8) (seqA t k) (k / 8) with h' | ⟨_, _, h'⟩
    · rw [h', h0] at h; cases h
    · rw [h'] at h ⊢
      rw [endA_push, h0, Bool.false_or] at h
      show endR (updN (seqA t k).2.1 (seqA t k).1 _ ((seqA t k).1 + 1 - 1)) = true
      rw [Nat.add_sub_cancel, updN_eq]; exact h
/-- where the plan's search stops -/
theorem stop_end {k : Nat} (hv : vis t true 401 k) (h : endA (seqA t k) = true) : leastK (stopP t) k := by
  refine ⟨Or.inl h, fun k' hk' hp => ?_⟩
  obtain ⟨a, b, c⟩ := hv k' hk'
  rcases hp with hp | hp | hp
  · exact b ⟨rfl, hp⟩
  · have := vis_const hv hp k (by omega) (Nat.le_refl _)
    rw [this] at h; exact b ⟨rfl, h⟩
  · omega
theorem stop_full {k : Nat} (hv : vis t true 401 k) (hn : (seqA t k).1 = 401) (h : endA (seqA t k) = false) : ∃ K, leastK (stopP t) K ∧ endA (seqA t K) = false ∧ (seqA t K).1 = 401 := by
  obtain ⟨K, hK, h1, h2⟩ := leastK_ex (p := fun k => (seqA t k).1 = 401) k hn
  have e := vis_const hv h1 k hK (Nat.le_refl _)
  refine ⟨K, ⟨Or.inr (Or.inl h1), fun k' hk' hp => ?_⟩, by rw [← e]; exact h, h1⟩
  obtain ⟨a, b, c⟩ := hv k' (by omega)
  rcases hp with hp | hp | hp
  · exact b ⟨rfl, hp⟩
  · exact h2 k' hk' hp
  · omega
theorem stop_out {k : Nat} (hv : vis t true 401 k) (hn : (seqA t k).1 ≠ 401) (hx : k % 8 = 0 ∧ (seqA t k).1 ≤ k / 8) : leastK (stopP t) k := by
  refine ⟨Or.inr (Or.inr hx), fun k' hk' hp => ?_⟩
  obtain ⟨a, b, c⟩ := hv k' hk'
  rcases hp with hp | hp | hp
  · exact b ⟨rfl, hp⟩
  · have := vis_mono hv (show k' ≤ k by omega)
    have := vis_n (by omega) k hv
    omega
  · omega
theorem m_meets {e : Bool} {most : Nat} (hT : TV t) (hz : GZ s) (h0 : L 13 13 = n32 0) (h3 : LI3 L) (h1m : 1 ≤ most) (hm : most ≤ 401) (hd : 21 ≤ d) {Q : Int32 → nz_h → Prop}
    (hE : ∀ k L' Z' s', vis t e most k → FL L L' → MS (seqA t k) L' → (e = false → L' 13 57 = b2i (anyB (k / 8) (fun i => stuckR t ((seqA t k).2.1 i)))) → GZ s' → (∀ j f, s' j f < 1000000) → (k % 8 = 0 ∧ (seqA t k).1 ≤ k / 8) ∨ (e = true ∧ endA (seqA t k) = true) → Q (n32 0) (rowf t, rowf s', L', Z', C))
    (hM : ∀ k L' Z' s', vis t e most k → k / 8 < (seqA t k).1 → ¬ (e = true ∧ endA (seqA t k) = true) → FL L L' → MS (seqA t k) L' → (e = false → L' 13 57 = b2i (anyB (k / 8) (fun i => stuckR t ((seqA t k).2.1 i)))) → GZ s' → (∀ j f, s' j f < 1000000) → newB t (seqA t k) k = true → (seqA t k).1 = most → Q (n32 1) (rowf t, rowf s', L', Z', C)) :
    ctI P d 174 [mO, vi (n32 most), vi (b2i e)] (rowf t, rowf s, L, Z, C) Q := by
  obtain ⟨d, rfl⟩ := dge hd
  refine sm174 ?_
  obtain ⟨f1, f2, f3⟩ := first_inv (t := t) hT
  have hK := firstR_KR (t := t) hT
  simp (disch := omega) only [decide_eq_true_eq, decide_eq_false_iff_not, L32, az01, b2i_01, b2i_n0, b2i_n1, Bool.and_true, true_and, and_true, Classical.not_not, Bool.not_eq_true, Bool.not_eq_false, n32_mul, n32_add, n32_ix, n32_ib, n32_lt, n32_le, n32_inj, l_hb, l_hb0, l_shl, l_wo, l_eqm1, l_m1eq, m_begin, beg_z0 hz]
  refine m_toState (p := (z0, L)) (n := 6000) hT (by omega) z0_INV (Or.inl h0) (zGI (t := t) z0_INV).fuel (fun Z1 _ _ => ?_)
  have es : setN t 6000 (z0, L) = ((setP t (z0, zL)).1, L) := (set0 h0 6000 z0).1
  rw [es]
  refine m_keeps hT f1 (by omega) (by omega) (fun L1 hL1 hM1 => ?_)
  have hM1' : MR (firstR t) (nz_u2 L1 13 40 (n32 1)) 0 := fun j f hj hf => by rw [u2_ne (by decide)]; exact hM1 j f hj hf
  simp (disch := omega) only [decide_eq_true_eq, decide_eq_false_iff_not, L32, az01, b2i_01, b2i_n0, b2i_n1, Bool.and_true, true_and, and_true, Classical.not_not, Bool.not_eq_true, Bool.not_eq_false, n32_mul, n32_add, n32_ix, n32_ib, n32_lt, n32_le, n32_inj, l_hb, l_hb0, l_shl, l_wo, l_eqm1, l_m1eq, uL_row, m_allEnded (i := 0) (ρ := firstR t) (by omega) hM1' (fun j hj => hK.B hj (by omega))]
  refine ⟨by omega, ?_⟩
  have hF : FL L (nz_u2 (nz_u2 (nz_u2 (nz_u2 L1 13 40 (n32 1)) 13 56 (b2i (!anyB 8 (notE (firstR t))))) 13 57 (n32 0)) 87 0 nm1) := by
    refine FL.up (FL.up (FL.up (FL.up (fun a b h1 h2 h3 h4 => hL1 a b (by omega)) ?_) ?_) ?_) ?_ <;> omega
  have eE : endA (seqA t 0) = !anyB 8 (notE (firstR t)) := rfl
  have r56 : nz_u2 (nz_u2 (nz_u2 (nz_u2 L1 13 40 (n32 1)) 13 56 (b2i (!anyB 8 (notE (firstR t))))) 13 57 (n32 0)) 87 0 nm1 13 56 = b2i (endA (seqA t 0)) := by
    rw [u2_ne (by decide), u2_at, if_neg (by decide), u2_eq, eE]
  have r40 : nz_u2 (nz_u2 (nz_u2 (nz_u2 L1 13 40 (n32 1)) 13 56 (b2i (!anyB 8 (notE (firstR t))))) 13 57 (n32 0)) 87 0 nm1 13 40 = n32 1 := by
    rw [u2_ne (by decide), u2_at, if_neg (by decide), u2_at, if_neg (by decide), u2_eq]
  have hS : MS (seqA t 0) (nz_u2 (nz_u2 (nz_u2 (nz_u2 L1 13 40 (n32 1)) 13 56 (b2i (!anyB 8 (notE (firstR t))))) 13 57 (n32 0)) 87 0 nm1) := by
    refine ⟨fun i hi j f hj hf => ?_, r40, u2_eq, fun i h1 h2 => ?_, r56⟩
    · have : i < 1 := hi
      obtain rfl : i = 0 := by omega
      rw [u2_ne (by decide), u2_ne (by decide), u2_ne (by decide), u2_ne (by decide)]; exact hM1 j f hj hf
    · have : i < 1 := h2
      omega
  have r57 : nz_u2 (nz_u2 (nz_u2 (nz_u2 L1 13 40 (n32 1)) 13 56 (b2i (!anyB 8 (notE (firstR t))))) 13 57 (n32 0)) 87 0 nm1 13 57 = b2i (anyB (0 / 8) (fun i => stuckR t ((seqA t 0).2.1 i))) := by
    rw [u2_ne (by decide), u2_eq]; rfl
  have hv : vis t e most 0 := fun k' hk' => by omega
  have go := m_meetsL (P := P) (d := d) (C := C) (e := e) hT h0 h3 h1m hm hE hM 3216 0 rfl hv (by show 0 / 8 < 1; omega) _ Z1 _ hF hS r57 f3 f1.B
  have out := fun h => hE 0 _ Z1 _ hv hF hS (fun _ => r57) f3 f1.B (Or.inr h)
  simp only [Nat.zero_div, Nat.zero_mod] at go
  refine sg174_41 ?_
  simp (disch := omega) only [decide_eq_true_eq, decide_eq_false_iff_not, L32, az01, b2i_01, b2i_n0, b2i_n1, Bool.and_true, true_and, and_true, Classical.not_not, Bool.not_eq_true, Bool.not_eq_false, n32_mul, n32_add, n32_ix, n32_ib, n32_lt, n32_le, n32_inj, l_hb, l_hb0, l_shl, l_wo, l_eqm1, l_m1eq, r40, r56]
  refine ⟨fun hc => by omega, fun _ => ⟨fun _ => go, fun he => ⟨fun hend => out ⟨he, hend⟩, fun _ => go⟩⟩⟩
def FP (L L' : nz_f2) : Prop := ∀ a b, a ≠ 86 → a ≠ 87 → a ≠ 88 → a ≠ 89 → ¬ (a = 13 ∧ (b = 13 ∨ b = 40 ∨ b = 44 ∨ b = 56 ∨ b = 57)) → L' a b = L a b
theorem m_plan (hT : TV t) (hz : GZ s) (h3 : LI3 L) (hd : 22 ≤ d) {Q : Int32 → nz_h → Prop}
    (hq : ∀ K L' Z' s', leastK (stopP t) K → FP L L' → L' 13 13 = n32 0 → L' 13 44 = n32 (planW t K).length → (∀ (i x : Nat), (planW t K)[i]? = some x → L' 89 i = n32 x) → GZ s' → (∀ j f, s' j f < 1000000) → Q (planA t K) (rowf t, rowf s', L', Z', C)) : ctI P d 173 [mO] (rowf t, rowf s, L, Z, C) Q := by
  obtain ⟨d, rfl⟩ := dge hd
  refine sm173 ?_
  simp (disch := omega) only [decide_eq_true_eq, decide_eq_false_iff_not, L32, az01, b2i_01, b2i_n0, b2i_n1, Bool.and_true, true_and, and_true, Classical.not_not, Bool.not_eq_true, Bool.not_eq_false, n32_mul, n32_add, n32_ix, n32_ib, n32_lt, n32_le, n32_inj, l_hb, l_hb0, l_shl, l_wo, l_eqm1, l_m1eq, uL_row]
  have c0 : nz_u2 (nz_u2 L 13 13 (n32 0)) 13 44 (n32 0) 13 13 = n32 0 := by rw [u2_at, if_neg (by decide), u2_eq]
  have c44 : nz_u2 (nz_u2 L 13 13 (n32 0)) 13 44 (n32 0) 13 44 = n32 0 := u2_eq
  have hfp : ∀ L', FL (nz_u2 (nz_u2 L 13 13 (n32 0)) 13 44 (n32 0)) L' → FP L L' ∧ L' 13 13 = n32 0 ∧ L' 13 44 = n32 0 := fun L' hF => by
    refine ⟨fun a b h1 h2 h3 h4 h5 => ?_, (hF 13 13 (by decide) (by decide) (by decide) (by omega)).trans c0, (hF 13 44 (by decide) (by decide) (by decide) (by omega)).trans c44⟩
    rw [hF a b h1 h2 h3 (by omega)]; unfold nz_u2; rw [if_neg (by omega), if_neg (by omega)]
  have none_ : ∀ K L' Z' s', leastK (stopP t) K → endA (seqA t K) = false → FL (nz_u2 (nz_u2 L 13 13 (n32 0)) 13 44 (n32 0)) L' → GZ s' → (∀ j f, s' j f < 1000000) → Q (if (seqA t K).1 = 401 then nm2 else nm1) (rowf t, rowf s', L', Z', C) := fun K L' Z' s' hK he hF hz' hb' => by
    obtain ⟨a, b, c⟩ := hfp L' hF
    have := hq K L' Z' s' hK a b (by unfold planW; rw [he]; exact c) (fun i x hx => by unfold planW at hx; rw [he] at hx; simp at hx) hz' hb'
    unfold planA at this; rw [he] at this; exact this
  refine m_meets (e := true) (most := 401) hT hz c0 (h3.congr (fun x => by rw [u2_ne (by decide), u2_ne (by decide)]) (by rw [u2_at, if_neg (by decide), u2_at, if_neg (by decide)])) (by omega) (by omega) (by omega) (fun k L1 Z1 s1 hv hF hS _ hz1 hb1 hx => ?_) (fun k L1 Z1 s1 hv hin hne hF hS _ hz1 hb1 hnew hn => ?_)
  · have e40 := hS.2.1
    have e56 := hS.2.2.2.2
    have hn := vis_n (by omega) k hv
    have n1 := (seqA_n (t := t) k).1
    cases he : endA (seqA t k) with
    | false =>
      rw [he] at e56
      have hx' := hx.resolve_right (fun hh => by rw [he] at hh; cases hh.2)
      simp (disch := omega) only [decide_eq_true_eq, decide_eq_false_iff_not, L32, az01, b2i_01, b2i_n0, b2i_n1, Bool.and_true, true_and, and_true, Classical.not_not, Bool.not_eq_true, Bool.not_eq_false, n32_mul, n32_add, n32_ix, n32_ib, n32_lt, n32_le, n32_inj, l_hb, l_hb0, l_shl, l_wo, l_eqm1, l_m1eq, e40, e56]
      refine ⟨fun hc => (hc trivial).elim, fun _ => ⟨fun hc => (hc trivial).elim, fun _ => ⟨fun hne => ?_, fun hfull => ?_⟩⟩⟩
      · have := none_ k L1 Z1 s1 (stop_out hv hne hx') he hF hz1 hb1
        rw [if_neg hne] at this; exact this
      · obtain ⟨K, k1, k2, k3⟩ := stop_full hv hfull he
        have := none_ K L1 Z1 s1 k1 k2 hF hz1 hb1
        rw [if_pos k3] at this; exact this
    | true =>
      rw [he] at e56
      have hK := stop_end hv he
      have hlast := end_last he (fun k' hk' => by
        cases hh : endA (seqA t k') with
        | false => rfl
        | true => exact absurd ⟨rfl, hh⟩ (hv k' hk').2.1)
      have hfr := seqA_fr (t := t) k (fun _ _ => trivial) (fun k' hk' => (hv k' hk').1)
      obtain ⟨m1, m2, m3, m4, m5⟩ := hS
      obtain ⟨fa, fb, fc⟩ := hfp L1 hF
      have hKR := seqA_KR (t := t) hT k
      have eW : planW t k = way8 (seqA t k) ((seqA t k).1 - 1) ((seqA t k).1 - 1) := by unfold planW; rw [he]; rfl
      generalize hA : seqA t k = A at *
      have wf := way8_fuel (A := A) (fun i h1 h2 => (hfr i h1 h2).1)
      have wstep : ∀ v, 0 < v → v < A.1 → way8 A v v = way8 A (A.2.2.1 v) (A.2.2.1 v) ++ [A.2.2.2 v] := fun v h1 h2 => by
        obtain ⟨w, rfl⟩ : ∃ w, v = w + 1 := ⟨v - 1, by omega⟩
        rw [way8, if_neg (by omega), wf w _ (by have := (hfr (w + 1) h1 h2).1; omega) (by have := (hfr (w + 1) h1 h2).1; omega)]
      have l107 : ∀ v, v < A.1 → ∀ L2, FP L L2 → L2 13 13 = n32 0 → L2 13 44 = n32 (planW t k).length → (∀ x, L2 87 x = L1 87 x) → (∀ x, L2 88 x = L1 88 x) → (∃ R, planW t k = way8 A v v ++ R) → (∀ (i x : Nat), (way8 A v v).length ≤ i → (planW t k)[i]? = some x → L2 89 i = n32 x) → ∀ l1 l2, nzW P (d + 21) az_k173 107 [some mO, l1, l2, some (vi (n32 (way8 A v v).length)), some (vi (n32 v))] [] (rowf t, rowf s1, L2, Z1, C) (nz_RI Q) := by
        intro v
        induction v using Nat.strongRecOn with
        | ind v ih =>
          intro hv1 L2 g1 g2 g3 g4 g5 hR g6 l1 l2
          refine sg173_107 ?_
          by_cases h0 : v = 0
          · subst h0
            have e : way8 A 0 0 = [] := rfl
            simp (disch := omega) only [decide_eq_true_eq, decide_eq_false_iff_not, L32, az01, b2i_01, b2i_n0, b2i_n1, Bool.and_true, true_and, and_true, Classical.not_not, Bool.not_eq_true, Bool.not_eq_false, n32_mul, n32_add, n32_ix, n32_ib, n32_lt, n32_le, n32_inj, l_hb, l_hb0, l_shl, l_wo, l_eqm1, l_m1eq, g4, m3, g3]
            refine ⟨by omega, fun _ => ?_, fun hc => (hc trivial).elim⟩
            have := hq k L2 Z1 s1 hK g1 g2 g3 (fun i x hx => g6 i x (by rw [e]; exact Nat.zero_le _) hx) hz1 hb1
            unfold planA at this
            rw [hA, he] at this
            exact this
          · obtain ⟨q1, q2⟩ := m4 v (by omega) hv1
            have hf := hfr v (by omega) hv1
            have ws := wstep v (by omega) hv1
            have wl : (way8 A v v).length = (way8 A (A.2.2.1 v) (A.2.2.1 v)).length + 1 := by rw [ws, List.length_append]; rfl
            have wle := way8_len (A := A) v v
            have pl : n32 (way8 A v v).length + nm1 = n32 (way8 A (A.2.2.1 v) (A.2.2.1 v)).length := by rw [l_m1 (by omega), wl]; rfl
            simp (disch := first | omega | decide) only [decide_eq_true_eq, decide_eq_false_iff_not, L32, az01, b2i_01, b2i_n0, b2i_n1, Bool.and_true, true_and, and_true, Classical.not_not, Bool.not_eq_true, Bool.not_eq_false, n32_mul, n32_add, n32_ix, n32_ib, n32_lt, n32_le, n32_inj, l_hb, l_hb0, l_shl, l_wo, l_eqm1, l_m1eq, g4, q1, pl, uL_row, g5, q2, u2_ne]
            refine ⟨by omega, fun hc => hc.elim, fun _ => ⟨by omega, by omega, by omega, ?_⟩⟩
            obtain ⟨R, hR⟩ := hR
            refine ih (A.2.2.1 v) (by omega) (by omega) _ (fun a b h1 h2 h3 h4 h5 => by rw [u2_ne h4]; exact g1 a b h1 h2 h3 h4 h5) (by rw [u2_ne (by decide)]; exact g2) (by rw [u2_ne (by decide)]; exact g3) (fun x => by rw [u2_ne (by decide)]; exact g4 x) (fun x => by rw [u2_ne (by decide)]; exact g5 x) ⟨[A.2.2.2 v] ++ R, by rw [hR, ws, List.append_assoc]⟩ (fun i x hi hx => ?_) _ _
            rw [u2_at]
            by_cases hii : i = (way8 A (A.2.2.1 v) (A.2.2.1 v)).length
            · rw [if_pos hii]
              rw [hR, ws, hii, List.append_assoc, List.getElem?_append_right (Nat.le_refl _), Nat.sub_self] at hx
              simp at hx
              rw [hx]
            · rw [if_neg hii]; exact g6 i x (by omega) hx
      have l73 : ∀ v, v < A.1 → ∀ c, c + (way8 A v v).length = (planW t k).length → nzW P (d + 21) az_k173 73 [some mO, some (vi (n32 0)), some (vi (n32 (A.1 - 1))), some (vi (n32 c)), some (vi (n32 v))] [] (rowf t, rowf s1, L1, Z1, C) (nz_RI Q) := by
        intro v
        induction v using Nat.strongRecOn with
        | ind v ih =>
          intro hv1 c hc
          refine sg173_73 ?_
          by_cases h0 : v = 0
          · subst h0
            have e : way8 A 0 0 = [] := rfl
            rw [e] at hc
            have hc' : c = (planW t k).length := by simpa using hc
            simp (disch := omega) only [decide_eq_true_eq, decide_eq_false_iff_not, L32, az01, b2i_01, b2i_n0, b2i_n1, Bool.and_true, true_and, and_true, Classical.not_not, Bool.not_eq_true, Bool.not_eq_false, n32_mul, n32_add, n32_ix, n32_ib, n32_lt, n32_le, n32_inj, l_hb, l_hb0, l_shl, l_wo, l_eqm1, l_m1eq, m3, uL_row]
            refine ⟨by omega, fun _ => ?_, fun hc => (hc trivial).elim⟩
            rw [hc']
            have := l107 (A.1 - 1) (by omega) (nz_u2 L1 13 44 (n32 (planW t k).length)) (fun a b h1 h2 h3 h4 h5 => by unfold nz_u2; rw [if_neg (by omega)]; exact fa a b h1 h2 h3 h4 h5) (by rw [u2_at, if_neg (by decide)]; exact fb) u2_eq (fun x => u2_ne (by decide)) (fun x => u2_ne (by decide)) ⟨[], by rw [eW, List.append_nil]⟩ (fun i x hi hx => by
              rw [eW, List.getElem?_eq_none hi] at hx; cases hx) (some (vi (n32 0))) (some (vi (n32 (A.1 - 1))))
            rw [← eW] at this
            exact this
          · obtain ⟨q1, q2⟩ := m4 v (by omega) hv1
            have hf := hfr v (by omega) hv1
            have ws := wstep v (by omega) hv1
            have wl : (way8 A v v).length = (way8 A (A.2.2.1 v) (A.2.2.1 v)).length + 1 := by rw [ws, List.length_append]; rfl
            simp (disch := omega) only [decide_eq_true_eq, decide_eq_false_iff_not, L32, az01, b2i_01, b2i_n0, b2i_n1, Bool.and_true, true_and, and_true, Classical.not_not, Bool.not_eq_true, Bool.not_eq_false, n32_mul, n32_add, n32_ix, n32_ib, n32_lt, n32_le, n32_inj, l_hb, l_hb0, l_shl, l_wo, l_eqm1, l_m1eq, q1]
            exact ⟨by omega, fun hc => hc.elim, fun _ => ⟨by omega, ih (A.2.2.1 v) (by omega) (by omega) (c + 1) (by omega)⟩⟩
      have en : n32 A.1 - n32 1 = n32 (A.1 - 1) := n32_sub (by omega)
      simp (disch := omega) only [decide_eq_true_eq, decide_eq_false_iff_not, L32, az01, b2i_01, b2i_n0, b2i_n1, Bool.and_true, true_and, and_true, Classical.not_not, Bool.not_eq_true, Bool.not_eq_false, n32_mul, n32_add, n32_ix, n32_ib, n32_lt, n32_le, n32_inj, l_hb, l_hb0, l_shl, l_wo, l_eqm1, l_m1eq, e40, e56, en]
      refine ⟨fun _ => ?_, fun hc => (by cases hc)⟩
      refine sg173_54 ?_
      rw [m_allEnded (by omega) (m1 (A.1 - 1) (by omega)) (fun j hj => (hKR (A.1 - 1)).B hj (by omega)) (by omega)]
      have hl : (!anyB 8 (notE (A.2.1 (A.1 - 1)))) = true := hlast
      rw [hl]
      simp (disch := omega) only [decide_eq_true_eq, decide_eq_false_iff_not, L32, az01, b2i_01, b2i_n0, b2i_n1, Bool.and_true, true_and, and_true, Classical.not_not, Bool.not_eq_true, Bool.not_eq_false, n32_mul, n32_add, n32_ix, n32_ib, n32_lt, n32_le, n32_inj, l_hb, l_hb0, l_shl, l_wo, l_eqm1, l_m1eq]
      refine ⟨fun _ => l73 (A.1 - 1) (by omega) 0 (by rw [eW]; omega), fun hc => (hc trivial).elim⟩
  · have e56 := hS.2.2.2.2
    have he : endA (seqA t k) = false := by
      cases hh : endA (seqA t k) with
      | false => rfl
      | true => exact absurd ⟨rfl, hh⟩ hne
    rw [he] at e56
    simp (disch := omega) only [decide_eq_true_eq, decide_eq_false_iff_not, L32, az01, b2i_01, b2i_n0, b2i_n1, Bool.and_true, true_and, and_true, Classical.not_not, Bool.not_eq_true, Bool.not_eq_false, n32_mul, n32_add, n32_ix, n32_ib, n32_lt, n32_le, n32_inj, l_hb, l_hb0, l_shl, l_wo, l_eqm1, l_m1eq, e56]
    refine ⟨fun hc => (hc trivial).elim, fun _ => ⟨fun _ => ?_, fun hc => by omega⟩⟩
    obtain ⟨K, k1, k2, k3⟩ := stop_full hv hn he
    have := none_ K L1 Z1 s1 k1 k2 hF hz1 hb1
    rw [if_pos k3] at this; exact this
end
