/-! the system's plans -/
section
variable {P : Nat × (Nat → Int32)} {d : Nat} {t s : St} {T S L Z : nz_f2} {C : nz_f5} {j : Nat}
theorem stopX_P {K : Nat} (h : leastK (stopX t true) K) : leastK (stopP t) K := by
  have e : ∀ k, stopX t true k ↔ stopP t k := fun k => by unfold stopX stopP stopQ; simp
  exact ⟨(e K).1 h.1, fun k hk hp => h.2 k hk ((e k).2 hp)⟩
theorem stopX_Q {K : Nat} (h : leastK (stopX t false) K) : leastK (stopQ t) K := by
  have e : ∀ k, stopX t false k ↔ stopQ t k := fun k => by unfold stopX; simp
  exact ⟨(e K).1 h.1, fun k hk hp => h.2 k hk ((e k).2 hp)⟩
theorem c_looks {e : Bool} (hT : TV t) (hRT : RT 1 t C) (hd : 17 ≤ d) {Q : Int32 → nz_h → Prop}
    (hq : ∀ K C', leastK (stopX t e) K → FK C C' → (∀ i, 0 < i → i < (seqA t K).1 → C' 53 0 0 0 i = n32 ((seqA t K).2.2.1 i) ∧ C' 54 0 0 0 i = n32 ((seqA t K).2.2.2 i)) → (e = false → C' 12 0 0 0 6 = b2i (anyB (alwM t K) (fun i => stuckR t ((seqA t K).2.1 i)))) → Q (lookA t e K) (T, S, L, Z, C')) : ctI P d 98 [vr (12, 0, 0, 0), vi (b2i e)] (T, S, L, Z, C) Q := by
  obtain ⟨d, rfl⟩ := dge hd
  refine sm98 ?_
  simp (disch := omega) only [decide_eq_true_eq, decide_eq_false_iff_not, L32, az01, b2i_01, b2i_n0, b2i_n1, Bool.and_true, true_and, and_true, Classical.not_not, Bool.not_eq_true, Bool.not_eq_false, n32_mul, n32_add, n32_ix, n32_ib, n32_lt, n32_le, n32_inj, l_hb, l_hb0, l_shl, l_wo, l_eqm1, l_m1eq, uC_row]
  have hF0 : FK C (nz_u5 (nz_u5 C 12 0 0 0 5 (n32 0)) 12 0 0 0 6 (n32 0)) := fun kd o' k l x h1 h2 => by unfold nz_u5; rw [if_neg (by omega), if_neg (by omega)]
  have hR0 : RT 1 t (nz_u5 (nz_u5 C 12 0 0 0 5 (n32 0)) 12 0 0 0 6 (n32 0)) := by
    obtain ⟨a1, a2, a3, a4⟩ := hRT
    refine ⟨fun m hm => ?_, fun j hj => ?_, fun j p hj hp => ?_, ?_⟩
    · simp (disch := decide) only [u5_k]; exact a1 m hm
    · simp (disch := decide) only [u5_k]; exact a2 j hj
    · simp (disch := decide) only [u5_k]; exact a3 j p hj hp
    · simp (disch := decide) only [u5_k]; exact a4
  have e5 : nz_u5 (nz_u5 C 12 0 0 0 5 (n32 0)) 12 0 0 0 6 (n32 0) 12 0 0 0 5 = n32 0 := by rw [u5_x (by decide), u5_eq]
  have e6 : nz_u5 (nz_u5 C 12 0 0 0 5 (n32 0)) 12 0 0 0 6 (n32 0) 12 0 0 0 6 = n32 0 := u5_eq
  generalize nz_u5 (nz_u5 C 12 0 0 0 5 (n32 0)) 12 0 0 0 6 (n32 0) = C0 at hF0 hR0 e5 e6
  refine c_begins (by omega) (fun C1 hF1 g8 g35 g28 => ?_)
  have hR1 : RC 1 t z0 C1 := by
    have := RC.begins (s := z0) hR0 hF1 g8 g35 g28
    rw [beg_z0 z0_GZ] at this; exact this
  have f1 : F1 C0 C1 := hF1.f1 (fun kd o' x hw => by unfold Wbe at hw; omega)
  have g := zGI (t := t) z0_INV
  refine c_settles (by omega) hT (by omega) 6000 (z0, zL) C1 g.1 g.2.1 hR1 (fun h => by cases h) g.fuel (fun C2 hF2 hR2 _ => ?_)
  obtain ⟨i1, i2, i3⟩ := first_inv (t := t) hT
  have hR2 : RC 1 t (setP t (z0, zL)).1 C2 := hR2
  have f2 : F1 C0 C2 := f1.trans (hF2.f1 (fun kd o' x hw => by unfold Wsh at hw; omega))
  refine c_meets99 (n := 0) (ρ := fun _ => firstR t) hT i1 i2 hR2 (by omega) ((f2 _ _ _ _ _ (by omega)).trans e5) (fun i hi => by omega) (by omega) (fun hmet C3 hF3 hA3 h53 => by cases hmet) (fun hmet C3 hF3 hA3 h53 _ _ => ?_)
  have k3 : FK C2 C3 := fun kd o' k' l x h1 h2 => hF3 kd o' k' l x (by omega) (by omega) (by omega)
  have hk3 : FK C C3 := hF0.trans (f2.fk.trans k3)
  have hR3 := hR2.fs hF3
  have hS3 : CSx t (seqA t 0) C3 := by
    refine ⟨fun i hi => ?_, h53, fun i h1 h2 => ?_⟩
    · have hi : i < 1 := hi
      obtain rfl : i = 0 := by omega
      have := hA3 0 (by omega)
      rw [updN_eq] at this
      exact this
    · have h2 : i < 1 := h2
      omega
  have e63 : C3 12 0 0 0 6 = n32 0 := (hF3 _ _ _ _ _ (by omega) (by omega) (by omega)).trans ((f2 _ _ _ _ _ (by omega)).trans e6)
  have go : ¬ (e = true ∧ endA (seqA t 0) = true) → ∀ l3 l4, nzW P (d + 16) az_k98 49 [some (vr (12, 0, 0, 0)), some (vi (b2i e)), some (vi (n32 0)), l3, l4] [] (T, S, L, Z, C3) (nz_RI Q) := fun hne l3 l4 => by
    refine sg98_49 ?_
    simp (disch := omega) only [decide_eq_true_eq, decide_eq_false_iff_not, L32, az01, b2i_01, b2i_n0, b2i_n1, Bool.and_true, true_and, and_true, Classical.not_not, Bool.not_eq_true, Bool.not_eq_false, n32_mul, n32_add, n32_ix, n32_ib, n32_lt, n32_le, n32_inj, l_hb, l_hb0, l_shl, l_wo, l_eqm1, l_m1eq, h53]
    refine ⟨fun hc => by omega, fun _ => ?_⟩
    have hC0 := (hS3.1 0 (by show 0 < 1; omega)).2.1
    refine c_comes60 (i := 0) hT (firstR_KR hT) hR3.1 hC0 (by omega) (by omega) (fun C4 hF4 hR4 => ?_)
    have f4 : F1 C3 C4 := hF4.f1 (fun kd o' x hw => by unfold Wcm at hw; omega)
    have := c_looksL (P := P) (d := d) hT hq 3216 0 rfl (fun k' hk' => by omega) (fun h => by
      rcases h with h | h | h
      · exact hne h
      · have : (seqA t 0).1 = 1 := rfl
        omega
      · have : (seqA t 0).1 = 1 := rfl
        omega) (by show 0 / 8 < 1; omega) C4 (hk3.trans f4.fk) hR4.1 (hS3.f1 f4) ((f4 _ _ _ _ _ (by omega)).trans e63)
    simp only [Nat.zero_div, Nat.zero_mod] at this
    exact this
  have eE : endA (seqA t 0) = endR (firstR t) := rfl
  have eN : anyB 8 (fun j => !decide ((setP t (z0, zL)).1 j 1 = 3)) = anyB 8 (notE (firstR t)) := anyB_congr (fun j hj => by unfold notE firstR; rw [kF_1])
  rw [c_areEnded i1 hR3 (by omega)]
  simp (disch := omega) only [decide_eq_true_eq, decide_eq_false_iff_not, L32, az01, b2i_01, b2i_n0, b2i_n1, Bool.and_true, true_and, and_true, Classical.not_not, Bool.not_eq_true, Bool.not_eq_false, n32_mul, n32_add, n32_ix, n32_ib, n32_lt, n32_le, n32_inj, l_hb, l_hb0, l_shl, l_wo, l_eqm1, l_m1eq, eN]
  refine ⟨fun he => go (fun hh => by rw [he] at hh; cases hh.1) _ _, fun he => ⟨fun hr => go (fun hh => ?_) _ _, fun hr => ?_⟩⟩
  · have h2 := hh.2
    rw [eE] at h2; unfold endR at h2; rw [hr] at h2; cases h2
  · have hend : endA (seqA t 0) = true := by rw [eE]; unfold endR; rw [hr]
    have q := hq 0 C3 ⟨Or.inl ⟨he, hend⟩, fun k hk => by omega⟩ hk3 hS3.2.2 (fun hf => by rw [hf] at he; cases he)
    unfold lookA at q
    rw [he, hend] at q
    exact q
def FPl (C C' : nz_f5) : Prop := ∀ kd o' k l x, (o' ≠ 1 ∨ (kd = 8 ∧ x = 0)) → ¬ (o' = 0 ∧ (kd = 12 ∨ (51 ≤ kd ∧ kd ≤ 54) ∨ kd = 22 ∨ (kd = 0 ∧ x = 11))) → C' kd o' k l x = C kd o' k l x
theorem c_plan (hT : TV t) (hC : RTold t C) (hN : ∀ j, j < 8 → C 8 1 j 0 0 = n32 j) (hd : 18 ≤ d) {Q : Int32 → nz_h → Prop}
    (hq : ∀ K C', leastK (stopP t) K → FPl C C' → C' 0 0 0 0 11 = n32 (planW t K).length → (∀ (i x : Nat), (planW t K)[i]? = some x → C' 22 0 0 0 i = n32 x) → Q (planA t K) (T, S, L, Z, C')) : ctI P d 29 [vr (0, 0, 0, 0)] (T, S, L, Z, C) Q := by
  obtain ⟨d, rfl⟩ := dge hd
  refine sm29 ?_
  refine c_tells14 (by omega) hT hC hN (by omega) (fun C1 hF1 hRT => ?_)
  have f1 : F1 C C1 := hF1.f1 (fun kd o' x hw => by unfold Wte at hw; omega)
  simp (disch := omega) only [decide_eq_true_eq, decide_eq_false_iff_not, L32, az01, b2i_01, b2i_n0, b2i_n1, Bool.and_true, true_and, and_true, Classical.not_not, Bool.not_eq_true, Bool.not_eq_false, n32_mul, n32_add, n32_ix, n32_ib, n32_lt, n32_le, n32_inj, l_hb, l_hb0, l_shl, l_wo, l_eqm1, l_m1eq, uC_row]
  have hR2 : RT 1 t (nz_u5 C1 0 0 0 0 11 (n32 0)) := by
    obtain ⟨a1, a2, a3, a4⟩ := hRT
    refine ⟨fun m hm => ?_, fun j hj => ?_, fun j p hj hp => ?_, ?_⟩
    · simp (disch := decide) only [u5_k]; exact a1 m hm
    · simp (disch := decide) only [u5_k]; exact a2 j hj
    · simp (disch := decide) only [u5_k]; exact a3 j p hj hp
    · simp (disch := decide) only [u5_k]; exact a4
  refine c_looks (e := true) hT hR2 (by omega) (fun K C2 hK hF2 h53 _ => ?_)
  have hK := stopX_P hK
  have hfp : FPl C C2 := fun kd o' k l x h1 h2 => by
    rw [hF2 kd o' k l x h1 (by omega)]; unfold nz_u5; rw [if_neg (by omega)]; exact f1 _ _ _ _ _ h1
  have h11 : C2 0 0 0 0 11 = n32 0 := (hF2 _ _ _ _ _ (by omega) (by omega)).trans u5_eq
  have hnK : (seqA t K).1 ≤ 401 := stop_n (P_Q hK.2)
  have n1 := (seqA_n (t := t) K).1
  cases he : endA (seqA t K) with
  | false =>
    have q := hq K C2 hK hfp (by unfold planW; rw [he]; exact h11) (fun i x hx => by unfold planW at hx; rw [he] at hx; simp at hx)
    unfold planA at q
    unfold lookA
    rw [he] at q ⊢
    simp only [Bool.and_false, cond_false] at q ⊢
    have m1 : ¬ n32 0 ≤ nm1 := by decide
    have m2 : ¬ n32 0 ≤ nm2 := by decide
    by_cases h401 : (seqA t K).1 = 401
    · rw [if_pos h401] at q ⊢
      exact ⟨fun hc => absurd hc m2, fun _ => q⟩
    · rw [if_neg h401] at q ⊢
      exact ⟨fun hc => absurd hc m1, fun _ => q⟩
  | true =>
    have hfr := seqA_fr (t := t) K (fun _ _ => trivial) (stop_range (P_Q hK.2))
    have eW : planW t K = way8 (seqA t K) ((seqA t K).1 - 1) ((seqA t K).1 - 1) := by unfold planW; rw [he]; rfl
    unfold lookA
    rw [he]
    simp only [Bool.and_true, cond_true]
    generalize hA : seqA t K = A at *
    have wf := way8_fuel (A := A) (fun i h1 h2 => (hfr i h1 h2).1)
    have wstep : ∀ v, 0 < v → v < A.1 → way8 A v v = way8 A (A.2.2.1 v) (A.2.2.1 v) ++ [A.2.2.2 v] := fun v h1 h2 => by
      obtain ⟨w, rfl⟩ : ∃ w, v = w + 1 := ⟨v - 1, by omega⟩
      rw [way8, if_neg (by omega), wf w _ (by have := (hfr (w + 1) h1 h2).1; omega) (by have := (hfr (w + 1) h1 h2).1; omega)]
    have l59 : ∀ v, v < A.1 → ∀ C3, FPl C C3 → C3 0 0 0 0 11 = n32 (planW t K).length → (∀ x, C3 53 0 0 0 x = C2 53 0 0 0 x) → (∀ x, C3 54 0 0 0 x = C2 54 0 0 0 x) → (∃ R, planW t K = way8 A v v ++ R) → (∀ (i x : Nat), (way8 A v v).length ≤ i → (planW t K)[i]? = some x → C3 22 0 0 0 i = n32 x) → ∀ l1, nzW P (d + 17) az_k29 59 [some (vr (0, 0, 0, 0)), l1, some (vi (n32 (way8 A v v).length)), some (vi (n32 v))] [] (T, S, L, Z, C3) (nz_RI Q) := by
      intro v
      induction v using Nat.strongRecOn with
      | ind v ih =>
        intro hv1 C3 g1 g3 g4 g5 hR g6 l1
        refine sg29_59 ?_
        by_cases h0 : v = 0
        · subst h0
          have e : way8 A 0 0 = [] := rfl
          simp (disch := omega) only [decide_eq_true_eq, decide_eq_false_iff_not, L32, az01, b2i_01, b2i_n0, b2i_n1, Bool.and_true, true_and, and_true, Classical.not_not, Bool.not_eq_true, Bool.not_eq_false, n32_mul, n32_add, n32_ix, n32_ib, n32_lt, n32_le, n32_inj, l_hb, l_hb0, l_shl, l_wo, l_eqm1, l_m1eq, g3]
          refine ⟨fun _ => ?_, fun hc => by omega⟩
          have q := hq K C3 hK g1 g3 (fun i x hx => g6 i x (by rw [e]; exact Nat.zero_le _) hx)
          unfold planA at q
          rw [hA, he] at q
          exact q
        · obtain ⟨q1, q2⟩ := h53 v (by omega) hv1
          have hf := hfr v (by omega) hv1
          have ws := wstep v (by omega) hv1
          have wl : (way8 A v v).length = (way8 A (A.2.2.1 v) (A.2.2.1 v)).length + 1 := by rw [ws, List.length_append]; rfl
          have wle := way8_len (A := A) v v
          have pl : n32 (way8 A v v).length + nm1 = n32 (way8 A (A.2.2.1 v) (A.2.2.1 v)).length := by rw [l_m1 (by omega), wl]; rfl
          simp (disch := first | omega | decide) only [decide_eq_true_eq, decide_eq_false_iff_not, L32, az01, b2i_01, b2i_n0, b2i_n1, Bool.and_true, true_and, and_true, Classical.not_not, Bool.not_eq_true, Bool.not_eq_false, n32_mul, n32_add, n32_ix, n32_ib, n32_lt, n32_le, n32_inj, l_hb, l_hb0, l_shl, l_wo, l_eqm1, l_m1eq, g4, q1, pl, uC_row, g5, q2, u5_k]
          refine ⟨fun hc => by omega, fun _ => ⟨by omega, by omega, by omega, ?_⟩⟩
          obtain ⟨R, hR⟩ := hR
          refine ih (A.2.2.1 v) (by omega) (by omega) _ (fun kd o' k l x h1 h2 => by unfold nz_u5; rw [if_neg (by omega)]; exact g1 kd o' k l x h1 h2) (by rw [u5_k (by decide)]; exact g3) (fun x => by rw [u5_k (by decide)]; exact g4 x) (fun x => by rw [u5_k (by decide)]; exact g5 x) ⟨[A.2.2.2 v] ++ R, by rw [hR, ws, List.append_assoc]⟩ (fun i x hi hx => ?_) _
          rw [u5_at]
          by_cases hii : i = (way8 A (A.2.2.1 v) (A.2.2.1 v)).length
          · rw [if_pos hii]
            rw [hR, ws, hii, List.append_assoc, List.getElem?_append_right (Nat.le_refl _), Nat.sub_self] at hx
            simp at hx
            rw [hx]
          · rw [if_neg hii]; exact g6 i x (by omega) hx
    have l32 : ∀ v, v < A.1 → ∀ c, c + (way8 A v v).length = (planW t K).length → nzW P (d + 17) az_k29 32 [some (vr (0, 0, 0, 0)), some (vi (n32 (A.1 - 1))), some (vi (n32 c)), some (vi (n32 v))] [] (T, S, L, Z, C2) (nz_RI Q) := by
      intro v
      induction v using Nat.strongRecOn with
      | ind v ih =>
        intro hv1 c hc
        refine sg29_32 ?_
        by_cases h0 : v = 0
        · subst h0
          have e : way8 A 0 0 = [] := rfl
          rw [e] at hc
          have hc' : c = (planW t K).length := by simpa using hc
          simp (disch := omega) only [decide_eq_true_eq, decide_eq_false_iff_not, L32, az01, b2i_01, b2i_n0, b2i_n1, Bool.and_true, true_and, and_true, Classical.not_not, Bool.not_eq_true, Bool.not_eq_false, n32_mul, n32_add, n32_ix, n32_ib, n32_lt, n32_le, n32_inj, l_hb, l_hb0, l_shl, l_wo, l_eqm1, l_m1eq, uC_row]
          refine ⟨fun _ => ?_, fun hc => by omega⟩
          rw [hc']
          have := l59 (A.1 - 1) (by omega) (nz_u5 C2 0 0 0 0 11 (n32 (planW t K).length)) (fun kd o' k l x h1 h2 => by unfold nz_u5; rw [if_neg (by omega)]; exact hfp kd o' k l x h1 h2) u5_eq (fun x => u5_k (by decide)) (fun x => u5_k (by decide)) ⟨[], by rw [eW, List.append_nil]⟩ (fun i x hi hx => by
            rw [eW, List.getElem?_eq_none hi] at hx; cases hx) (some (vi (n32 (A.1 - 1))))
          rw [← eW] at this
          exact this
        · obtain ⟨q1, q2⟩ := h53 v (by omega) hv1
          have hf := hfr v (by omega) hv1
          have ws := wstep v (by omega) hv1
          have wl : (way8 A v v).length = (way8 A (A.2.2.1 v) (A.2.2.1 v)).length + 1 := by rw [ws, List.length_append]; rfl
          simp (disch := omega) only [decide_eq_true_eq, decide_eq_false_iff_not, L32, az01, b2i_01, b2i_n0, b2i_n1, Bool.and_true, true_and, and_true, Classical.not_not, Bool.not_eq_true, Bool.not_eq_false, n32_mul, n32_add, n32_ix, n32_ib, n32_lt, n32_le, n32_inj, l_hb, l_hb0, l_shl, l_wo, l_eqm1, l_m1eq, q1]
          exact ⟨fun hc => by omega, fun _ => ⟨by omega, ih (A.2.2.1 v) (by omega) (by omega) (c + 1) (by omega)⟩⟩
    simp (disch := omega) only [decide_eq_true_eq, decide_eq_false_iff_not, L32, az01, b2i_01, b2i_n0, b2i_n1, Bool.and_true, true_and, and_true, Classical.not_not, Bool.not_eq_true, Bool.not_eq_false, n32_mul, n32_add, n32_ix, n32_ib, n32_lt, n32_le, n32_inj, l_hb, l_hb0, l_shl, l_wo, l_eqm1, l_m1eq]
    exact ⟨fun _ => l32 (A.1 - 1) (by omega) 0 (by rw [eW]; omega), fun hc => by omega⟩
theorem c_always (hT : TV t) (hC : RTold t C) (hN : ∀ j, j < 8 → C 8 1 j 0 0 = n32 j) (hd : 18 ≤ d) {Q : Int32 → nz_h → Prop}
    (hq : ∀ K C', leastK (stopQ t) K → FK C C' → Q (alwA t K) (T, S, L, Z, C')) : ctI P d 31 [vr (0, 0, 0, 0)] (T, S, L, Z, C) Q := by
  obtain ⟨d, rfl⟩ := dge hd
  refine sm31 ?_
  refine c_tells14 (by omega) hT hC hN (by omega) (fun C1 hF1 hRT => ?_)
  have f1 : F1 C C1 := hF1.f1 (fun kd o' x hw => by unfold Wte at hw; omega)
  refine c_looks (e := false) hT hRT (by omega) (fun K C2 hK hF2 _ h6 => ?_)
  have q := hq K C2 (stopX_Q hK) (f1.fk.trans hF2)
  have h6 := h6 rfl
  unfold alwA at q
  unfold lookA
  simp only [Bool.false_and, cond_false]
  have m12 : ¬ nm1 = nm2 := by decide
  by_cases h401 : (seqA t K).1 = 401
  · rw [if_pos h401] at q ⊢
    simp (disch := omega) only [decide_eq_true_eq, decide_eq_false_iff_not, L32, az01, b2i_01, b2i_n0, b2i_n1, Bool.and_true, true_and, and_true, Classical.not_not, Bool.not_eq_true, Bool.not_eq_false, n32_mul, n32_add, n32_ix, n32_ib, n32_lt, n32_le, n32_inj, l_hb, l_hb0, l_shl, l_wo, l_eqm1, l_m1eq, h6]
    refine ⟨fun ha => ⟨fun hc => ?_, fun _ => ?_⟩, fun ha => ?_⟩
    · exact (hc trivial).elim
    · rw [ha] at q; exact q
    · rw [ha] at q; exact q
  · rw [if_neg h401] at q ⊢
    simp (disch := omega) only [decide_eq_true_eq, decide_eq_false_iff_not, L32, az01, b2i_01, b2i_n0, b2i_n1, Bool.and_true, true_and, and_true, Classical.not_not, Bool.not_eq_true, Bool.not_eq_false, n32_mul, n32_add, n32_ix, n32_ib, n32_lt, n32_le, n32_inj, l_hb, l_hb0, l_shl, l_wo, l_eqm1, l_m1eq, h6]
    refine ⟨fun ha => ⟨fun _ => ?_, fun hc => absurd hc m12⟩, fun ha => ?_⟩
    · rw [ha] at q; exact q
    · rw [ha] at q; exact q
end
