/-! the system's search -/
def F1 (C C' : nz_f5) : Prop := ∀ kd o' k l x, (o' ≠ 1 ∨ (kd = 8 ∧ x = 0)) → C' kd o' k l x = C kd o' k l x
theorem F1.trans {C C1 C2 : nz_f5} (h1 : F1 C C1) (h2 : F1 C1 C2) : F1 C C2 := fun kd o' k l x h => (h2 kd o' k l x h).trans (h1 kd o' k l x h)
theorem Fr.f1 {W : Nat → Nat → Nat → Prop} {C C' : nz_f5} (h : Fr W C C') (hw : ∀ kd o' x, W kd o' x → o' = 1 ∧ ¬ (kd = 8 ∧ x = 0)) : F1 C C' := fun kd o' k l x hh => h kd o' k l x (fun hx => by have := hw _ _ _ hx; omega)
def FK (C C' : nz_f5) : Prop := ∀ kd o' k l x, (o' ≠ 1 ∨ (kd = 8 ∧ x = 0)) → ¬ (o' = 0 ∧ (kd = 12 ∨ (51 ≤ kd ∧ kd ≤ 54))) → C' kd o' k l x = C kd o' k l x
theorem FK.trans {C C1 C2 : nz_f5} (h1 : FK C C1) (h2 : FK C1 C2) : FK C C2 := fun kd o' k l x a b => (h2 kd o' k l x a b).trans (h1 kd o' k l x a b)
theorem F1.fk {C C' : nz_f5} (h : F1 C C') : FK C C' := fun kd o' k l x a _ => h kd o' k l x a
def CSx (t : St) (A : Sch) (C : nz_f5) : Prop := AR t A.1 A.2.1 C ∧ C 12 0 0 0 5 = n32 A.1 ∧ ∀ i, 0 < i → i < A.1 → C 53 0 0 0 i = n32 (A.2.2.1 i) ∧ C 54 0 0 0 i = n32 (A.2.2.2 i)
theorem CSx.f1 {t : St} {A : Sch} {C C' : nz_f5} (h : CSx t A C) (hF : F1 C C') : CSx t A C' := by
  have e : ∀ kd x, C' kd 0 0 0 x = C kd 0 0 0 x := fun kd x => hF _ _ _ _ _ (by omega)
  refine ⟨h.1.off (fun x _ => e _ _) (fun i _ => e _ _), (e _ _).trans h.2.1, fun i h1 h2 => ?_⟩
  rw [e, e]; exact h.2.2 i h1 h2
def stopX (t : St) (e : Bool) (k : Nat) : Prop := (e = true ∧ endA (seqA t k) = true) ∨ stopQ t k
def lookA (t : St) (e : Bool) (K : Nat) : Int32 := cond (e && endA (seqA t K)) (n32 ((seqA t K).1 - 1)) (if (seqA t K).1 = 401 then nm2 else nm1)
section
variable {P : Nat × (Nat → Int32)} {d : Nat} {t s : St} {T S L Z : nz_f2} {C : nz_f5} {j : Nat}
theorem RC.u12 {x : Nat} {v : Int32} (h : RC 1 t s C) : RC 1 t s (nz_u5 C 12 0 0 0 x v) := h.off (fun _ _ => u5_k (by decide)) (fun _ _ => u5_k (by decide)) (fun _ _ _ => u5_k (by decide)) (u5_k (by decide)) (fun _ _ => u5_k (by decide)) (fun _ => u5_k (by decide)) (fun _ _ => u5_k (by decide))
theorem anyB_no {p : Nat → Bool} {n : Nat} (h : ∀ i, i < n → p i = false) : anyB n p = false := by
  cases ha : anyB n p with
  | false => rfl
  | true => obtain ⟨k, hk, hp⟩ := anyB_iff.1 ha; rw [h k hk] at hp; cases hp
theorem anyB_split {p : Nat → Bool} {m n : Nat} (h : m ≤ n) : (anyB m p || anyB n (fun i => decide (m ≤ i) && p i)) = anyB n p := by
  cases hn : anyB n p with
  | false =>
    have z : ∀ i, i < n → p i = false := fun i hi => by
      cases hp : p i with
      | false => rfl
      | true => rw [anyB_of hi hp] at hn; cases hn
    rw [anyB_no (fun i hi => z i (by omega)), anyB_no (fun i hi => by rw [z i hi, Bool.and_false])]; rfl
  | true =>
    obtain ⟨k, hk, hp⟩ := anyB_iff.1 hn
    by_cases hkm : k < m
    · rw [anyB_of hkm hp]; rfl
    · rw [anyB_of (p := fun i => decide (m ≤ i) && p i) hk (by rw [hp, decide_eq_true (by omega)]; rfl), Bool.or_true]
theorem c_checks {k : Nat} {A : Sch} {b : Bool} (hT : TV t) (hKR : ∀ i, KR t (A.2.1 i)) (hA : AR t 400 A.2.1 C) (hRT : RT 1 t C) (h5 : C 12 0 0 0 5 = n32 400) (h6 : C 12 0 0 0 6 = b2i b) (hk : k ≤ 400) (hd : 11 ≤ d) {Q : nz_h → Prop}
    (hq : ∀ C', FK C C' → C' 12 0 0 0 6 = b2i (b || anyB 400 (fun i => decide (k ≤ i) && stuckR t (A.2.1 i))) → (∀ kd x, kd ≠ 12 → C' kd 0 0 0 x = C kd 0 0 0 x) → Q (T, S, L, Z, C')) : ctV P d 103 [vr (12, 0, 0, 0), vi (n32 k)] (T, S, L, Z, C) Q := by
  obtain ⟨d, rfl⟩ := dge hd
  refine sm103 ?_
  have loop : ∀ r i, r + i = 400 → k ≤ i → ∀ C1, FK C C1 → (∀ kd x, kd ≠ 12 → C1 kd 0 0 0 x = C kd 0 0 0 x) → RT 1 t C1 → C1 12 0 0 0 5 = n32 400 → C1 12 0 0 0 6 = b2i (b || anyB i (fun i => decide (k ≤ i) && stuckR t (A.2.1 i))) → ∀ l1, nzW P (d + 10) az_k103 2 [some (vr (12, 0, 0, 0)), l1, some (vi (n32 i))] [] (T, S, L, Z, C1) (nz_RV Q) := by
    intro r
    induction r with
    | zero =>
      intro i hi hki C1 hF hrow hR1 g5 g6 l1
      obtain rfl : i = 400 := by omega
      refine sg103_2 ?_
      simp (disch := omega) only [decide_eq_true_eq, decide_eq_false_iff_not, L32, az01, b2i_01, b2i_n0, b2i_n1, Bool.and_true, true_and, and_true, Classical.not_not, Bool.not_eq_true, Bool.not_eq_false, n32_mul, n32_add, n32_ix, n32_ib, n32_lt, n32_le, n32_inj, l_hb, l_hb0, l_shl, l_wo, l_eqm1, l_m1eq, g5]
      exact ⟨fun _ => hq C1 hF g6 hrow, fun hc => by omega⟩
    | succ r ih =>
      intro i hi hki C1 hF hrow hR1 g5 g6 l1
      have hK := hKR i
      have hCR : CR t (A.2.1 i) C1 i := ((hA i (by omega)).2.1).off (fun x _ => hrow 51 _ (by decide))
      have nx : ∀ C2, F1 C1 C2 → RT 1 t C2 → stuckR t (A.2.1 i) = false → nzW P (d + 10) az_k103 2 [some (vr (12, 0, 0, 0)), l1, some (vi (n32 (i + 1)))] [] (T, S, L, Z, C2) (nz_RV Q) := fun C2 hF2 hR2 hs => by
        refine ih (i + 1) (by omega) (by omega) C2 (hF.trans hF2.fk) (fun kd x hkd => (hF2 _ _ _ _ _ (by omega)).trans (hrow kd x hkd)) hR2 ((hF2 _ _ _ _ _ (by omega)).trans g5) ?_ _
        rw [hF2 12 0 0 0 6 (by omega), g6, anyB_F (by rw [hs, Bool.and_false])]
      have ny : ∀ C2, F1 C1 C2 → RT 1 t C2 → stuckR t (A.2.1 i) = true → nzW P (d + 10) az_k103 2 [some (vr (12, 0, 0, 0)), l1, some (vi (n32 (i + 1)))] [] (T, S, L, Z, nz_u5 C2 12 0 0 0 6 (n32 1)) (nz_RV Q) := fun C2 hF2 hR2 hs => by
        refine ih (i + 1) (by omega) (by omega) _ ?_ (fun kd x hkd => by rw [u5_k hkd]; exact (hF2 _ _ _ _ _ (by omega)).trans (hrow kd x hkd)) ?_ ?_ ?_ _
        · intro kd o' k' l x h1 h2
          unfold nz_u5; rw [if_neg (by omega)]; exact (hF2 _ _ _ _ _ h1).trans (hF _ _ _ _ _ h1 h2)
        · obtain ⟨a1, a2, a3, a4⟩ := hR2
          refine ⟨fun m hm => ?_, fun j hj => ?_, fun j p hj hp => ?_, ?_⟩
          · rw [u5_k (by decide), u5_k (by decide)]; exact a1 m hm
          · rw [u5_k (by decide), u5_k (by decide), u5_k (by decide), u5_k (by decide)]; exact a2 j hj
          · rw [u5_k (by decide), u5_k (by decide), u5_k (by decide)]; exact a3 j p hj hp
          · rw [u5_k (by decide)]; exact a4
        · rw [u5_x (by decide)]; exact (hF2 _ _ _ _ _ (by omega)).trans g5
        · rw [u5_eq, anyB_T (by rw [hs, decide_eq_true hki]; rfl), Bool.or_true]; rfl
      refine sg103_2 ?_
      simp (disch := omega) only [decide_eq_true_eq, decide_eq_false_iff_not, L32, az01, b2i_01, b2i_n0, b2i_n1, Bool.and_true, true_and, and_true, Classical.not_not, Bool.not_eq_true, Bool.not_eq_false, n32_mul, n32_add, n32_ix, n32_ib, n32_lt, n32_le, n32_inj, l_hb, l_hb0, l_shl, l_wo, l_eqm1, l_m1eq, g5]
      refine ⟨fun hc => by omega, fun _ => ?_⟩
      refine c_comes60 hT hK hR1 hCR (by omega) (by omega) (fun C2 hF2 hR2 => ?_)
      have f2 : F1 C1 C2 := hF2.f1 (fun kd o' x hw => by unfold Wcm at hw; omega)
      refine c_canAny hT hK.1 hR2 (by omega) (fun C3 hF3 => ?_)
      have f3 : F1 C1 C3 := f2.trans (hF3.f1 (fun kd o' x hw => by unfold Wsafe at hw; omega))
      have hR3 := hR2.safe hF3
      rw [c_areEnded hK.1 hR3 (by omega)]
      have eN : anyB 8 (fun j => !decide (tk (A.2.1 i) j 1 = 3)) = anyB 8 (notE (A.2.1 i)) := anyB_congr (fun j hj => by unfold notE; rw [tk_at hj (by omega)])
      simp (disch := omega) only [decide_eq_true_eq, decide_eq_false_iff_not, L32, az01, b2i_01, b2i_n0, b2i_n1, Bool.and_true, true_and, and_true, Classical.not_not, Bool.not_eq_true, Bool.not_eq_false, n32_mul, n32_add, n32_ix, n32_ib, n32_lt, n32_le, n32_inj, l_hb, l_hb0, l_shl, l_wo, l_eqm1, l_m1eq, eN, uC_row]
      refine ⟨fun ha => nx C3 f3 hR3.1 ?_, fun ha => ⟨fun he => nx C3 f3 hR3.1 ?_, fun he => ny C3 f3 hR3.1 ?_⟩⟩
      · unfold stuckR; rw [ha]; rfl
      · unfold stuckR endR; rw [he]; simp
      · unfold stuckR endR; rw [ha, he]; rfl
  refine loop (400 - k) k (by omega) (Nat.le_refl _) C (fun _ _ _ _ _ _ _ => rfl) (fun _ _ _ => rfl) hRT h5 ?_ _
  rw [h6, anyB_no (fun i hi => by rw [decide_eq_false (by omega)]; rfl), Bool.or_false]
/-- goes as told till here -/
def visC (t : St) (e : Bool) (k : Nat) : Prop := ∀ k', k' < k → ¬ stopX t e k'
theorem visC_n {e : Bool} {k : Nat} (h : visC t e k) : (∀ k', k' < k → k' / 8 < (seqA t k').1) ∧ (seqA t k).1 ≤ 401 := ⟨stop_range (fun k' hk' hq => h k' hk' (Or.inr hq)), stop_n (fun k' hk' hq => h k' hk' (Or.inr hq))⟩
theorem c_looksL {e : Bool} (hT : TV t) {Q : Int32 → nz_h → Prop}
    (hq : ∀ K C', leastK (stopX t e) K → FK C C' → (∀ i, 0 < i → i < (seqA t K).1 → C' 53 0 0 0 i = n32 ((seqA t K).2.2.1 i) ∧ C' 54 0 0 0 i = n32 ((seqA t K).2.2.2 i)) → (e = false → C' 12 0 0 0 6 = b2i (anyB (alwM t K) (fun i => stuckR t ((seqA t K).2.1 i)))) → Q (lookA t e K) (T, S, L, Z, C')) :
    ∀ f k, f + k = 3216 → visC t e k → ¬ stopX t e k → k / 8 < (seqA t k).1 → ∀ C1, FK C C1 → RT 1 t C1 → CSx t (seqA t k) C1 → C1 12 0 0 0 6 = b2i (anyB (k / 8) (fun i => stuckR t ((seqA t k).2.1 i))) →
      nzW P (d + 16) az_k98 78 [some (vr (12, 0, 0, 0)), some (vi (b2i e)), some (vi (n32 (k / 8))), some (vi (b2i (anyB (k % 8) (mayS t (tk ((seqA t k).2.1 (k / 8))))))), some (vi (n32 (k % 8)))] [] (T, S, L, Z, C1) (nz_RI Q) := by
  intro f
  induction f with
  | zero =>
    intro k hk hv _ hin
    have := (visC_n hv).2
    omega
  | succ f ih =>
    intro k hk hv hns hin C1 hF hRT hS h6
    have hnk : (seqA t k).1 ≤ 400 := by
      have := (visC_n hv).2
      have h2 : ¬ (seqA t k).1 = 401 := fun h => hns (Or.inr (Or.inl h))
      omega
    have hv1 : visC t e (k + 1) := fun k' hk' => by
      by_cases hkk : k' = k
      · rw [hkk]; exact hns
      · exact hv k' (by omega)
    have hKR := seqA_KR (t := t) hT k
    have hK := hKR (k / 8)
    have hj8 : k % 8 < 8 := by omega
    have hCR := (hS.1 (k / 8) hin).2.1
    have row : ∀ i, i < (seqA t k).1 → (seqA t (k + 1)).2.1 i = (seqA t k).2.1 i := fun i hi => by
      rw [seqA]
      rcases stepA_cases (t := t) (j := k % 8) (seqA t k) (k / 8) with h | ⟨_, _, h⟩
      · rw [h]
      · rw [h]; exact (push_row hi).1
    have nle : (seqA t k).1 ≤ (seqA t (k + 1)).1 := by
      rw [seqA]
      rcases stepA_cases (t := t) (j := k % 8) (seqA t k) (k / 8) with h | ⟨_, _, h⟩
      · rw [h]; exact Nat.le_refl _
      · rw [h]; show (seqA t k).1 ≤ (seqA t k).1 + 1; omega
    have stk : ∀ n, n ≤ (seqA t k).1 → anyB n (fun i => stuckR t ((seqA t (k + 1)).2.1 i)) = anyB n (fun i => stuckR t ((seqA t k).2.1 i)) := fun n hn => anyB_congr (fun i hi => by rw [row i (by omega)])
    -- what comes next
    have next : ∀ b : Bool, b = anyB (k % 8 + 1) (mayS t (tk ((seqA t k).2.1 (k / 8)))) → ¬ (e = true ∧ endA (seqA t (k + 1)) = true) → (seqA t (k + 1)).1 ≤ 400 → ∀ C2, FK C C2 → RT 1 t C2 → CSx t (seqA t (k + 1)) C2 → C2 12 0 0 0 6 = b2i (anyB (k / 8) (fun i => stuckR t ((seqA t k).2.1 i))) → nzW P (d + 16) az_k98 78 [some (vr (12, 0, 0, 0)), some (vi (b2i e)), some (vi (n32 (k / 8))), some (vi (b2i b)), some (vi (n32 (k % 8 + 1)))] [] (T, S, L, Z, C2) (nz_RI Q) := fun b hb hne hn2 C2 hF2 hR2 hS2 h62 => by
      subst hb
      by_cases hj7 : k % 8 = 7
      · have hkk : (k + 1) / 8 = k / 8 + 1 := by omega
        have hkm : (k + 1) % 8 = 0 := by omega
        have fin : ∀ C3, FK C C3 → RT 1 t C3 → CSx t (seqA t (k + 1)) C3 → C3 12 0 0 0 6 = b2i (anyB (k / 8 + 1) (fun i => stuckR t ((seqA t k).2.1 i))) → ∀ l3 l4, nzW P (d + 16) az_k98 49 [some (vr (12, 0, 0, 0)), some (vi (b2i e)), some (vi (n32 (k / 8 + 1))), l3, l4] [] (T, S, L, Z, C3) (nz_RI Q) := fun C3 hF3 hR3 hS3 h63 l3 l4 => by
          have e5 := hS3.2.1
          have h63' : C3 12 0 0 0 6 = b2i (anyB ((k + 1) / 8) (fun i => stuckR t ((seqA t (k + 1)).2.1 i))) := by rw [hkk, stk _ (by omega)]; exact h63
          refine sg98_49 ?_
          simp (disch := omega) only [decide_eq_true_eq, decide_eq_false_iff_not, L32, az01, b2i_01, b2i_n0, b2i_n1, Bool.and_true, true_and, and_true, Classical.not_not, Bool.not_eq_true, Bool.not_eq_false, n32_mul, n32_add, n32_ix, n32_ib, n32_lt, n32_le, n32_inj, l_hb, l_hb0, l_shl, l_wo, l_eqm1, l_m1eq, e5]
          refine ⟨fun hle => ?_, fun hlt => ?_⟩
          · have hst : stopX t e (k + 1) := Or.inr (Or.inr ⟨hkm, by omega⟩)
            have q := hq (k + 1) C3 ⟨hst, hv1⟩ hF3 hS3.2.2 (fun _ => by
              have em : alwM t (k + 1) = (k + 1) / 8 := by unfold alwM; rw [if_neg (by omega)]; omega
              rw [em]; exact h63')
            unfold lookA at q
            have : (e && endA (seqA t (k + 1))) = false := by
              cases h : (e && endA (seqA t (k + 1))) with
              | false => rfl
              | true => rw [Bool.and_eq_true] at h; exact absurd h hne
            rw [this, cond_false, if_neg (by omega)] at q
            exact q
          · have hin2 : (k + 1) / 8 < (seqA t (k + 1)).1 := by omega
            have hns2 : ¬ stopX t e (k + 1) := fun h => by
              rcases h with h | h | h
              · exact hne h
              · omega
              · omega
            have hK2 := seqA_KR (t := t) hT (k + 1) (k / 8 + 1)
            refine c_comes60 hT hK2 hR3 (hS3.1 (k / 8 + 1) (by omega)).2.1 (by omega) (by omega) (fun C4 hF4 hR4 => ?_)
            have f4 : F1 C3 C4 := hF4.f1 (fun kd o' x hw => by unfold Wcm at hw; omega)
            have := ih (k + 1) (by omega) hv1 hns2 hin2 C4 (hF3.trans f4.fk) hR4.1 (hS3.f1 f4) ((f4 _ _ _ _ _ (by omega)).trans h63')
            rw [hkk, hkm] at this
            exact this
        rw [hj7]
        simp only [Nat.reduceAdd]
        refine sg98_78 ?_
        simp (disch := omega) only [decide_eq_true_eq, decide_eq_false_iff_not, L32, az01, b2i_01, b2i_n0, b2i_n1, Bool.and_true, true_and, and_true, Classical.not_not, Bool.not_eq_true, Bool.not_eq_false, n32_mul, n32_add, n32_ix, n32_ib, n32_lt, n32_le, n32_inj, l_hb, l_hb0, l_shl, l_wo, l_eqm1, l_m1eq]
        refine ⟨fun _ => ?_, fun hc => by omega⟩
        have hCR2 := (hS2.1 (k / 8) (by omega)).2.1
        rw [row _ hin] at hCR2
        refine c_comes60 hT hK hR2 hCR2 (by omega) (by omega) (fun C3 hF3 hR3 => ?_)
        have f3 : F1 C2 C3 := hF3.f1 (fun kd o' x hw => by unfold Wcm at hw; omega)
        rw [c_areEnded hK.1 hR3 (by omega)]
        have eN : anyB 8 (fun j => !decide (tk ((seqA t k).2.1 (k / 8)) j 1 = 3)) = anyB 8 (notE ((seqA t k).2.1 (k / 8))) := anyB_congr (fun j hj => by unfold notE; rw [tk_at hj (by omega)])
        have g63 : C3 12 0 0 0 6 = b2i (anyB (k / 8) (fun i => stuckR t ((seqA t k).2.1 i))) := (f3 _ _ _ _ _ (by omega)).trans h62
        simp (disch := omega) only [decide_eq_true_eq, decide_eq_false_iff_not, L32, az01, b2i_01, b2i_n0, b2i_n1, Bool.and_true, true_and, and_true, Classical.not_not, Bool.not_eq_true, Bool.not_eq_false, n32_mul, n32_add, n32_ix, n32_ib, n32_lt, n32_le, n32_inj, l_hb, l_hb0, l_shl, l_wo, l_eqm1, l_m1eq, eN, uC_row]
        refine ⟨fun ha => fin C3 (hF2.trans f3.fk) hR3.1 (hS2.f1 f3) ?_ _ _, fun ha => ⟨fun he => fin C3 (hF2.trans f3.fk) hR3.1 (hS2.f1 f3) ?_ _ _, fun he => fin _ ?_ hR3.u12.1 ?_ ?_ _ _⟩⟩
        · rw [g63, anyB_F]; unfold stuckR; rw [ha]; rfl
        · rw [g63, anyB_F]; unfold stuckR endR; rw [he]; simp
        · intro kd o' k' l x h1 h2
          unfold nz_u5; rw [if_neg (by omega)]; exact (f3 _ _ _ _ _ h1).trans (hF2 _ _ _ _ _ h1 h2)
        · obtain ⟨x1, x2, x3⟩ := hS2.f1 f3
          exact ⟨x1.off (fun x _ => u5_k (by decide)) (fun i _ => u5_k (by decide)), by rw [u5_x (by decide)]; exact x2, fun i h1 h2 => by rw [u5_k (by decide), u5_k (by decide)]; exact x3 i h1 h2⟩
        · rw [u5_eq, anyB_T]; rfl
          unfold stuckR endR; rw [ha, he]; rfl
      · have hkk : (k + 1) / 8 = k / 8 := by omega
        have hkm : (k + 1) % 8 = k % 8 + 1 := by omega
        have hns2 : ¬ stopX t e (k + 1) := fun h => by
          rcases h with h | h | h
          · exact hne h
          · omega
          · omega
        have := ih (k + 1) (by omega) hv1 hns2 (by omega) C2 hF2 hR2 hS2 (by rw [hkk, stk _ (by omega)]; exact h62)
        rw [hkk, hkm, row _ hin] at this
        exact this
    -- a grant is tried
    have sameN : stepA t (seqA t k) (k / 8) (k % 8) = seqA t k → seqA t (k + 1) = seqA t k := fun h => h
    have endk : ¬ (e = true ∧ endA (seqA t k) = true) := fun h => hns (Or.inl h)
    refine sg98_78 ?_
    simp (disch := omega) only [decide_eq_true_eq, decide_eq_false_iff_not, L32, az01, b2i_01, b2i_n0, b2i_n1, Bool.and_true, true_and, and_true, Classical.not_not, Bool.not_eq_true, Bool.not_eq_false, n32_mul, n32_add, n32_ix, n32_ib, n32_lt, n32_le, n32_inj, l_hb, l_hb0, l_shl, l_wo, l_eqm1, l_m1eq]
    refine ⟨fun hc => by omega, fun _ => ?_⟩
    refine c_comes60 hT hK hRT hCR (by omega) (by omega) (fun C2 hF2 hR2 => ?_)
    have f2 : F1 C1 C2 := hF2.f1 (fun kd o' x hw => by unfold Wcm at hw; omega)
    refine ⟨hj8, ?_⟩
    refine c_may hT hK.1 hR2 (by omega) hj8 (fun C3 hF3 => ?_)
    have f3 : F1 C1 C3 := f2.trans (hF3.f1 (fun kd o' x hw => by unfold Wsafe at hw; omega))
    have hR3 := hR2.safe hF3
    simp (disch := omega) only [decide_eq_true_eq, decide_eq_false_iff_not, L32, az01, b2i_01, b2i_n0, b2i_n1, Bool.and_true, true_and, and_true, Classical.not_not, Bool.not_eq_true, Bool.not_eq_false, n32_mul, n32_add, n32_ix, n32_ib, n32_lt, n32_le, n32_inj, l_hb, l_hb0, l_shl, l_wo, l_eqm1, l_m1eq]
    refine ⟨fun hmt => ⟨hj8, ?_⟩, fun hmf => ?_⟩
    · obtain ⟨c1, c2⟩ := mayS_can hmt
      have g := zGI hK.1
      obtain ⟨g1, g2, g3⟩ := g.grant hT hj8 c1 c2
      obtain ⟨n1, n2, n3⟩ := nS_inv hT hK.1 hj8 hmt
      refine c_grant (L := zL) (Or.inr rfl) hT hK.1 g.2.1 g.2.2.1 hR3 (fun h => by cases h) (fun h => by cases h) (by omega) hj8 c1 c2 (fun C4 hF4 hR4 _ _ => ?_)
      refine c_settles (by omega) hT (by omega) 6000 (grantP t (tk ((seqA t k).2.1 (k / 8)), zL) (k % 8)) C4 g1.1 g1.2.1 hR4 (fun h => by cases h) g1.fuel (fun C5 hF5 hR5 _ => ?_)
      have hR5 : RC 1 t (nS t (tk ((seqA t k).2.1 (k / 8))) (k % 8)) C5 := hR5
      have f5 : F1 C1 C5 := f3.trans ((hF4.f1 (fun kd o' x hw => by unfold Wgr Wsh at hw; omega)).trans (hF5.f1 (fun kd o' x hw => by unfold Wsh at hw; omega)))
      have hS5 := hS.f1 f5
      have h65 : C5 12 0 0 0 6 = b2i (anyB (k / 8) (fun i => stuckR t ((seqA t k).2.1 i))) := (f5 _ _ _ _ _ (by omega)).trans h6
      refine c_meets99 hT n1 n2 hR5 hnk hS5.2.1 hS5.1 (by omega) (fun hmet C6 hF6 hA6 h56 => ?_) (fun hmet C6 hF6 hA6 h56 h53 h54 => ?_)
      · have hmet : metB (seqA t k) (newR t ((seqA t k).2.1 (k / 8)) (k % 8)) = true := hmet
        have e1 : seqA t (k + 1) = seqA t k := by rw [seqA]; unfold stepA; rw [hmt, hmet]; rfl
        have hR6 := hR5.fs hF6
        have k6 : FK C5 C6 := fun kd o' k' l x h1 h2 => hF6 kd o' k' l x (by omega) (by omega) (by omega)
        have hS6 : CSx t (seqA t (k + 1)) C6 := by
          rw [e1]
          exact ⟨hA6, h56, fun i h1 h2 => by rw [hF6 _ _ _ _ _ (by omega) (by omega) (by omega), hF6 _ _ _ _ _ (by omega) (by omega) (by omega)]; exact hS5.2.2 i h1 h2⟩
        simp (disch := omega) only [decide_eq_true_eq, decide_eq_false_iff_not, L32, az01, b2i_01, b2i_n0, b2i_n1, Bool.and_true, true_and, and_true, Classical.not_not, Bool.not_eq_true, Bool.not_eq_false, n32_mul, n32_add, n32_ix, n32_ib, n32_lt, n32_le, n32_inj, l_hb, l_hb0, l_shl, l_wo, l_eqm1, l_m1eq]
        refine ⟨fun hc => (hc trivial).elim, fun _ => ?_⟩
        exact next true (by rw [anyB_T hmt]) (by rw [e1]; exact endk) (by rw [e1]; exact hnk) C6 (hF.trans (f5.fk.trans k6)) hR6.1 hS6 ((hF6 _ _ _ _ _ (by omega) (by omega) (by omega)).trans h65)
      · have hmet : metB (seqA t k) (newR t ((seqA t k).2.1 (k / 8)) (k % 8)) = false := hmet
        have e1 : seqA t (k + 1) = pushA (seqA t k) (newR t ((seqA t k).2.1 (k / 8)) (k % 8)) (k / 8) (k % 8) := by rw [seqA]; unfold stepA; rw [hmt, hmet]; rfl
        have en : (seqA t (k + 1)).1 = (seqA t k).1 + 1 := by rw [e1]; rfl
        have hR6 := hR5.fs hF6
        have k6 : FK C5 C6 := fun kd o' k' l x h1 h2 => hF6 kd o' k' l x (by omega) (by omega) (by omega)
        have hk6 : FK C C6 := hF.trans (f5.fk.trans k6)
        have g6 : C6 12 0 0 0 6 = b2i (anyB (k / 8) (fun i => stuckR t ((seqA t k).2.1 i))) := (hF6 _ _ _ _ _ (by omega) (by omega) (by omega)).trans h65
        have hS6 : CSx t (seqA t (k + 1)) C6 := by
          rw [e1]
          refine ⟨hA6, h56, fun i h1 h2 => ?_⟩
          have h2 : i < (seqA t k).1 + 1 := h2
          show C6 53 0 0 0 i = n32 (updN (seqA t k).2.2.1 (seqA t k).1 (k / 8) i) ∧ C6 54 0 0 0 i = n32 (updN (seqA t k).2.2.2 (seqA t k).1 (k % 8) i)
          by_cases hin' : i = (seqA t k).1
          · rw [hin', updN_eq, updN_eq]; exact ⟨h53, h54⟩
          · rw [updN_ne hin', updN_ne hin', hF6 _ _ _ _ _ (by omega) (by omega) (by omega), hF6 _ _ _ _ _ (by omega) (by omega) (by omega)]
            exact hS5.2.2 i h1 (by omega)
        have eE : endA (seqA t (k + 1)) = (endA (seqA t k) || endR (newR t ((seqA t k).2.1 (k / 8)) (k % 8))) := by rw [e1, endA_push]
        have eN : anyB 8 (fun j => !decide (nS t (tk ((seqA t k).2.1 (k / 8))) (k % 8) j 1 = 3)) = anyB 8 (notE (newR t ((seqA t k).2.1 (k / 8)) (k % 8))) := anyB_congr (fun j hj => by unfold notE newR; rw [kF_1])
        -- it is full
        have full : ¬ (e = true ∧ endA (seqA t (k + 1)) = true) → ¬ (seqA t k).1 + 1 ≤ 400 → ctV P (d + 16) 103 [vr (12, 0, 0, 0), vi (n32 (k / 8))] (T, S, L, Z, nz_u5 C6 12 0 0 0 5 (n32 400)) (fun h8 => Q nm2 h8) := fun hne hfull => by
          have h401 : (seqA t (k + 1)).1 = 401 := by omega
          have hA400 : AR t 400 (seqA t (k + 1)).2.1 C6 := fun i hi => hS6.1 i (by omega)
          refine c_checks (A := seqA t (k + 1)) hT (seqA_KR hT (k + 1)) (hA400.off (fun x _ => u5_k (by decide)) (fun i _ => u5_k (by decide))) hR6.u12.1 u5_eq (by rw [u5_x (by decide)]; exact g6) (by omega) (by omega) (fun C7 hF7 h67 h537 => ?_)
          have hst : stopX t e (k + 1) := Or.inr (Or.inl h401)
          have f7 : FK C C7 := fun kd o' k' l x h1 h2 => by
            rw [hF7 _ _ _ _ _ h1 h2]; unfold nz_u5; rw [if_neg (by omega)]; exact hk6 _ _ _ _ _ h1 h2
          have hE0 : (e && endA (seqA t (k + 1))) = false := by
            cases h : (e && endA (seqA t (k + 1))) with
            | false => rfl
            | true => rw [Bool.and_eq_true] at h; exact absurd h hne
          have q := hq (k + 1) C7 ⟨hst, hv1⟩ f7 (fun i h1 h2 => by
            rw [h537 53 i (by decide), h537 54 i (by decide), u5_k (by decide), u5_k (by decide)]; exact hS6.2.2 i h1 h2) (fun _ => by
            have em : alwM t (k + 1) = 400 := by unfold alwM; rw [if_pos h401]
            rw [h67, em, ← stk (k / 8) (by omega), anyB_split (by omega)])
          unfold lookA at q
          rw [hE0, cond_false, if_pos h401] at q
          exact q
        simp (disch := omega) only [decide_eq_true_eq, decide_eq_false_iff_not, L32, az01, b2i_01, b2i_n0, b2i_n1, Bool.and_true, true_and, and_true, Classical.not_not, Bool.not_eq_true, Bool.not_eq_false, n32_mul, n32_add, n32_ix, n32_ib, n32_lt, n32_le, n32_inj, l_hb, l_hb0, l_shl, l_wo, l_eqm1, l_m1eq, h56, uC_row]
        refine ⟨fun _ => ⟨fun he => ⟨fun hle => ?_, fun hgt => ?_⟩, fun he => ?_⟩, fun hc => by omega⟩
        · exact next true (by rw [anyB_T hmt]) (fun hh => by rw [he] at hh; cases hh.1) (by omega) C6 hk6 hR6.1 hS6 g6
        · exact full (fun hh => by rw [he] at hh; cases hh.1) hgt
        · rw [c_areEnded n1 hR6 (by omega)]
          simp (disch := omega) only [decide_eq_true_eq, decide_eq_false_iff_not, L32, az01, b2i_01, b2i_n0, b2i_n1, Bool.and_true, true_and, and_true, Classical.not_not, Bool.not_eq_true, Bool.not_eq_false, n32_mul, n32_add, n32_ix, n32_ib, n32_lt, n32_le, n32_inj, l_hb, l_hb0, l_shl, l_wo, l_eqm1, l_m1eq, eN, h56, uC_row]
          refine ⟨fun hr => ⟨fun hle => ?_, fun hgt => ?_⟩, fun hr => ?_⟩
          · refine next true (by rw [anyB_T hmt]) (fun hh => ?_) (by omega) C6 hk6 hR6.1 hS6 g6
            have h2 := hh.2
            rw [eE] at h2
            unfold endR at h2
            rw [hr, Bool.or_false] at h2
            exact endk ⟨he, h2⟩
          · refine full (fun hh => ?_) hgt
            have h2 := hh.2
            rw [eE] at h2
            unfold endR at h2
            rw [hr, Bool.or_false] at h2
            exact endk ⟨he, h2⟩
          · have hend : endA (seqA t (k + 1)) = true := by
              rw [eE]; unfold endR; rw [hr, Bool.or_true]
            have q := hq (k + 1) C6 ⟨Or.inl ⟨he, hend⟩, hv1⟩ hk6 hS6.2.2 (fun hf => by rw [hf] at he; cases he)
            unfold lookA at q
            rw [he, hend, en, Nat.add_sub_cancel] at q
            rw [n32_sub (by omega), Nat.add_sub_cancel]
            exact q
    · have e1 : seqA t (k + 1) = seqA t k := by rw [seqA]; unfold stepA; rw [hmf]; rfl
      have := next (anyB (k % 8) (mayS t (tk ((seqA t k).2.1 (k / 8))))) (by rw [anyB_F hmf]) (by rw [e1]; exact endk) (by rw [e1]; exact hnk) C3 (hF.trans f3.fk) hR3.1 (by rw [e1]; exact hS.f1 f3) ((f3 _ _ _ _ _ (by omega)).trans h6)
      exact this
end
