/-! the system's log of grants -/
def RH (L : nz_f2) (C : nz_f5) : Prop := C 11 0 0 0 5 = L 13 22 ∧ (∀ i, C 43 0 0 0 i = L 72 i ∧ C 44 0 0 0 i = L 73 i ∧ C 45 0 0 0 i = L 74 i) ∧ RB L C
def glW (kd o' x : Nat) : Prop := o' = 0 ∧ ((kd = 10 ∧ x = 5) ∨ (36 ≤ kd ∧ kd ≤ 40) ∨ (kd = 11 ∧ x = 5) ∨ (43 ≤ kd ∧ kd ≤ 45))
theorem RB.congr {L L' : nz_f2} {C C' : nz_f5} (h : RB L C) (hl : ∀ a x, 81 ≤ a → a ≤ 85 → L' a x = L a x) (h34 : L' 13 34 = L 13 34) (h5 : C' 10 0 0 0 5 = C 10 0 0 0 5) (hc : ∀ kd x, 36 ≤ kd → kd ≤ 40 → C' kd 0 0 0 x = C kd 0 0 0 x) : RB L' C' := by
  have eo : ordB L' = ordB L := by funext i; unfold ordB; rw [hl 85 i (by omega) (by omega)]
  obtain ⟨h1, h2, h3, h4, h6⟩ := h
  refine ⟨?_, ?_, ?_, fun i => ?_, fun f hf => ?_⟩
  · unfold LI3 at h1 ⊢; rw [eo, h34]; exact h1
  · rw [eo]; exact h2
  · rw [h5, h34]; exact h3
  · rw [hc 36 i (by omega) (by omega), hc 37 i (by omega) (by omega), hc 38 i (by omega) (by omega), hc 39 i (by omega) (by omega), hl 81 i (by omega) (by omega), hl 82 i (by omega) (by omega), hl 83 i (by omega) (by omega), hl 84 i (by omega) (by omega)]; exact h4 i
  · rw [hc 40 f (by omega) (by omega), eo]; exact h6 f hf
theorem lrn1_F {s : St} {j b i : Nat} {L : nz_f2} (h : lrnB s j b L i = false) : lrn1 s j b L i = L := by unfold lrn1; rw [h]; rfl
section
variable {P : Nat × (Nat → Int32)} {d : Nat} {t s : St} {T S L0 L Z : nz_f2} {C : nz_f5} {j : Nat}
theorem c_glog {g b : Nat} (hd : 5 ≤ d) (hb : b < 1024) (e8 : C 8 0 j 0 0 = n32 j) (e5 : C 8 0 j 0 5 = n32 (s j 0)) (hRH : RH L C) (hg : L 13 22 = n32 g) (hg7 : g < 700) {Q : nz_h → Prop}
    (hq : ∀ C', Fr glW C C' → C' 11 0 0 0 5 = n32 (g + 1) → (∀ i, C' 43 0 0 0 i = (if i = g then n32 j else L 72 i) ∧ C' 44 0 0 0 i = (if i = g then n32 (s j 0) else L 73 i) ∧ C' 45 0 0 0 i = (if i = g then n32 b else L 74 i)) → RB (lrnN s j b L 100) C' → Q (T, S, L0, Z, C')) : ctV P d 94 [vr (11, 0, 0, 0), jO 0 j, vi (n32 (hadS s j)), vi (n32 b)] (T, S, L0, Z, C) Q := by
  obtain ⟨d, rfl⟩ := dge hd
  obtain ⟨h5, h43, hRB⟩ := hRH
  rw [hg] at h5
  have had := hadS_lt s j
  refine sm94 ?_
  have fin : ∀ C1, Fr glW C C1 → C1 11 0 0 0 5 = n32 (g + 1) → (∀ i, C1 43 0 0 0 i = (if i = g then n32 j else L 72 i) ∧ C1 44 0 0 0 i = (if i = g then n32 (s j 0) else L 73 i) ∧ C1 45 0 0 0 i = (if i = g then n32 b else L 74 i)) → ∀ r f, r + f = 10 → ∀ C2, Fr bookW C1 C2 → RB (lrnN s j b L (10 * f)) C2 → ∀ l5, nzW P (d + 4) az_k94 49 [some (vr (11, 0, 0, 0)), some (jO 0 j), some (vi (n32 (hadS s j))), some (vi (n32 b)), some (vi (n32 f)), l5] [] (T, S, L0, Z, C2) (nz_RV Q) := by
    intro C1 hF1 g5 g43 r
    induction r with
    | zero =>
      intro f hf C2 hF2 hB2 l5
      obtain rfl : f = 10 := by omega
      refine sg94_49 ?_
      simp (disch := omega) only [decide_eq_true_eq, decide_eq_false_iff_not, L32, az01, b2i_01, b2i_n0, b2i_n1, Bool.and_true, true_and, and_true, Classical.not_not, Bool.not_eq_true, Bool.not_eq_false, n32_mul, n32_add, n32_ix, n32_ib, n32_lt, n32_le, n32_inj, l_hb, l_hb0, l_shl, l_wo, l_eqm1, l_m1eq]
      refine ⟨fun _ => hq C2 ?_ ?_ (fun i => ?_) hB2, fun hc => by omega⟩
      · exact hF1.trans (hF2.mono (fun kd o' x hw => by unfold bookW at hw; unfold glW; omega))
      · rw [hF2 11 0 0 0 5 (by unfold bookW; omega)]; exact g5
      · rw [hF2 43 0 0 0 i (by unfold bookW; omega), hF2 44 0 0 0 i (by unfold bookW; omega), hF2 45 0 0 0 i (by unfold bookW; omega)]; exact g43 i
    | succ r ih =>
      intro f hf C2 hF2 hB2 l5
      refine sg94_49 ?_
      simp (disch := omega) only [decide_eq_true_eq, decide_eq_false_iff_not, L32, az01, b2i_01, b2i_n0, b2i_n1, Bool.and_true, true_and, and_true, Classical.not_not, Bool.not_eq_true, Bool.not_eq_false, n32_mul, n32_add, n32_ix, n32_ib, n32_lt, n32_le, n32_inj, l_hb, l_hb0, l_shl, l_wo, l_eqm1, l_m1eq]
      refine ⟨fun hc => by omega, fun _ => ?_⟩
      have inner : ∀ r2 k, r2 + k = 10 → ∀ C3, Fr bookW C1 C3 → RB (lrnN s j b L (10 * f + k)) C3 → nzW P (d + 4) az_k94 59 [some (vr (11, 0, 0, 0)), some (jO 0 j), some (vi (n32 (hadS s j))), some (vi (n32 b)), some (vi (n32 f)), some (vi (n32 k))] [] (T, S, L0, Z, C3) (nz_RV Q) := by
        intro r2
        induction r2 with
        | zero =>
          intro k hk C3 hF3 hB3
          obtain rfl : k = 10 := by omega
          refine sg94_59 ?_
          simp (disch := omega) only [decide_eq_true_eq, decide_eq_false_iff_not, L32, az01, b2i_01, b2i_n0, b2i_n1, Bool.and_true, true_and, and_true, Classical.not_not, Bool.not_eq_true, Bool.not_eq_false, n32_mul, n32_add, n32_ix, n32_ib, n32_lt, n32_le, n32_inj, l_hb, l_hb0, l_shl, l_wo, l_eqm1, l_m1eq]
          exact ⟨fun _ => ih (f + 1) (by omega) C3 hF3 hB3 _, fun hc => by omega⟩
        | succ r2 ih2 =>
          intro k hk C3 hF3 hB3
          have hk10 : k < 10 := by omega
          have hf10 : f < 10 := by omega
          have i1 : (10 * f + k) / 10 = f := by omega
          have i2 : (10 * f + k) % 10 = k := by omega
          have skip : lrnB s j b (lrnN s j b L (10 * f + k)) (10 * f + k) = false → nzW P (d + 4) az_k94 59 [some (vr (11, 0, 0, 0)), some (jO 0 j), some (vi (n32 (hadS s j))), some (vi (n32 b)), some (vi (n32 f)), some (vi (n32 (k + 1)))] [] (T, S, L0, Z, C3) (nz_RV Q) := fun h =>
            ih2 (k + 1) (by omega) C3 hF3 (by
              show RB (lrn1 s j b (lrnN s j b L (10 * f + k)) (10 * f + k)) C3
              rw [lrn1_F h]; exact hB3)
          have hbit : (hadS s j).testBit f = hasS s j f := by unfold hadS; rw [bits_bit, decide_eq_true hf10, Bool.true_and]
          have x8 : ∀ x, C3 8 0 j 0 x = C 8 0 j 0 x := fun x => (hF3 8 0 j 0 x (by unfold bookW; omega)).trans (hF1 8 0 j 0 x (by unfold glW; omega))
          refine sg94_59 ?_
          simp (disch := omega) only [decide_eq_true_eq, decide_eq_false_iff_not, L32, az01, b2i_01, b2i_n0, b2i_n1, Bool.and_true, true_and, and_true, Classical.not_not, Bool.not_eq_true, Bool.not_eq_false, n32_mul, n32_add, n32_ix, n32_ib, n32_lt, n32_le, n32_inj, l_hb, l_hb0, l_shl, l_wo, l_eqm1, l_m1eq, c_has, x8, e8, e5, hbit]
          refine ⟨fun hc => by omega, fun _ => ⟨fun h => skip ?_, fun h => ⟨fun hh => skip ?_, fun hh => ⟨fun hbb => skip ?_, fun hbb => ?_⟩⟩⟩⟩
          · unfold lrnB; rw [i1, i2, decide_eq_true h]; simp
          · unfold lrnB; rw [i1, hh]; rfl
          · unfold lrnB; rw [i2, hbb]; simp
          · exact c_learn (by omega) hf10 hk10 h rfl hh hbb hB3 (fun C4 hF4 hB4 => ih2 (k + 1) (by omega) C4 (hF3.trans hF4) hB4)
      exact inner 10 0 rfl C2 hF2 hB2
  simp (disch := first | omega | decide) only [decide_eq_true_eq, decide_eq_false_iff_not, L32, az01, b2i_01, b2i_n0, b2i_n1, Bool.and_true, true_and, and_true, Classical.not_not, Bool.not_eq_true, Bool.not_eq_false, n32_mul, n32_add, n32_ix, n32_ib, n32_lt, n32_le, n32_inj, l_hb, l_hb0, l_shl, l_wo, l_eqm1, l_m1eq, uC_row, h5, e8, e5, u5_k, u5_x]
  refine ⟨hg7, hg7, hg7, ?_⟩
  have hF1 : Fr glW C (nz_u5 (nz_u5 (nz_u5 (nz_u5 C 43 0 0 0 g (n32 j)) 44 0 0 0 g (n32 (s j 0))) 45 0 0 0 g (n32 b)) 11 0 0 0 5 (n32 (g + 1))) := by
    refine Fr.up (Fr.up (Fr.up (Fr.up (Fr.rfl' C) ?_) ?_) ?_) ?_ <;> (unfold glW; omega)
  refine fin _ hF1 u5_eq (fun i => ?_) 10 0 rfl _ (Fr.rfl' _) ?_ _
  · simp (disch := decide) only [u5_k, u5_at]
    by_cases hi : i = g
    · simp [hi]
    · simp [hi, (h43 i).1, (h43 i).2.1, (h43 i).2.2]
  · exact hRB.congr (fun _ _ _ _ => rfl) rfl (by simp (disch := decide) only [u5_k]) (fun kd x h1 h2 => by simp (disch := omega) only [u5_k])
end
