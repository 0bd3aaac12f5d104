/-! the system's run, whole -/
/-- what the log's rows keep at all times -/
def RLA (L : nz_f2) (C : nz_f5) : Prop := RH L C ∧ C 11 0 0 0 11 = L 13 26 ∧ (∀ i, i < 16 → C 46 0 0 0 i = L 75 i ∧ C 47 0 0 0 i = L 76 i ∧ C 48 0 0 0 i = L 77 i ∧ C 49 0 0 0 i = L 78 i) ∧ (∀ i, i < 128 → C 50 0 0 0 i = L 79 i)
section
variable {P : Nat × (Nat → Int32)} {d o : Nat} {t s : St} {T S L0 L Z : nz_f2} {C : nz_f5}
theorem c_run (hT : TV t) (hB : ∀ j f, s j f < 1000000) (h3 : LI3 L) (hC : RTold t C) (hN : ∀ j, j < 8 → C 8 0 j 0 0 = n32 j) (hA : RLA L C) (hd : 17 ≤ d) {Q : Int32 → nz_h → Prop}
    (hq : ∀ C', Fr Wrun C C' → RUNC t (runP t s L).1 (runP t s L).2 C' → C' 0 0 0 0 7 = n32 1 → C' 0 0 0 0 10 = n32 (rwN t (runP t s L).1) → (∀ i, i < rwN t (runP t s L).1 → C' 21 0 0 0 i = n32 (rwS t (runP t s L).1 i)) → Q (runA (runP t s L).1 (runP t s L).2) (T, S, L0, Z, C')) : ctI P d 13 [vr (0, 0, 0, 0)] (T, S, L0, Z, C) Q := by
  obtain ⟨d, rfl⟩ := dge hd
  have hg := beg_GI (t := t) hB h3
  obtain ⟨s1, s2, s3⟩ := hg.set hT
  obtain ⟨r1, r2, r3⟩ := runP_inv (t := t) (s := s) (L := L) hT hB h3
  obtain ⟨hH, h26, h46, h50⟩ := hA
  refine sm13 ?_
  refine c_tells14 (by omega) hT hC hN (by omega) (fun C1 hF1 hRT => ?_)
  refine c_begins (by omega) (fun C2 hF2 g8 g35 g28 => ?_)
  have w1 : Fr Wrun C C2 := (hF1.mono (fun kd o' x hw => by unfold Wte at hw; unfold Wrun; omega)).trans (hF2.mono (fun kd o' x hw => by unfold Wbe at hw; unfold Wrun; omega))
  have e12 : ∀ kd x, kd = 10 ∨ kd = 11 ∨ (36 ≤ kd ∧ kd ≤ 50) → C2 kd 0 0 0 x = C kd 0 0 0 x := fun kd x hh => (hF2 _ _ _ _ _ (by unfold Wbe; omega)).trans (hF1 _ _ _ _ _ (by unfold Wte; omega))
  refine ⟨rfl, ?_⟩
  refine sm92 ?_
  simp (disch := omega) only [decide_eq_true_eq, decide_eq_false_iff_not, L32, az01, b2i_01, b2i_n0, b2i_n1, Bool.and_true, true_and, and_true, Classical.not_not, Bool.not_eq_true, Bool.not_eq_false, n32_mul, n32_add, n32_ix, n32_ib, n32_lt, n32_le, n32_inj, l_hb, l_hb0, l_shl, l_wo, l_eqm1, l_m1eq, uC_row]
  have hw3 : Fr Wrun C (nz_u5 (nz_u5 (nz_u5 C2 0 0 0 0 7 (n32 1)) 11 0 0 0 5 (n32 0)) 11 0 0 0 11 (n32 0)) := by
    refine Fr.up (Fr.up (Fr.up w1 ?_) ?_) ?_ <;> (unfold Wrun; omega)
  have e7 : nz_u5 (nz_u5 (nz_u5 C2 0 0 0 0 7 (n32 1)) 11 0 0 0 5 (n32 0)) 11 0 0 0 11 (n32 0) 0 0 0 0 7 = n32 1 := by simp (disch := decide) only [u5_k, u5_eq]
  have hR3 : RUNC t (begS s) (begL L) (nz_u5 (nz_u5 (nz_u5 C2 0 0 0 0 7 (n32 1)) 11 0 0 0 5 (n32 0)) 11 0 0 0 11 (n32 0)) := by
    refine ⟨?_, fun _ => ⟨?_, fun j hj => ?_, ?_, fun i hi => ?_, fun i hi => ?_⟩, ?_, fun i => ?_, ?_⟩
    · refine RC.off (C := C2) ?_ ?_ ?_ ?_ ?_ ?_ ?_ (RC.begins hRT hF2 g8 g35 g28) <;> intros <;> simp (disch := decide) only [u5_k]
    · unfold begL; rw [if_pos (by omega)]; decide
    · simp (disch := decide) only [u5_k]
      have hz : ∀ a, 67 ≤ a → a ≤ 71 → begL L a j = n32 0 := fun a h1 h2 => by unfold begL; rw [if_neg (by omega), if_neg (by omega), if_pos ⟨h1, h2, hj⟩]
      rw [hz 67 (by omega) (by omega), hz 68 (by omega) (by omega), hz 69 (by omega) (by omega), hz 70 (by omega) (by omega), hz 71 (by omega) (by omega), begS_at hj (by omega)]
      exact ⟨g8 j 16 hj (by omega) (by omega) (by omega), g8 j 17 hj (by omega) (by omega) (by omega), g8 j 18 hj (by omega) (by omega) (by omega), g8 j 19 hj (by omega) (by omega) (by omega), g8 j 20 hj (by omega) (by omega) (by omega), g8 j 14 hj (by omega) (by omega) (by omega)⟩
    · rw [u5_eq]; unfold begL; rw [if_neg (by omega), if_pos (by omega)]
    · simp (disch := decide) only [u5_k]
      rw [e12 46 i (by omega), e12 47 i (by omega), e12 48 i (by omega), e12 49 i (by omega), begL_at (by omega) (by omega) (by omega), begL_at (by omega) (by omega) (by omega), begL_at (by omega) (by omega) (by omega), begL_at (by omega) (by omega) (by omega)]
      exact h46 i hi
    · simp (disch := decide) only [u5_k]
      rw [e12 50 i (by omega), begL_at (by omega) (by omega) (by omega)]
      exact h50 i hi
    · rw [u5_x (by decide), u5_eq]; unfold begL; rw [if_neg (by omega), if_pos (by omega)]
    · simp (disch := decide) only [u5_k]
      rw [e12 43 i (by omega), e12 44 i (by omega), e12 45 i (by omega), begL_at (by omega) (by omega) (by omega), begL_at (by omega) (by omega) (by omega), begL_at (by omega) (by omega) (by omega)]
      exact hH.2.1 i
    · refine hH.2.2.congr (fun a x h1 h2 => begL_at (by omega) (by omega) (by omega)) (begL_at (by omega) (by omega) (by omega)) ?_ (fun kd x h1 h2 => ?_)
      · simp (disch := decide) only [u5_k]; exact e12 10 5 (by omega)
      · simp (disch := omega) only [u5_k]; exact e12 kd x (by omega)
  generalize nz_u5 (nz_u5 (nz_u5 C2 0 0 0 0 7 (n32 1)) 11 0 0 0 5 (n32 0)) 11 0 0 0 11 (n32 0) = C3 at hw3 hR3 e7
  refine c_set0 (p := (begS s, begL L)) hT hg hR3 (by omega) (fun C4 hF4 hR4 => ?_)
  have hw4 : Fr Wrun C C4 := hw3.trans (hF4.mono (fun kd o' x hw => by unfold Wsh at hw; unfold Wrun; omega))
  have e74 : C4 0 0 0 0 7 = n32 1 := (hF4 _ _ _ _ _ (by unfold Wsh; omega)).trans e7
  have h13 : (setP t (begS s, begL L)).2 13 13 ≠ n32 0 := by
    rw [s3]
    show begL L 13 13 ≠ n32 0
    unfold begL; rw [if_pos (by omega)]; decide
  refine c_runW hT (e74) ((hw4 _ _ _ _ _ (by unfold Wrun; omega)).trans hC.2.2.2.2.1) (fun i hi => (hw4 _ _ _ _ _ (by unfold Wrun; omega)).trans (hC.2.2.2.2.2 i hi)) 6000 (setP t (begS s, begL L)) C4 (Fr.rfl' C4) s1 h13 s1.fuel hR4 (fun C5 hF5 hR5 l1 l2 => ?_) _ _
  have hw5 : Fr Wrun C C5 := hw4.trans (hF5.mono (fun kd o' x hw => hw.1))
  have hR5 : RUNC t (runP t s L).1 (runP t s L).2 C5 := hR5
  generalize runP t s L = p at hR5 r1 r2 r3 hq
  refine sg13_34 ?_
  refine c_canAny hT r1.1 hR5.1 (by omega) (fun C6 hF6 => ?_)
  have hR6 := hR5.safe hF6
  have ha : anyB 8 (mayS t p.1) = false := fst_anyB.2 r2
  have hw6 : Fr Wrun C C6 := hw5.trans (hF6.mono (fun kd o' x hw => by unfold Wsafe at hw; unfold Wrun; omega))
  have e76 : C6 0 0 0 0 7 = n32 1 := (hF6 _ _ _ _ _ (by unfold Wsafe; omega)).trans ((hF5 _ _ _ _ _ (fun hw => hw.2 rfl)).trans e74)
  rw [ha]
  simp (disch := omega) only [decide_eq_true_eq, decide_eq_false_iff_not, L32, az01, b2i_01, b2i_n0, b2i_n1, Bool.and_true, true_and, and_true, Classical.not_not, Bool.not_eq_true, Bool.not_eq_false, n32_mul, n32_add, n32_ix, n32_ib, n32_lt, n32_le, n32_inj, l_hb, l_hb0, l_shl, l_wo, l_eqm1, l_m1eq]
  refine ⟨fun _ => ?_, fun hc => (hc trivial).elim⟩
  refine c_stuck hT r1.1 hR6.1 (by omega) (fun C7 hF7 h10 h21 => ?_)
  have hw7 : Fr Wrun C C7 := hw6.trans (hF7.mono (fun kd o' x hw => by unfold Wst Wway at hw; unfold Wrun; omega))
  have hR7 : RUNC t p.1 p.2 C7 := by
    refine ⟨?_, hR6.2.1.keep (fun k x hx => hF7 _ _ _ _ _ (by unfold Wst Wway; omega)) (hF7 _ _ _ _ _ (by unfold Wst Wway; omega)) (fun kd x h1 h2 => hF7 _ _ _ _ _ (by unfold Wst Wway; omega)) (fun k => rfl), hR6.2.2.off (fun kd x hh => hF7 _ _ _ _ _ (by unfold Wst Wway; omega))⟩
    exact hR6.1.off (fun _ _ => hF7 _ _ _ _ _ (by unfold Wst Wway; omega)) (fun _ _ => hF7 _ _ _ _ _ (by unfold Wst Wway; omega)) (fun _ _ _ => hF7 _ _ _ _ _ (by unfold Wst Wway; omega)) (hF7 _ _ _ _ _ (by unfold Wst Wway; omega)) (fun _ _ => hF7 _ _ _ _ _ (by unfold Wst Wway; omega)) (fun _ => hF7 _ _ _ _ _ (by unfold Wst Wway; omega)) (fun _ _ => hF7 _ _ _ _ _ (by unfold Wst Wway; omega))
  have fin := hq C7 hw7 hR7 ((hF7 _ _ _ _ _ (by unfold Wst Wway; omega)).trans e76) h10 h21
  have e26 : C7 11 0 0 0 11 = p.2 13 26 := (hR7.2.1 rfl).2.2.1
  unfold runA at fin
  rw [c_areEnded r1.1 hR7.1 (by omega)]
  have eN : anyB 8 (fun j => !decide (p.1 j 1 = 3)) = anyB 8 (notE p.1) := rfl
  simp (disch := omega) only [decide_eq_true_eq, decide_eq_false_iff_not, L32, az01, b2i_01, b2i_n0, b2i_n1, Bool.and_true, true_and, and_true, Classical.not_not, Bool.not_eq_true, Bool.not_eq_false, n32_mul, n32_add, n32_ix, n32_ib, n32_lt, n32_le, n32_inj, l_hb, l_hb0, l_shl, l_wo, l_eqm1, l_m1eq, eN, e26, Bool.not_eq_false']
  refine ⟨fun ha => ?_, fun ha => ?_⟩
  · rw [ha, cond_false] at fin
    refine ⟨fun hz => ?_, fun hz => ?_⟩
    · rw [if_pos hz] at fin; exact fin
    · rw [if_neg hz] at fin; exact fin
  · rw [ha, cond_true] at fin; exact fin
end
