/-! the law's loop -/
theorem lawc {n i : Nat} (hn : n ≤ 320) (hi : i < 1000) : (n32 n - n32 5 < n32 i) = (n < i + 5) := by
  by_cases h5 : 5 ≤ n
  · rw [n32_sub h5, n32_lt (by omega) (by omega)]
    exact propext (by omega)
  · have e : (n32 n - n32 5).toInt < 0 := by
      have : n = 0 ∨ n = 1 ∨ n = 2 ∨ n = 3 ∨ n = 4 := by omega
      rcases this with rfl | rfl | rfl | rfl | rfl <;> decide
    refine propext ⟨fun _ => by omega, fun _ => ?_⟩
    rw [lt_toInt, n32_toInt (by omega)]
    omega
theorem gb23 : Nat.blt 23 1000 = true := rfl
theorem law_loop {P : Nat × (Nat → Int32)} {d : Nat} (hP : P.1 ≤ 320) {Q : Int32 → nz_h → Prop} (hq : ∀ h, Q (n32 1) h) : ∀ r i, P.1 + 5 ≤ r + i → i ≤ 600 → ∀ h, LAWI h → nzW P (d + 24) az_k183 18 [some (vr (98, 0, 0, 0)), some (vr (0, 0, 0, 0)), some (vr (13, 0, 0, 0)), some (vi (n32 i))] [] h (nz_RI Q) := by
  intro r
  induction r with
  | zero =>
    intro i hr hi h hI
    refine sg183_18 ?_
    have e5 : Int32.ofNat P.1 = n32 P.1 := rfl
    simp (disch := omega) only [decide_eq_true_eq, decide_eq_false_iff_not, L32, az01, b2i_01, b2i_n0, b2i_n1, Bool.and_true, true_and, and_true, Classical.not_not, Bool.not_eq_true, Bool.not_eq_false, e5, lawc]
    exact ⟨fun _ => hq h, fun hc => by omega⟩
  | succ r ih =>
    intro i hr hi h hI
    have e5 : Int32.ofNat P.1 = n32 P.1 := rfl
    by_cases hend : P.1 < i + 5
    · refine sg183_18 ?_
      simp (disch := omega) only [decide_eq_true_eq, decide_eq_false_iff_not, L32, az01, b2i_01, b2i_n0, b2i_n1, Bool.and_true, true_and, and_true, Classical.not_not, Bool.not_eq_true, Bool.not_eq_false, e5, lawc]
      exact ⟨fun _ => hq h, fun hc => absurd hend hc⟩
    have nxt : ∀ h', LAWI h' → nzW P (d + 24) az_k183 735 [some (vr (98, 0, 0, 0)), some (vr (0, 0, 0, 0)), some (vr (13, 0, 0, 0)), some (vi (n32 i))] [] h' (nz_RI Q) := fun h' hI' => by
      refine sg183_735 ?_
      simp (disch := omega) only [decide_eq_true_eq, decide_eq_false_iff_not, L32, az01, b2i_01, b2i_n0, b2i_n1, Bool.and_true, true_and, and_true, Classical.not_not, Bool.not_eq_true, Bool.not_eq_false, n32_add]
      exact ih (i + 5) (by omega) (by omega) h' hI'
    have i1 : i + 1 < P.1 := by omega
    have i2 : i + 2 < P.1 := by omega
    have i3 : i + 3 < P.1 := by omega
    have i4 : i + 4 < P.1 := by omega
    have k140 : nzW P (d + 24) az_k183 140 [some (vr (98, 0, 0, 0)), some (vr (0, 0, 0, 0)), some (vr (13, 0, 0, 0)), some (vi (n32 i))] [] h (nz_RI Q) := by
      refine sg183_140 ?_
      simp (disch := omega) only [L32, n32_add, n32_ix, n32_ib, decide_eq_true_eq]
      exact ⟨i1, i2, i3, ctI.imp (Nat.le_refl _) (j_machine (by omega) h hI) (fun y1 h1 hh => ⟨i1, i2, i3, ctI.imp (Nat.le_refl _) hh (fun y2 h2 hk => ⟨fun _ => nxt h2 hk.2, fun hne => absurd hk.1 (by simpa using hne)⟩)⟩)⟩
    have k183 : nzW P (d + 24) az_k183 183 [some (vr (98, 0, 0, 0)), some (vr (0, 0, 0, 0)), some (vr (13, 0, 0, 0)), some (vi (n32 i))] [] h (nz_RI Q) := by
      refine sg183_183 ?_
      simp (disch := omega) only [L32, n32_add, n32_ix, n32_ib, decide_eq_true_eq]
      exact ⟨i1, i2, i3, i4, ctI.imp (Nat.le_refl _) (j_step (by omega) h hI) (fun y1 h1 hh => ⟨i1, i2, i3, i4, ctI.imp (Nat.le_refl _) hh (fun y2 h2 hk => ⟨fun _ => nxt h2 hk.2, fun hne => absurd hk.1 (by simpa using hne)⟩)⟩)⟩
    have k236 : nzW P (d + 24) az_k183 236 [some (vr (98, 0, 0, 0)), some (vr (0, 0, 0, 0)), some (vr (13, 0, 0, 0)), some (vi (n32 i))] [] h (nz_RI Q) := by
      refine sg183_236 ?_
      simp (disch := omega) only [L32, n32_add, n32_ix, n32_ib, decide_eq_true_eq]
      exact ⟨i1, ctI.imp (Nat.le_refl _) (j_clear (by omega) h hI) (fun y1 h1 hh => ⟨i1, ctI.imp (Nat.le_refl _) hh (fun y2 h2 hk => ⟨fun _ => nxt h2 hk.2, fun hne => absurd hk.1 (by simpa using hne)⟩)⟩)⟩
    have k259 : nzW P (d + 24) az_k183 259 [some (vr (98, 0, 0, 0)), some (vr (0, 0, 0, 0)), some (vr (13, 0, 0, 0)), some (vi (n32 i))] [] h (nz_RI Q) := by
      refine sg183_259 ?_
      simp (disch := omega) only [L32, n32_add, n32_ix, n32_ib, decide_eq_true_eq]
      exact ⟨i1, i2, ctI.imp (Nat.le_refl _) (j_guard (by omega) h hI) (fun y1 h1 hh => ⟨i1, i2, ctI.imp (Nat.le_refl _) hh (fun y2 h2 hk => ⟨fun _ => nxt h2 hk.2, fun hne => absurd hk.1 (by simpa using hne)⟩)⟩)⟩
    have k292 : nzW P (d + 24) az_k183 292 [some (vr (98, 0, 0, 0)), some (vr (0, 0, 0, 0)), some (vr (13, 0, 0, 0)), some (vi (n32 i))] [] h (nz_RI Q) := by
      refine sg183_292 ?_
      simp (disch := omega) only [L32, n32_add, n32_ix, n32_ib, decide_eq_true_eq]
      exact ⟨i1, i2, ctI.imp (Nat.le_refl _) (j_claim (by omega) h hI) (fun y1 h1 hh => ⟨i1, i2, ctI.imp (Nat.le_refl _) hh (fun y2 h2 hk => ⟨fun _ => nxt h2 hk.2, fun hne => absurd hk.1 (by simpa using hne)⟩)⟩)⟩
    have k325 : nzW P (d + 24) az_k183 325 [some (vr (98, 0, 0, 0)), some (vr (0, 0, 0, 0)), some (vr (13, 0, 0, 0)), some (vi (n32 i))] [] h (nz_RI Q) := by
      refine sg183_325 ?_
      simp (disch := omega) only [L32, n32_add, n32_ix, n32_ib, decide_eq_true_eq]
      exact ⟨i1, ctI.imp (Nat.le_refl _) (j_manner (by omega) h hI) (fun y1 h1 hh => ⟨i1, ctI.imp (Nat.le_refl _) hh (fun y2 h2 hk => ⟨fun _ => nxt h2 hk.2, fun hne => absurd hk.1 (by simpa using hne)⟩)⟩)⟩
    have k348 : nzW P (d + 24) az_k183 348 [some (vr (98, 0, 0, 0)), some (vr (0, 0, 0, 0)), some (vr (13, 0, 0, 0)), some (vi (n32 i))] [] h (nz_RI Q) := by
      refine sg183_348 ?_
      simp (disch := omega) only [L32, n32_add, n32_ix, n32_ib, decide_eq_true_eq]
      exact ⟨i1, ctI.imp (Nat.le_refl _) (j_grant (by omega) h hI) (fun y1 h1 hh => ⟨i1, ctI.imp (Nat.le_refl _) hh (fun y2 h2 hk => ⟨fun _ => nxt h2 hk.2, fun hne => absurd hk.1 (by simpa using hne)⟩)⟩)⟩
    have k371 : nzW P (d + 24) az_k183 371 [some (vr (98, 0, 0, 0)), some (vr (0, 0, 0, 0)), some (vr (13, 0, 0, 0)), some (vi (n32 i))] [] h (nz_RI Q) := by
      refine sg183_371 ?_
      exact ctV.imp (Nat.le_refl _) (j_list (by omega) h hI) (fun h1 hh => ctV.imp (Nat.le_refl _) hh (fun h2 hk => nxt h2 hk))
    have k382 : nzW P (d + 24) az_k183 382 [some (vr (98, 0, 0, 0)), some (vr (0, 0, 0, 0)), some (vr (13, 0, 0, 0)), some (vi (n32 i))] [] h (nz_RI Q) := by
      refine sg183_382 ?_
      exact ctI.imp (Nat.le_refl _) (j_run (by omega) h hI) (fun y1 h1 hh => ctI.imp (Nat.le_refl _) hh (fun y2 h2 hk => ⟨fun _ => nxt h2 hk.2, fun hne => absurd hk.1 (of_decide_eq_false hne)⟩))
    have k395 : nzW P (d + 24) az_k183 395 [some (vr (98, 0, 0, 0)), some (vr (0, 0, 0, 0)), some (vr (13, 0, 0, 0)), some (vi (n32 i))] [] h (nz_RI Q) := by
      refine sg183_395 ?_
      simp (disch := omega) only [L32, n32_add, n32_ix, n32_ib, decide_eq_true_eq]
      exact ⟨i1, i2, ctI.imp (Nat.le_refl _) (j_job (by omega) h hI) (fun y1 h1 hh => ⟨i1, i2, ctI.imp (Nat.le_refl _) hh (fun y2 h2 hk => ⟨fun _ => nxt h2 hk.2, fun hne => absurd hk.1 (by simpa using hne)⟩)⟩)⟩
    have k428 : nzW P (d + 24) az_k183 428 [some (vr (98, 0, 0, 0)), some (vr (0, 0, 0, 0)), some (vr (13, 0, 0, 0)), some (vi (n32 i))] [] h (nz_RI Q) := by
      refine sg183_428 ?_
      simp (disch := omega) only [L32, n32_add, n32_ix, n32_ib, decide_eq_true_eq]
      exact ⟨i1, i2, ctI.imp (Nat.le_refl _) (j_have (by omega) h hI) (fun y1 h1 hh => ⟨i1, i2, ctI.imp (Nat.le_refl _) hh (fun y2 h2 hk => ⟨fun _ => nxt h2 hk.2, fun hne => absurd hk.1 (by simpa using hne)⟩)⟩)⟩
    have k461 : nzW P (d + 24) az_k183 461 [some (vr (98, 0, 0, 0)), some (vr (0, 0, 0, 0)), some (vr (13, 0, 0, 0)), some (vi (n32 i))] [] h (nz_RI Q) := by
      refine sg183_461 ?_
      simp (disch := omega) only [L32, n32_add, n32_ix, n32_ib, decide_eq_true_eq]
      exact ⟨i1, i2, ctI.imp (Nat.le_refl _) (j_refused (by omega) h hI) (fun y1 h1 hh => ⟨i1, i2, ctI.imp (Nat.le_refl _) hh (fun y2 h2 hk => ⟨fun _ => nxt h2 hk.2, fun hne => absurd hk.1 (by simpa using hne)⟩)⟩)⟩
    have k494 : nzW P (d + 24) az_k183 494 [some (vr (98, 0, 0, 0)), some (vr (0, 0, 0, 0)), some (vr (13, 0, 0, 0)), some (vi (n32 i))] [] h (nz_RI Q) := by
      refine sg183_494 ?_
      simp (disch := omega) only [L32, n32_add, n32_ix, n32_ib, decide_eq_true_eq]
      exact ⟨i1, ctI.imp (Nat.le_refl _) (j_ring (by omega) h hI) (fun y1 h1 hh => ⟨i1, ctI.imp (Nat.le_refl _) hh (fun y2 h2 hk => ⟨fun _ => nxt h2 hk.2, fun hne => absurd hk.1 (by simpa using hne)⟩)⟩)⟩
    have k517 : nzW P (d + 24) az_k183 517 [some (vr (98, 0, 0, 0)), some (vr (0, 0, 0, 0)), some (vr (13, 0, 0, 0)), some (vi (n32 i))] [] h (nz_RI Q) := by
      refine sg183_517 ?_
      simp (disch := omega) only [L32, n32_add, n32_ix, n32_ib, decide_eq_true_eq]
      exact ⟨i1, i2, ctI.imp (Nat.le_refl _) (j_taken (by omega) h hI) (fun y1 h1 hh => ⟨i1, i2, ctI.imp (Nat.le_refl _) hh (fun y2 h2 hk => ⟨fun _ => nxt h2 hk.2, fun hne => absurd hk.1 (by simpa using hne)⟩)⟩)⟩
    have k550 : nzW P (d + 24) az_k183 550 [some (vr (98, 0, 0, 0)), some (vr (0, 0, 0, 0)), some (vr (13, 0, 0, 0)), some (vi (n32 i))] [] h (nz_RI Q) := by
      refine sg183_550 ?_
      simp (disch := omega) only [L32, n32_add, n32_ix, n32_ib, decide_eq_true_eq]
      exact ⟨i1, i2, ctI.imp (Nat.le_refl _) (j_order (by omega) h hI) (fun y1 h1 hh => ⟨i1, i2, ctI.imp (Nat.le_refl _) hh (fun y2 h2 hk => ⟨fun _ => nxt h2 hk.2, fun hne => absurd hk.1 (by simpa using hne)⟩)⟩)⟩
    have k583 : nzW P (d + 24) az_k183 583 [some (vr (98, 0, 0, 0)), some (vr (0, 0, 0, 0)), some (vr (13, 0, 0, 0)), some (vi (n32 i))] [] h (nz_RI Q) := by
      refine sg183_583 ?_
      simp (disch := omega) only [L32, n32_add, n32_ix, n32_ib, decide_eq_true_eq]
      exact ⟨i1, i2, ctI.imp (Nat.le_refl _) (j_possible (by omega) h hI) (fun y1 h1 hh => ⟨i1, i2, ctI.imp (Nat.le_refl _) hh (fun y2 h2 hk => ⟨fun _ => nxt h2 hk.2, fun hne => absurd hk.1 (by simpa using hne)⟩)⟩)⟩
    have k616 : nzW P (d + 24) az_k183 616 [some (vr (98, 0, 0, 0)), some (vr (0, 0, 0, 0)), some (vr (13, 0, 0, 0)), some (vi (n32 i))] [] h (nz_RI Q) := by
      refine sg183_616 ?_
      exact ctV.imp (Nat.le_refl _) (j_forget (by omega) h hI) (fun h1 hh => ctV.imp (Nat.le_refl _) hh (fun h2 hk => nxt h2 hk))
    have k627 : nzW P (d + 24) az_k183 627 [some (vr (98, 0, 0, 0)), some (vr (0, 0, 0, 0)), some (vr (13, 0, 0, 0)), some (vi (n32 i))] [] h (nz_RI Q) := by
      refine sg183_627 ?_
      exact ctI.imp (Nat.le_refl _) (j_safe (by omega) h hI) (fun y1 h1 hh => ctI.imp (Nat.le_refl _) hh (fun y2 h2 hk => ⟨fun _ => nxt h2 hk.2, fun hne => absurd hk.1 (of_decide_eq_false hne)⟩))
    have k640 : nzW P (d + 24) az_k183 640 [some (vr (98, 0, 0, 0)), some (vr (0, 0, 0, 0)), some (vr (13, 0, 0, 0)), some (vi (n32 i))] [] h (nz_RI Q) := by
      refine sg183_640 ?_
      simp (disch := omega) only [L32, n32_add, n32_ix, n32_ib, decide_eq_true_eq]
      exact ⟨i1, ctI.imp (Nat.le_refl _) (j_before (by omega) h hI) (fun y1 h1 hh => ⟨i1, ctI.imp (Nat.le_refl _) hh (fun y2 h2 hk => ⟨fun _ => nxt h2 hk.2, fun hne => absurd hk.1 (by simpa using hne)⟩)⟩)⟩
    have k663 : nzW P (d + 24) az_k183 663 [some (vr (98, 0, 0, 0)), some (vr (0, 0, 0, 0)), some (vr (13, 0, 0, 0)), some (vi (n32 i))] [] h (nz_RI Q) := by
      refine sg183_663 ?_
      exact ctI.imp (Nat.le_refl _) (j_plan (by omega) h hI) (fun y1 h1 hh => ctI.imp (Nat.le_refl _) hh (fun y2 h2 hk => ⟨fun _ => nxt h2 hk.2, fun hne => absurd hk.1 (of_decide_eq_false hne)⟩))
    have k676 : nzW P (d + 24) az_k183 676 [some (vr (98, 0, 0, 0)), some (vr (0, 0, 0, 0)), some (vr (13, 0, 0, 0)), some (vi (n32 i))] [] h (nz_RI Q) := by
      refine sg183_676 ?_
      simp (disch := omega) only [L32, n32_add, n32_ix, n32_ib, decide_eq_true_eq]
      exact ⟨i1, ctI.imp (Nat.le_refl _) (j_planned (by omega) h hI) (fun y1 h1 hh => ⟨i1, ctI.imp (Nat.le_refl _) hh (fun y2 h2 hk => ⟨fun _ => nxt h2 hk.2, fun hne => absurd hk.1 (by simpa using hne)⟩)⟩)⟩
    have k699 : nzW P (d + 24) az_k183 699 [some (vr (98, 0, 0, 0)), some (vr (0, 0, 0, 0)), some (vr (13, 0, 0, 0)), some (vi (n32 i))] [] h (nz_RI Q) := by
      refine sg183_699 ?_
      exact ctI.imp (Nat.le_refl _) (j_always (by omega) h hI) (fun y1 h1 hh => ctI.imp (Nat.le_refl _) hh (fun y2 h2 hk => ⟨fun _ => nxt h2 hk.2, fun hne => absurd hk.1 (of_decide_eq_false hne)⟩))
    have k712 : nzW P (d + 24) az_k183 712 [some (vr (98, 0, 0, 0)), some (vr (0, 0, 0, 0)), some (vr (13, 0, 0, 0)), some (vi (n32 i))] [] h (nz_RI Q) := by
      refine sg183_712 ?_
      simp (disch := omega) only [L32, n32_add, n32_ix, n32_ib, decide_eq_true_eq]
      exact ⟨i1, ctI.imp (Nat.le_refl _) (j_count (by omega) h hI) (fun y1 h1 hh => ⟨i1, ctI.imp (Nat.le_refl _) hh (fun y2 h2 hk => ⟨fun _ => nxt h2 hk.2, fun hne => absurd hk.1 (by simpa using hne)⟩)⟩)⟩
    refine sg183_18 ?_
    simp (disch := omega) only [decide_eq_true_eq, decide_eq_false_iff_not, L32, az01, b2i_01, b2i_n0, b2i_n1, Bool.and_true, true_and, and_true, Classical.not_not, Bool.not_eq_true, Bool.not_eq_false, e5, lawc, n32_ix, n32_ib, gb23, decide_true]
    refine ⟨fun hc => absurd hc hend, fun _ => ⟨by omega, ?_⟩⟩
    exact ⟨fun _ => k140, fun _ => ⟨fun _ => k183, fun _ => ⟨fun _ => k236, fun _ => ⟨fun _ => k259, fun _ => ⟨fun _ => k292, fun _ => ⟨fun _ => k325, fun _ => ⟨fun _ => k348, fun _ => ⟨fun _ => k371, fun _ => ⟨fun _ => k382, fun _ => ⟨fun _ => k395, fun _ => ⟨fun _ => k428, fun _ => ⟨fun _ => k461, fun _ => ⟨fun _ => k494, fun _ => ⟨fun _ => k517, fun _ => ⟨fun _ => k550, fun _ => ⟨fun _ => k583, fun _ => ⟨fun _ => k616, fun _ => ⟨fun _ => k627, fun _ => ⟨fun _ => k640, fun _ => ⟨fun _ => k663, fun _ => ⟨fun _ => k676, fun _ => ⟨fun _ => k699, fun _ => ⟨fun _ => k712, fun _ => nxt h hI⟩⟩⟩⟩⟩⟩⟩⟩⟩⟩⟩⟩⟩⟩⟩⟩⟩⟩⟩⟩⟩⟩⟩
