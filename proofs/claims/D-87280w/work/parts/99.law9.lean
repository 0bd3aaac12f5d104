/-! plans, safety, forgetting, in both -/
theorem RUNX.keep {L L' : nz_f2} {C C' : nz_f5} (h : RUNX L C) (hl : ∀ a x, (a = 13 ∧ (x = 14 ∨ x = 26)) ∨ (65 ≤ a ∧ a ≤ 71) ∨ a = 93 ∨ a = 94 → L' a x = L a x) (hc : ∀ kd k l x, (kd = 0 ∧ x = 7) ∨ (kd = 1 ∧ x = 5) ∨ (7 ≤ kd ∧ kd ≤ 9) ∨ kd = 28 ∨ kd = 35 ∨ kd = 97 → C' kd 0 k l x = C kd 0 k l x) : RUNX L' C' := by
  obtain ⟨t, s, b1, b2, b3, b4, b5⟩ := h
  refine ⟨t, s, b1, b2, ?_, ?_, ?_⟩
  · exact b3.off (fun _ _ => hc _ _ _ _ (by omega)) (fun _ _ => hc _ _ _ _ (by omega)) (fun _ _ _ => hc _ _ _ _ (by omega)) (hc _ _ _ _ (by omega)) (fun _ _ => hc _ _ _ _ (by omega)) (fun _ => hc _ _ _ _ (by omega)) (fun _ _ => hc _ _ _ _ (by omega))
  · rw [hc 0 0 0 7 (by omega), hl 13 14 (by omega)]; exact b4
  · rw [hl 13 14 (by omega), hl 13 26 (by omega)]
    rcases b5 with b5 | ⟨x1, ⟨y1, y2, y3, y4, y5⟩, x3⟩
    · exact Or.inl b5
    · refine Or.inr ⟨x1, ⟨fun b hb => by rw [hl 66 b (by omega)]; exact y1 b hb, fun b hb => by rw [hl 65 b (by omega)]; exact y2 b hb, fun m hm => by rw [hl 93 m (by omega)]; exact y3 m hm, fun m hm => by rw [hl 94 m (by omega)]; exact y4 m hm, y5⟩, fun j hj => ?_⟩
      rw [hc 8 j 0 16 (by omega), hc 8 j 0 17 (by omega), hc 8 j 0 18 (by omega), hc 8 j 0 19 (by omega), hc 8 j 0 20 (by omega), hc 8 j 0 14 (by omega), hl 67 j (by omega), hl 68 j (by omega), hl 69 j (by omega), hl 70 j (by omega), hl 71 j (by omega)]
      exact x3 j hj
theorem RLA.keep {L L' : nz_f2} {C C' : nz_f5} (h : RLA L C) (hl : ∀ a x, (72 ≤ a ∧ a ≤ 79) ∨ (81 ≤ a ∧ a ≤ 85) ∨ (a = 13 ∧ (x = 22 ∨ x = 26 ∨ x = 34)) → L' a x = L a x) (hc : ∀ kd x, kd = 10 ∧ x = 5 ∨ kd = 11 ∨ (36 ≤ kd ∧ kd ≤ 40) ∨ (43 ≤ kd ∧ kd ≤ 50) → C' kd 0 0 0 x = C kd 0 0 0 x) : RLA L' C' := by
  obtain ⟨h1, h2, h3, h4⟩ := h.off hc
  refine ⟨h1.toL (fun a x hh => hl a x (by omega)), by rw [hl 13 26 (by omega)]; exact h2, fun i hi => ?_, fun i hi => by rw [hl 79 i (by omega)]; exact h4 i hi⟩
  rw [hl 75 i (by omega), hl 76 i (by omega), hl 77 i (by omega), hl 78 i (by omega)]; exact h3 i hi
theorem CNT.keep {L L' : nz_f2} (h : CNT L) (hl : ∀ a x, a = 78 ∨ (a = 13 ∧ (x = 22 ∨ x = 26)) → L' a x = L a x) : CNT L' := by
  obtain ⟨⟨g, g1, g2⟩, ⟨i, i1, i2⟩, h3⟩ := h
  refine ⟨⟨g, g1, by rw [hl 13 22 (by omega)]; exact g2⟩, ⟨i, i1, by rw [hl 13 26 (by omega)]; exact i2⟩, fun x hx => ?_⟩
  obtain ⟨k, k1, k2⟩ := h3 x hx
  exact ⟨k, k1, by rw [hl 78 x (by omega)]; exact k2⟩
theorem RTold.f2 {t : St} {C C' : nz_f5} (h : RTold t C) (h2 : ∀ kd k l x, C' kd 2 k l x = C kd 2 k l x) (h14 : C' 0 0 0 0 14 = C 0 0 0 0 14) (h6 : C' 0 0 0 0 6 = C 0 0 0 0 6) (h20 : ∀ x, C' 20 0 0 0 x = C 20 0 0 0 x) : RTold t C' := by
  obtain ⟨a1, a2, a3, a4, a5, a6⟩ := h
  refine ⟨fun m hm => by rw [h2, h2]; exact a1 m hm, fun j hj => by rw [h2, h2, h2]; exact a2 j hj, fun j p hj hp => by rw [h2, h2, h2]; exact a3 j p hj hp, h14.trans a4, h6.trans a5, fun i hi => (h20 i).trans (a6 i hi)⟩
section
variable {P : Nat × (Nat → Int32)} {d : Nat}
theorem planW_le {t : St} {K : Nat} (hK : leastK (stopP t) K) : (planW t K).length ≤ 400 := by
  have hnK : (seqA t K).1 ≤ 401 := stop_n (P_Q hK.2)
  unfold planW
  cases endA (seqA t K) with
  | false => exact Nat.zero_le _
  | true =>
    have := way8_len (A := seqA t K) ((seqA t K).1 - 1) ((seqA t K).1 - 1)
    rw [cond_true]; omega
theorem j_plan (hd : 23 ≤ d) : JNT P d 29 173 [] := by
  obtain ⟨d, rfl⟩ := dge hd
  rintro h ⟨t, s, L, Z, C, rfl, hT, hR, hI⟩
  obtain ⟨a1, a2, a3, a4, a5, a6, a7, a8, a9, a10⟩ := hI
  refine c_plan hT hR (fun j hj => a6 1 j (by omega) hj) (by omega) (fun K C1 hK hF h11 h22 => ?_)
  refine m_plan hT a1 a3 (by omega) (fun K' L1 Z1 s1 hK' hL hz13 h44 h89 hz hb => ?_)
  obtain rfl := leastK_eq hK' hK
  refine ⟨rfl, t, s1, L1, Z1, C1, rfl, hT, ?_, hz, hb, ?_, ?_, ?_, fun o j ho hj => ?_, ?_, ?_, ?_, ?_⟩
  · exact hR.f2 (fun kd k l x => hF _ _ _ _ _ (by omega) (by omega)) (hF _ _ _ _ _ (by omega) (by omega)) (hF _ _ _ _ _ (by omega) (by omega)) (fun x => hF _ _ _ _ _ (by omega) (by omega))
  · exact a3.congr (fun x => hL _ _ (by omega) (by omega) (by omega) (by omega) (by omega)) (hL _ _ (by omega) (by omega) (by omega) (by omega) (by omega))
  · intro i hi; rw [hL 85 i (by omega) (by omega) (by omega) (by omega) (by omega)]; exact a4 i hi
  · exact a5.keep (fun a x hh => hL a x (by omega) (by omega) (by omega) (by omega) (by omega))
  · rw [hF 8 o j 0 0 (by omega) (by omega)]; exact a6 o j ho hj
  · exact a7.keep (fun a x hh => hL a x (by omega) (by omega) (by omega) (by omega) (by omega)) (fun kd x hh => hF _ _ _ _ _ (by omega) (by omega))
  · exact a8.keep (fun a x hh => hL a x (by omega) (by omega) (by omega) (by omega) (by omega)) (fun kd k l x hh => hF _ _ _ _ _ (by omega) (by omega))
  · refine ⟨(planW t K').length, planW_le hK', h44, h11, fun i hi => ?_⟩
    have hx : (planW t K')[i]? = some (planW t K')[i] := List.getElem?_eq_getElem hi
    rw [h22 i _ hx, h89 i _ hx]
  · obtain ⟨r, r1, r2, r3, r4⟩ := a10
    refine ⟨r, r1, by rw [hL 13 32 (by omega) (by omega) (by omega) (by omega) (by omega)]; exact r2, (hF _ _ _ _ _ (by omega) (by omega)).trans r3, fun i hi => ?_⟩
    rw [hF _ _ _ _ _ (by omega) (by omega), hL 80 i (by omega) (by omega) (by omega) (by omega) (by omega)]; exact r4 i hi
theorem j_always (hd : 23 ≤ d) : JNT P d 31 180 [] := by
  obtain ⟨d, rfl⟩ := dge hd
  rintro h ⟨t, s, L, Z, C, rfl, hT, hR, hI⟩
  obtain ⟨a1, a2, a3, a4, a5, a6, a7, a8, a9, a10⟩ := hI
  refine c_always hT hR (fun j hj => a6 1 j (by omega) hj) (by omega) (fun K C1 hK hF => ?_)
  refine m_always hT a1 a3 (by omega) (fun K' L1 Z1 s1 hK' hL hz13 h44 h89 hz hb => ?_)
  obtain rfl := leastK_eq hK' hK
  refine ⟨rfl, t, s1, L1, Z1, C1, rfl, hT, ?_, hz, hb, ?_, ?_, ?_, fun o j ho hj => ?_, ?_, ?_, ?_, ?_⟩
  · exact hR.f2 (fun kd k l x => hF _ _ _ _ _ (by omega) (by omega)) (hF _ _ _ _ _ (by omega) (by omega)) (hF _ _ _ _ _ (by omega) (by omega)) (fun x => hF _ _ _ _ _ (by omega) (by omega))
  · exact a3.congr (fun x => hL _ _ (by omega) (by omega) (by omega) (by omega) (by omega)) (hL _ _ (by omega) (by omega) (by omega) (by omega) (by omega))
  · intro i hi; rw [hL 85 i (by omega) (by omega) (by omega) (by omega) (by omega)]; exact a4 i hi
  · exact a5.keep (fun a x hh => hL a x (by omega) (by omega) (by omega) (by omega) (by omega))
  · rw [hF 8 o j 0 0 (by omega) (by omega)]; exact a6 o j ho hj
  · exact a7.keep (fun a x hh => hL a x (by omega) (by omega) (by omega) (by omega) (by omega)) (fun kd x hh => hF _ _ _ _ _ (by omega) (by omega))
  · exact a8.keep (fun a x hh => hL a x (by omega) (by omega) (by omega) (by omega) (by omega)) (fun kd k l x hh => hF _ _ _ _ _ (by omega) (by omega))
  · obtain ⟨p, c1, c2, c3, c4⟩ := a9
    refine ⟨p, c1, h44.trans c2, (hF _ _ _ _ _ (by omega) (by omega)).trans c3, fun i hi => ?_⟩
    rw [hF _ _ _ _ _ (by omega) (by omega), h89]; exact c4 i hi
  · obtain ⟨r, r1, r2, r3, r4⟩ := a10
    refine ⟨r, r1, by rw [hL 13 32 (by omega) (by omega) (by omega) (by omega) (by omega)]; exact r2, (hF _ _ _ _ _ (by omega) (by omega)).trans r3, fun i hi => ?_⟩
    rw [hF _ _ _ _ _ (by omega) (by omega), hL 80 i (by omega) (by omega) (by omega) (by omega) (by omega)]; exact r4 i hi
theorem j_forget (hd : 5 ≤ d) : JNV P d 25 165 := by
  obtain ⟨d, rfl⟩ := dge hd
  rintro h ⟨t, s, L, Z, C, rfl, hT, hR, hI⟩
  obtain ⟨a1, a2, a3, a4, a5, a6, a7, a8, a9, a10⟩ := hI
  have fin : ∀ C1 L1, (∀ kd o' k l x, ¬ (o' = 0 ∧ (kd = 40 ∨ (kd = 10 ∧ x = 5))) → C1 kd o' k l x = C kd o' k l x) → C1 10 0 0 0 5 = n32 0 → (∀ m, m < 10 → C1 40 0 0 0 m = n32 0) → (∀ a x, ¬ (a = 85 ∧ x < 100) → ¬ (a = 13 ∧ x = 34) → L1 a x = L a x) → L1 13 34 = n32 0 → (∀ x, x < 100 → L1 85 x = n32 0) → LAWI (rowf t, rowf s, L1, Z, C1) := fun C1 L1 hF g5 g40 hL l34 l85 => by
    have o0 : ∀ i, i < 100 → ordB L1 i = false := fun i hi => by unfold ordB; rw [l85 i hi]; rfl
    have h3' : LI3 L1 := by unfold LI3; rw [cnt_zero o0]; exact l34
    refine ⟨t, s, L1, Z, C1, rfl, hT, ?_, a1, a2, h3', fun i hi => Or.inl (l85 i hi), ?_, fun o j ho hj => ?_, ?_, ?_, ?_, ?_⟩
    · exact hR.f2 (fun kd k l x => hF _ _ _ _ _ (by omega)) (hF _ _ _ _ _ (by omega)) (hF _ _ _ _ _ (by omega)) (fun x => hF _ _ _ _ _ (by omega))
    · exact a5.keep (fun a x hh => hL a x (by omega) (by omega))
    · rw [hF 8 o j 0 0 (by omega)]; exact a6 o j ho hj
    · obtain ⟨⟨r1, r2, r3, r4, r5, r6, r7⟩, q1, q2, q3⟩ := a7
      refine ⟨⟨?_, fun i => ?_, h3', fun i hi ho => (by rw [o0 i hi] at ho; cases ho), by rw [g5, l34], fun i => ?_, fun f hf => ⟨0, by decide, g40 f hf, fun g hg => ?_⟩⟩, ?_, fun i hi => ?_, fun i hi => ?_⟩
      · rw [hF _ _ _ _ _ (by omega), hL 13 22 (by omega) (by omega)]; exact r1
      · rw [hF 43 0 0 0 i (by omega), hF 44 0 0 0 i (by omega), hF 45 0 0 0 i (by omega), hL 72 i (by omega) (by omega), hL 73 i (by omega) (by omega), hL 74 i (by omega) (by omega)]; exact r2 i
      · rw [hF 36 0 0 0 i (by omega), hF 37 0 0 0 i (by omega), hF 38 0 0 0 i (by omega), hF 39 0 0 0 i (by omega), hL 81 i (by omega) (by omega), hL 82 i (by omega) (by omega), hL 83 i (by omega) (by omega), hL 84 i (by omega) (by omega)]; exact r6 i
      · rw [o0 _ (by omega), Nat.zero_testBit]
      · rw [hF _ _ _ _ _ (by omega), hL 13 26 (by omega) (by omega)]; exact q1
      · rw [hF 46 0 0 0 i (by omega), hF 47 0 0 0 i (by omega), hF 48 0 0 0 i (by omega), hF 49 0 0 0 i (by omega), hL 75 i (by omega) (by omega), hL 76 i (by omega) (by omega), hL 77 i (by omega) (by omega), hL 78 i (by omega) (by omega)]; exact q2 i hi
      · rw [hF 50 0 0 0 i (by omega), hL 79 i (by omega) (by omega)]; exact q3 i hi
    · exact a8.keep (fun a x hh => hL a x (by omega) (by omega)) (fun kd k l x hh => hF _ _ _ _ _ (by omega))
    · obtain ⟨p, c1, c2, c3, c4⟩ := a9
      refine ⟨p, c1, by rw [hL 13 44 (by omega) (by omega)]; exact c2, (hF _ _ _ _ _ (by omega)).trans c3, fun i hi => ?_⟩
      rw [hF _ _ _ _ _ (by omega), hL 89 i (by omega) (by omega)]; exact c4 i hi
    · obtain ⟨r, r1, r2, r3, r4⟩ := a10
      refine ⟨r, r1, by rw [hL 13 32 (by omega) (by omega)]; exact r2, (hF _ _ _ _ _ (by omega)).trans r3, fun i hi => ?_⟩
      rw [hF _ _ _ _ _ (by omega), hL 80 i (by omega) (by omega)]; exact r4 i hi
  refine sm25 (sm90 ?_)
  simp only [decide_eq_true_eq, decide_eq_false_iff_not, L32, az01, b2i_01, b2i_n0, b2i_n1, Bool.and_true, true_and, and_true, Classical.not_not, Bool.not_eq_true, Bool.not_eq_false, uC_row]
  have loopC : ∀ r m, r + m = 10 → ∀ C1, (∀ kd o' k l x, ¬ (o' = 0 ∧ (kd = 40 ∨ (kd = 10 ∧ x = 5))) → C1 kd o' k l x = C kd o' k l x) → C1 10 0 0 0 5 = n32 0 → (∀ y, y < m → C1 40 0 0 0 y = n32 0) → nzW P (d + 3) az_k90 7 [some (vr (10, 0, 0, 0)), some (vi (n32 m))] [] (rowf t, rowf s, L, Z, C1) (nz_RV (fun h1 => ctV P (d + 5) 165 [mO] h1 LAWI)) := by
    intro r
    induction r with
    | zero =>
      intro m hm C1 hF g5 g40
      obtain rfl : m = 10 := by omega
      refine sg90_7 ?_
      simp (disch := omega) only [decide_eq_true_eq, decide_eq_false_iff_not, L32, az01, b2i_01, b2i_n0, b2i_n1, Bool.and_true, true_and, and_true, Classical.not_not, Bool.not_eq_true, Bool.not_eq_false, n32_mul, n32_add, n32_ix, n32_ib, n32_lt, n32_le, n32_inj, l_hb, l_hb0, l_shl, l_wo, l_eqm1, l_m1eq]
      refine ⟨fun _ => ?_, fun hc => by omega⟩
      refine sm165 ?_
      simp only [decide_eq_true_eq, decide_eq_false_iff_not, L32, az01, b2i_01, b2i_n0, b2i_n1, Bool.and_true, true_and, and_true, Classical.not_not, Bool.not_eq_true, Bool.not_eq_false, uL_row]
      have loopM : ∀ q k, q + k = 100 → ∀ L1, (∀ a x, ¬ (a = 85 ∧ x < 100) → ¬ (a = 13 ∧ x = 34) → L1 a x = L a x) → L1 13 34 = n32 0 → (∀ x, x < k → L1 85 x = n32 0) → nzW P (d + 4) az_k165 7 [some mO, some (vi (n32 k))] [] (rowf t, rowf s, L1, Z, C1) (nz_RV LAWI) := by
        intro q
        induction q with
        | zero =>
          intro k hk L1 hL l34 l85
          obtain rfl : k = 100 := by omega
          refine sg165_7 ?_
          simp (disch := omega) only [decide_eq_true_eq, decide_eq_false_iff_not, L32, az01, b2i_01, b2i_n0, b2i_n1, Bool.and_true, true_and, and_true, Classical.not_not, Bool.not_eq_true, Bool.not_eq_false, n32_mul, n32_add, n32_ix, n32_ib, n32_lt, n32_le, n32_inj, l_hb, l_hb0, l_shl, l_wo, l_eqm1, l_m1eq]
          exact ⟨fun _ => fin C1 L1 hF g5 g40 hL l34 l85, fun hc => by omega⟩
        | succ q ihq =>
          intro k hk L1 hL l34 l85
          refine sg165_7 ?_
          simp (disch := omega) only [decide_eq_true_eq, decide_eq_false_iff_not, L32, az01, b2i_01, b2i_n0, b2i_n1, Bool.and_true, true_and, and_true, Classical.not_not, Bool.not_eq_true, Bool.not_eq_false, n32_mul, n32_add, n32_ix, n32_ib, n32_lt, n32_le, n32_inj, l_hb, l_hb0, l_shl, l_wo, l_eqm1, l_m1eq, uL_row]
          refine ⟨fun hc => by omega, fun _ => ⟨by omega, ?_⟩⟩
          refine ihq (k + 1) (by omega) _ (fun a x h1 h2 => by unfold nz_u2; rw [if_neg (by omega)]; exact hL a x h1 h2) (by rw [u2_ne (by decide)]; exact l34) (fun x hx => ?_)
          rw [u2_at]
          by_cases hxk : x = k
          · rw [if_pos hxk]
          · rw [if_neg hxk]; exact l85 x (by omega)
      exact loopM 100 0 rfl _ (fun a x h1 h2 => by unfold nz_u2; rw [if_neg h2]) u2_eq (fun x hx => by omega)
    | succ r ih =>
      intro m hm C1 hF g5 g40
      refine sg90_7 ?_
      simp (disch := omega) only [decide_eq_true_eq, decide_eq_false_iff_not, L32, az01, b2i_01, b2i_n0, b2i_n1, Bool.and_true, true_and, and_true, Classical.not_not, Bool.not_eq_true, Bool.not_eq_false, n32_mul, n32_add, n32_ix, n32_ib, n32_lt, n32_le, n32_inj, l_hb, l_hb0, l_shl, l_wo, l_eqm1, l_m1eq, uC_row]
      refine ⟨fun hc => by omega, fun _ => ⟨by omega, ?_⟩⟩
      refine ih (m + 1) (by omega) _ (fun kd o' k l x hh => by unfold nz_u5; rw [if_neg (by omega)]; exact hF kd o' k l x hh) (by rw [u5_k (by decide)]; exact g5) (fun y hy => ?_)
      by_cases hym : y = m
      · rw [hym, u5_eq]
      · rw [u5_x hym]; exact g40 y (by omega)
  exact loopC 10 0 rfl _ (fun kd o' k l x hh => by unfold nz_u5; rw [if_neg (by omega)]) u5_eq (fun y hy => by omega)
end
