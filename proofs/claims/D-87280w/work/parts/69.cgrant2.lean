/-! the system's grant, whole -/
def Fg (o j : Nat) (C C' : nz_f5) : Prop := ∀ kd o' k l x, ¬ (o' = o ∧ ((kd = 8 ∧ k = j ∧ ((5 ≤ x ∧ x ≤ 13) ∨ x = 20)) ∨ (kd = 35 ∧ k = j))) → C' kd o' k l x = C kd o' k l x
theorem Fg.fj {o j : Nat} {C C' : nz_f5} (h : Fg o j C C') : FJ o j C C' := fun kd o' k l x hh => h kd o' k l x (fun hw => hh (by unfold WJ; omega))
theorem Fg.up {o j : Nat} {C C' : nz_f5} {kd o' k l x : Nat} {v : Int32} (h : Fg o j C C') (hw : o' = o ∧ ((kd = 8 ∧ k = j ∧ ((5 ≤ x ∧ x ≤ 13) ∨ x = 20)) ∨ (kd = 35 ∧ k = j))) : Fg o j C (nz_u5 C' kd o' k l x v) := fun kd2 o2 k2 l2 x2 hh => by
  unfold nz_u5
  by_cases hc : kd2 = kd ∧ o2 = o' ∧ k2 = k ∧ l2 = l ∧ x2 = x
  · exfalso; apply hh; rw [hc.1, hc.2.1, hc.2.2.1, hc.2.2.2.2]; exact hw
  · rw [if_neg hc]; exact h kd2 o2 k2 l2 x2 hh
theorem Fg.rfl' {o j : Nat} (C : nz_f5) : Fg o j C C := fun _ _ _ _ _ _ => rfl
theorem Fg.on {o j : Nat} {C C' : nz_f5} {x : Int32} (h : Fg o j C C') : Fg o j C (onC C' o j x) := by
  unfold onC
  refine Fg.up (Fg.up (Fg.up (Fg.up (Fg.up (Fg.up h ?_) ?_) ?_) ?_) ?_) ?_ <;> omega
section
variable {P : Nat × (Nat → Int32)} {d o : Nat} {t s : St} {T S L0 L Z : nz_f2} {C : nz_f5} {j : Nat}
theorem RC.gets {C1 : nz_f5} (hT : TV t) (hI : INV t s) (hR : RC o t s C) (hj : j < 8) (h1 : s j 1 = 1) (hF : Fg o j C C1) (e7 : C1 8 o j 0 7 = n32 (getF t s j 5)) (e35 : ∀ m, m < 10 → C1 35 o j 0 m = n32 (getF t s j (8 + m))) (e13 : C1 8 o j 0 13 = C 8 o j 0 13) (e5 : C1 8 o j 0 5 = C 8 o j 0 5) : RC o t (getsS t s j) (onC C1 o j (n32 1)) := by
  have hA := hI.av hT hj (Or.inl h1)
  have hJ := hR.2.1 j hj
  unfold getsS
  refine hR.go hj hF.fj (by omega) rfl rfl ?_ (fun m hm => ?_) ?_ ⟨s j 0 + 1, by have := hA.1; omega, ?_, fun _ => ?_, fun h => ?_⟩
  · rw [e7]; rfl
  · rw [e35 m hm, if_neg (by omega), if_neg (by omega)]
  · rw [e13, (hJ.2.2.2.1 (by omega)).2]
    show _ = n32 (getF t s j 2)
    rw [getF_2]
  · rw [e5, hJ.2.2.2.2.1 (Or.inl h1), n32_add]
  · rfl
  · exact h
theorem c_g83 (ho : o = 0 ∨ o = 1) (hT : TV t) (hI : INV t s) (hR : RC o t s C) (hj : j < 8) (h1 : s j 1 = 1) (ha : atlS t s j = false) {Q : nz_h → Prop}
    (hq : ∀ C2, Fg o j C C2 → C2 8 o j 0 20 = C 8 o j 0 20 + n32 1 → RC o t (getsS t s j) C2 → ∀ l0 l1 l2 l3 l4 l8, nzW P (d + 5) az_k57 182 [l0, l1, l2, l3, l4, some (vr (26, o, 0, 0)), some (vi (n32 8)), some (vi (n32 0)), l8] [] (T, S, L0, Z, C2) (nz_RV Q)) :
    ∀ n m, n + m = 10 → ∀ C1, Fg o j C C1 → C1 8 o j 0 20 = C 8 o j 0 20 + n32 1 → C1 8 o j 0 7 = n32 (getF t s j 5) → (∀ x, x = 5 ∨ x = 10 ∨ x = 12 ∨ x = 13 → C1 8 o j 0 x = C 8 o j 0 x) → (∀ y, y < m → C1 35 o j 0 y = n32 (getF t s j (8 + y))) → (∀ y, m ≤ y → C1 35 o j 0 y = C 35 o j 0 y) → ∀ l3 l6 l7 l8, nzW P (d + 5) az_k57 83 [some (sO o), some (jO o j), some (vr (9, o, j, s j 0)), l3, some (vi (n32 (askS t s j))), some (vi (n32 m)), l6, l7, l8] [] (T, S, L0, Z, C1) (nz_RV Q) := by
  intro n
  obtain ⟨e12, e5, eop, e8, hp, hask, hp2⟩ := hR.ask hT hI hj h1
  have hop : opS t s j < 10 := hT.2.2.2.1 _
  have hB := hI.B
  have hJ := hR.2.1 j hj
  induction n with
  | zero =>
    intro m hm C1 hF h20 h7 hx hlo hhi l3 l6 l7 l8
    obtain rfl : m = 10 := by omega
    rcases ho with rfl | rfl
    · refine sg57_83_o0 ?_
      simp (disch := omega) only [decide_eq_true_eq, decide_eq_false_iff_not, L32, az01, b2i_01, b2i_n0, b2i_n1, Bool.and_true, true_and, and_true, Classical.not_not, Bool.not_eq_true, Bool.not_eq_false, n32_mul, n32_add, n32_ix, n32_ib, n32_lt, n32_le, n32_inj, l_hb, l_hb0, l_shl, l_wo, l_eqm1, l_m1eq, c_on]
      refine ⟨fun _ => ?_, fun hc => by omega⟩
      refine hq _ hF.on ?_ (hR.gets hT hI hj h1 hF h7 (fun m hm => hlo m hm) (hx 13 (by omega)) (hx 5 (by omega))) _ _ _ _ _ _
      unfold onC; simp (disch := decide) only [u5_x]; exact h20
    · refine sg57_83_o1 ?_
      simp (disch := omega) only [decide_eq_true_eq, decide_eq_false_iff_not, L32, az01, b2i_01, b2i_n0, b2i_n1, Bool.and_true, true_and, and_true, Classical.not_not, Bool.not_eq_true, Bool.not_eq_false, n32_mul, n32_add, n32_ix, n32_ib, n32_lt, n32_le, n32_inj, l_hb, l_hb0, l_shl, l_wo, l_eqm1, l_m1eq, c_on]
      refine ⟨fun _ => ?_, fun hc => by omega⟩
      refine hq _ hF.on ?_ (hR.gets hT hI hj h1 hF h7 (fun m hm => hlo m hm) (hx 13 (by omega)) (hx 5 (by omega))) _ _ _ _ _ _
      unfold onC; simp (disch := decide) only [u5_x]; exact h20
  | succ n ih =>
    intro m hm C1 hF h20 h7 hx hlo hhi l3 l6 l7 l8
    have hm10 : m < 10 := by omega
    have gt := getF_time hT hI hj h1 ha hm10
    have e9 : C1 9 o j (s j 0) 0 = n32 (opS t s j) := (hF _ _ _ _ _ (by omega)).trans eop
    have e91 : C1 9 o j (s j 0) 1 = n32 (mchS t (20 * j + s j 0)) := (hF _ _ _ _ _ (by omega)).trans (hR.1.2.2.1 j (s j 0) hj hp2).2.1
    have e121 : C1 8 o j 0 12 = b2i (decide (0 < s j 4)) := (hx 12 (by omega)).trans e12
    have e35 : C1 35 o j 0 m = n32 (s j (8 + m)) := (hhi m (by omega)).trans (hJ.2.2.1 m hm10)
    have hsm := hB j (8 + m)
    have stay : getF t s j (8 + m) = s j (8 + m) → nzW P (d + 5) az_k57 83 [some (sO o), some (jO o j), some (vr (9, o, j, s j 0)), l3, some (vi (n32 (askS t s j))), some (vi (n32 (m + 1))), l6, l7, l8] [] (T, S, L0, Z, C1) (nz_RV Q) := fun hg =>
      ih (m + 1) (by omega) C1 hF h20 h7 hx (fun y hy => by
        by_cases hym : y = m
        · rw [hym, hg]; exact e35
        · exact hlo y (by omega)) (fun y hy => hhi y (by omega)) _ _ _ _
    have move : ∀ v, n32 (getF t s j (8 + m)) = v → nzW P (d + 5) az_k57 83 [some (sO o), some (jO o j), some (vr (9, o, j, s j 0)), l3, some (vi (n32 (askS t s j))), some (vi (n32 (m + 1))), l6, l7, l8] [] (T, S, L0, Z, nz_u5 C1 35 o j 0 m v) (nz_RV Q) := fun v hv =>
      ih (m + 1) (by omega) _ (hF.up (by omega)) (by rw [u5_k (by decide)]; exact h20) (by rw [u5_k (by decide)]; exact h7) (fun x hxx => by rw [u5_k (by decide)]; exact hx x hxx) (fun y hy => by
        by_cases hym : y = m
        · rw [hym, u5_eq, hv]
        · rw [u5_x hym]; exact hlo y (by omega)) (fun y hy => by rw [u5_x (by omega)]; exact hhi y (by omega)) _ _ _ _
    have fin : (((askS t s j).testBit m = false → ((¬ opS t s j = 9 → getF t s j (8 + m) = s j (8 + m)) ∧ (opS t s j = 9 → (((onS t s j).testBit m = false → getF t s j (8 + m) = s j (8 + m)) ∧ ((onS t s j).testBit m = true → n32 (getF t s j (8 + m)) = n32 (s j (8 + m) + 1)))))) ∧ ((askS t s j).testBit m = true → ((¬ 0 < s j 4 → n32 (getF t s j (8 + m)) = n32 1) ∧ (0 < s j 4 → n32 (getF t s j (8 + m)) = n32 (s j 4))))) := by
      rw [gt]
      refine ⟨fun hb => ⟨fun h9 => ?_, fun h9 => ⟨fun ho => ?_, fun ho => ?_⟩⟩, fun hb => ⟨fun h4 => ?_, fun h4 => ?_⟩⟩
      · rw [if_neg (by rw [hb]; decide), if_neg (fun hh => h9 hh.1)]
      · rw [if_neg (by rw [hb]; decide), if_neg (fun hh => by rw [ho] at hh; cases hh.2)]
      · rw [if_neg (by rw [hb]; decide), if_pos ⟨h9, ho⟩]
      · rw [if_pos hb, if_neg h4]
      · rw [if_pos hb, if_pos h4]
    have e10 := hJ.2.2.2.2.2.2.1
    have m9 : opS t s j = 9 → mchS t (20 * j + s j 0) = onS t s j := fun h9 => by
      unfold opS at h9; unfold mchS onS; rw [if_pos h9]
    have hon : onS t s j < 1024 := hT.2.2.2.2.1 _
    rcases ho with rfl | rfl
    · refine sg57_83_o0 ?_
      simp (disch := omega) only [decide_eq_true_eq, decide_eq_false_iff_not, L32, az01, b2i_01, b2i_n0, b2i_n1, Bool.and_true, true_and, and_true, Classical.not_not, Bool.not_eq_true, Bool.not_eq_false, n32_mul, n32_add, n32_ix, n32_ib, n32_lt, n32_le, n32_inj, l_hb, l_hb0, l_shl, l_wo, l_eqm1, l_m1eq, c_has, uC_row, e9, e121]
      refine ⟨fun hc => by omega, fun _ => ⟨fun hb => ⟨fun h9 => stay ((fin.1 hb).1 h9), fun h9 => ?_⟩, fun hb => ⟨fun h4 => ⟨hm10, move _ ((fin.2 hb).1 h4)⟩, fun h4 => ⟨hm10, move _ (((fin.2 hb).2 h4).trans (((hx 10 (by omega)).trans (e10 h4)).symm))⟩⟩⟩⟩
      rw [e91, m9 h9]
      simp (disch := omega) only [decide_eq_true_eq, decide_eq_false_iff_not, L32, az01, b2i_01, b2i_n0, b2i_n1, Bool.and_true, true_and, and_true, Classical.not_not, Bool.not_eq_true, Bool.not_eq_false, n32_mul, n32_add, n32_ix, n32_ib, n32_lt, n32_le, n32_inj, l_hb, l_hb0, l_shl, l_wo, l_eqm1, l_m1eq, c_has, uC_row, e35]
      exact ⟨fun hh => stay (((fin.1 hb).2 h9).1 hh), fun hh => ⟨hm10, hm10, move _ (((fin.1 hb).2 h9).2 hh)⟩⟩
    · refine sg57_83_o1 ?_
      simp (disch := omega) only [decide_eq_true_eq, decide_eq_false_iff_not, L32, az01, b2i_01, b2i_n0, b2i_n1, Bool.and_true, true_and, and_true, Classical.not_not, Bool.not_eq_true, Bool.not_eq_false, n32_mul, n32_add, n32_ix, n32_ib, n32_lt, n32_le, n32_inj, l_hb, l_hb0, l_shl, l_wo, l_eqm1, l_m1eq, c_has, uC_row, e9, e121]
      refine ⟨fun hc => by omega, fun _ => ⟨fun hb => ⟨fun h9 => stay ((fin.1 hb).1 h9), fun h9 => ?_⟩, fun hb => ⟨fun h4 => ⟨hm10, move _ ((fin.2 hb).1 h4)⟩, fun h4 => ⟨hm10, move _ (((fin.2 hb).2 h4).trans (((hx 10 (by omega)).trans (e10 h4)).symm))⟩⟩⟩⟩
      rw [e91, m9 h9]
      simp (disch := omega) only [decide_eq_true_eq, decide_eq_false_iff_not, L32, az01, b2i_01, b2i_n0, b2i_n1, Bool.and_true, true_and, and_true, Classical.not_not, Bool.not_eq_true, Bool.not_eq_false, n32_mul, n32_add, n32_ix, n32_ib, n32_lt, n32_le, n32_inj, l_hb, l_hb0, l_shl, l_wo, l_eqm1, l_m1eq, c_has, uC_row, e35]
      exact ⟨fun hh => stay (((fin.1 hb).2 h9).1 hh), fun hh => ⟨hm10, hm10, move _ (((fin.1 hb).2 h9).2 hh)⟩⟩
theorem getF_atl (ha : atlS t s j = true) : getF t s j 5 = s j 5 ||| askS t s j ∧ ∀ m, getF t s j (8 + m) = s j (8 + m) := by
  unfold getF
  rw [ha]
  have h := ha
  unfold atlS at h
  simp only [Bool.and_eq_true, decide_eq_true_eq] at h
  refine ⟨?_, fun m => ?_⟩
  · simp
  · simp; intro hh; omega
theorem c_g36 (ho : o = 0 ∨ o = 1) (hT : TV t) (hI : INV t s) (hR : RC o t s C) (hj : j < 8) (h1 : s j 1 = 1) {Q : nz_h → Prop}
    (hq : ∀ C2, Fg o j C C2 → C2 8 o j 0 20 = C 8 o j 0 20 + n32 1 → RC o t (getsS t s j) C2 → ∀ l0 l1 l2 l3 l4 l8, nzW P (d + 5) az_k57 182 [l0, l1, l2, l3, l4, some (vr (26, o, 0, 0)), some (vi (n32 8)), some (vi (n32 0)), l8] [] (T, S, L0, Z, C2) (nz_RV Q)) {l3 l5 l6 l7 l8 : Option nz_V} :
    nzW P (d + 5) az_k57 36 [some (sO o), some (jO o j), some (vr (9, o, j, s j 0)), l3, some (vi (n32 (askS t s j))), l5, l6, l7, l8] [] (T, S, L0, Z, C) (nz_RV Q) := by
  obtain ⟨e12, e5, eop, e8, hp, hask, hp2⟩ := hR.ask hT hI hj h1
  have hJ := hR.2.1 j hj
  have e11 := (hJ.2.2.2.2.2.1 h1).1
  have e7 := hJ.2.1
  have hF : ∀ v, Fg o j C (nz_u5 (nz_u5 C 8 o j 0 20 (C 8 o j 0 20 + n32 1)) 8 o j 0 7 v) := fun v => Fg.up (Fg.up (Fg.rfl' C) (by omega)) (by omega)
  have A : atlS t s j = false → ∀ l3 l6 l7 l8, nzW P (d + 5) az_k57 83 [some (sO o), some (jO o j), some (vr (9, o, j, s j 0)), l3, some (vi (n32 (askS t s j))), some (vi (n32 0)), l6, l7, l8] [] (T, S, L0, Z, nz_u5 (nz_u5 C 8 o j 0 20 (C 8 o j 0 20 + n32 1)) 8 o j 0 7 (n32 (nwo (s j 5) (askS t s j)))) (nz_RV Q) := fun ha => by
    refine c_g83 ho hT hI hR hj h1 ha hq 10 0 rfl _ (hF _) ?_ ?_ (fun x hx => ?_) (fun y hy => by omega) (fun y hy => ?_)
    · rw [u5_x (by decide), u5_eq]
    · rw [u5_eq, getF_5 hT hI hj h1 ha]
    · rw [u5_x (by omega), u5_x (by omega)]
    · rw [u5_k (by decide), u5_k (by decide)]
  have B : atlS t s j = true → ∀ l0 l1 l2 l3 l4 l8, nzW P (d + 5) az_k57 182 [l0, l1, l2, l3, l4, some (vr (26, o, 0, 0)), some (vi (n32 8)), some (vi (n32 0)), l8] [] (T, S, L0, Z, onC (nz_u5 (nz_u5 C 8 o j 0 20 (C 8 o j 0 20 + n32 1)) 8 o j 0 7 (n32 (s j 5 ||| askS t s j))) o j (n32 1)) (nz_RV Q) := fun ha => by
    obtain ⟨g5, g8⟩ := getF_atl ha
    refine hq _ (hF _).on ?_ (hR.gets hT hI hj h1 (hF _) ?_ (fun m hm => ?_) ?_ ?_)
    · unfold onC; simp (disch := decide) only [u5_x, u5_eq]
    · rw [u5_eq, g5]
    · rw [g8, u5_k (by decide), u5_k (by decide)]; exact hJ.2.2.1 m hm
    · rw [u5_x (by decide), u5_x (by decide)]
    · rw [u5_x (by decide), u5_x (by decide)]
  rcases ho with rfl | rfl
  · refine sg57_36_o0 ?_
    simp (disch := first | omega | decide) only [decide_eq_true_eq, decide_eq_false_iff_not, L32, az01, b2i_01, b2i_n0, b2i_n1, Bool.and_true, true_and, and_true, Classical.not_not, Bool.not_eq_true, Bool.not_eq_false, n32_mul, n32_add, n32_ix, n32_ib, n32_lt, n32_le, n32_inj, l_hb, l_hb0, l_shl, l_wo, l_eqm1, l_m1eq, uC_row, u5_x, e11, e7, n32_or, c_on]
    exact ⟨fun ha => A ha _ _ _ _, fun ha => B ha _ _ _ _ _ _⟩
  · refine sg57_36_o1 ?_
    simp (disch := first | omega | decide) only [decide_eq_true_eq, decide_eq_false_iff_not, L32, az01, b2i_01, b2i_n0, b2i_n1, Bool.and_true, true_and, and_true, Classical.not_not, Bool.not_eq_true, Bool.not_eq_false, n32_mul, n32_add, n32_ix, n32_ib, n32_lt, n32_le, n32_inj, l_hb, l_hb0, l_shl, l_wo, l_eqm1, l_m1eq, uC_row, u5_x, e11, e7, n32_or, c_on]
    exact ⟨fun ha => A ha _ _ _ _, fun ha => B ha _ _ _ _ _ _⟩
theorem LI1.gets {L : nz_f2} (hL : LI1 s L) (hj : j < 8) : LI1 (getsS t s j) (grantL t s L j) := by
  refine hL.upj hj (grantL_keep (by decide) (by decide)) (grantL_keep (by decide) (by decide)) ?_
  simp [getF_2, getF_6]
theorem RG.fg {C2 : nz_f5} {s' : St} {L' : nz_f2} (hG : RG 0 s L C) (hj : j < 8) (hF : Fg 0 j C C2) (h20 : C2 8 0 j 0 20 = C 8 0 j 0 20 + n32 1) (h6 : ∀ k, s' k 6 = s k 6) (hl : ∀ a x, ¬ (a = 71 ∧ x = j) → (67 ≤ a ∧ a ≤ 71) ∨ (75 ≤ a ∧ a ≤ 79) ∨ (a = 13 ∧ (x = 13 ∨ x = 26)) → L' a x = L a x) (h71 : L' 71 j = L 71 j + n32 1) : RG 0 s' L' C2 := by
  intro _
  obtain ⟨g1, g2, g3, g4, g5⟩ := hG rfl
  refine ⟨by rw [hl 13 13 (by omega) (by omega)]; exact g1, fun k hk => ?_, ?_, fun i hi => ?_, fun i hi => ?_⟩
  · obtain ⟨a1, a2, a3, a4, a5, a6⟩ := g2 k hk
    rw [hF 8 0 k 0 16 (by omega), hF 8 0 k 0 17 (by omega), hF 8 0 k 0 18 (by omega), hF 8 0 k 0 19 (by omega), hF 8 0 k 0 14 (by omega), hl 67 k (by omega) (by omega), hl 68 k (by omega) (by omega), hl 69 k (by omega) (by omega), hl 70 k (by omega) (by omega), h6]
    refine ⟨a1, a2, a3, a4, ?_, a6⟩
    by_cases hkj : k = j
    · rw [hkj, h20, h71, ← hkj, a5]
    · rw [hF 8 0 k 0 20 (by omega), hl 71 k (by omega) (by omega)]; exact a5
  · rw [hF 11 0 0 0 11 (by omega), hl 13 26 (by omega) (by omega)]; exact g3
  · rw [hF 46 0 0 0 i (by omega), hF 47 0 0 0 i (by omega), hF 48 0 0 0 i (by omega), hF 49 0 0 0 i (by omega), hl 75 i (by omega) (by omega), hl 76 i (by omega) (by omega), hl 77 i (by omega) (by omega), hl 78 i (by omega) (by omega)]; exact g4 i hi
  · rw [hF 50 0 0 0 i (by omega), hl 79 i (by omega) (by omega)]; exact g5 i hi
theorem Fr.glog {C' : nz_f5} (h : Fr glW C C') (hR : RC o t s C) : RC o t s C' :=
  hR.off (fun _ _ => h _ _ _ _ _ (by unfold glW; omega)) (fun _ _ => h _ _ _ _ _ (by unfold glW; omega)) (fun _ _ _ => h _ _ _ _ _ (by unfold glW; omega)) (h _ _ _ _ _ (by unfold glW; omega)) (fun _ _ => h _ _ _ _ _ (by unfold glW; omega)) (fun _ => h _ _ _ _ _ (by unfold glW; omega)) (fun _ _ => h _ _ _ _ _ (by unfold glW; omega))
theorem c_grant (ho : o = 0 ∨ o = 1) (hT : TV t) (hI : INV t s) (hL : LI1 s L) (hL2 : LI2 s L) (hR : RC o t s C) (hG : RG o s L C) (hH : o = 0 → RH L C) (hd : 7 ≤ d) (hj : j < 8) (h1 : s j 1 = 1) (hc : canS t s j = true) {Q : nz_h → Prop}
    (hq : ∀ C', Fr (Wgr o) C C' → RC o t (grantP t (s, L) j).1 C' → RG o (grantP t (s, L) j).1 (grantP t (s, L) j).2 C' → (o = 0 → RH (grantP t (s, L) j).2 C') → Q (T, S, L0, Z, C')) : ctV P d 57 [sO o, jO o j] (T, S, L0, Z, C) Q := by
  obtain ⟨d, rfl⟩ := dge hd
  obtain ⟨e12, e5, eop, e8, hp, hask, hp2⟩ := hR.ask hT hI hj h1
  have hIG := INV_gets hT hI hj h1 hc
  have hLG : LI1 (getsS t s j) (grantL t s L j) := hL.gets hj
  rcases ho with rfl | rfl
  · obtain ⟨g1, g2⟩ := hG rfl
    obtain ⟨g, hg1, hg2⟩ := hL2.resolve_left g1
    refine sm57_o0 ?_
    simp (disch := first | omega | decide) only [decide_eq_true_eq, decide_eq_false_iff_not, L32, az01, b2i_01, b2i_n0, b2i_n1, Bool.and_true, true_and, and_true, Classical.not_not, Bool.not_eq_true, Bool.not_eq_false, n32_mul, n32_add, n32_ix, n32_ib, n32_lt, n32_le, n32_inj, l_hb, l_hb0, l_shl, l_wo, l_eqm1, l_m1eq, e5, c_having (h := (T, S, L0, Z, C)) hI hR, e8]
    refine ⟨hp, fun hf => (by cases hf), fun _ => ?_⟩
    refine c_glog (L := L) (by omega) hask (hR.1.2.1 j hj).1 e5 (hH rfl) hg1 (by omega) (fun C1 hF1 h5 h43 hRB => ?_)
    have hR1 : RC 0 t s C1 := Fr.glog hF1 hR
    have hG1 : RG 0 s L C1 := hG.keep (fun k x hx => hF1 _ _ _ _ _ (by unfold glW; omega)) (hF1 _ _ _ _ _ (by unfold glW; omega)) (fun kd x h1 h2 => hF1 _ _ _ _ _ (by unfold glW; omega)) (fun k => rfl)
    refine c_g36 (d := d + 1) (Or.inl rfl) hT hI hR1 hj h1 (fun C2 hF2 h20 hR2 => ?_)
    have egl : grantL t s L j = (nz_u2 (nz_u2 (nz_u2 (nz_u2 (nz_u2 (lrnN s j (askS t s j) L 100) 72 g (n32 j)) 73 g (n32 (s j 0))) 74 g (n32 (askS t s j))) 71 j (L 71 j + n32 1)) 13 22 (n32 (g + 1))) := by
      unfold grantL; rw [decide_eq_false g1, hg1, n32_ix (by omega)]; rfl
    have hF12 : Fr (Wgr 0) C C2 := (hF1.mono (fun kd o' x hw => Or.inr ⟨rfl, hw⟩)).trans (hF2.fj.sh.gr)
    refine c_tryL (L0 := L0) (C := C) (p := (getsS t s j, grantL t s L j)) hT hIG hLG hq 8 0 rfl C2 hF12 hR2 ?_ (fun _ => ?_)
    · refine hG1.fg hj hF2 h20 (fun k => ?_) (fun a x h1 h2 => ?_) ?_
      · show getsS t s j k 6 = s k 6
        unfold getsS upj
        by_cases hk : k = j
        · rw [if_pos hk, hk]; exact getF_6
        · rw [if_neg hk]
      · show grantL t s L j a x = L a x
        rw [egl]
        unfold nz_u2
        rw [if_neg (by omega), if_neg (by omega), if_neg (by omega), if_neg (by omega), if_neg (by omega)]
        exact lrnN_keep (by omega) 100
      · show grantL t s L j 71 j = _
        rw [egl, u2_ne (by decide), u2_eq]
    · show RH (grantL t s L j) C2
      have hC : ∀ kd x, kd = 10 ∨ kd = 11 ∨ (36 ≤ kd ∧ kd ≤ 45) → C2 kd 0 0 0 x = C1 kd 0 0 0 x := fun kd x hh => hF2 _ _ _ _ _ (by omega)
      refine ⟨?_, fun i => ?_, ?_⟩
      · rw [hC 11 5 (by omega), h5, egl, u2_eq]
      · rw [hC 43 i (by omega), hC 44 i (by omega), hC 45 i (by omega), (h43 i).1, (h43 i).2.1, (h43 i).2.2, egl]
        simp (disch := decide) only [u2_ne, u2_at]
        rw [lrnN_keep (by omega) 100, lrnN_keep (by omega) 100, lrnN_keep (by omega) 100]
        exact ⟨rfl, rfl, rfl⟩
      · refine hRB.congr (fun a x h1 h2 => ?_) ?_ (hC _ _ (by omega)) (fun kd x h1 h2 => hC _ _ (by omega))
        · rw [egl]; unfold nz_u2
          rw [if_neg (by omega), if_neg (by omega), if_neg (by omega), if_neg (by omega), if_neg (by omega)]
        · rw [egl]; unfold nz_u2
          rw [if_neg (by omega), if_neg (by omega), if_neg (by omega), if_neg (by omega), if_neg (by omega)]
  · refine sm57_o1 ?_
    simp (disch := first | omega | decide) only [decide_eq_true_eq, decide_eq_false_iff_not, L32, az01, b2i_01, b2i_n0, b2i_n1, Bool.and_true, true_and, and_true, Classical.not_not, Bool.not_eq_true, Bool.not_eq_false, n32_mul, n32_add, n32_ix, n32_ib, n32_lt, n32_le, n32_inj, l_hb, l_hb0, l_shl, l_wo, l_eqm1, l_m1eq, e5, c_having (h := (T, S, L0, Z, C)) hI hR, e8]
    refine ⟨hp, fun _ => ?_, fun hf => (by cases hf)⟩
    refine c_g36 (d := d + 1) (Or.inr rfl) hT hI hR hj h1 (fun C2 hF2 h20 hR2 => ?_)
    refine c_tryL (L0 := L0) (C := C) (p := (getsS t s j, grantL t s L j)) hT hIG hLG hq 8 0 rfl C2 hF2.fj.sh.gr hR2 (fun h => by cases h) (fun h => by cases h)
end
