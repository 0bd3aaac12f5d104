/-! the telling calls, the rest -/
theorem TV_tell {t t' : St} (hT : TV t) (e55 : ∀ m, t' 55 m = t 55 m) (e56 : ∀ m, t' 56 m = t 56 m) (c57 : ∀ j, t' 57 j ≤ 20) (e58 : ∀ m, t' 58 m = t 58 m) (e59 : ∀ m, t' 59 m = t 59 m) (e60 : ∀ m, t' 60 m = t 60 m) (c61 : ∀ j, t' 61 j < 20 ∨ t' 61 j = 4294967295) (c62 : ∀ j, t' 62 j < 1024) (c8 : t' 13 8 < 4) (c63 : ∀ i, t' 63 i < 8) (c10 : t' 13 10 ≤ 100) : TV t' := by
  obtain ⟨a1, a2, a3, a4, a5, a6, a7, a8, a9, a10, a11, a12, a13⟩ := hT
  exact ⟨fun m => by rw [e55]; exact a1 m, fun m => by rw [e56]; exact a2 m, c57, fun i => by rw [e58]; exact a4 i, fun i => by rw [e59]; exact a5 i, fun i => by rw [e58, e59]; exact a6 i, fun i => by rw [e58, e60]; exact a7 i, c61, c62, c8, c63, c10, fun i => by rw [e58, e59]; exact a13 i⟩
theorem RTold_tell {t t' : St} {C C' : nz_f5} (hR : RTold t C) (e55 : ∀ m, t' 55 m = t 55 m) (e56 : ∀ m, t' 56 m = t 56 m) (e58 : ∀ m, t' 58 m = t 58 m) (e59 : ∀ m, t' 59 m = t 59 m) (e60 : ∀ m, t' 60 m = t 60 m) (h7 : ∀ m x, C' 7 2 m 0 x = C 7 2 m 0 x) (h9 : ∀ j p x, C' 9 2 j p x = C 9 2 j p x) (c2 : ∀ j, j < 8 → C' 8 2 j 0 2 = n32 (t' 57 j) ∧ t' 57 j ≤ t 57 j ∧ C' 8 2 j 0 3 = n32 (t' 61 j) ∧ C' 8 2 j 0 4 = n32 (t' 62 j)) (c14 : C' 0 0 0 0 14 = n32 (t' 13 8)) (c6 : C' 0 0 0 0 6 = n32 (t' 13 10)) (c20 : ∀ i, i < t' 13 10 → C' 20 0 0 0 i = n32 (t' 63 i)) : RTold t' C' := by
  obtain ⟨a1, a2, a3, a4, a5, a6⟩ := hR
  refine ⟨fun m hm => by rw [h7, h7, e55, e56]; exact a1 m hm, fun j hj => ⟨(c2 j hj).1, (c2 j hj).2.2⟩, fun j p hj hp => ?_, c14, c6, c20⟩
  unfold mchS
  rw [h9, h9, h9, e58, e59, e60]
  exact a3 j p hj (by have := (c2 j hj).2.1; omega)
section
variable {P : Nat × (Nat → Int32)} {d : Nat}
theorem j_clear {x1 : Int32} (hd : 5 ≤ d) : JNT P d 7 108 [vi x1] := by
  obtain ⟨d, rfl⟩ := dge hd
  rintro h ⟨t, s, L, Z, C, rfl, hT, hR, hI⟩
  have keep : LAWI (rowf t, rowf s, L, Z, C) := ⟨t, s, L, Z, C, rfl, hT, hR, hI⟩
  refine sm7 ?_
  simp (disch := omega) only [decide_eq_true_eq, decide_eq_false_iff_not, L32, az01, b2i_01, b2i_n0, b2i_n1, Bool.and_true, true_and, and_true, Classical.not_not, Bool.not_eq_true, Bool.not_eq_false, c_isJob]
  refine ⟨fun h1 => ?_, fun h1 => ?_⟩
  · obtain ⟨a, ha, rfl⟩ := inB_T (by omega) h1
    simp (disch := omega) only [decide_eq_true_eq, decide_eq_false_iff_not, L32, az01, b2i_01, b2i_n0, b2i_n1, Bool.and_true, true_and, and_true, Classical.not_not, Bool.not_eq_true, Bool.not_eq_false, n32_mul, n32_add, n32_ix, n32_ib, n32_lt, n32_le, n32_inj, l_hb, l_hb0, l_shl, l_wo, l_eqm1, l_m1eq, uC_row]
    refine ⟨ha, ha, ?_⟩
    refine sm108 ?_
    have em : nm1 = n32 4294967295 := by decide
    simp (disch := omega) only [decide_eq_true_eq, decide_eq_false_iff_not, L32, az01, b2i_01, b2i_n0, b2i_n1, Bool.and_true, true_and, and_true, Classical.not_not, Bool.not_eq_true, Bool.not_eq_false, m_in, h1, n32_mul, n32_add, n32_ix, n32_ib, n32_lt, n32_le, n32_inj, l_hb, l_hb0, l_shl, l_wo, l_eqm1, l_m1eq, uT_row]
    rw [em]
    simp (disch := omega) only [rowf_upT]
    refine ⟨fun _ => ⟨ha, ha, ?_⟩, fun hc => (by cases hc)⟩
    have o : ∀ x y, ¬ (x = 57 ∧ y = a) → ¬ (x = 61 ∧ y = a) → up (up t 57 a 0) 61 a 4294967295 x y = t x y := fun x y h1 h2 => by unfold up; rw [if_neg h2, if_neg h1]
    have o1 : up (up t 57 a 0) 61 a 4294967295 57 a = 0 := by unfold up; simp
    have o2 : up (up t 57 a 0) 61 a 4294967295 61 a = 4294967295 := by unfold up; simp
    refine ⟨up (up t 57 a 0) 61 a 4294967295, s, L, Z, _, rfl, ?_, ?_, hI.told (FT.up (FT.up (FT.rfl' C) (by omega)) (by omega))⟩
    · refine TV_tell hT (fun m => o _ _ (by omega) (by omega)) (fun m => o _ _ (by omega) (by omega)) (fun j => ?_) (fun m => o _ _ (by omega) (by omega)) (fun m => o _ _ (by omega) (by omega)) (fun m => o _ _ (by omega) (by omega)) (fun j => ?_) (fun j => by rw [o _ _ (by omega) (by omega)]; exact hT.2.2.2.2.2.2.2.2.1 j) (by rw [o _ _ (by omega) (by omega)]; exact hT.2.2.2.2.2.2.2.2.2.1) (fun i => by rw [o _ _ (by omega) (by omega)]; exact hT.2.2.2.2.2.2.2.2.2.2.1 i) (by rw [o _ _ (by omega) (by omega)]; exact hT.2.2.2.2.2.2.2.2.2.2.2.1)
      · by_cases hja : j = a
        · rw [hja, o1]; omega
        · rw [o _ _ (by omega) (by omega)]; exact hT.2.2.1 j
      · by_cases hja : j = a
        · rw [hja, o2]; exact Or.inr rfl
        · rw [o _ _ (by omega) (by omega)]; exact hT.2.2.2.2.2.2.2.1 j
    · refine RTold_tell hR (fun m => o _ _ (by omega) (by omega)) (fun m => o _ _ (by omega) (by omega)) (fun m => o _ _ (by omega) (by omega)) (fun m => o _ _ (by omega) (by omega)) (fun m => o _ _ (by omega) (by omega)) (fun m x => by simp (disch := decide) only [u5_k]) (fun j p x => by simp (disch := decide) only [u5_k]) (fun j hj => ?_) ?_ ?_ (fun i hi => ?_)
      · by_cases hja : j = a
        · subst hja
          simp (disch := decide) only [u5_x, u5_eq]
          rw [o1, o2, o _ _ (by omega) (by omega)]
          exact ⟨rfl, by omega, rfl, (hR.2.1 j hj).2.2⟩
        · simp (disch := omega) only [u5_c]
          rw [o _ _ (by omega) (by omega), o _ _ (by omega) (by omega), o _ _ (by omega) (by omega)]
          exact ⟨(hR.2.1 j hj).1, Nat.le_refl _, (hR.2.1 j hj).2⟩
      · simp (disch := decide) only [u5_k]; rw [o _ _ (by omega) (by omega)]; exact hR.2.2.2.1
      · simp (disch := decide) only [u5_k]; rw [o _ _ (by omega) (by omega)]; exact hR.2.2.2.2.1
      · rw [o _ _ (by omega) (by omega)] at hi
        simp (disch := decide) only [u5_k]; rw [o _ _ (by omega) (by omega)]; exact hR.2.2.2.2.2 i hi
  · refine sm108 ?_
    simp (disch := omega) only [decide_eq_true_eq, decide_eq_false_iff_not, L32, az01, b2i_01, b2i_n0, b2i_n1, Bool.and_true, true_and, and_true, Classical.not_not, Bool.not_eq_true, Bool.not_eq_false, m_in, h1]
    exact ⟨fun hc => (hc trivial).elim, fun _ => keep⟩
theorem j_set1 {t s : St} {L Z : nz_f2} {C : nz_f5} {a v kd x : Nat} (hT : TV t) (hR : RTold t C) (hI : LI5 s L C) (hk : (kd = 61 ∧ x = 3 ∧ (v < 20 ∨ v = 4294967295)) ∨ (kd = 62 ∧ x = 4 ∧ v < 1024)) : LAWI (rowf (up t kd a v), rowf s, L, Z, nz_u5 C 8 2 a 0 x (n32 v)) := by
  have o : ∀ y z, ¬ (y = kd ∧ z = a) → up t kd a v y z = t y z := fun y z h1 => by unfold up; rw [if_neg h1]
  have o1 : up t kd a v kd a = v := by unfold up; simp
  refine ⟨_, s, L, Z, _, rfl, ?_, ?_, hI.told (FT.up (FT.rfl' C) (by omega))⟩
  · refine TV_tell hT (fun m => o _ _ (by omega)) (fun m => o _ _ (by omega)) (fun j => by rw [o _ _ (by omega)]; exact hT.2.2.1 j) (fun m => o _ _ (by omega)) (fun m => o _ _ (by omega)) (fun m => o _ _ (by omega)) (fun j => ?_) (fun j => ?_) (by rw [o _ _ (by omega)]; exact hT.2.2.2.2.2.2.2.2.2.1) (fun i => by rw [o _ _ (by omega)]; exact hT.2.2.2.2.2.2.2.2.2.2.1 i) (by rw [o _ _ (by omega)]; exact hT.2.2.2.2.2.2.2.2.2.2.2.1)
    · by_cases hja : kd = 61 ∧ j = a
      · rw [hja.2]
        have : up t kd a v 61 a = v := by rw [← hja.1]; exact o1
        rw [this]; omega
      · rw [o _ _ (by omega)]; exact hT.2.2.2.2.2.2.2.1 j
    · by_cases hja : kd = 62 ∧ j = a
      · rw [hja.2]
        have : up t kd a v 62 a = v := by rw [← hja.1]; exact o1
        rw [this]; omega
      · rw [o _ _ (by omega)]; exact hT.2.2.2.2.2.2.2.2.1 j
  · refine RTold_tell hR (fun m => o _ _ (by omega)) (fun m => o _ _ (by omega)) (fun m => o _ _ (by omega)) (fun m => o _ _ (by omega)) (fun m => o _ _ (by omega)) (fun m x => u5_k (by decide)) (fun j p x => u5_k (by decide)) (fun j hj => ?_) ?_ ?_ (fun i hi => ?_)
    · by_cases hja : j = a
      · subst hja
        rcases hk with ⟨rfl, rfl, _⟩ | ⟨rfl, rfl, _⟩
        · rw [u5_x (by decide), u5_eq, u5_x (by decide), o1, o _ _ (by omega), o _ _ (by omega)]
          exact ⟨(hR.2.1 j hj).1, Nat.le_refl _, rfl, (hR.2.1 j hj).2.2⟩
        · rw [u5_x (by decide), u5_eq, u5_x (by decide), o1, o _ _ (by omega), o _ _ (by omega)]
          exact ⟨(hR.2.1 j hj).1, Nat.le_refl _, (hR.2.1 j hj).2.1, rfl⟩
      · rw [u5_c hja, u5_c hja, u5_c hja, o _ _ (by omega), o _ _ (by omega), o _ _ (by omega)]
        exact ⟨(hR.2.1 j hj).1, Nat.le_refl _, (hR.2.1 j hj).2⟩
    · rw [u5_k (by decide), o _ _ (by omega)]; exact hR.2.2.2.1
    · rw [u5_k (by decide), o _ _ (by omega)]; exact hR.2.2.2.2.1
    · rw [o _ _ (by omega)] at hi
      rw [u5_k (by decide), o _ _ (by omega)]; exact hR.2.2.2.2.2 i hi
theorem j_claim {x1 x2 : Int32} (hd : 5 ≤ d) : JNT P d 9 110 [vi x1, vi x2] := by
  obtain ⟨d, rfl⟩ := dge hd
  rintro h ⟨t, s, L, Z, C, rfl, hT, hR, hI⟩
  have keep : LAWI (rowf t, rowf s, L, Z, C) := ⟨t, s, L, Z, C, rfl, hT, hR, hI⟩
  have no : (inB x1 8 && inB x2 1024) = false → ctI P (d + 5) 110 [mO, vi x1, vi x2] (rowf t, rowf s, L, Z, C) (fun y2 h2 => n32 0 = y2 ∧ LAWI h2) := fun hh => by
    refine sm110 ?_
    simp (disch := omega) only [decide_eq_true_eq, decide_eq_false_iff_not, L32, az01, b2i_01, b2i_n0, b2i_n1, Bool.and_true, true_and, and_true, Classical.not_not, Bool.not_eq_true, Bool.not_eq_false, m_in]
    refine ⟨fun _ => keep, fun h1 => ⟨fun h2 => ?_, fun h2 => keep⟩⟩
    rw [h1, h2] at hh; cases hh
  refine sm9 ?_
  have c9 := c_in (P := P) (d := d + 4) (h := (rowf t, rowf s, L, Z, C)) (x := x2) (n := 1023) (by omega) (by omega)
  simp (disch := omega) only [decide_eq_true_eq, decide_eq_false_iff_not, L32, az01, b2i_01, b2i_n0, b2i_n1, Bool.and_true, true_and, and_true, Classical.not_not, Bool.not_eq_true, Bool.not_eq_false, c_isJob, c9]
  refine ⟨fun h1 => no (by rw [h1]; rfl), fun h1 => ⟨fun h2 => ?_, fun h2 => no (by rw [h2, Bool.and_false])⟩⟩
  obtain ⟨a, ha, rfl⟩ := inB_T (by omega) h1
  obtain ⟨b, hb, rfl⟩ := inB_T (by omega) h2
  simp (disch := omega) only [decide_eq_true_eq, decide_eq_false_iff_not, L32, az01, b2i_01, b2i_n0, b2i_n1, Bool.and_true, true_and, and_true, Classical.not_not, Bool.not_eq_true, Bool.not_eq_false, n32_mul, n32_add, n32_ix, n32_ib, n32_lt, n32_le, n32_inj, l_hb, l_hb0, l_shl, l_wo, l_eqm1, l_m1eq, uC_row]
  refine ⟨ha, ?_⟩
  refine sm110 ?_
  simp (disch := omega) only [decide_eq_true_eq, decide_eq_false_iff_not, L32, az01, b2i_01, b2i_n0, b2i_n1, Bool.and_true, true_and, and_true, Classical.not_not, Bool.not_eq_true, Bool.not_eq_false, m_in, h1, h2, n32_mul, n32_add, n32_ix, n32_ib, n32_lt, n32_le, n32_inj, l_hb, l_hb0, l_shl, l_wo, l_eqm1, l_m1eq, uT_row, rowf_upT]
  exact ⟨fun hc => (by cases hc), fun _ => ⟨fun _ => ⟨ha, j_set1 hT hR hI (Or.inr ⟨rfl, rfl, hb⟩)⟩, fun hc => (by cases hc)⟩⟩
theorem j_guard {x1 x2 : Int32} (hd : 5 ≤ d) : JNT P d 8 109 [vi x1, vi x2] := by
  obtain ⟨d, rfl⟩ := dge hd
  rintro h ⟨t, s, L, Z, C, rfl, hT, hR, hI⟩
  have keep : LAWI (rowf t, rowf s, L, Z, C) := ⟨t, s, L, Z, C, rfl, hT, hR, hI⟩
  have em : nm1.toInt = -1 := by decide
  have e20 : n32 19 < x2 ↔ ¬ x2 < n32 20 := by
    rw [lt_toInt, lt_toInt, n32_toInt (by omega), n32_toInt (by omega)]; omega
  have no : ¬ (inB x1 8 = true ∧ ¬ x2 < nm1 ∧ x2 < n32 20) → ctI P (d + 5) 109 [mO, vi x1, vi x2] (rowf t, rowf s, L, Z, C) (fun y2 h2 => n32 0 = y2 ∧ LAWI h2) := fun hh => by
    refine sm109 ?_
    simp (disch := omega) only [decide_eq_true_eq, decide_eq_false_iff_not, L32, az01, b2i_01, b2i_n0, b2i_n1, Bool.and_true, true_and, and_true, Classical.not_not, Bool.not_eq_true, Bool.not_eq_false, m_in]
    refine ⟨fun _ => keep, fun h1 => ⟨fun _ => keep, fun h2 => ⟨fun h3 => absurd ⟨h1, h2, h3⟩ hh, fun _ => keep⟩⟩⟩
  refine sm8 ?_
  simp (disch := omega) only [decide_eq_true_eq, decide_eq_false_iff_not, L32, az01, b2i_01, b2i_n0, b2i_n1, Bool.and_true, true_and, and_true, Classical.not_not, Bool.not_eq_true, Bool.not_eq_false, c_isJob]
  refine ⟨fun h1 => no (fun hh => by rw [h1] at hh; cases hh.1), fun h1 => ?_⟩
  refine sm4 ?_
  simp (disch := omega) only [decide_eq_true_eq, decide_eq_false_iff_not, L32, az01, b2i_01, b2i_n0, b2i_n1, Bool.and_true, true_and, and_true, Classical.not_not, Bool.not_eq_true, Bool.not_eq_false, n32_mul, n32_add, n32_ix, n32_ib, n32_lt, n32_le, n32_inj, l_hb, l_hb0, l_shl, l_wo, l_eqm1, l_m1eq]
  refine ⟨fun h2 => ⟨fun hc => (hc trivial).elim, fun _ => no (fun hh => hh.2.1 h2)⟩, fun h2 => ⟨fun h3 => ⟨fun hc => (hc trivial).elim, fun _ => no (fun hh => e20.1 h3 hh.2.2)⟩, fun h3 => ⟨fun _ => ?_, fun hc => by omega⟩⟩⟩
  have h3' : x2 < n32 20 := Classical.byContradiction (fun hn => h3 (e20.2 hn))
  obtain ⟨a, ha, rfl⟩ := inB_T (by omega) h1
  obtain ⟨v, hv, rfl⟩ : ∃ v, (v < 20 ∨ v = 4294967295) ∧ x2 = n32 v := by
    by_cases hm : x2 = nm1
    · exact ⟨4294967295, Or.inr rfl, by rw [hm]; decide⟩
    · have hi : inB x2 20 = true := by
        unfold inB
        have l1 : ¬ x2 < n32 0 := fun hh => by
          rw [lt_toInt, n32_toInt (by omega)] at hh
          rw [lt_toInt, em] at h2
          exact hm (Int32.toInt_inj.1 (by rw [em]; omega))
        have l2 : ¬ n32 20 ≤ x2 := fun hh => by
          rw [le_toInt] at hh; rw [lt_toInt] at h3'; omega
        rw [decide_eq_false l1, decide_eq_false l2]; rfl
      obtain ⟨k, hk, rfl⟩ := inB_T (by omega) hi
      exact ⟨k, Or.inl hk, rfl⟩
  simp (disch := omega) only [decide_eq_true_eq, decide_eq_false_iff_not, L32, az01, b2i_01, b2i_n0, b2i_n1, Bool.and_true, true_and, and_true, Classical.not_not, Bool.not_eq_true, Bool.not_eq_false, n32_mul, n32_add, n32_ix, n32_ib, n32_lt, n32_le, n32_inj, l_hb, l_hb0, l_shl, l_wo, l_eqm1, l_m1eq, uC_row]
  refine ⟨ha, ?_⟩
  refine sm109 ?_
  simp (disch := omega) only [decide_eq_true_eq, decide_eq_false_iff_not, L32, az01, b2i_01, b2i_n0, b2i_n1, Bool.and_true, true_and, and_true, Classical.not_not, Bool.not_eq_true, Bool.not_eq_false, m_in, h1, uT_row, rowf_upT]
  refine ⟨fun hc => (by cases hc), fun _ => ⟨fun hc => absurd hc h2, fun _ => ⟨fun _ => ?_, fun hc => absurd h3' hc⟩⟩⟩
  rw [n32_ix (by omega), n32_ib (by omega), decide_eq_true ha]
  exact ⟨rfl, j_set1 hT hR hI (Or.inl ⟨rfl, rfl, hv⟩)⟩
theorem j_manner {x1 : Int32} (hd : 5 ≤ d) : JNT P d 10 111 [vi x1] := by
  obtain ⟨d, rfl⟩ := dge hd
  rintro h ⟨t, s, L, Z, C, rfl, hT, hR, hI⟩
  have keep : LAWI (rowf t, rowf s, L, Z, C) := ⟨t, s, L, Z, C, rfl, hT, hR, hI⟩
  refine sm10 ?_
  have c9 := c_in (P := P) (d := d + 4) (h := (rowf t, rowf s, L, Z, C)) (x := x1) (n := 3) (by omega) (by omega)
  simp (disch := omega) only [decide_eq_true_eq, decide_eq_false_iff_not, L32, az01, b2i_01, b2i_n0, b2i_n1, Bool.and_true, true_and, and_true, Classical.not_not, Bool.not_eq_true, Bool.not_eq_false, c9]
  refine ⟨fun h1 => ?_, fun h1 => ?_⟩
  · obtain ⟨a, ha, rfl⟩ := inB_T (by omega) h1
    simp (disch := omega) only [uC_row]
    refine sm111 ?_
    simp (disch := omega) only [decide_eq_true_eq, decide_eq_false_iff_not, L32, az01, b2i_01, b2i_n0, b2i_n1, Bool.and_true, true_and, and_true, Classical.not_not, Bool.not_eq_true, Bool.not_eq_false, m_in, h1, uT_row, rowf_upT]
    refine ⟨fun _ => ?_, fun hc => (by cases hc)⟩
    have o : ∀ y z, ¬ (y = 13 ∧ z = 8) → up t 13 8 a y z = t y z := fun y z h1 => by unfold up; rw [if_neg h1]
    have o1 : up t 13 8 a 13 8 = a := by unfold up; simp
    refine ⟨_, s, L, Z, _, rfl, ?_, ?_, hI.told (FT.up (FT.rfl' C) (by omega))⟩
    · exact TV_tell hT (fun m => o _ _ (by omega)) (fun m => o _ _ (by omega)) (fun j => by rw [o _ _ (by omega)]; exact hT.2.2.1 j) (fun m => o _ _ (by omega)) (fun m => o _ _ (by omega)) (fun m => o _ _ (by omega)) (fun j => by rw [o _ _ (by omega)]; exact hT.2.2.2.2.2.2.2.1 j) (fun j => by rw [o _ _ (by omega)]; exact hT.2.2.2.2.2.2.2.2.1 j) (by rw [o1]; exact ha) (fun i => by rw [o _ _ (by omega)]; exact hT.2.2.2.2.2.2.2.2.2.2.1 i) (by rw [o _ _ (by omega)]; exact hT.2.2.2.2.2.2.2.2.2.2.2.1)
    · refine RTold_tell hR (fun m => o _ _ (by omega)) (fun m => o _ _ (by omega)) (fun m => o _ _ (by omega)) (fun m => o _ _ (by omega)) (fun m => o _ _ (by omega)) (fun m x => u5_k (by decide)) (fun j p x => u5_k (by decide)) (fun j hj => ?_) ?_ ?_ (fun i hi => ?_)
      · rw [u5_k (by decide), u5_k (by decide), u5_k (by decide), o _ _ (by omega), o _ _ (by omega), o _ _ (by omega)]
        exact ⟨(hR.2.1 j hj).1, Nat.le_refl _, (hR.2.1 j hj).2⟩
      · rw [u5_eq, o1]
      · rw [u5_x (by decide), o _ _ (by omega)]; exact hR.2.2.2.2.1
      · rw [o _ _ (by omega)] at hi
        rw [u5_k (by decide), o _ _ (by omega)]; exact hR.2.2.2.2.2 i hi
  · refine sm111 ?_
    simp (disch := omega) only [decide_eq_true_eq, decide_eq_false_iff_not, L32, az01, b2i_01, b2i_n0, b2i_n1, Bool.and_true, true_and, and_true, Classical.not_not, Bool.not_eq_true, Bool.not_eq_false, m_in, h1]
    exact ⟨fun hc => (hc trivial).elim, fun _ => keep⟩
theorem j_list (hd : 5 ≤ d) : JNV P d 12 113 := by
  obtain ⟨d, rfl⟩ := dge hd
  rintro h ⟨t, s, L, Z, C, rfl, hT, hR, hI⟩
  refine sm12 ?_
  simp (disch := omega) only [decide_eq_true_eq, decide_eq_false_iff_not, L32, az01, b2i_01, b2i_n0, b2i_n1, Bool.and_true, true_and, and_true, Classical.not_not, Bool.not_eq_true, Bool.not_eq_false, uC_row]
  refine sm113 ?_
  simp (disch := omega) only [decide_eq_true_eq, decide_eq_false_iff_not, L32, az01, b2i_01, b2i_n0, b2i_n1, Bool.and_true, true_and, and_true, Classical.not_not, Bool.not_eq_true, Bool.not_eq_false, uT_row, rowf_upT]
  have o : ∀ y z, ¬ (y = 13 ∧ z = 10) → up t 13 10 0 y z = t y z := fun y z h1 => by unfold up; rw [if_neg h1]
  have o1 : up t 13 10 0 13 10 = 0 := by unfold up; simp
  refine ⟨_, s, L, Z, _, rfl, ?_, ?_, hI.told (FT.up (FT.rfl' C) (by omega))⟩
  · exact TV_tell hT (fun m => o _ _ (by omega)) (fun m => o _ _ (by omega)) (fun j => by rw [o _ _ (by omega)]; exact hT.2.2.1 j) (fun m => o _ _ (by omega)) (fun m => o _ _ (by omega)) (fun m => o _ _ (by omega)) (fun j => by rw [o _ _ (by omega)]; exact hT.2.2.2.2.2.2.2.1 j) (fun j => by rw [o _ _ (by omega)]; exact hT.2.2.2.2.2.2.2.2.1 j) (by rw [o _ _ (by omega)]; exact hT.2.2.2.2.2.2.2.2.2.1) (fun i => by rw [o _ _ (by omega)]; exact hT.2.2.2.2.2.2.2.2.2.2.1 i) (by rw [o1]; omega)
  · refine RTold_tell hR (fun m => o _ _ (by omega)) (fun m => o _ _ (by omega)) (fun m => o _ _ (by omega)) (fun m => o _ _ (by omega)) (fun m => o _ _ (by omega)) (fun m x => u5_k (by decide)) (fun j p x => u5_k (by decide)) (fun j hj => ?_) ?_ ?_ (fun i hi => ?_)
    · rw [u5_k (by decide), u5_k (by decide), u5_k (by decide), o _ _ (by omega), o _ _ (by omega), o _ _ (by omega)]
      exact ⟨(hR.2.1 j hj).1, Nat.le_refl _, (hR.2.1 j hj).2⟩
    · rw [u5_x (by decide), o _ _ (by omega)]; exact hR.2.2.2.1
    · rw [u5_eq, o1]
    · rw [o1] at hi; omega
theorem j_grant {x1 : Int32} (hd : 5 ≤ d) : JNT P d 11 112 [vi x1] := by
  obtain ⟨d, rfl⟩ := dge hd
  rintro h ⟨t, s, L, Z, C, rfl, hT, hR, hI⟩
  have keep : LAWI (rowf t, rowf s, L, Z, C) := ⟨t, s, L, Z, C, rfl, hT, hR, hI⟩
  have e6 := hR.2.2.2.2.1
  have h100 := hT.2.2.2.2.2.2.2.2.2.2.2.1
  refine sm11 ?_
  simp (disch := omega) only [decide_eq_true_eq, decide_eq_false_iff_not, L32, az01, b2i_01, b2i_n0, b2i_n1, Bool.and_true, true_and, and_true, Classical.not_not, Bool.not_eq_true, Bool.not_eq_false, n32_mul, n32_add, n32_ix, n32_ib, n32_lt, n32_le, n32_inj, l_hb, l_hb0, l_shl, l_wo, l_eqm1, l_m1eq, c_isJob, e6, uC_row]
  refine ⟨fun h1 => ?_, fun h1 => ⟨fun h2 => ?_, fun h2 => ?_⟩⟩
  · refine sm112 ?_
    simp (disch := omega) only [decide_eq_true_eq, decide_eq_false_iff_not, L32, az01, b2i_01, b2i_n0, b2i_n1, Bool.and_true, true_and, and_true, Classical.not_not, Bool.not_eq_true, Bool.not_eq_false, m_in, h1, n32_mul, n32_add, n32_ix, n32_ib, n32_lt, n32_le, n32_inj, l_hb, l_hb0, l_shl, l_wo, l_eqm1, l_m1eq, rowf_at]
    exact ⟨fun _ => keep, fun hc => (hc trivial).elim⟩
  · obtain ⟨a, ha, rfl⟩ := inB_T (by omega) h1
    simp (disch := first | omega | decide) only [u5_k, u5_eq, e6, n32_add]
    refine ⟨by omega, ?_⟩
    refine sm112 ?_
    have r10 : ∀ v, nz_u2 (rowf t) 63 (t 13 10) v 13 10 = n32 (t 13 10) := fun v => u2_ne (by decide)
    simp (disch := first | omega | decide) only [decide_eq_true_eq, decide_eq_false_iff_not, L32, az01, b2i_01, b2i_n0, b2i_n1, Bool.and_true, true_and, and_true, Classical.not_not, Bool.not_eq_true, Bool.not_eq_false, m_in, h1, n32_mul, n32_add, n32_ix, n32_ib, n32_lt, n32_le, n32_inj, l_hb, l_hb0, l_shl, l_wo, l_eqm1, l_m1eq, rowf_at, uT_row, r10, u2_eq, h2]
    refine ⟨fun hc => (by cases hc), fun _ => ⟨fun _ => ⟨by omega, ?_⟩, fun hc => hc.elim⟩⟩
    rw [rowf_upT, rowf_upT]
    have o : ∀ y z, ¬ (y = 63 ∧ z = t 13 10) → ¬ (y = 13 ∧ z = 10) → up (up t 63 (t 13 10) a) 13 10 (t 13 10 + 1) y z = t y z := fun y z h1 h2 => by unfold up; rw [if_neg h2, if_neg h1]
    have o1 : up (up t 63 (t 13 10) a) 13 10 (t 13 10 + 1) 13 10 = t 13 10 + 1 := by unfold up; simp
    have o2 : up (up t 63 (t 13 10) a) 13 10 (t 13 10 + 1) 63 (t 13 10) = a := by unfold up; simp
    refine ⟨_, s, L, Z, _, rfl, ?_, ?_, hI.told (FT.up (FT.up (FT.rfl' C) (by omega)) (by omega))⟩
    · refine TV_tell hT (fun m => o _ _ (by omega) (by omega)) (fun m => o _ _ (by omega) (by omega)) (fun j => by rw [o _ _ (by omega) (by omega)]; exact hT.2.2.1 j) (fun m => o _ _ (by omega) (by omega)) (fun m => o _ _ (by omega) (by omega)) (fun m => o _ _ (by omega) (by omega)) (fun j => by rw [o _ _ (by omega) (by omega)]; exact hT.2.2.2.2.2.2.2.1 j) (fun j => by rw [o _ _ (by omega) (by omega)]; exact hT.2.2.2.2.2.2.2.2.1 j) (by rw [o _ _ (by omega) (by omega)]; exact hT.2.2.2.2.2.2.2.2.2.1) (fun i => ?_) (by rw [o1]; omega)
      by_cases hi : i = t 13 10
      · rw [hi, o2]; exact ha
      · rw [o _ _ (by omega) (by omega)]; exact hT.2.2.2.2.2.2.2.2.2.2.1 i
    · refine RTold_tell hR (fun m => o _ _ (by omega) (by omega)) (fun m => o _ _ (by omega) (by omega)) (fun m => o _ _ (by omega) (by omega)) (fun m => o _ _ (by omega) (by omega)) (fun m => o _ _ (by omega) (by omega)) (fun m x => by simp (disch := decide) only [u5_k]) (fun j p x => by simp (disch := decide) only [u5_k]) (fun j hj => ?_) ?_ ?_ (fun i hi => ?_)
      · simp (disch := decide) only [u5_k]
        rw [o _ _ (by omega) (by omega), o _ _ (by omega) (by omega), o _ _ (by omega) (by omega)]
        exact ⟨(hR.2.1 j hj).1, Nat.le_refl _, (hR.2.1 j hj).2⟩
      · rw [u5_x (by decide), u5_k (by decide), o _ _ (by omega) (by omega)]; exact hR.2.2.2.1
      · rw [u5_eq, o1]
      · rw [o1] at hi
        rw [u5_k (by decide), u5_at]
        by_cases hit : i = t 13 10
        · rw [if_pos hit, hit, o2]
        · rw [if_neg hit, o _ _ (by omega) (by omega)]; exact hR.2.2.2.2.2 i (by omega)
  · refine sm112 ?_
    simp (disch := omega) only [decide_eq_true_eq, decide_eq_false_iff_not, L32, az01, b2i_01, b2i_n0, b2i_n1, Bool.and_true, true_and, and_true, Classical.not_not, Bool.not_eq_true, Bool.not_eq_false, m_in, h1, n32_mul, n32_add, n32_ix, n32_ib, n32_lt, n32_le, n32_inj, l_hb, l_hb0, l_shl, l_wo, l_eqm1, l_m1eq, rowf_at, h2]
    exact ⟨fun hc => (by cases hc), fun _ => ⟨fun hc => (hc trivial).elim, fun _ => keep⟩⟩
end
