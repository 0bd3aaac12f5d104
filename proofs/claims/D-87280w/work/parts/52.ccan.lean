/-! the system's may, canAny, areEnded -/
theorem sm62k {P : Nat × (Nat → Int32)} {d kd : Nat} {h : nz_h} {Q : Int32 → nz_h → Prop} {a0 b0 c0 : Nat} {a1 b1 c1 : Nat} {a2 b2 c2 : Nat} (hh : az_b01 0 = true ∧ Q 0 h) : ctI P (d + 2) 62 [(vr (kd, a0, b0, c0)), (vr (1, a1, b1, c1)), (vr (8, a2, b2, c2))] h Q := wz_ct (n := 3) (k := 3) (cd := az_k62) (cut := []) rfl rfl rfl hh
theorem sm63k {P : Nat × (Nat → Int32)} {d kd : Nat} {h : nz_h} {Q : Int32 → nz_h → Prop} {a0 b0 c0 : Nat} (hh : az_b01 0 = true ∧ Q 0 h) : ctI P (d + 2) 63 [(vr (kd, a0, b0, c0))] h Q := wz_ct (n := 3) (k := 1) (cd := az_k63) (cut := []) rfl rfl rfl hh
theorem sm64k {P : Nat × (Nat → Int32)} {d kd : Nat} {h : nz_h} {Q : Int32 → nz_h → Prop} {a0 b0 c0 : Nat} {a1 b1 c1 : Nat} {a2 b2 c2 : Nat} (hh : az_b01 1 = true ∧ Q 1 h) : ctI P (d + 2) 64 [(vr (kd, a0, b0, c0)), (vr (1, a1, b1, c1)), (vr (8, a2, b2, c2))] h Q := wz_ct (n := 3) (k := 3) (cd := az_k64) (cut := []) rfl rfl rfl hh
theorem anyB_of {n k : Nat} {p : Nat → Bool} (hk : k < n) (h : p k = true) : anyB n p = true := anyB_iff.2 ⟨k, hk, h⟩
section
variable {P : Nat × (Nat → Int32)} {d o : Nat} {t s : St} {T S L Z : nz_f2} {C : nz_f5} {j : Nat}
theorem c_may (hT : TV t) (hI : INV t s) (hR : RC o t s C) (hd : 9 ≤ d) (hj : j < 8) {Q : Int32 → nz_h → Prop} (hq : ∀ C', Fr (Wsafe o) C C' → Q (b2i (mayS t s j)) (T, S, L, Z, C')) : ctI P d 50 [sO o, jO o j] (T, S, L, Z, C) Q := by
  obtain ⟨d, rfl⟩ := dge hd
  refine sm50 ?_
  have hB := hI.B
  have hm := hT.2.2.2.2.2.2.2.2.2.1
  have e5 := hR.1.2.2.2
  have h0 := hq C (Fr.rfl' C)
  rw [c_can (h := (T, S, L, Z, C)) hT hI hR (by omega) hj]
  simp (disch := first | omega | (refine Nat.lt_of_lt_of_le (hB _ _) ?_; omega)) only [decide_eq_true_eq, decide_eq_false_iff_not, L32, az01, b2i_01, b2i_n0, b2i_n1, Bool.and_true, true_and, and_true, Classical.not_not, Bool.not_eq_true, Bool.not_eq_false, n32_mul, n32_add, n32_ix, n32_ib, n32_lt, n32_le, n32_inj, l_hb, l_hb0, l_shl, l_wo, l_eqm1, l_m1eq, e5]
  cases hc : (decide (s j 1 = 1) && canS t s j) with
  | false =>
    have : mayS t s j = false := by unfold mayS; rw [hc]; rfl
    rw [this] at h0
    exact ⟨fun _ => h0, fun hh => by cases hh⟩
  | true =>
    refine ⟨fun hh => (by cases hh), fun _ => ⟨hm, ?_⟩⟩
    have h1 : s j 1 = 1 := by
      simp only [Bool.and_eq_true, decide_eq_true_eq] at hc; exact hc.1
    have hne : t 13 8 ≠ 3 → mayS t s j = true := fun h => by unfold mayS; rw [hc, decide_eq_false h]; rfl
    have h4 : t 13 8 = 0 ∨ t 13 8 = 1 ∨ t 13 8 = 2 ∨ t 13 8 = 3 := by omega
    rcases h4 with h4 | h4 | h4 | h4
    · rw [hne (by omega)] at h0
      rw [h4]
      exact sg50_17_k3 ⟨rfl, sm64k ⟨rfl, fun hh => (by cases hh), fun _ => ⟨rfl, h0⟩⟩⟩
    · rw [hne (by omega)] at h0
      rw [h4]
      exact sg50_17_k4 ⟨rfl, sm64k ⟨rfl, fun hh => (by cases hh), fun _ => ⟨rfl, h0⟩⟩⟩
    · rw [hne (by omega)] at h0
      rw [h4]
      exact sg50_17_k5 ⟨rfl, sm64k ⟨rfl, fun hh => (by cases hh), fun _ => ⟨rfl, h0⟩⟩⟩
    · rw [h4]
      refine sg50_17_k6 ⟨rfl, sm73 ?_⟩
      refine c_isSafeWith hT hI hR (by omega) hj h1 (fun C' hF => ?_)
      have h2 := hq C' hF
      have e : mayS t s j = safeS t (getsS t s j) := by unfold mayS; rw [hc, h4]; rfl
      rw [e] at h2
      simp only [decide_eq_true_eq, decide_eq_false_iff_not, L32, az01, b2i_01, b2i_n0, b2i_n1, Bool.and_true, true_and, and_true, Classical.not_not, Bool.not_eq_true, Bool.not_eq_false]
      cases hs : safeS t (getsS t s j) with
      | false => rw [hs] at h2; exact ⟨fun _ => h2, fun hh => by cases hh⟩
      | true => rw [hs] at h2; exact ⟨fun hh => (by cases hh), fun _ => h2⟩
theorem c_canAny (hT : TV t) (hI : INV t s) (hR : RC o t s C) (hd : 10 ≤ d) {Q : Int32 → nz_h → Prop} (hq : ∀ C', Fr (Wsafe o) C C' → Q (b2i (anyB 8 (mayS t s))) (T, S, L, Z, C')) : ctI P d 49 [sO o] (T, S, L, Z, C) Q := by
  obtain ⟨d, rfl⟩ := dge hd
  refine sm49 ?_
  have loop : ∀ n m, n + m = 8 → anyB m (mayS t s) = false → ∀ C1, Fr (Wsafe o) C C1 → ∀ l4, nzW P (d + 9) az_k49 10 [some (sO o), some (vr (26, o, 0, 0)), some (vi (n32 8)), some (vi (n32 m)), l4] [] (T, S, L, Z, C1) (nz_RI Q) := by
    intro n
    induction n with
    | zero =>
      intro m hm hf C1 hF l4
      obtain rfl : m = 8 := by omega
      refine sg49_10 ?_
      have h0 := hq C1 hF
      rw [hf] at h0
      simp (disch := omega) only [decide_eq_true_eq, decide_eq_false_iff_not, L32, az01, b2i_01, b2i_n0, b2i_n1, Bool.and_true, true_and, and_true, Classical.not_not, Bool.not_eq_true, Bool.not_eq_false, n32_mul, n32_add, n32_ix, n32_ib, n32_lt, n32_le, n32_inj, l_hb, l_hb0, l_shl, l_wo, l_eqm1, l_m1eq]
      exact ⟨fun _ => h0, fun hc => by omega⟩
    | succ n ih =>
      intro m hm hf C1 hF l4
      have hm8 : m < 8 := by omega
      refine sg49_10 ?_
      simp (disch := omega) only [decide_eq_true_eq, decide_eq_false_iff_not, L32, az01, b2i_01, b2i_n0, b2i_n1, Bool.and_true, true_and, and_true, Classical.not_not, Bool.not_eq_true, Bool.not_eq_false, n32_mul, n32_add, n32_ix, n32_ib, n32_lt, n32_le, n32_inj, l_hb, l_hb0, l_shl, l_wo, l_eqm1, l_m1eq]
      refine ⟨fun hc => by omega, fun _ => ⟨hm8, ?_⟩⟩
      refine c_may hT hI (hR.safe hF) (by omega) hm8 (fun C2 hF2 => ?_)
      have hF3 := hF.trans hF2
      simp (disch := omega) only [decide_eq_true_eq, decide_eq_false_iff_not, L32, az01, b2i_01, b2i_n0, b2i_n1, Bool.and_true, true_and, and_true, Classical.not_not, Bool.not_eq_true, Bool.not_eq_false, n32_mul, n32_add, n32_ix, n32_ib, n32_lt, n32_le, n32_inj, l_hb, l_hb0, l_shl, l_wo, l_eqm1, l_m1eq]
      cases hb : mayS t s m with
      | false =>
        refine ⟨fun _ => ih (m + 1) (by omega) (by rw [anyB, hf, hb]; rfl) C2 hF3 _, fun hc => by cases hc⟩
      | true =>
        have h0 := hq C2 hF3
        rw [anyB_of hm8 hb] at h0
        exact ⟨fun hc => (by cases hc), fun _ => h0⟩
  exact loop 8 0 rfl rfl C (Fr.rfl' C) none
theorem c_areEnded (hI : INV t s) (hR : RC o t s C) (hd : 2 ≤ d) (Q : Int32 → nz_h → Prop) : ctI P d 58 [sO o] (T, S, L, Z, C) Q = Q (b2i (!anyB 8 (fun j => !decide (s j 1 = 3)))) (T, S, L, Z, C) := by
  obtain ⟨d, rfl⟩ := dge hd
  refine ctI_det (fun Q hq => sm58 ?_) Q
  have hB := hI.B
  have loop : ∀ n m, n + m = 8 → anyB m (fun j => !decide (s j 1 = 3)) = false → ∀ l4, nzW P (d + 1) az_k58 10 [some (sO o), some (vr (26, o, 0, 0)), some (vi (n32 8)), some (vi (n32 m)), l4] [] (T, S, L, Z, C) (nz_RI Q) := by
    intro n
    induction n with
    | zero =>
      intro m hm hf l4
      obtain rfl : m = 8 := by omega
      refine sg58_10 ?_
      rw [hf] at hq
      simp (disch := omega) only [decide_eq_true_eq, decide_eq_false_iff_not, L32, az01, b2i_01, b2i_n0, b2i_n1, Bool.and_true, true_and, and_true, Classical.not_not, Bool.not_eq_true, Bool.not_eq_false, n32_mul, n32_add, n32_ix, n32_ib, n32_lt, n32_le, n32_inj, l_hb, l_hb0, l_shl, l_wo, l_eqm1, l_m1eq]
      exact ⟨fun _ => hq, fun hc => by omega⟩
    | succ n ih =>
      intro m hm hf l4
      have hm8 : m < 8 := by omega
      have e6 := (hR.2.1 m hm8).1
      refine sg58_10 ?_
      simp (disch := first | omega | (refine Nat.lt_of_lt_of_le (hB _ _) ?_; omega)) only [decide_eq_true_eq, decide_eq_false_iff_not, L32, az01, b2i_01, b2i_n0, b2i_n1, Bool.and_true, true_and, and_true, Classical.not_not, Bool.not_eq_true, Bool.not_eq_false, n32_mul, n32_add, n32_ix, n32_ib, n32_lt, n32_le, n32_inj, l_hb, l_hb0, l_shl, l_wo, l_eqm1, l_m1eq, e6]
      refine ⟨fun hc => by omega, fun _ => ⟨hm8, fun hc => ?_, fun hc => ?_⟩⟩
      · exact ih (m + 1) (by omega) (by rw [anyB, hf, decide_eq_true hc]; rfl) _
      · rw [anyB_of hm8 (p := fun j => !decide (s j 1 = 3)) (by rw [decide_eq_false hc]; rfl)] at hq
        exact hq
  exact loop 8 0 rfl rfl none
end
