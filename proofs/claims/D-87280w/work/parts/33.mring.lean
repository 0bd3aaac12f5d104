/-! the reference's rings; a job comes to ask -/
section
variable {t s : St}
theorem far_st {to n k : Nat} (hn : n ≤ 8) (h : farL t s to n k ≠ 100) : farL t s to (n + 1) k = farL t s to n k := by
  rw [farL, if_neg]
  have := farL_le t s to n k
  omega
theorem far_st2 {to n k : Nat} : ∀ i, n + i ≤ 8 → farL t s to n k ≠ 100 → farL t s to (n + i) k = farL t s to n k := by
  intro i
  induction i with
  | zero => intro _ _; rfl
  | succ i ih =>
    intro hi h
    have e := ih (by omega) h
    rw [← Nat.add_assoc, far_st (by omega) (by rw [e]; exact h), e]
theorem far_set {to k : Nat} : ∀ n, n ≤ 8 → farL t s to n k ≠ 100 → ∃ q, q < n ∧ farL t s to n k = q + 1 ∧ s k 1 = 1 ∧ ∃ x, x < 8 ∧ farP t s to (farL t s to q) q k x = true := by
  intro n
  induction n with
  | zero => intro _ h; exact absurd rfl h
  | succ n ih =>
    intro hn h
    rw [farL] at h ⊢
    split at h
    · rename_i hc
      rw [if_pos hc]
      obtain ⟨h1, h2, h3⟩ := hc
      obtain ⟨x, hx, hp⟩ := anyB_iff.mp h3
      exact ⟨n, by omega, rfl, h1, x, hx, hp⟩
    · rename_i hc
      rw [if_neg hc]
      obtain ⟨q, a1, a2, a3, a4⟩ := ih (by omega) h
      exact ⟨q, by omega, a2, a3, a4⟩
theorem far_next {to k m : Nat} (hm : farL t s to 8 k = m) (h : m ≠ 100) : 1 ≤ m ∧ m ≤ 8 ∧ s k 1 = 1 ∧ ∃ x, x < 8 ∧ (kpS t s k).testBit x = true ∧ (m = 1 → x = to) ∧ (1 < m → farL t s to 8 x = m - 1) := by
  obtain ⟨q, a1, a2, a3, x, hx, hp⟩ := far_set 8 (Nat.le_refl _) (by rw [hm]; exact h)
  rw [hm] at a2
  refine ⟨by omega, by omega, a3, x, hx, ?_⟩
  unfold farP at hp
  simp only [Bool.and_eq_true] at hp
  refine ⟨hp.1, fun e => ?_, fun e => ?_⟩
  · have := hp.2
    rw [if_pos (by omega)] at this
    exact of_decide_eq_true this
  · have := hp.2
    rw [if_neg (by omega)] at this
    have := of_decide_eq_true this
    have e2 := far_st2 (t := t) (s := s) (to := to) (n := q) (k := x) (8 - q) (by omega) (by omega)
    rw [show q + (8 - q) = 8 by omega] at e2
    rw [e2, this]; omega
theorem rg_ok {j n : Nat} (hj : j < 8) (hn : farL t s j 8 j = n) (h : n ≠ 100) : ∀ i, i < n → rgS t s j n i < 8 ∧ farL t s j 8 (rgS t s j n i) = n - i ∧ s (rgS t s j n i) 1 = 1 ∧ (i + 1 < n → fst 8 0 (fun y => (kpS t s (rgS t s j n i)).testBit y && decide (farL t s j 8 y = n - 1 - i)) = some (rgS t s j n (i + 1))) := by
  have key : ∀ i x, i < n → x < 8 → farL t s j 8 x = n - i → s x 1 = 1 ∧ (i + 1 < n → ∃ y, fst 8 0 (fun y => (kpS t s x).testBit y && decide (farL t s j 8 y = n - 1 - i)) = some y) := by
    intro i x hi hx hf
    obtain ⟨b1, b2, b3, y, hy, c1, c2, c3⟩ := far_next hf (by have := farL_le t s j 8 j; omega)
    refine ⟨b3, fun hi2 => fst_ex hy ?_⟩
    have := c3 (by omega)
    simp only [c1, Bool.true_and, decide_eq_true_eq]
    omega
  intro i
  induction i with
  | zero =>
    intro hi
    obtain ⟨k1, k2⟩ := key 0 j hi hj (by rw [hn]; rfl)
    refine ⟨hj, by rw [rgS, hn]; rfl, k1, fun h2 => ?_⟩
    obtain ⟨y, hy⟩ := k2 h2
    have e : rgS t s j n (0 + 1) = y := by rw [rgS, rgS, hy]; rfl
    rw [e]; exact hy
  | succ i ih =>
    intro hi
    obtain ⟨a1, a2, a3, a4⟩ := ih (by omega)
    have hf := fst_some.mp (a4 hi)
    have hp := hf.2.2.1
    simp only [Bool.and_eq_true, decide_eq_true_eq] at hp
    have hx : rgS t s j n (i + 1) < 8 := by have := hf.2.1; omega
    obtain ⟨k1, k2⟩ := key (i + 1) (rgS t s j n (i + 1)) hi hx (by rw [hp.2]; omega)
    refine ⟨hx, by rw [hp.2]; omega, k1, fun h2 => ?_⟩
    obtain ⟨y, hy⟩ := k2 h2
    have e : rgS t s j n (i + 1 + 1) = y := by rw [rgS, hy]; rfl
    rw [e]; exact hy
end
theorem dn_c (c : Nat) : n32 (c + 1) + nm1 = n32 c := l_m1 (by omega)
theorem dn_7 : n32 7 = n32 8 + nm1 := rfl
theorem dn_lt {c : Nat} (h : c < 1000) : (n32 c + nm1 < n32 0) = (c = 0) := by
  cases c with
  | zero => exact eq_true (by decide) |>.trans (by simp)
  | succ c =>
    rw [dn_c, n32_lt (by omega) (by omega)]
    simp
def nxv (c : Nat) (p : Nat → Bool) : Int32 := match fst (8 - c) c p with
  | some z => n32 z
  | none => nm1
theorem nxv_T {c : Nat} {p : Nat → Bool} (hc : c < 8) (h : p c = true) : nxv c p = n32 c := by
  unfold nxv
  rw [show 8 - c = (8 - (c + 1)) + 1 by omega, fst, h]; rfl
theorem nxv_F {c : Nat} {p : Nat → Bool} (hc : c < 8) (h : p c = false) : nxv c p = nxv (c + 1) p := by
  unfold nxv
  rw [show 8 - c = (8 - (c + 1)) + 1 by omega, fst, h]; rfl
theorem ringL_up {L : nz_f2} {kd b i : Nat} {f : Nat → Nat} : nz_u2 (ringL L kd b i f) kd (b + i) (n32 (f i)) = ringL L kd b (i + 1) f := by
  funext a x
  unfold nz_u2 ringL
  by_cases ha : a = kd
  · subst ha
    by_cases hx : x = b + i
    · subst hx
      rw [if_pos ⟨rfl, rfl⟩, if_pos ⟨rfl, by omega, by omega⟩, show b + i - b = i by omega]
    · rw [if_neg (by omega)]
      by_cases hc : b ≤ x ∧ x < b + i
      · rw [if_pos ⟨rfl, hc.1, hc.2⟩, if_pos ⟨rfl, hc.1, by omega⟩]
      · rw [if_neg (fun hh => hc ⟨hh.2.1, hh.2.2⟩), if_neg (fun hh => hc ⟨hh.2.1, by omega⟩)]
  · simp [ha]
theorem ringL_0 {L : nz_f2} {kd b : Nat} {f : Nat → Nat} : ringL L kd b 0 f = L := by
  funext a x
  unfold ringL
  rw [if_neg (by omega)]
section
variable {P : Nat × (Nat → Int32)} {d : Nat} {t s : St} {L Z : nz_f2} {C : nz_f5}
theorem m_ringOf79 {j b : Nat} (hB : ∀ j f, s j f < 1000000) (hT : TV t) (hd : 10 ≤ d) (hj : j < 8) (hb : b + 8 ≤ 128) (hA : ∀ k, k < 8 → s k 1 = 1 → AV t s k) (Q : Int32 → nz_h → Prop) : ctI P d 140 [mO, vi (n32 j), vr (79, 0, 0, 0), vi (n32 b)] (rowf t, rowf s, L, Z, C) Q = Q (n32 (rgN t s j)) (rowf t, rowf s, ringL L 79 b (rgN t s j) (rgS t s j (rgN t s j)), zf Z (farL t s j 8), C) := by
  obtain ⟨d, rfl⟩ := dge hd
  refine ctI_det (fun Q hq => sm140_r79 ?_) Q
  have hle := farL_le t s j 8 j
  simp (disch := first | omega | (refine Nat.lt_of_lt_of_le (hB _ _) ?_; omega)) only [decide_eq_true_eq, decide_eq_false_iff_not, L32, az01, b2i_01, b2i_n0, b2i_n1, Bool.and_true, true_and, and_true, Classical.not_not, Bool.not_eq_true, Bool.not_eq_false, n32_mul, n32_add, n32_ix, n32_ib, n32_lt, n32_le, n32_inj, l_hb, l_hb0, l_shl, l_wo, l_eqm1, l_m1eq, m_measures hB hT, zf_at, hA, hj, implies_true]
  refine ⟨fun h100 => ?_, fun h100 => ?_⟩
  · have hN : rgN t s j = farL t s j 8 j := by unfold rgN; rw [if_neg h100]
    rw [hN] at hq
    generalize hn : farL t s j 8 j = n at hq h100 hle
    have hrg := rg_ok hj hn h100
    have loop : ∀ m i, m + i = n → ∀ l1 l7 l8 l9 l10 xv, (i < n → xv = n32 (rgS t s j n i)) → nzW P (d + 9) az_k140 28 [some mO, l1, some (vr (79, 0, 0, 0)), some (vi (n32 b)), some (vi (n32 n)), some (vi xv), some (vi (n32 i)), l7, l8, l9, l10] [] (rowf t, rowf s, ringL L 79 b i (rgS t s j n), zf Z (farL t s j 8), C) (nz_RI Q) := by
      intro m
      induction m with
      | zero =>
        intro i hi l1 l7 l8 l9 l10 xv hxv
        obtain rfl : i = n := by omega
        refine sg140_28_r79 ?_
        simp (disch := first | omega | (refine Nat.lt_of_lt_of_le (hB _ _) ?_; omega)) only [decide_eq_true_eq, decide_eq_false_iff_not, L32, az01, b2i_01, b2i_n0, b2i_n1, Bool.and_true, true_and, and_true, Classical.not_not, Bool.not_eq_true, Bool.not_eq_false, n32_mul, n32_add, n32_ix, n32_ib, n32_lt, n32_le, n32_inj, l_hb, l_hb0, l_shl, l_wo, l_eqm1, l_m1eq]
        exact ⟨fun _ => hq, fun hc => by omega⟩
      | succ m ih =>
        intro i hi l1 l7 l8 l9 l10 xv hxv
        have hin : i < n := by omega
        obtain rfl := hxv hin
        obtain ⟨g1, g2, g3, g4⟩ := hrg i hin
        have hAx := hA _ g1 g3
        have hkp := kpS_lt t s (rgS t s j n i)
        refine sg140_28_r79 ?_
        simp (disch := first | omega | (refine Nat.lt_of_lt_of_le (hB _ _) ?_; omega)) only [decide_eq_true_eq, decide_eq_false_iff_not, L32, az01, b2i_01, b2i_n0, b2i_n1, Bool.and_true, true_and, and_true, Classical.not_not, Bool.not_eq_true, Bool.not_eq_false, n32_mul, n32_add, n32_ix, n32_ib, n32_lt, n32_le, n32_inj, l_hb, l_hb0, l_shl, l_wo, l_eqm1, l_m1eq, uL_row, m_keepers hB hT, hAx, ringL_up, n32_sub]
        refine ⟨fun hc => by omega, fun _ => ⟨by omega, ?_⟩⟩
        have inner : ∀ c, c ≤ 8 → ∀ l1 l5, nzW P (d + 9) az_k140 67 [some mO, l1, some (vr (79, 0, 0, 0)), some (vi (n32 b)), some (vi (n32 n)), l5, some (vi (n32 i)), some (vi (n32 (kpS t s (rgS t s j n i)))), some (vi (n32 (n - 1 - i))), some (vi (nxv c (fun y => (kpS t s (rgS t s j n i)).testBit y && decide (0 < n - 1 - i) && decide (farL t s j 8 y = n - 1 - i)))), some (vi (n32 c + nm1))] [] (rowf t, rowf s, ringL L 79 b (i + 1) (rgS t s j n), zf Z (farL t s j 8), C) (nz_RI Q) := by
          intro c
          induction c with
          | zero =>
            intro _ l1 l5
            refine sg140_67_r79 ?_
            simp (disch := first | omega | (refine Nat.lt_of_lt_of_le (hB _ _) ?_; omega)) only [decide_eq_true_eq, decide_eq_false_iff_not, L32, az01, b2i_01, b2i_n0, b2i_n1, Bool.and_true, true_and, and_true, Classical.not_not, Bool.not_eq_true, Bool.not_eq_false, n32_mul, n32_add, n32_ix, n32_ib, n32_lt, n32_le, n32_inj, l_hb, l_hb0, l_shl, l_wo, l_eqm1, l_m1eq, dn_lt]
            refine ⟨fun _ => ?_, fun hc => (hc trivial).elim⟩
            refine ih (i + 1) (by omega) _ _ _ _ _ _ (fun hi2 => ?_)
            have h4 := g4 hi2
            unfold nxv
            have : fst (8 - 0) 0 (fun y => (kpS t s (rgS t s j n i)).testBit y && decide (0 < n - 1 - i) && decide (farL t s j 8 y = n - 1 - i)) = some (rgS t s j n (i + 1)) := by
              rw [← h4]
              apply fst_congr
              intro y _ _
              rw [decide_eq_true (show 0 < n - 1 - i by omega), Bool.and_true]
            rw [this]
          | succ c ihc =>
            intro hc8 l1 l5
            have hc8' : c < 8 := by omega
            have hfc := farL_le t s j 8 c
            refine sg140_67_r79 ?_
            simp (disch := first | omega | (refine Nat.lt_of_lt_of_le (hB _ _) ?_; omega)) only [decide_eq_true_eq, decide_eq_false_iff_not, L32, az01, b2i_01, b2i_n0, b2i_n1, Bool.and_true, true_and, and_true, Classical.not_not, Bool.not_eq_true, Bool.not_eq_false, n32_mul, n32_add, n32_ix, n32_ib, n32_lt, n32_le, n32_inj, l_hb, l_hb0, l_shl, l_wo, l_eqm1, l_m1eq, dn_c, zf_at, show ¬ c < 0 by omega]
            have stay : ((kpS t s (rgS t s j n i)).testBit c && decide (0 < n - 1 - i) && decide (farL t s j 8 c = n - 1 - i)) = false → ∀ l1 l5, nzW P (d + 9) az_k140 67 [some mO, l1, some (vr (79, 0, 0, 0)), some (vi (n32 b)), some (vi (n32 n)), l5, some (vi (n32 i)), some (vi (n32 (kpS t s (rgS t s j n i)))), some (vi (n32 (n - 1 - i))), some (vi (nxv (c + 1) (fun y => (kpS t s (rgS t s j n i)).testBit y && decide (0 < n - 1 - i) && decide (farL t s j 8 y = n - 1 - i)))), some (vi (n32 c + nm1))] [] (rowf t, rowf s, ringL L 79 b (i + 1) (rgS t s j n), zf Z (farL t s j 8), C) (nz_RI Q) := by
              intro hp l1 l5
              have := ihc (by omega) l1 l5
              rw [nxv_F hc8' hp] at this
              exact this
            refine ⟨fun hh => hh.elim, fun _ => ⟨fun hb => stay (by rw [hb]; rfl) _ _, fun hb => ⟨fun h0 => stay (by rw [decide_eq_false (show ¬ 0 < n - 1 - i by omega)]; simp) _ _, fun h0 => ⟨hc8', fun hf => stay (by rw [decide_eq_false hf]; simp) _ _, fun hf => ?_⟩⟩⟩⟩
            have := ihc (by omega) l1 l5
            rw [nxv_T hc8' (by rw [hb, hf, decide_eq_true (show 0 < n - 1 - i by omega)]; simp)] at this
            exact this
        have := inner 8 (Nat.le_refl _) l1 (some (vi (n32 (rgS t s j n i))))
        exact this
    have := loop n 0 (by omega) (some (vi (n32 j))) none none none none (n32 j) (fun _ => rfl)
    rw [ringL_0] at this
    exact this
  · have hN : rgN t s j = 0 := by unfold rgN; rw [if_pos h100]
    rw [hN, ringL_0] at hq
    exact hq
theorem m_ringOf80 {j b : Nat} (hB : ∀ j f, s j f < 1000000) (hT : TV t) (hd : 10 ≤ d) (hj : j < 8) (hb : b + 8 ≤ 8) (hA : ∀ k, k < 8 → s k 1 = 1 → AV t s k) (Q : Int32 → nz_h → Prop) : ctI P d 140 [mO, vi (n32 j), vr (80, 0, 0, 0), vi (n32 b)] (rowf t, rowf s, L, Z, C) Q = Q (n32 (rgN t s j)) (rowf t, rowf s, ringL L 80 b (rgN t s j) (rgS t s j (rgN t s j)), zf Z (farL t s j 8), C) := by
  obtain ⟨d, rfl⟩ := dge hd
  refine ctI_det (fun Q hq => sm140_r80 ?_) Q
  have hle := farL_le t s j 8 j
  simp (disch := first | omega | (refine Nat.lt_of_lt_of_le (hB _ _) ?_; omega)) only [decide_eq_true_eq, decide_eq_false_iff_not, L32, az01, b2i_01, b2i_n0, b2i_n1, Bool.and_true, true_and, and_true, Classical.not_not, Bool.not_eq_true, Bool.not_eq_false, n32_mul, n32_add, n32_ix, n32_ib, n32_lt, n32_le, n32_inj, l_hb, l_hb0, l_shl, l_wo, l_eqm1, l_m1eq, m_measures hB hT, zf_at, hA, hj, implies_true]
  refine ⟨fun h100 => ?_, fun h100 => ?_⟩
  · have hN : rgN t s j = farL t s j 8 j := by unfold rgN; rw [if_neg h100]
    rw [hN] at hq
    generalize hn : farL t s j 8 j = n at hq h100 hle
    have hrg := rg_ok hj hn h100
    have loop : ∀ m i, m + i = n → ∀ l1 l7 l8 l9 l10 xv, (i < n → xv = n32 (rgS t s j n i)) → nzW P (d + 9) az_k140 28 [some mO, l1, some (vr (80, 0, 0, 0)), some (vi (n32 b)), some (vi (n32 n)), some (vi xv), some (vi (n32 i)), l7, l8, l9, l10] [] (rowf t, rowf s, ringL L 80 b i (rgS t s j n), zf Z (farL t s j 8), C) (nz_RI Q) := by
      intro m
      induction m with
      | zero =>
        intro i hi l1 l7 l8 l9 l10 xv hxv
        obtain rfl : i = n := by omega
        refine sg140_28_r80 ?_
        simp (disch := first | omega | (refine Nat.lt_of_lt_of_le (hB _ _) ?_; omega)) only [decide_eq_true_eq, decide_eq_false_iff_not, L32, az01, b2i_01, b2i_n0, b2i_n1, Bool.and_true, true_and, and_true, Classical.not_not, Bool.not_eq_true, Bool.not_eq_false, n32_mul, n32_add, n32_ix, n32_ib, n32_lt, n32_le, n32_inj, l_hb, l_hb0, l_shl, l_wo, l_eqm1, l_m1eq]
        exact ⟨fun _ => hq, fun hc => by omega⟩
      | succ m ih =>
        intro i hi l1 l7 l8 l9 l10 xv hxv
        have hin : i < n := by omega
        obtain rfl := hxv hin
        obtain ⟨g1, g2, g3, g4⟩ := hrg i hin
        have hAx := hA _ g1 g3
        have hkp := kpS_lt t s (rgS t s j n i)
        refine sg140_28_r80 ?_
        simp (disch := first | omega | (refine Nat.lt_of_lt_of_le (hB _ _) ?_; omega)) only [decide_eq_true_eq, decide_eq_false_iff_not, L32, az01, b2i_01, b2i_n0, b2i_n1, Bool.and_true, true_and, and_true, Classical.not_not, Bool.not_eq_true, Bool.not_eq_false, n32_mul, n32_add, n32_ix, n32_ib, n32_lt, n32_le, n32_inj, l_hb, l_hb0, l_shl, l_wo, l_eqm1, l_m1eq, uL_row, m_keepers hB hT, hAx, ringL_up, n32_sub]
        refine ⟨fun hc => by omega, fun _ => ⟨by omega, ?_⟩⟩
        have inner : ∀ c, c ≤ 8 → ∀ l1 l5, nzW P (d + 9) az_k140 67 [some mO, l1, some (vr (80, 0, 0, 0)), some (vi (n32 b)), some (vi (n32 n)), l5, some (vi (n32 i)), some (vi (n32 (kpS t s (rgS t s j n i)))), some (vi (n32 (n - 1 - i))), some (vi (nxv c (fun y => (kpS t s (rgS t s j n i)).testBit y && decide (0 < n - 1 - i) && decide (farL t s j 8 y = n - 1 - i)))), some (vi (n32 c + nm1))] [] (rowf t, rowf s, ringL L 80 b (i + 1) (rgS t s j n), zf Z (farL t s j 8), C) (nz_RI Q) := by
          intro c
          induction c with
          | zero =>
            intro _ l1 l5
            refine sg140_67_r80 ?_
            simp (disch := first | omega | (refine Nat.lt_of_lt_of_le (hB _ _) ?_; omega)) only [decide_eq_true_eq, decide_eq_false_iff_not, L32, az01, b2i_01, b2i_n0, b2i_n1, Bool.and_true, true_and, and_true, Classical.not_not, Bool.not_eq_true, Bool.not_eq_false, n32_mul, n32_add, n32_ix, n32_ib, n32_lt, n32_le, n32_inj, l_hb, l_hb0, l_shl, l_wo, l_eqm1, l_m1eq, dn_lt]
            refine ⟨fun _ => ?_, fun hc => (hc trivial).elim⟩
            refine ih (i + 1) (by omega) _ _ _ _ _ _ (fun hi2 => ?_)
            have h4 := g4 hi2
            unfold nxv
            have : fst (8 - 0) 0 (fun y => (kpS t s (rgS t s j n i)).testBit y && decide (0 < n - 1 - i) && decide (farL t s j 8 y = n - 1 - i)) = some (rgS t s j n (i + 1)) := by
              rw [← h4]
              apply fst_congr
              intro y _ _
              rw [decide_eq_true (show 0 < n - 1 - i by omega), Bool.and_true]
            rw [this]
          | succ c ihc =>
            intro hc8 l1 l5
            have hc8' : c < 8 := by omega
            have hfc := farL_le t s j 8 c
            refine sg140_67_r80 ?_
            simp (disch := first | omega | (refine Nat.lt_of_lt_of_le (hB _ _) ?_; omega)) only [decide_eq_true_eq, decide_eq_false_iff_not, L32, az01, b2i_01, b2i_n0, b2i_n1, Bool.and_true, true_and, and_true, Classical.not_not, Bool.not_eq_true, Bool.not_eq_false, n32_mul, n32_add, n32_ix, n32_ib, n32_lt, n32_le, n32_inj, l_hb, l_hb0, l_shl, l_wo, l_eqm1, l_m1eq, dn_c, zf_at, show ¬ c < 0 by omega]
            have stay : ((kpS t s (rgS t s j n i)).testBit c && decide (0 < n - 1 - i) && decide (farL t s j 8 c = n - 1 - i)) = false → ∀ l1 l5, nzW P (d + 9) az_k140 67 [some mO, l1, some (vr (80, 0, 0, 0)), some (vi (n32 b)), some (vi (n32 n)), l5, some (vi (n32 i)), some (vi (n32 (kpS t s (rgS t s j n i)))), some (vi (n32 (n - 1 - i))), some (vi (nxv (c + 1) (fun y => (kpS t s (rgS t s j n i)).testBit y && decide (0 < n - 1 - i) && decide (farL t s j 8 y = n - 1 - i)))), some (vi (n32 c + nm1))] [] (rowf t, rowf s, ringL L 80 b (i + 1) (rgS t s j n), zf Z (farL t s j 8), C) (nz_RI Q) := by
              intro hp l1 l5
              have := ihc (by omega) l1 l5
              rw [nxv_F hc8' hp] at this
              exact this
            refine ⟨fun hh => hh.elim, fun _ => ⟨fun hb => stay (by rw [hb]; rfl) _ _, fun hb => ⟨fun h0 => stay (by rw [decide_eq_false (show ¬ 0 < n - 1 - i by omega)]; simp) _ _, fun h0 => ⟨hc8', fun hf => stay (by rw [decide_eq_false hf]; simp) _ _, fun hf => ?_⟩⟩⟩⟩
            have := ihc (by omega) l1 l5
            rw [nxv_T hc8' (by rw [hb, hf, decide_eq_true (show 0 < n - 1 - i by omega)]; simp)] at this
            exact this
        have := inner 8 (Nat.le_refl _) l1 (some (vi (n32 (rgS t s j n i))))
        exact this
    have := loop n 0 (by omega) (some (vi (n32 j))) none none none none (n32 j) (fun _ => rfl)
    rw [ringL_0] at this
    exact this
  · have hN : rgN t s j = 0 := by unfold rgN; rw [if_pos h100]
    rw [hN, ringL_0] at hq
    exact hq
end
