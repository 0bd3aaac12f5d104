/-! what holds between two calls; the telling calls -/
theorem lt_toInt {x y : Int32} : x < y ↔ x.toInt < y.toInt := Int32.lt_iff_toInt_lt
theorem le_toInt {x y : Int32} : x ≤ y ↔ x.toInt ≤ y.toInt := Int32.le_iff_toInt_le
def inB (x : Int32) (n : Nat) : Bool := !decide (x < n32 0) && !decide (n32 n ≤ x)
theorem inB_T {x : Int32} {n : Nat} (hn : n < 2147483648) (h : inB x n = true) : ∃ k, k < n ∧ x = n32 k := by
  unfold inB at h
  simp only [Bool.and_eq_true, Bool.not_eq_true', decide_eq_false_iff_not] at h
  rw [lt_toInt, le_toInt, n32_toInt (by omega), n32_toInt hn] at h
  refine ⟨x.toInt.toNat, by omega, ?_⟩
  apply Int32.toInt_inj.1
  rw [n32_toInt (by omega)]
  omega
theorem inB_k {k n : Nat} (hk : k < 2147483648) (hn : n < 2147483648) : inB (n32 k) n = decide (k < n) := by
  unfold inB
  by_cases h : k < n
  · rw [decide_eq_true h, decide_eq_false (by rw [n32_lt hk (by omega)]; omega), decide_eq_false (by rw [n32_le hn hk]; omega)]; rfl
  · rw [decide_eq_false h, decide_eq_true (p := n32 n ≤ n32 k) (by rw [n32_le hn hk]; omega), Bool.not_true, Bool.and_false]
theorem n32_ex (x : Int32) : ∃ k, n32 k = x := ⟨x.toBitVec.toNat, by
  apply Int32.toBitVec_inj.1
  simp [n32]⟩
section
variable {P : Nat × (Nat → Int32)} {d : Nat} {h : nz_h}
theorem m_in {x : Int32} {n : Nat} (hd : 2 ≤ d) (Q : Int32 → nz_h → Prop) : ctI P d 106 [vi x, vi (n32 n)] h Q = Q (b2i (inB x n)) h := by
  obtain ⟨d, rfl⟩ := dge hd
  refine ctI_det (fun Q hq => sm106 ?_) Q
  simp only [decide_eq_true_eq, decide_eq_false_iff_not, L32, az01, b2i_01, b2i_n0, b2i_n1, Bool.and_true, true_and, and_true, Classical.not_not, Bool.not_eq_true, Bool.not_eq_false]
  refine ⟨fun h1 => ans0 hq ?_, fun h1 => ⟨fun h2 => ans0 hq ?_, fun h2 => ans1 hq ?_⟩⟩
  · unfold inB; rw [decide_eq_true h1]; rfl
  · unfold inB; rw [decide_eq_true h2]; simp
  · unfold inB; rw [decide_eq_false h1, decide_eq_false h2]; rfl
theorem c_in {x : Int32} {n : Nat} (hn : n < 2147483647) (hd : 2 ≤ d) (Q : Int32 → nz_h → Prop) : ctI P d 4 [vi x, vi (n32 0), vi (n32 n)] h Q = Q (b2i (inB x (n + 1))) h := by
  obtain ⟨d, rfl⟩ := dge hd
  refine ctI_det (fun Q hq => sm4 ?_) Q
  have e : n32 n < x ↔ n32 (n + 1) ≤ x := by
    rw [lt_toInt, le_toInt, n32_toInt (by omega), n32_toInt (by omega)]; omega
  simp only [decide_eq_true_eq, decide_eq_false_iff_not, L32, az01, b2i_01, b2i_n0, b2i_n1, Bool.and_true, true_and, and_true, Classical.not_not, Bool.not_eq_true, Bool.not_eq_false]
  refine ⟨fun h1 => ans0 hq ?_, fun h1 => ⟨fun h2 => ans0 hq ?_, fun h2 => ans1 hq ?_⟩⟩
  · unfold inB; rw [decide_eq_true h1]; rfl
  · unfold inB; rw [decide_eq_true (e.1 h2)]; simp
  · unfold inB; rw [decide_eq_false h1, decide_eq_false (fun hh => h2 (e.2 hh))]; rfl
theorem c_in1 {x : Int32} {n : Nat} (hn : n < 2147483647) (hd : 2 ≤ d) (Q : Int32 → nz_h → Prop) : ctI P d 4 [vi x, vi (n32 0), vi (n32 n - n32 1)] h Q = Q (b2i (inB x n)) h := by
  cases n with
  | succ n =>
    rw [n32_sub (by omega), Nat.add_sub_cancel]
    exact c_in (by omega) hd Q
  | zero =>
    obtain ⟨d, rfl⟩ := dge hd
    refine ctI_det (fun Q hq => sm4 ?_) Q
    have e0 : n32 0 - n32 1 = nm1 := by decide
    have em : nm1.toInt = -1 := by decide
    rw [e0]
    simp only [decide_eq_true_eq, decide_eq_false_iff_not, L32, az01, b2i_01, b2i_n0, b2i_n1, Bool.and_true, true_and, and_true, Classical.not_not, Bool.not_eq_true, Bool.not_eq_false]
    have z : inB x 0 = false := by
      unfold inB
      by_cases h : x < n32 0
      · rw [decide_eq_true h]; rfl
      · rw [decide_eq_true (p := n32 0 ≤ x) (by rw [lt_toInt] at h; rw [le_toInt]; omega)]; simp
    refine ⟨fun h1 => ans0 hq z, fun h1 => ⟨fun h2 => ans0 hq z, fun h2 => ?_⟩⟩
    exfalso
    rw [lt_toInt, n32_toInt (by omega)] at h1
    rw [lt_toInt, em] at h2
    omega
theorem c_isJob {x : Int32} (hd : 3 ≤ d) (Q : Int32 → nz_h → Prop) : ctI P d 6 [vi x] h Q = Q (b2i (inB x 8)) h := by
  obtain ⟨d, rfl⟩ := dge hd
  refine ctI_det (fun Q hq => sm6 ?_) Q
  have := c_in (P := P) (d := d + 2) (h := h) (x := x) (n := 7) (by omega) (by omega)
  simp only [decide_eq_true_eq, decide_eq_false_iff_not, L32, az01, b2i_01, b2i_n0, b2i_n1, Bool.and_true, true_and, and_true, Classical.not_not, Bool.not_eq_true, Bool.not_eq_false, this]
  exact hq
end
def NUM (C : nz_f5) : Prop := ∀ o j, o < 2 → j < 8 → C 8 o j 0 0 = n32 j
def RJL (s : St) (L : nz_f2) (C : nz_f5) : Prop := ∀ j, j < 8 → C 8 0 j 0 16 = L 67 j ∧ C 8 0 j 0 17 = L 68 j ∧ C 8 0 j 0 18 = L 69 j ∧ C 8 0 j 0 19 = L 70 j ∧ C 8 0 j 0 20 = L 71 j ∧ C 8 0 j 0 14 = n32 (s j 6)
/-- what the latest run left in the reference -/
def LRN (t s : St) (L : nz_f2) : Prop := (∀ b, b < 8 → L 66 b = n32 (if s b 1 = 3 then t 57 b else s b 0)) ∧ (∀ b, b < 144 → L 65 b = n32 (s (b / 18) (b % 18))) ∧ (∀ m, m < 10 → L 93 m = o2i (slpF t s m 8)) ∧ (∀ m, m < 10 → L 94 m = n32 (asl t s m)) ∧ ∀ j, j < 8 → s j 1 ≠ 0
def RUNX (L : nz_f2) (C : nz_f5) : Prop := ∃ t s, TV t ∧ INV t s ∧ RC 0 t s C ∧ C 0 0 0 0 7 = L 13 14 ∧ ((L 13 14 = n32 0 ∧ s = z0 ∧ L 13 26 = n32 0) ∨ (L 13 14 = n32 1 ∧ LRN t s L ∧ RJL s L C))
def PLR (L : nz_f2) (C : nz_f5) : Prop := ∃ p, p ≤ 400 ∧ L 13 44 = n32 p ∧ C 0 0 0 0 11 = n32 p ∧ ∀ i, i < p → C 22 0 0 0 i = L 89 i
def RGR (L : nz_f2) (C : nz_f5) : Prop := ∃ r, r ≤ 8 ∧ L 13 32 = n32 r ∧ C 0 0 0 0 10 = n32 r ∧ ∀ i, i < r → C 21 0 0 0 i = L 80 i
def P78 (L : nz_f2) : Prop := ∀ i, i < 16 → ∃ k, k ≤ 8 ∧ L 78 i = n32 k
def CNT (L : nz_f2) : Prop := (∃ g, g ≤ 360 ∧ L 13 22 = n32 g) ∧ (∃ i, i ≤ 16 ∧ L 13 26 = n32 i) ∧ P78 L
def LI5 (s : St) (L : nz_f2) (C : nz_f5) : Prop := GZ s ∧ (∀ j f, s j f < 1000000) ∧ LI3 L ∧ P85 L ∧ CNT L ∧ NUM C ∧ RLA L C ∧ RUNX L C ∧ PLR L C ∧ RGR L C
def LAWI (h : nz_h) : Prop := ∃ t s L Z C, h = (rowf t, rowf s, L, Z, C) ∧ TV t ∧ RTold t C ∧ LI5 s L C
/-- all but what is told -/
def FT (C C' : nz_f5) : Prop := ∀ kd o' k l x, o' ≠ 2 → ¬ (o' = 0 ∧ (kd = 20 ∨ (kd = 0 ∧ (x = 6 ∨ x = 14)))) → C' kd o' k l x = C kd o' k l x
theorem FT.up {C C' : nz_f5} {kd o' k l x : Nat} {v : Int32} (h : FT C C') (hw : o' = 2 ∨ (o' = 0 ∧ (kd = 20 ∨ (kd = 0 ∧ (x = 6 ∨ x = 14))))) : FT C (nz_u5 C' kd o' k l x v) := fun kd2 o2 k2 l2 x2 h1 h2 => by
  unfold nz_u5; rw [if_neg (by omega)]; exact h kd2 o2 k2 l2 x2 h1 h2
theorem FT.rfl' (C : nz_f5) : FT C C := fun _ _ _ _ _ _ _ => rfl
theorem RLA.off {L : nz_f2} {C C' : nz_f5} (h : RLA L C) (hc : ∀ kd x, kd = 10 ∧ x = 5 ∨ kd = 11 ∨ (36 ≤ kd ∧ kd ≤ 40) ∨ (43 ≤ kd ∧ kd ≤ 50) → C' kd 0 0 0 x = C kd 0 0 0 x) : RLA L C' := by
  obtain ⟨h1, h2, h3, h4⟩ := h
  refine ⟨h1.off (fun kd x hh => hc kd x (by omega)), (hc 11 11 (by omega)).trans h2, fun i hi => ?_, fun i hi => (hc 50 i (by omega)).trans (h4 i hi)⟩
  rw [hc 46 i (by omega), hc 47 i (by omega), hc 48 i (by omega), hc 49 i (by omega)]; exact h3 i hi
theorem LI5.told {s : St} {L : nz_f2} {C C' : nz_f5} (h : LI5 s L C) (hF : FT C C') : LI5 s L C' := by
  obtain ⟨a1, a2, a3, a4, a5, a6, a7, ⟨t, s0, b1, b2, b3, b4, b5⟩, ⟨p, c1, c2, c3, c4⟩, ⟨r, d1, d2, d3, d4⟩⟩ := h
  refine ⟨a1, a2, a3, a4, a5, fun o j ho hj => (hF _ _ _ _ _ (by omega) (by omega)).trans (a6 o j ho hj), a7.off (fun kd x hh => hF _ _ _ _ _ (by omega) (by omega)), ⟨t, s0, b1, b2, ?_, (hF _ _ _ _ _ (by omega) (by omega)).trans b4, ?_⟩, ⟨p, c1, c2, (hF _ _ _ _ _ (by omega) (by omega)).trans c3, fun i hi => (hF _ _ _ _ _ (by omega) (by omega)).trans (c4 i hi)⟩, ⟨r, d1, d2, (hF _ _ _ _ _ (by omega) (by omega)).trans d3, fun i hi => (hF _ _ _ _ _ (by omega) (by omega)).trans (d4 i hi)⟩⟩
  · exact b3.off (fun _ _ => hF _ _ _ _ _ (by omega) (by omega)) (fun _ _ => hF _ _ _ _ _ (by omega) (by omega)) (fun _ _ _ => hF _ _ _ _ _ (by omega) (by omega)) (hF _ _ _ _ _ (by omega) (by omega)) (fun _ _ => hF _ _ _ _ _ (by omega) (by omega)) (fun _ => hF _ _ _ _ _ (by omega) (by omega)) (fun _ _ => hF _ _ _ _ _ (by omega) (by omega))
  · rcases b5 with b5 | ⟨x1, x2, x3⟩
    · exact Or.inl b5
    · refine Or.inr ⟨x1, x2, fun j hj => ?_⟩
      rw [hF 8 0 j 0 16 (by omega) (by omega), hF 8 0 j 0 17 (by omega) (by omega), hF 8 0 j 0 18 (by omega) (by omega), hF 8 0 j 0 19 (by omega) (by omega), hF 8 0 j 0 20 (by omega) (by omega), hF 8 0 j 0 14 (by omega) (by omega)]
      exact x3 j hj
/-- both answer alike, and all holds again -/
def JNT (P : Nat × (Nat → Int32)) (d ci mi : Nat) (as : List nz_V) : Prop := ∀ h, LAWI h → ctI P d ci (vr (0, 0, 0, 0) :: as) h (fun y1 h1 => ctI P d mi (mO :: as) h1 (fun y2 h2 => y1 = y2 ∧ LAWI h2))
def JNV (P : Nat × (Nat → Int32)) (d ci mi : Nat) : Prop := ∀ h, LAWI h → ctV P d ci [vr (0, 0, 0, 0)] h (fun h1 => ctV P d mi [mO] h1 LAWI)
theorem rowf_upT (t : St) (a b v : Nat) : nz_u2 (rowf t) a b (n32 v) = rowf (up t a b v) := rowf_up t a b v
section
variable {P : Nat × (Nat → Int32)} {d : Nat}
theorem j_machine {x1 x2 x3 : Int32} (hd : 4 ≤ d) : JNT P d 3 105 [vi x1, vi x2, vi x3] := by
  obtain ⟨d, rfl⟩ := dge hd
  rintro h ⟨t, s, L, Z, C, rfl, hT, hR, hI⟩
  have keep : LAWI (rowf t, rowf s, L, Z, C) := ⟨t, s, L, Z, C, rfl, hT, hR, hI⟩
  refine sm3 ?_
  have c9 := c_in (P := P) (d := d + 3) (h := (rowf t, rowf s, L, Z, C)) (x := x1) (n := 9) (by omega) (by omega)
  have c99 := c_in (P := P) (d := d + 3) (h := (rowf t, rowf s, L, Z, C)) (x := x2) (n := 99) (by omega) (by omega)
  have c8 := c_in (P := P) (d := d + 3) (h := (rowf t, rowf s, L, Z, C)) (x := x3) (n := 8) (by omega) (by omega)
  simp only [decide_eq_true_eq, decide_eq_false_iff_not, L32, az01, b2i_01, b2i_n0, b2i_n1, Bool.and_true, true_and, and_true, Classical.not_not, Bool.not_eq_true, Bool.not_eq_false, c9, c99, c8]
  have no : (inB x1 10 && inB x2 100 && inB x3 9) = false → ctI P (d + 4) 105 [mO, vi x1, vi x2, vi x3] (rowf t, rowf s, L, Z, C) (fun y2 h2 => n32 0 = y2 ∧ LAWI h2) := fun hh => by
    refine sm105 ?_
    simp (disch := omega) only [decide_eq_true_eq, decide_eq_false_iff_not, L32, az01, b2i_01, b2i_n0, b2i_n1, Bool.and_true, true_and, and_true, Classical.not_not, Bool.not_eq_true, Bool.not_eq_false, m_in]
    refine ⟨fun _ => keep, fun h1 => ⟨fun _ => keep, fun h2 => ⟨fun h3 => ?_, fun _ => keep⟩⟩⟩
    rw [h1, h2, h3] at hh; cases hh
  refine ⟨fun h1 => no (by rw [h1]; rfl), fun h1 => ⟨fun h2 => no (by rw [h2, Bool.and_false]; rfl), fun h2 => ⟨fun h3 => ?_, fun h3 => no (by rw [h3, Bool.and_false])⟩⟩⟩
  obtain ⟨a, ha, rfl⟩ := inB_T (by omega) h1
  obtain ⟨b, hb, rfl⟩ := inB_T (by omega) h2
  obtain ⟨c, hc, rfl⟩ := inB_T (by omega) h3
  simp (disch := omega) only [n32_mul, n32_add, n32_ix, n32_ib, n32_lt, n32_le, n32_inj, l_hb, l_hb0, l_shl, l_wo, l_eqm1, l_m1eq, uC_row]
  refine ⟨by simp; omega, by simp; omega, ?_⟩
  refine sm105 ?_
  simp (disch := omega) only [decide_eq_true_eq, decide_eq_false_iff_not, L32, az01, b2i_01, b2i_n0, b2i_n1, Bool.and_true, true_and, and_true, Classical.not_not, Bool.not_eq_true, Bool.not_eq_false, m_in, h1, h2, h3, n32_mul, n32_add, n32_ix, n32_ib, n32_lt, n32_le, n32_inj, l_hb, l_hb0, l_shl, l_wo, l_eqm1, l_m1eq, uT_row, rowf_upT]
  refine ⟨fun hc => (by cases hc), fun _ => ⟨fun hc => (by cases hc), fun _ => ⟨fun _ => ⟨ha, ha, ?_⟩, fun hc => (by cases hc)⟩⟩⟩
  refine ⟨up (up t 55 a b) 56 a c, s, L, Z, _, rfl, ?_, ?_, hI.told (FT.up (FT.up (FT.rfl' C) (by omega)) (by omega))⟩
  · obtain ⟨a1, a2, a3, a4, a5, a6, a7, a8, a9, a10, a11, a12, a13⟩ := hT
    have o : ∀ x y, x ≠ 55 → x ≠ 56 → up (up t 55 a b) 56 a c x y = t x y := fun x y h1 h2 => by unfold up; rw [if_neg (by omega), if_neg (by omega)]
    refine ⟨fun m => ?_, fun m => ?_, fun j => by rw [o _ _ (by decide) (by decide)]; exact a3 j, fun i => by rw [o _ _ (by decide) (by decide)]; exact a4 i, fun i => by rw [o _ _ (by decide) (by decide)]; exact a5 i, fun i => by rw [o _ _ (by decide) (by decide), o _ _ (by decide) (by decide)]; exact a6 i, fun i => by rw [o _ _ (by decide) (by decide), o _ _ (by decide) (by decide)]; exact a7 i, fun j => by rw [o _ _ (by decide) (by decide)]; exact a8 j, fun j => by rw [o _ _ (by decide) (by decide)]; exact a9 j, by rw [o _ _ (by decide) (by decide)]; exact a10, fun i => by rw [o _ _ (by decide) (by decide)]; exact a11 i, by rw [o _ _ (by decide) (by decide)]; exact a12, fun i => by rw [o _ _ (by decide) (by decide), o _ _ (by decide) (by decide)]; exact a13 i⟩
    · have := a1 m; unfold up; rw [if_neg (by omega)]; split <;> omega
    · have := a2 m; unfold up; split
      · omega
      · rw [if_neg (by omega)]; exact this
  · obtain ⟨a1, a2, a3, a4, a5, a6⟩ := hR
    have o : ∀ x y, x ≠ 55 → x ≠ 56 → up (up t 55 a b) 56 a c x y = t x y := fun x y h1 h2 => by unfold up; rw [if_neg (by omega), if_neg (by omega)]
    refine ⟨fun m hm => ?_, fun j hj => ?_, fun j p hj hp => ?_, ?_, ?_, fun i hi => ?_⟩
    · by_cases hma : m = a
      · subst hma
        simp (disch := decide) only [u5_x, u5_eq]
        unfold up; simp
      · rw [u5_c hma, u5_c hma, u5_c hma, u5_c hma]
        have e1 : up (up t 55 a b) 56 a c 55 m = t 55 m := by unfold up; rw [if_neg (by omega), if_neg (by omega)]
        have e2 : up (up t 55 a b) 56 a c 56 m = t 56 m := by unfold up; rw [if_neg (by omega), if_neg (by omega)]
        rw [e1, e2]; exact a1 m hm
    · simp (disch := decide) only [u5_k]
      rw [o _ _ (by decide) (by decide), o _ _ (by decide) (by decide), o _ _ (by decide) (by decide)]; exact a2 j hj
    · rw [o _ _ (by decide) (by decide)] at hp
      simp (disch := decide) only [u5_k]
      unfold mchS
      rw [o _ _ (by decide) (by decide), o _ _ (by decide) (by decide), o _ _ (by decide) (by decide)]; exact a3 j p hj hp
    · simp (disch := decide) only [u5_k]; rw [o _ _ (by decide) (by decide)]; exact a4
    · simp (disch := decide) only [u5_k]; rw [o _ _ (by decide) (by decide)]; exact a5
    · rw [o _ _ (by decide) (by decide)] at hi
      simp (disch := decide) only [u5_k]; rw [o _ _ (by decide) (by decide)]; exact a6 i hi
end
