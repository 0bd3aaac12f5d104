/-! the reference's moves on its row -/
def upj (s : St) (j : Nat) (r : Nat → Nat) : St := fun a f => if a = j then r f else s a f
def endsS (s : St) (j : Nat) : St := upj s j (fun f => if f = 1 then 3 else if f = 3 ∨ f = 4 ∨ f = 5 ∨ (8 ≤ f ∧ f < 18) then 0 else s j f)
def goesS (s : St) (j : Nat) : St := upj s j (fun f => if f = 1 then 0 else if f = 0 then s j 0 + 1 else s j f)
def passS (s : St) (j : Nat) : St := upj s j (fun f => if f = 1 ∨ f = 3 then 0 else if f = 0 then s j 0 + 2 else s j f)
def sleepS (s : St) (j m : Nat) : St := up (upj s j (fun f => if f = 4 then s j (8 + m) else if f = 8 + m then 0 else if f = 1 then 2 else if f = 7 then s 13 12 + 1 else s j f)) 13 12 (s 13 12 + 1)
def moreS (s : St) (j b : Nat) : St := upj s j (fun f => if 8 ≤ f ∧ f < 18 ∧ b.testBit (f - 8) = true ∧ 0 < s j f then s j f + 1 else s j f)
theorem rowf_at (s : St) (j f : Nat) : rowf s j f = n32 (s j f) := rfl
def moreP (s : St) (j b m : Nat) : St := upj s j (fun f => if 8 ≤ f ∧ f < 8 + m ∧ b.testBit (f - 8) = true ∧ 0 < s j f then s j f + 1 else s j f)
theorem moreP_0 (s : St) (j b : Nat) : moreP s j b 0 = s := by
  unfold moreP; funext a f; simp only [up, upj]; (repeat' split) <;> (first | rfl | omega | (exfalso; omega) | (simp_all; done) | (simp_all; omega))
theorem moreP_at (s : St) (j b m : Nat) : moreP s j b m j (8 + m) = s j (8 + m) := by
  simp only [moreP, upj, if_pos]; rw [if_neg (by omega)]
theorem moreP_F {s : St} {j b m : Nat} (h : b.testBit m = false ∨ s j (8 + m) = 0) : moreP s j b (m + 1) = moreP s j b m := by
  funext a f
  simp only [moreP, upj]
  by_cases ha : a = j
  · rw [if_pos ha, if_pos ha]
    by_cases hf : f = 8 + m
    · subst hf
      rw [show 8 + m - 8 = m by omega, if_neg (by rcases h with h | h <;> simp [h]), if_neg (by omega)]
    · by_cases hc : 8 ≤ f ∧ f < 8 + m ∧ b.testBit (f - 8) = true ∧ 0 < s j f
      · rw [if_pos hc, if_pos ⟨hc.1, by omega, hc.2.2⟩]
      · rw [if_neg hc, if_neg (fun hh => hc ⟨hh.1, by omega, hh.2.2⟩)]
  · rw [if_neg ha, if_neg ha]
theorem moreP_T {s : St} {j b m : Nat} (h : b.testBit m = true) (h2 : 0 < s j (8 + m)) : moreP s j b (m + 1) = up (moreP s j b m) j (8 + m) (s j (8 + m) + 1) := by
  funext a f
  simp only [moreP, upj, up]
  by_cases ha : a = j
  · rw [if_pos ha, if_pos ha]
    by_cases hf : f = 8 + m
    · subst hf
      rw [show 8 + m - 8 = m by omega, if_pos ⟨by omega, by omega, h, h2⟩, if_pos ⟨ha, rfl⟩]
    · rw [if_neg (fun hh : a = j ∧ f = 8 + m => hf hh.2)]
      by_cases hc : 8 ≤ f ∧ f < 8 + m ∧ b.testBit (f - 8) = true ∧ 0 < s j f
      · rw [if_pos hc, if_pos ⟨hc.1, by omega, hc.2.2⟩]
      · rw [if_neg hc, if_neg (fun hh => hc ⟨hh.1, by omega, hh.2.2⟩)]
  · rw [if_neg ha, if_neg (fun hh : a = j ∧ f = 8 + m => ha hh.1), if_neg ha]
section
variable {P : Nat × (Nat → Int32)} {d : Nat} {t s : St} {L Z : nz_f2} {C : nz_f5}
theorem m_setr {j f v : Nat} (hd : 2 ≤ d) (hj : j < 8) (hf : f < 18) (Q : nz_h → Prop) : ctV P d 122 [mO, vi (n32 j), vi (n32 f), vi (n32 v)] (rowf t, rowf s, L, Z, C) Q = Q (rowf t, rowf (up s j f v), L, Z, C) := by
  rw [m_set hd hj hf, uS_row]
theorem m_getr {j f : Nat} (hd : 2 ≤ d) (hj : j < 8) (hf : f < 18) (Q : Int32 → nz_h → Prop) : ctI P d 118 [mO, vi (n32 j), vi (n32 f)] (rowf t, rowf s, L, Z, C) Q = Q (n32 (s j f)) (rowf t, rowf s, L, Z, C) := m_get hd hj hf Q
theorem m_goes {j : Nat} (hd : 3 ≤ d) (hj : j < 8) (Q : nz_h → Prop) : ctV P d 126 [mO, vi (n32 j)] (rowf t, rowf s, L, Z, C) Q = Q (rowf t, rowf (goesS s j), L, Z, C) := by
  obtain ⟨d, rfl⟩ := dge hd
  refine ctV_det (fun Q hq => sm126 ?_) Q
  simp (disch := omega) only [decide_eq_true_eq, decide_eq_false_iff_not, L32, az01, b2i_01, b2i_n0, b2i_n1, Bool.and_true, true_and, and_true, Classical.not_not, Bool.not_eq_true, Bool.not_eq_false, n32_mul, n32_add, n32_ix, n32_ib, n32_lt, n32_le, n32_inj, l_hb, l_hb0, l_shl, l_wo, l_eqm1, l_m1eq, m_setr, m_getr]
  have e : up (up s j 1 0) j 0 (up s j 1 0 j 0 + 1) = goesS s j := by
    unfold goesS; funext a f; simp only [up, upj]; (repeat' split) <;> (first | rfl | omega | (exfalso; omega) | (simp_all; done) | (simp_all; omega))
  rw [e]; exact hq
theorem m_givesAll {j : Nat} (hd : 3 ≤ d) (hj : j < 8) (Q : nz_h → Prop) : ctV P d 121 [mO, vi (n32 j)] (rowf t, rowf s, L, Z, C) Q = Q (rowf t, rowf (upj s j (fun f => if f = 5 ∨ (8 ≤ f ∧ f < 18) then 0 else s j f)), L, Z, C) := by
  obtain ⟨d, rfl⟩ := dge hd
  refine ctV_det (fun Q hq => sm121 ?_) Q
  have loop : ∀ n m, n + m = 10 → nzW P (d + 2) az_k121 2 [some mO, some (vi (n32 j)), some (vi (n32 m))] [] (rowf t, rowf (upj s j (fun f => if 8 ≤ f ∧ f < 8 + m then 0 else s j f)), L, Z, C) (nz_RV Q) := by
    intro n
    induction n with
    | zero =>
      intro m hm
      obtain rfl : m = 10 := by omega
      refine sg121_2 ?_
      simp (disch := omega) only [decide_eq_true_eq, decide_eq_false_iff_not, L32, az01, b2i_01, b2i_n0, b2i_n1, Bool.and_true, true_and, and_true, Classical.not_not, Bool.not_eq_true, Bool.not_eq_false, n32_mul, n32_add, n32_ix, n32_ib, n32_lt, n32_le, n32_inj, l_hb, l_hb0, l_shl, l_wo, l_eqm1, l_m1eq, m_setr]
      refine ⟨fun _ => ?_, fun hc => by omega⟩
      have e : up (upj s j (fun f => if 8 ≤ f ∧ f < 8 + 10 then 0 else s j f)) j 5 0 = upj s j (fun f => if f = 5 ∨ (8 ≤ f ∧ f < 18) then 0 else s j f) := by funext a f; simp only [up, upj]; (repeat' split) <;> (first | rfl | omega | (exfalso; omega) | (simp_all; done) | (simp_all; omega))
      rw [e]; exact hq
    | succ n ih =>
      intro m hm
      refine sg121_2 ?_
      simp (disch := omega) only [decide_eq_true_eq, decide_eq_false_iff_not, L32, az01, b2i_01, b2i_n0, b2i_n1, Bool.and_true, true_and, and_true, Classical.not_not, Bool.not_eq_true, Bool.not_eq_false, n32_mul, n32_add, n32_ix, n32_ib, n32_lt, n32_le, n32_inj, l_hb, l_hb0, l_shl, l_wo, l_eqm1, l_m1eq, m_setr]
      refine ⟨fun hc => by omega, fun hc => ?_⟩
      have e : up (upj s j (fun f => if 8 ≤ f ∧ f < 8 + m then 0 else s j f)) j (8 + m) 0 = upj s j (fun f => if 8 ≤ f ∧ f < 8 + (m + 1) then 0 else s j f) := by funext a f; simp only [up, upj]; (repeat' split) <;> (first | rfl | omega | (exfalso; omega) | (simp_all; done) | (simp_all; omega))
      rw [e]; exact ih (m + 1) (by omega)
  have e : s = upj s j (fun f => if 8 ≤ f ∧ f < 8 + 0 then 0 else s j f) := by funext a f; simp only [up, upj]; (repeat' split) <;> (first | rfl | omega | (exfalso; omega) | (simp_all; done) | (simp_all; omega))
  rw [e]
  exact loop 10 0 rfl
theorem m_ends {j : Nat} (hd : 4 ≤ d) (hj : j < 8) (Q : nz_h → Prop) : ctV P d 120 [mO, vi (n32 j)] (rowf t, rowf s, L, Z, C) Q = Q (rowf t, rowf (endsS s j), L, Z, C) := by
  obtain ⟨d, rfl⟩ := dge hd
  refine ctV_det (fun Q hq => sm120 ?_) Q
  simp (disch := omega) only [decide_eq_true_eq, decide_eq_false_iff_not, L32, az01, b2i_01, b2i_n0, b2i_n1, Bool.and_true, true_and, and_true, Classical.not_not, Bool.not_eq_true, Bool.not_eq_false, n32_mul, n32_add, n32_ix, n32_ib, n32_lt, n32_le, n32_inj, l_hb, l_hb0, l_shl, l_wo, l_eqm1, l_m1eq, m_setr, m_givesAll]
  have e : up (up (up (upj s j (fun f => if f = 5 ∨ (8 ≤ f ∧ f < 18) then 0 else s j f)) j 1 3) j 4 0) j 3 0 = endsS s j := by
    unfold endsS; funext a f; simp only [up, upj]; (repeat' split) <;> (first | rfl | omega | (exfalso; omega) | (simp_all; done) | (simp_all; omega))
  rw [e]; exact hq
theorem m_sleeps {j m : Nat} (hd : 4 ≤ d) (hj : j < 8) (hm : m < 10) (Q : nz_h → Prop) : ctV P d 141 [mO, vi (n32 j), vi (n32 m)] (rowf t, rowf s, L, Z, C) Q = Q (rowf t, rowf (sleepS s j m), L, Z, C) := by
  obtain ⟨d, rfl⟩ := dge hd
  refine ctV_det (fun Q hq => sm141 ?_) Q
  simp (disch := omega) only [decide_eq_true_eq, decide_eq_false_iff_not, L32, az01, b2i_01, b2i_n0, b2i_n1, Bool.and_true, true_and, and_true, Classical.not_not, Bool.not_eq_true, Bool.not_eq_false, n32_mul, n32_add, n32_ix, n32_ib, n32_lt, n32_le, n32_inj, l_hb, l_hb0, l_shl, l_wo, l_eqm1, l_m1eq, m_times, m_setr, rowf_at, uS_row]
  have e : ∀ X : Nat → Nat → Nat, X = up (up (up s j 4 (s j (8 + m))) j (8 + m) 0) j 1 2 → up (up X 13 12 (X 13 12 + 1)) j 7 (up X 13 12 (X 13 12 + 1) 13 12) = sleepS s j m := by
    intro X hX
    have h13 : X 13 12 = s 13 12 := by
      rw [hX]; simp only [up]; rw [if_neg (by omega), if_neg (by omega), if_neg (by omega)]
    rw [h13]
    subst hX
    unfold sleepS; funext a f; simp only [up, upj]; (repeat' split) <;> (first | rfl | omega | (exfalso; omega) | (simp_all; done) | (simp_all; omega))
  rw [e _ rfl]; exact hq
theorem m_more {j b : Nat} (hB : ∀ j f, s j f < 1000000) (hd : 4 ≤ d) (hj : j < 8) (hb : b < 1024) (Q : nz_h → Prop) : ctV P d 145 [mO, vi (n32 j), vi (n32 b)] (rowf t, rowf s, L, Z, C) Q = Q (rowf t, rowf (moreS s j b), L, Z, C) := by
  obtain ⟨d, rfl⟩ := dge hd
  refine ctV_det (fun Q hq => sm145 ?_) Q
  have loop : ∀ n m, n + m = 10 → nzW P (d + 3) az_k145 2 [some mO, some (vi (n32 j)), some (vi (n32 b)), some (vi (n32 m))] [] (rowf t, rowf (moreP s j b m), L, Z, C) (nz_RV Q) := by
    intro n
    induction n with
    | zero =>
      intro m hm
      obtain rfl : m = 10 := by omega
      refine sg145_2 ?_
      simp (disch := omega) only [decide_eq_true_eq, decide_eq_false_iff_not, L32, az01, b2i_01, b2i_n0, b2i_n1, Bool.and_true, true_and, and_true, Classical.not_not, Bool.not_eq_true, Bool.not_eq_false, n32_mul, n32_add, n32_ix, n32_ib, n32_lt, n32_le, n32_inj, l_hb, l_hb0, l_shl, l_wo, l_eqm1, l_m1eq]
      exact ⟨fun _ => hq, fun hc => by omega⟩
    | succ n ih =>
      intro m hm
      refine sg145_2 ?_
      have hbb := hB j (8 + m)
      simp (disch := omega) only [decide_eq_true_eq, decide_eq_false_iff_not, L32, az01, b2i_01, b2i_n0, b2i_n1, Bool.and_true, true_and, and_true, Classical.not_not, Bool.not_eq_true, Bool.not_eq_false, n32_mul, n32_add, n32_ix, n32_ib, n32_lt, n32_le, n32_inj, l_hb, l_hb0, l_shl, l_wo, l_eqm1, l_m1eq, m_times, rowf_at, moreP_at, m_setr]
      refine ⟨fun hc => by omega, fun hc => ⟨fun h1 => ?_, fun h1 => ⟨fun h2 => ?_, fun h2 => ?_⟩⟩⟩
      · rw [← moreP_F (Or.inl h1)]; exact ih (m + 1) (by omega)
      · rw [← moreP_F (Or.inr (by omega))]; exact ih (m + 1) (by omega)
      · rw [← moreP_T h1 (by omega)]; exact ih (m + 1) (by omega)
  have := loop 10 0 rfl
  rw [moreP_0] at this
  exact this
theorem m_asked {j : Nat} (hB : ∀ j f, s j f < 1000000) (hT : TV t) (hd : 4 ≤ d) (hj : j < 8) (hp : s j 0 < 20) (s4 : 0 < s j 4 → onS t s j < 10) (Q : Int32 → nz_h → Prop) : ctI P d 131 [mO, vi (n32 j)] (rowf t, rowf s, L, Z, C) Q = Q (n32 (askS t s j)) (rowf t, rowf s, L, Z, C) := by
  obtain ⟨d, rfl⟩ := dge hd
  refine ctI_det (fun Q hq => sm131 ?_) Q
  have ho : opS t s j < 10 := hT.2.2.2.1 _
  have hn : onS t s j < 1024 := hT.2.2.2.2.1 _
  have hn' : opS t s j ≠ 9 → onS t s j < 10 := hT.2.2.2.2.2.1 _
  have loop : 0 = s j 4 → opS t s j = 9 → ∀ n m, n + m = 10 → nzW P (d + 3) az_k131 31 [some mO, some (vi (n32 j)), some (vi (n32 (bits m (fun m => (onS t s j).testBit m && decide (s j (8 + m) = 0))))), some (vi (n32 m))] [] (rowf t, rowf s, L, Z, C) (nz_RI Q) := by
    intro e4 e9 n
    induction n with
    | zero =>
      intro m hm
      obtain rfl : m = 10 := by omega
      refine sg131_31 ?_
      simp (disch := first | omega | (refine Nat.lt_of_lt_of_le (hB _ _) ?_; omega)) only [decide_eq_true_eq, decide_eq_false_iff_not, L32, az01, b2i_01, b2i_n0, b2i_n1, Bool.and_true, true_and, and_true, Classical.not_not, Bool.not_eq_true, Bool.not_eq_false, n32_mul, n32_add, n32_ix, n32_ib, n32_lt, n32_le, n32_inj, l_hb, l_hb0, l_shl, l_wo, l_eqm1, l_m1eq]
      refine ⟨fun _ => ?_, fun hc => by omega⟩
      have : askS t s j = bits 10 (fun m => (onS t s j).testBit m && decide (s j (8 + m) = 0)) := by
        unfold askS onlyS; simp [← e4, e9]
      rw [← this]; exact hq
    | succ n ih =>
      intro m hm
      refine sg131_31 ?_
      simp (disch := first | omega | (refine Nat.lt_of_lt_of_le (hB _ _) ?_; omega)) only [decide_eq_true_eq, decide_eq_false_iff_not, L32, az01, b2i_01, b2i_n0, b2i_n1, Bool.and_true, true_and, and_true, Classical.not_not, Bool.not_eq_true, Bool.not_eq_false, n32_mul, n32_add, n32_ix, n32_ib, n32_lt, n32_le, n32_inj, l_hb, l_hb0, l_shl, l_wo, l_eqm1, l_m1eq, m_on hB, m_times, rowf_at, n32_or, Nat.or_zero]
      refine ⟨fun hc => by omega, fun hc => ⟨fun h1 => ?_, fun h1 => ⟨fun h2 => ?_, fun h2 => ?_⟩⟩⟩
      · rw [bits_F (by simp [h1])]; exact ih (m + 1) (by omega)
      · rw [bits_F (by simp [h2])]; exact ih (m + 1) (by omega)
      · rw [bits_T (by simp [h1, h2])]; exact ih (m + 1) (by omega)
  have two : ∀ b : Bool, onlyS t s j = b → b = true → onS t s j < 10 → Q (n32 (2 ^ onS t s j)) (rowf t, rowf s, L, Z, C) := by
    intro b hb1 hb2 _
    subst hb2
    unfold askS at hq
    rw [hb1] at hq
    exact hq
  by_cases h4 : 0 < s j 4
  · have hn := s4 h4
    simp (disch := first | omega | (refine Nat.lt_of_lt_of_le (hB _ _) ?_; omega)) only [decide_eq_true_eq, decide_eq_false_iff_not, L32, az01, b2i_01, b2i_n0, b2i_n1, Bool.and_true, true_and, and_true, Classical.not_not, Bool.not_eq_true, Bool.not_eq_false, n32_mul, n32_add, n32_ix, n32_ib, n32_lt, n32_le, n32_inj, l_hb, l_hb0, l_shl, l_wo, l_eqm1, l_m1eq, m_getr, m_on hB, m_op hB, h4]
    exact ⟨fun _ => two _ rfl (by simp [onlyS, h4]) hn, fun hc => (hc trivial).elim⟩
  · by_cases h9 : opS t s j = 9
    · simp (disch := first | omega | (refine Nat.lt_of_lt_of_le (hB _ _) ?_; omega)) only [decide_eq_true_eq, decide_eq_false_iff_not, L32, az01, b2i_01, b2i_n0, b2i_n1, Bool.and_true, true_and, and_true, Classical.not_not, Bool.not_eq_true, Bool.not_eq_false, n32_mul, n32_add, n32_ix, n32_ib, n32_lt, n32_le, n32_inj, l_hb, l_hb0, l_shl, l_wo, l_eqm1, l_m1eq, m_getr, m_on hB, m_op hB, h4, h9]
      exact ⟨fun hc => hc.elim, fun _ => ⟨fun _ => loop (by omega) h9 10 0 rfl, fun hc => (hc trivial).elim⟩⟩
    · have hn := hn' h9
      simp (disch := first | omega | (refine Nat.lt_of_lt_of_le (hB _ _) ?_; omega)) only [decide_eq_true_eq, decide_eq_false_iff_not, L32, az01, b2i_01, b2i_n0, b2i_n1, Bool.and_true, true_and, and_true, Classical.not_not, Bool.not_eq_true, Bool.not_eq_false, n32_mul, n32_add, n32_ix, n32_ib, n32_lt, n32_le, n32_inj, l_hb, l_hb0, l_shl, l_wo, l_eqm1, l_m1eq, m_getr, m_on hB, m_op hB, h4, h9]
      exact ⟨fun hc => hc.elim, fun _ => ⟨fun hc => hc.elim, fun _ => two _ rfl (by simp [onlyS, h9]) hn⟩⟩
end
