/-! a refusal is written down; a job comes to ask -/
theorem u2_ne {f : nz_f2} {a b a' b' : Nat} {v : Int32} (h : a' ≠ a) : nz_u2 f a b v a' b' = f a' b' := by
  unfold nz_u2; rw [if_neg (fun hh => h hh.1)]
theorem u2_eq {f : nz_f2} {a b : Nat} {v : Int32} : nz_u2 f a b v a b = v := by
  unfold nz_u2; rw [if_pos ⟨rfl, rfl⟩]
def coms (s : St) (j : Nat) : St := up (up s j 1 1) j 3 0
def rgM (t s : St) (j : Nat) : Nat := cond (decide (t 13 8 = 2)) (rgN t s j) 0
def refL (t s : St) (L : nz_f2) (j i : Nat) : nz_f2 :=
  nz_u2 (ringL (nz_u2 (nz_u2 (nz_u2 (nz_u2 (nz_u2 L 13 26 (n32 (i + 1))) 67 j (L 67 j + n32 1)) 75 i (n32 j)) 76 i (n32 (s j 0))) 77 i (n32 (lowS (askS t s j)))) 79 (8 * i) (rgM t s j) (rgS t s j (rgN t s j))) 78 i (n32 (rgM t s j))
def comesG (t s : St) (j : Nat) : St := upj s j (fun f => if f = 0 then (if t 61 j < t 57 j then t 61 j else t 57 j) else if f = 1 ∨ f = 3 ∨ f = 4 then 0 else if f = 2 then 1 else s j f)
def comesE (s : St) (j : Nat) : St := upj s j (fun f => if f = 1 then 3 else if f = 2 ∨ f = 6 then 1 else if f = 3 ∨ f = 4 ∨ f = 5 ∨ (8 ≤ f ∧ f < 18) then 0 else s j f)
def grdS (t s : St) (j : Nat) : Bool := decide (s j 2 = 0) && decide (t 61 j < 20)
def comesS (t s : St) (j : Nat) : St := cond (refS t (coms s j) j) (cond (grdS t s j) (comesG t s j) (comesE s j)) (coms s j)
def comesL (t s : St) (L : nz_f2) (j : Nat) : nz_f2 := cond (refS t (coms s j) j && !decide (L 13 13 = n32 0)) (refL t (coms s j) L j (nz_ix (L 13 26))) L
theorem coms_at {s : St} {j a f : Nat} (h1 : f ≠ 1) (h3 : f ≠ 3) : coms s j a f = s a f := by
  unfold coms up; rw [if_neg (fun hh => h3 hh.2), if_neg (fun hh => h1 hh.2)]
theorem coms_op {t s : St} {j k : Nat} : opS t (coms s j) k = opS t s k := by unfold opS; rw [coms_at (by decide) (by decide)]
theorem coms_on {t s : St} {j k : Nat} : onS t (coms s j) k = onS t s k := by unfold onS; rw [coms_at (by decide) (by decide)]
theorem coms_ask {t s : St} {j k : Nat} : askS t (coms s j) k = askS t s k := by
  unfold askS onlyS
  rw [coms_op, coms_on, coms_at (by decide) (by decide)]
  have : (fun m => (onS t s k).testBit m && decide (coms s j k (8 + m) = 0)) = (fun m => (onS t s k).testBit m && decide (s k (8 + m) = 0)) := by
    funext m; rw [coms_at (by omega) (by omega)]
  rw [this]
theorem coms_AV {t s : St} {j k : Nat} (h : AV t s k) : AV t (coms s j) k := by
  unfold AV; rw [coms_op, coms_at (by decide) (by decide), coms_at (by decide) (by decide)]; exact h
section
variable {P : Nat × (Nat → Int32)} {d : Nat} {t s : St} {L Z : nz_f2} {C : nz_f5}
theorem m_refuses {j i : Nat} (hB : ∀ j f, s j f < 1000000) (hT : TV t) (hd : 11 ≤ d) (hj : j < 8) (hi : i < 16) (hLi : L 13 26 = n32 i) (hA : ∀ k, k < 8 → s k 1 = 1 → AV t s k) (hA1 : AV t s j) (hlow : ∃ x, fst 10 0 (askS t s j).testBit = some x) (Q : nz_h → Prop) :
    ctV P d 138 [mO, vi (n32 j)] (rowf t, rowf s, L, Z, C) Q = Q (rowf t, rowf s, refL t s L j i, refZ t s Z j, C) := by
  obtain ⟨d, rfl⟩ := dge hd
  refine ctV_det (fun Q hq => sm138 ?_) Q
  obtain ⟨x, hx⟩ := hlow
  have hask := askS_lt (hA1.askO hT)
  have hp := hA1.1
  have hm : t 13 8 < 4 := hT.2.2.2.2.2.2.2.2.2.1
  have hlo : lowS (askS t s j) = x := by unfold lowS; rw [hx]; rfl
  have hon := hA1.on hT
  simp (disch := first | omega | (refine Nat.lt_of_lt_of_le (hB _ _) ?_; omega)) only [decide_eq_true_eq, decide_eq_false_iff_not, L32, az01, b2i_01, b2i_n0, b2i_n1, Bool.and_true, true_and, and_true, Classical.not_not, Bool.not_eq_true, Bool.not_eq_false, n32_mul, n32_add, n32_ix, n32_ib, n32_lt, n32_le, n32_inj, l_hb, l_hb0, l_shl, l_wo, l_eqm1, l_m1eq, uL_row, hLi, u2_ne, m_getr, m_asked hB hT, m_lowest hask hx, rowf_at, hj, hi]
  unfold refL rgM refZ at hq
  rw [hlo] at hq
  refine ⟨fun h2 => ?_, fun h2 => ?_⟩
  · rw [decide_eq_false h2, cond_false, cond_false, ringL_0] at hq
    exact hq
  · rw [decide_eq_true h2, cond_true, cond_true] at hq
    simp (disch := first | omega | (refine Nat.lt_of_lt_of_le (hB _ _) ?_; omega)) only [n32_mul, n32_add, n32_ix, n32_ib, n32_lt, n32_le, n32_inj, l_hb, l_hb0, l_shl, l_wo, l_eqm1, l_m1eq, m_ringOf79 hB hT, hA, implies_true, hj, uL_row]
    exact hq
theorem m_comes {j : Nat} (hB : ∀ j f, s j f < 1000000) (hT : TV t) (hd : 12 ≤ d) (hj : j < 8) (hA : ∀ k, k < 8 → s k 1 = 1 → AV t s k) (hA1 : AV t s j) (hL : L 13 13 ≠ n32 0 → ∃ i, i < 16 ∧ L 13 26 = n32 i) (hlow : ∃ x, fst 10 0 (askS t s j).testBit = some x) (Q : nz_h → Prop) :
    ctV P d 129 [mO, vi (n32 j)] (rowf t, rowf s, L, Z, C) Q = Q (rowf t, rowf (comesS t s j), comesL t s L j, refZ t (coms s j) Z j, C) := by
  obtain ⟨d, rfl⟩ := dge hd
  refine ctV_det (fun Q hq => sm129 ?_) Q
  have hB' : ∀ a f, coms s j a f < 1000000 := by
    intro a f
    unfold coms up
    split
    · omega
    · split
      · omega
      · exact hB a f
  have hA' : ∀ k, k < 8 → coms s j k 1 = 1 → AV t (coms s j) k := by
    intro k hk h1
    by_cases hkj : k = j
    · subst hkj; exact coms_AV hA1
    · refine coms_AV (hA k hk ?_)
      unfold coms up at h1
      rw [if_neg (by omega), if_neg (by omega)] at h1
      exact h1
  have hg61 := hT.2.2.2.2.2.2.2.1 j
  have h57 := hT.2.2.1 j
  have tail : ∀ L' Z' l2, refS t (coms s j) j = true → Q (rowf t, rowf (cond (grdS t s j) (comesG t s j) (comesE s j)), L', Z', C) → nzW P (d + 11) az_k129 35 [some mO, some (vi (n32 j)), l2] [] (rowf t, rowf (coms s j), L', Z', C) (nz_RV Q) := by
    intro L' Z' l2 hr hqq
    have t60 : ∀ b : Bool, grdS t s j = b → nzW P (d + 11) az_k129 60 [some mO, some (vi (n32 j)), some (vi (b2i b))] [] (rowf t, rowf (coms s j), L', Z', C) (nz_RV Q) := by
      intro b hb
      refine sg129_60 ?_
      rw [hb] at hqq
      simp (disch := first | omega | (refine Nat.lt_of_lt_of_le (hB _ _) ?_; omega)) only [decide_eq_true_eq, decide_eq_false_iff_not, L32, az01, b2i_01, b2i_n0, b2i_n1, Bool.and_true, true_and, and_true, Classical.not_not, Bool.not_eq_true, Bool.not_eq_false, n32_mul, n32_add, n32_ix, n32_ib, n32_lt, n32_le, n32_inj, l_hb, l_hb0, l_shl, l_wo, l_eqm1, l_m1eq, m_setr, m_ends, rowf_at, hj]
      refine ⟨fun h0 => ?_, fun h0 => ?_⟩
      · rw [h0] at hqq
        have e : up (endsS (up (up (coms s j) j 2 1) j 4 0) j) j 6 1 = comesE s j := by
          unfold endsS comesE coms; funext a f; simp only [up, upj]; (repeat' split) <;> (first | rfl | omega | (exfalso; omega) | (simp_all; done) | (simp_all; omega))
        rw [e]; exact hqq
      · rw [h0] at hqq
        have hlt : t 61 j < 20 := by
          unfold grdS at hb; rw [h0] at hb; simp at hb; exact hb.2
        simp (disch := first | omega | (refine Nat.lt_of_lt_of_le (hB _ _) ?_; omega)) only [n32_mul, n32_add, n32_ix, n32_ib, n32_lt, n32_le, n32_inj, l_hb, l_hb0, l_shl, l_wo, l_eqm1, l_m1eq, m_setr]
        refine ⟨fun hc => ?_, fun hc => ?_⟩
        · have e : up (up (up (up (coms s j) j 2 1) j 4 0) j 1 0) j 0 (t 57 j) = comesG t s j := by
            unfold comesG coms; rw [if_neg (by omega)]; funext a f; simp only [up, upj]; (repeat' split) <;> (first | rfl | omega | (exfalso; omega) | (simp_all; done) | (simp_all; omega))
          rw [e]; exact hqq
        · have e : up (up (up (up (coms s j) j 2 1) j 4 0) j 1 0) j 0 (t 61 j) = comesG t s j := by
            unfold comesG coms; rw [if_pos (by omega)]; funext a f; simp only [up, upj]; (repeat' split) <;> (first | rfl | omega | (exfalso; omega) | (simp_all; done) | (simp_all; omega))
          rw [e]; exact hqq
    refine sg129_35 ?_
    have e2 : coms s j j 2 = s j 2 := coms_at (by decide) (by decide)
    simp (disch := first | omega | (refine Nat.lt_of_lt_of_le (hB _ _) ?_; omega)) only [decide_eq_true_eq, decide_eq_false_iff_not, L32, az01, b2i_01, b2i_n0, b2i_n1, Bool.and_true, true_and, and_true, Classical.not_not, Bool.not_eq_true, Bool.not_eq_false, n32_mul, n32_add, n32_ix, n32_ib, n32_lt, n32_le, n32_inj, l_hb, l_hb0, l_shl, l_wo, l_eqm1, l_m1eq, m_getr, rowf_at, e2, hj]
    refine ⟨fun h2 => t60 false (by unfold grdS; simp [h2]), fun h2 => ⟨fun hg => t60 false ?_, fun hg => t60 true ?_⟩⟩
    · have : ¬ t 61 j < 20 := fun hh => by
        rw [l_eqm1 (by omega)] at hg; exact hg
      unfold grdS; simp [this]
    · have : t 61 j < 20 := by
        rcases hg61 with hh | hh
        · exact hh
        · rw [hh] at hg; exact absurd rfl hg
      unfold grdS; simp [h2, this]
  simp (disch := first | omega | (refine Nat.lt_of_lt_of_le (hB _ _) ?_; omega)) only [decide_eq_true_eq, decide_eq_false_iff_not, L32, az01, b2i_01, b2i_n0, b2i_n1, Bool.and_true, true_and, and_true, Classical.not_not, Bool.not_eq_true, Bool.not_eq_false, n32_mul, n32_add, n32_ix, n32_ib, n32_lt, n32_le, n32_inj, l_hb, l_hb0, l_shl, l_wo, l_eqm1, l_m1eq, m_setr]
  have ec : up (up s j 1 1) j 3 0 = coms s j := rfl
  rw [ec]
  rw [m_isRefused hB' hT (by omega) hj hA' (coms_AV hA1)]
  simp (disch := first | omega | (refine Nat.lt_of_lt_of_le (hB _ _) ?_; omega)) only [decide_eq_true_eq, decide_eq_false_iff_not, L32, az01, b2i_01, b2i_n0, b2i_n1, Bool.and_true, true_and, and_true, Classical.not_not, Bool.not_eq_true, Bool.not_eq_false]
  unfold comesS comesL at hq
  refine ⟨fun hr => ⟨fun h0 => tail _ _ _ hr ?_, fun h0 => ?_⟩, fun hr => ?_⟩
  · rw [hr, decide_eq_true h0] at hq; exact hq
  · obtain ⟨i, hi, hLi⟩ := hL h0
    rw [m_refuses hB' hT (by omega) hj hi hLi hA' (coms_AV hA1) (by rw [coms_ask]; exact hlow)]
    have hzz : refZ t (coms s j) (refZ t (coms s j) Z j) j = refZ t (coms s j) Z j := by
      unfold refZ
      cases decide (t 13 8 = 2)
      · rfl
      · exact zf_zf
    rw [hzz]
    refine tail _ _ _ hr ?_
    rw [hr, decide_eq_false h0, hLi, n32_ix (by omega)] at hq
    exact hq
  · rw [hr] at hq; exact hq
end
