/-! comes, joined -/
theorem upj_upj {s : St} {j : Nat} {r r' : Nat → Nat} : upj (upj s j r) j r' = upj s j r' := by
  funext a f; unfold upj; split <;> rfl
theorem n32_add0 (a : Int32) : a + n32 0 = a := Int32.add_zero a
section
variable {t s : St} {L : nz_f2} {j i : Nat}
theorem refL_67 {k : Nat} : refL t s L j i 67 k = if k = j then L 67 j + n32 1 else L 67 k := by
  unfold refL; simp (disch := decide) only [u2_ne, ringL_k, u2_at]
theorem refL_o {kd k : Nat} (h : 68 ≤ kd ∧ kd ≤ 71) : refL t s L j i kd k = L kd k := by
  unfold refL; simp (disch := omega) only [u2_ne, ringL_k]
theorem refL_75 {k : Nat} : refL t s L j i 75 k = if k = i then n32 j else L 75 k := by
  unfold refL; simp (disch := decide) only [u2_ne, ringL_k, u2_at]
theorem refL_76 {k : Nat} : refL t s L j i 76 k = if k = i then n32 (s j 0) else L 76 k := by
  unfold refL; simp (disch := decide) only [u2_ne, ringL_k, u2_at]
theorem refL_77 {k : Nat} : refL t s L j i 77 k = if k = i then n32 (lowS (askS t s j)) else L 77 k := by
  unfold refL; simp (disch := decide) only [u2_ne, ringL_k, u2_at]
theorem refL_78 {k : Nat} : refL t s L j i 78 k = if k = i then n32 (rgM t s j) else L 78 k := by
  unfold refL; simp (disch := decide) only [u2_ne, ringL_k, u2_at]
theorem refL_79 {k : Nat} : refL t s L j i 79 k = if 8 * i ≤ k ∧ k < 8 * i + rgM t s j then n32 (rgS t s j (rgN t s j) (k - 8 * i)) else L 79 k := by
  unfold refL; simp (disch := decide) only [u2_ne, ringL_k, ringL_at, u2_at]
end
section
variable {P : Nat × (Nat → Int32)} {d o : Nat} {t s : St} {T S L0 L Z : nz_f2} {C : nz_f5} {j : Nat}
theorem ask_tail {C3 : nz_f5} (hT : TV t) (h2 : s j 2 < 2) (e13 : C3 8 o j 0 13 = n32 (s j 2)) (e3 : C3 8 o j 0 3 = n32 (t 61 j)) {Q : nz_h → Prop}
    (hg : grdS t s j = true → Q (T, S, L0, Z, nz_u5 (onC (nz_u5 C3 8 o j 0 13 (n32 1)) o j (n32 0)) 8 o j 0 5 (n32 (t 61 j))))
    (he : grdS t s j = false → Q (T, S, L0, Z, endC (nz_u5 C3 8 o j 0 13 (n32 1)) o j (b2i true))) (l0 l2 l3 l4 l5 : Option nz_V) : nzW P (d + 2) az_k39 92 [l0, some (jO o j), l2, l3, l4, l5] [] (T, S, L0, Z, C3) (nz_RV Q) := by
  have hgd := hT.2.2.2.2.2.2.2.1 j
  have end0 : grdS t s j = false → ∀ l0 l2 l3 l4, nzW P (d + 2) az_k39 119 [l0, some (jO o j), l2, l3, l4, some (vi (n32 0))] [] (T, S, L0, Z, nz_u5 C3 8 o j 0 13 (n32 1)) (nz_RV Q) := by
    intro hh l0 l2 l3 l4
    refine sg39_119_o0 ?_
    simp (disch := omega) only [decide_eq_true_eq, decide_eq_false_iff_not, L32, az01, b2i_01, b2i_n0, b2i_n1, Bool.and_true, true_and, and_true, Classical.not_not, Bool.not_eq_true, Bool.not_eq_false, n32_mul, n32_add, n32_ix, n32_ib, n32_lt, n32_le, n32_inj, l_hb, l_hb0, l_shl, l_wo, l_eqm1, l_m1eq]
    refine ⟨fun _ => ?_, fun hc => (hc trivial).elim⟩
    have := c_endsR (P := P) (T := T) (S := S) (L := L0) (Z := Z) (C := nz_u5 C3 8 o j 0 13 (n32 1)) (o := o) (j := j) (b := true) (d := d + 2) (by omega) (fun h1 => Q h1)
    rw [show n32 1 = b2i true from rfl]
    rw [show n32 1 = b2i true from rfl] at this
    rw [this]
    exact he hh
  have e3n : nz_u5 C3 8 o j 0 13 (n32 1) 8 o j 0 3 = n32 (t 61 j) := (u5_x (by decide)).trans e3
  refine sg39_92_o0 ?_
  simp (disch := omega) only [decide_eq_true_eq, decide_eq_false_iff_not, L32, az01, b2i_01, b2i_n0, b2i_n1, Bool.and_true, true_and, and_true, Classical.not_not, Bool.not_eq_true, Bool.not_eq_false, n32_mul, n32_add, n32_ix, n32_ib, n32_lt, n32_le, n32_inj, l_hb, l_hb0, l_shl, l_wo, l_eqm1, l_m1eq, uC_row, e13, e3]
  refine ⟨fun h => end0 ?_ _ _ _ _, fun h => ⟨fun hm => end0 ?_ _ _ _ _, fun hm => ?_⟩⟩
  · unfold grdS; rw [decide_eq_false h]; rfl
  · unfold grdS
    rcases hgd with hgd | hgd
    · rw [l_eqm1 (by omega)] at hm; exact hm.elim
    · rw [hgd, decide_eq_false (show ¬ 4294967295 < 20 by omega), Bool.and_false]
  · have hlt : t 61 j < 20 := by
      rcases hgd with hgd | hgd
      · exact hgd
      · rw [hgd] at hm; exact absurd rfl hm
    refine sg39_119_o0 ?_
    simp (disch := omega) only [decide_eq_true_eq, decide_eq_false_iff_not, L32, az01, b2i_01, b2i_n0, b2i_n1, Bool.and_true, true_and, and_true, Classical.not_not, Bool.not_eq_true, Bool.not_eq_false, n32_mul, n32_add, n32_ix, n32_ib, n32_lt, n32_le, n32_inj, l_hb, l_hb0, l_shl, l_wo, l_eqm1, l_m1eq, c_on, uC_row]
    refine ⟨fun hc => by omega, fun _ => ?_⟩
    have e : onC (nz_u5 C3 8 o j 0 13 (n32 1)) o j (n32 0) 8 o j 0 3 = n32 (t 61 j) := by
      unfold onC; simp (disch := decide) only [u5_x]; exact e3
    rw [e]
    exact hg (by unfold grdS; rw [decide_eq_true h, decide_eq_true hlt]; rfl)
theorem FJ.symm {C' : nz_f5} (h : FJ o j C C') : FJ o j C' C := fun kd o' k l x hh => (h kd o' k l x hh).symm
theorem RG.keep {s' : St} {C' : nz_f5} (h : RG o s L C) (h8 : ∀ k x, (x = 14 ∨ (16 ≤ x ∧ x ≤ 20)) → C' 8 0 k 0 x = C 8 0 k 0 x) (h11 : C' 11 0 0 0 11 = C 11 0 0 0 11) (h46 : ∀ kd x, 46 ≤ kd → kd ≤ 50 → C' kd 0 0 0 x = C kd 0 0 0 x) (h6 : ∀ k, s' k 6 = s k 6) : RG o s' L C' := by
  intro ho
  obtain ⟨h1, h2, h3, h4, h5⟩ := h ho
  refine ⟨h1, fun k hk => ?_, h11.trans h3, fun i hi => ?_, fun i hi => ?_⟩
  · rw [h8 k 16 (by omega), h8 k 17 (by omega), h8 k 18 (by omega), h8 k 19 (by omega), h8 k 20 (by omega), h8 k 14 (by omega), h6]; exact h2 k hk
  · rw [h46 46 i (by omega) (by omega), h46 47 i (by omega) (by omega), h46 48 i (by omega) (by omega), h46 49 i (by omega) (by omega)]; exact h4 i hi
  · rw [h46 50 i (by omega) (by omega)]; exact h5 i hi
theorem c_comes {a : Nat} {b : Bool} (ho : o < 2) (hT : TV t) (hI : INV t (coms s j)) (hs2 : s j 2 < 2) (hR : RC o t (coms s j) (askC C o j (n32 a) (b2i b))) (hG : RG o s L C) (hL : o = 0 → ∃ i, i < 16 ∧ L 13 26 = n32 i) (hlow : ∃ x, fst 10 0 (askS t (coms s j) j).testBit = some x) (hd : 10 ≤ d) (hj : j < 8) {Q : nz_h → Prop}
    (hq : ∀ C', FJ o j C C' → RC o t (comesS t s j) C' → RG o (comesS t s j) (comesL t s L j) C' → Q (T, S, L0, Z, C')) : ctV P d 39 [sO o, jO o j, vi (n32 a), vi (b2i b)] (T, S, L0, Z, C) Q := by
  obtain ⟨d, rfl⟩ := dge hd
  have hB := hI.B
  have h11 : coms s j j 1 = 1 := by unfold coms up; simp
  have hF1 : FJ o j C (askC C o j (n32 a) (b2i b)) := askC_FJ (FJ.rfl' C)
  have hA := hR.ask hT hI hj h11
  obtain ⟨e6, e7, e35, e12, e5, e11, e10, e0⟩ := hR.2.1 j hj
  have hm := hT.2.2.2.2.2.2.2.2.2.1
  have eT := hR.1
  have c2 : coms s j j 2 = s j 2 := coms_at (by decide) (by decide)
  have c5 : coms s j j 5 = s j 5 := coms_at (by decide) (by decide)
  have c8 : ∀ m, coms s j j (8 + m) = s j (8 + m) := fun m => coms_at (by omega) (by omega)
  have e13 : askC C o j (n32 a) (b2i b) 8 o j 0 13 = n32 (s j 2) := by rw [(e12 (by omega)).2, c2]
  have c1x : ∀ x, (x = 14 ∨ (16 ≤ x ∧ x ≤ 20)) → askC C o j (n32 a) (b2i b) 8 o j 0 x = C 8 o j 0 x := fun x hx => by
    unfold askC; rw [u5_x (by omega), u5_x (by omega), u5_x (by omega), u5_x (by omega)]
  obtain ⟨xl, hxl⟩ := hlow
  generalize hC1 : askC C o j (n32 a) (b2i b) = C1 at *
  have fin0 : refS t (coms s j) j = false → ∀ C2, Fr (Wway o) C1 C2 → Q (T, S, L0, Z, C2) := by
    intro hr C2 hF
    have es : comesS t s j = coms s j := by unfold comesS; rw [hr]; rfl
    have el : comesL t s L j = L := by unfold comesL; rw [hr]; rfl
    refine hq C2 (hF1.trans (FJ.way hF)) (by rw [es]; exact hR.way hF) ?_
    rw [es, el]
    intro h0
    subst h0
    refine hG.keep (fun k x hx => ?_) ?_ (fun kd x h1 h2 => ?_) (fun k => coms_at (by decide) (by decide)) rfl
    · rw [hF 8 0 k 0 x (by unfold Wway; omega)]
      by_cases hk : k = j
      · rw [hk]; exact c1x x hx
      · exact hF1 8 0 k 0 x (by unfold WJ; omega)
    · rw [hF 11 0 0 0 11 (by unfold Wway; omega), ← hC1]
      unfold askC; simp (disch := decide) only [u5_k]
    · rw [hF kd 0 0 0 x (by unfold Wway; omega), ← hC1]
      unfold askC; simp (disch := omega) only [u5_k]
  have fin2 : refS t (coms s j) j = true → ∀ C4, FJ o j C C4 → (∀ x, x ≠ 16 → C4 8 o j 0 x = C1 8 o j 0 x) → (∀ m, C4 35 o j 0 m = C1 35 o j 0 m) → (o = 0 → C4 8 0 j 0 16 = comesL t s L j 67 j ∧ C4 11 0 0 0 11 = comesL t s L j 13 26 ∧ (∀ i, i < 16 → C4 46 0 0 0 i = comesL t s L j 75 i ∧ C4 47 0 0 0 i = comesL t s L j 76 i ∧ C4 48 0 0 0 i = comesL t s L j 77 i ∧ C4 49 0 0 0 i = comesL t s L j 78 i) ∧ (∀ i, i < 128 → C4 50 0 0 0 i = comesL t s L j 79 i)) → ∀ l0 l2 l3 l4 l5, nzW P (d + 9) az_k39 92 [l0, some (jO o j), l2, l3, l4, l5] [] (T, S, L0, Z, C4) (nz_RV Q) := by
    intro hr C4 hF4 h8 h35 hlg l0 l2 l3 l4 l5
    have hrg : ∀ (r : Nat → Nat) C5, FJ o j C C5 → (∀ x, 16 ≤ x → C5 8 o j 0 x = C4 8 o j 0 x) → (o = 0 → C5 8 o j 0 14 = n32 (r 6)) → (∀ kd x, kd = 11 ∨ (46 ≤ kd ∧ kd ≤ 50) → C5 kd 0 0 0 x = C4 kd 0 0 0 x) → RG o (upj s j r) (comesL t s L j) C5 := by
      intro r C5 hF5 h16 h14 hk h0
      subst h0
      obtain ⟨g1, g2⟩ := hG rfl
      obtain ⟨f1, f2, f3, f4⟩ := hlg rfl
      obtain ⟨i, hi, hLi⟩ := hL rfl
      have el : comesL t s L j = refL t (coms s j) L j i := by
        unfold comesL; rw [hr, decide_eq_false g1, hLi, n32_ix (by omega)]; rfl
      refine ⟨?_, ?_⟩
      · rw [el, refL_13 (by decide)]; exact g1
      · have gj := g2.1 j hj
        refine g2.job hj (fun k x hk => hF5 8 0 k 0 x (by unfold WJ; omega)) (fun kd k h1 h2 hk => ?_) ⟨?_, ?_, ?_, ?_, ?_, h14 rfl⟩ ?_ (fun y hy => ?_) (fun y hy => ?_)
        · rw [el]
          by_cases h67 : kd = 67
          · rw [h67, refL_67, if_neg hk]
          · exact refL_o (by omega)
        · rw [h16 16 (by omega)]; exact f1
        · rw [h16 17 (by omega), h8 17 (by decide), c1x 17 (by omega), el, refL_o (by omega)]; exact gj.2.1
        · rw [h16 18 (by omega), h8 18 (by decide), c1x 18 (by omega), el, refL_o (by omega)]; exact gj.2.2.1
        · rw [h16 19 (by omega), h8 19 (by decide), c1x 19 (by omega), el, refL_o (by omega)]; exact gj.2.2.2.1
        · rw [h16 20 (by omega), h8 20 (by decide), c1x 20 (by omega), el, refL_o (by omega)]; exact gj.2.2.2.2.1
        · rw [hk 11 11 (by omega)]; exact f2
        · rw [hk 46 y (by omega), hk 47 y (by omega), hk 48 y (by omega), hk 49 y (by omega)]; exact f3 y hy
        · rw [hk 50 y (by omega)]; exact f4 y hy
    refine ask_tail (d := d + 7) (s := s) hT hs2 ((h8 13 (by decide)).trans e13) ((h8 3 (by decide)).trans (eT.2.1 j hj).2.2.1) (fun hg => ?_) (fun hg => ?_) l0 l2 l3 l4 l5
    · have es : comesS t s j = comesG t s j := by unfold comesS; rw [hr, hg]; rfl
      have hgd : t 61 j < 20 := by
        unfold grdS at hg; rw [Bool.and_eq_true, decide_eq_true_eq, decide_eq_true_eq] at hg; exact hg.2
      have hF5 : FJ o j C (nz_u5 (onC (nz_u5 C4 8 o j 0 13 (n32 1)) o j (n32 0)) 8 o j 0 5 (n32 (t 61 j))) := FJ.up (onC_FJ (FJ.up hF4 (by unfold WJ; omega))) (by unfold WJ; omega)
      refine hq _ hF5 ?_ ?_
      · rw [es]
        unfold comesG
        rw [← upj_upj (r := fun f => if f = 1 then 1 else if f = 3 then 0 else s j f), ← coms_upj]
        refine hR.goA hj (hF1.symm.trans hF5) (by omega) rfl rfl ?_ ?_ (fun m hm => ?_) ?_ ?_ ⟨t 61 j, by omega, ?_, fun h => ?_, fun h => ?_⟩
        · unfold onC; simp (disch := decide) only [u5_eq, u5_x]
        · unfold onC; simp (disch := decide) only [u5_eq, u5_x]; rw [h8 7 (by decide), e7, c5]; rfl
        · unfold onC; simp (disch := decide) only [u5_k]; rw [h35, e35 m hm, c8]
          rw [if_neg (by omega), if_neg (by omega), if_neg (by omega)]
        · unfold onC; simp (disch := decide) only [u5_eq, u5_x]
        · unfold onC; simp (disch := decide) only [u5_eq, u5_x]; rfl
        · rw [u5_eq]
        · simp only [if_true] at h ⊢
          by_cases hlt : t 61 j < t 57 j
          · rw [if_pos hlt]
          · rw [if_neg hlt] at h; omega
        · simp only [if_true] at h
          by_cases hlt : t 61 j < t 57 j
          · rw [if_pos hlt] at h; omega
          · omega
      · rw [es]
        unfold comesG
        refine hrg _ _ hF5 (fun x hx => ?_) (fun h0 => ?_) (fun kd x hk => ?_)
        · unfold onC; rw [u5_x (by omega), u5_x (by omega), u5_x (by omega), u5_x (by omega), u5_x (by omega), u5_x (by omega), u5_x (by omega), u5_x (by omega)]
        · unfold onC; simp (disch := decide) only [u5_eq, u5_x]; rw [h8 14 (by decide), c1x 14 (by omega)]
          subst h0; exact ((hG rfl).2.1 j hj).2.2.2.2.2
        · unfold onC; simp (disch := omega) only [u5_k]
    · have es : comesS t s j = comesE s j := by unfold comesS; rw [hr, hg]; rfl
      have hF5 : FJ o j C (endC (nz_u5 C4 8 o j 0 13 (n32 1)) o j (b2i true)) := endC_FJ (FJ.up hF4 (by unfold WJ; omega))
      refine hq _ hF5 ?_ ?_
      · rw [es]
        unfold comesE
        rw [← upj_upj (r := fun f => if f = 1 then 1 else if f = 3 then 0 else s j f), ← coms_upj]
        refine hR.ended hj (FJ.up (hF1.symm.trans hF4) (by unfold WJ; omega)) (by omega) rfl rfl rfl (fun m hm => ?_)
        rw [if_neg (by omega), if_neg (by omega), if_pos (by omega)]
      · rw [es]
        unfold comesE
        refine hrg _ _ hF5 (fun x hx => ?_) (fun h0 => ?_) (fun kd x hk => ?_)
        · rw [endC_8, u5_x (by omega), u5_x (by omega), u5_x (by omega), u5_x (by omega)]
        · rw [endC_8]; simp (disch := decide) only [u5_eq, u5_x]; rfl
        · unfold endC; rw [if_neg (by omega)]; simp (disch := omega) only [u5_k]
  have n8 : rgM t (coms s j) j ≤ 8 := by
    unfold rgM rgN
    have := farL_le t (coms s j) j 8 j
    cases decide (t 13 8 = 2) with
    | false => exact Nat.zero_le _
    | true =>
      simp only [cond_true]
      split <;> omega
  have hlw : lowS (askS t (coms s j) j) = xl := by unfold lowS; rw [hxl]; rfl
  have hC1' : nz_u5 (nz_u5 (nz_u5 (nz_u5 C 8 o j 0 8 (n32 a)) 8 o j 0 11 (b2i b)) 8 o j 0 6 (n32 1)) 8 o j 0 9 (n32 0) = C1 := hC1
  have e1 := eT.2.2.2
  have h4 : t 13 8 = 0 ∨ t 13 8 = 1 ∨ t 13 8 = 2 ∨ t 13 8 = 3 := by omega
  have ho2 : o = 0 ∨ o = 1 := by omega
  rcases ho2 with h0 | h0
  · subst h0
    obtain ⟨g1, g2⟩ := hG rfl
    obtain ⟨i, hi, hLi⟩ := hL rfl
    have f52 : refS t (coms s j) j = true → ∀ C2, Fr (Wway 0) C1 C2 → (t 13 8 = 2 → C2 1 0 0 0 9 = n32 (rgN t (coms s j) j) ∧ ∀ y, y < rgN t (coms s j) j → C2 32 0 0 0 y = n32 (rgS t (coms s j) j (rgN t (coms s j) j) y)) → ∀ l2 l3 l5, nzW P (d + 9) az_k39 52 [some (sO 0), some (jO 0 j), l2, l3, some (vi (b2i (decide (t 13 8 = 2)))), l5] [] (T, S, L0, Z, C2) (nz_RV Q) := by
      intro hr C2 hF hrng l2 l3 l5
      have el : comesL t s L j = refL t (coms s j) L j i := by
        unfold comesL; rw [hr, decide_eq_false g1, hLi, n32_ix (by omega)]; rfl
      have hC2 : FJ 0 j C C2 := hF1.trans (FJ.way hF)
      have w8 : ∀ x, C2 8 0 j 0 x = C1 8 0 j 0 x := fun x => hF 8 0 j 0 x (by unfold Wway; omega)
      have lg : ∀ l0 l2 l3 l4 l5, ctV P (d + 9) 93 [vr (11, 0, 0, 0), jO 0 j, vi (n32 (rgM t (coms s j) j))] (T, S, L0, Z, nz_u5 C2 8 0 j 0 16 (C2 8 0 j 0 16 + n32 1)) (fun h1 => nzW P (d + 9) az_k39 92 [l0, some (jO 0 j), l2, l3, l4, l5] [] h1 (nz_RV Q)) := by
        intro l0 l2 l3 l4 l5
        have c11 : C2 11 0 0 0 11 = C 11 0 0 0 11 := by
          rw [hF 11 0 0 0 11 (by unfold Wway; omega), ← hC1]; unfold askC; simp (disch := decide) only [u5_k]
        have c46 : ∀ kd x, 46 ≤ kd → kd ≤ 50 → C2 kd 0 0 0 x = C kd 0 0 0 x := fun kd x h1 h2 => by
          rw [hF kd 0 0 0 x (by unfold Wway; omega), ← hC1]; unfold askC; simp (disch := omega) only [u5_k]
        refine c_log (i := i) (p := coms s j j 0) (a := askS t (coms s j) j) (x := xl) (by omega) ?_ hi n8 ?_ ?_ ?_ hA.2.2.2.2.2.1 hxl (fun C4 hF4 d11 d46 d47 d48 d49 d50 => ?_)
        · rw [u5_k (by decide), c11, g2.2.1]; exact hLi
        · rw [u5_x (by decide), w8]; exact (eT.2.1 j hj).1
        · rw [u5_x (by decide), w8]; exact hA.2.1
        · rw [u5_x (by decide), w8]; exact hA.2.2.2.1
        · have hF34 : FJ 0 j C C4 := (FJ.up hC2 (by unfold WJ; omega)).trans (fun kd o' k l x hh => hF4 kd o' k l x (fun hw => hh (by unfold logW at hw; unfold WJ; omega)))
          refine fin2 hr C4 hF34 (fun x hx => ?_) (fun m => ?_) (fun _ => ⟨?_, ?_, fun y hy => ⟨?_, ?_, ?_, ?_⟩, fun y hy => ?_⟩) l0 l2 l3 l4 l5
          · rw [hF4 8 0 j 0 x (by unfold logW; omega), u5_x hx, w8]
          · rw [hF4 35 0 j 0 m (by unfold logW; omega), u5_k (by decide), hF 35 0 j 0 m (by unfold Wway; omega)]
          · rw [hF4 8 0 j 0 16 (by unfold logW; omega), u5_eq, w8, c1x 16 (by omega), (g2.1 j hj).1, el, refL_67, if_pos rfl]
          · rw [d11, el, refL_26]
          · rw [d46, el, refL_75, u5_k (by decide), c46 46 y (by omega) (by omega), (g2.2.2.1 y hy).1]
          · rw [d47, el, refL_76, u5_k (by decide), c46 47 y (by omega) (by omega), (g2.2.2.1 y hy).2.1]
          · rw [d48, el, refL_77, u5_k (by decide), c46 48 y (by omega) (by omega), (g2.2.2.1 y hy).2.2.1, hlw]
          · rw [d49, el, refL_78, u5_k (by decide), c46 49 y (by omega) (by omega), (g2.2.2.1 y hy).2.2.2]
          · rw [d50, el, refL_79]
            by_cases hy2 : 8 * i ≤ y ∧ y < 8 * i + rgM t (coms s j) j
            · rw [if_pos hy2, if_pos hy2, u5_k (by decide)]
              by_cases h2 : t 13 8 = 2
              · have hrm : rgM t (coms s j) j = rgN t (coms s j) j := by unfold rgM; rw [decide_eq_true h2]; rfl
                exact (hrng h2).2 _ (by omega)
              · have hrm : rgM t (coms s j) j = 0 := by unfold rgM; rw [decide_eq_false h2]; rfl
                omega
            · rw [if_neg hy2, if_neg hy2, u5_k (by decide), c46 50 y (by omega) (by omega), g2.2.2.2 y hy]
      refine sg39_52_o0 ⟨fun hc => (by cases hc), fun _ => ?_⟩
      simp (disch := decide) only [decide_eq_true_eq, decide_eq_false_iff_not, L32, az01, b2i_01, b2i_n0, b2i_n1, Bool.and_true, true_and, and_true, Classical.not_not, Bool.not_eq_true, Bool.not_eq_false, uC_row, u5_k]
      refine ⟨fun h => ?_, fun h => ?_⟩
      · have hrm : rgM t (coms s j) j = 0 := by unfold rgM; rw [decide_eq_false h]; rfl
        rw [hrm] at lg
        exact lg _ _ _ _ _
      · have h2 : t 13 8 = 2 := h
        have hrm : rgM t (coms s j) j = rgN t (coms s j) j := by unfold rgM; rw [decide_eq_true h2]; rfl
        rw [hrm] at lg
        rw [(hrng h2).1]
        exact lg _ _ _ _ _
    refine sm39_o0 ?_
    simp (disch := omega) only [decide_eq_true_eq, decide_eq_false_iff_not, L32, az01, b2i_01, b2i_n0, b2i_n1, Bool.and_true, true_and, and_true, Classical.not_not, Bool.not_eq_true, Bool.not_eq_false, n32_mul, n32_add, n32_ix, n32_ib, n32_lt, n32_le, n32_inj, l_hb, l_hb0, l_shl, l_wo, l_eqm1, l_m1eq, uC_row, hC1', e1]
    refine ⟨hm, ?_⟩
    rcases h4 with h4 | h4 | h4 | h4
    · have m0 : decide (t 13 8 = 2) = false := by rw [h4]; rfl
      have rf : refS t (coms s j) j = false := by unfold refS; rw [h4]; rfl
      rw [m0] at f52
      rw [h4]
      have cont : ∀ C2, Fr (Wway 0) C1 C2 → (t 13 8 = 2 → C2 1 0 0 0 9 = n32 (rgN t (coms s j) j) ∧ ∀ y, y < rgN t (coms s j) j → C2 32 0 0 0 y = n32 (rgS t (coms s j) j (rgN t (coms s j) j) y)) → ((refS t (coms s j) j = true → nz_ib (C2 1 0 0 0 5) 4 = true ∧ ∀ l2 l3 l4 l5, nzW P (d + 9) az_k39 47 [some (sO 0), some (jO 0 j), l2, l3, l4, l5] [vr (3 + nz_ix (C2 1 0 0 0 5), 0, 0, 0)] (T, S, L0, Z, C2) (nz_RV Q)) ∧ (refS t (coms s j) j = false → Q (T, S, L0, Z, C2))) := by
        intro C2 hF2 hr2
        have e2 : C2 1 0 0 0 5 = n32 0 := by rw [hF2 1 0 0 0 5 (by unfold Wway; omega), e1, h4]
        refine ⟨fun hr => ⟨by rw [e2]; rfl, fun l2 l3 l4 l5 => ?_⟩, fun hr => fin0 hr C2 hF2⟩
        rw [e2]
        exact sg39_47_o0_k3 ⟨rfl, sm63k ⟨rfl, f52 hr C2 hF2 hr2 _ _ _⟩⟩
      refine sg39_29_o0_k3 ⟨rfl, sm62k ⟨rfl, ?_⟩⟩
      have := cont C1 (Fr.rfl' C1) (fun h => by omega)
      exact ⟨fun hc => absurd hc (by decide), fun _ => this.2 rf⟩
    · have m0 : decide (t 13 8 = 2) = false := by rw [h4]; rfl
      have rf : refS t (coms s j) j = (plainS t (coms s j) j && anyB 10 (rankB t (coms s j) j)) := by unfold refS; rw [h4]; rfl
      rw [m0] at f52
      rw [h4]
      have cont : ∀ C2, Fr (Wway 0) C1 C2 → (t 13 8 = 2 → C2 1 0 0 0 9 = n32 (rgN t (coms s j) j) ∧ ∀ y, y < rgN t (coms s j) j → C2 32 0 0 0 y = n32 (rgS t (coms s j) j (rgN t (coms s j) j) y)) → ((refS t (coms s j) j = true → nz_ib (C2 1 0 0 0 5) 4 = true ∧ ∀ l2 l3 l4 l5, nzW P (d + 9) az_k39 47 [some (sO 0), some (jO 0 j), l2, l3, l4, l5] [vr (3 + nz_ix (C2 1 0 0 0 5), 0, 0, 0)] (T, S, L0, Z, C2) (nz_RV Q)) ∧ (refS t (coms s j) j = false → Q (T, S, L0, Z, C2))) := by
        intro C2 hF2 hr2
        have e2 : C2 1 0 0 0 5 = n32 1 := by rw [hF2 1 0 0 0 5 (by unfold Wway; omega), e1, h4]
        refine ⟨fun hr => ⟨by rw [e2]; rfl, fun l2 l3 l4 l5 => ?_⟩, fun hr => fin0 hr C2 hF2⟩
        rw [e2]
        exact sg39_47_o0_k4 ⟨rfl, sm63k ⟨rfl, f52 hr C2 hF2 hr2 _ _ _⟩⟩
      refine sg39_29_o0_k4 ⟨rfl, c_ref1 hT hI hR (by omega) hj h11 ?_⟩
      rw [← rf]
      have := cont C1 (Fr.rfl' C1) (fun h => by omega)
      simp only [decide_eq_true_eq, decide_eq_false_iff_not, L32, az01, b2i_01, b2i_n0, b2i_n1, Bool.and_true, true_and, and_true, Classical.not_not, Bool.not_eq_true, Bool.not_eq_false]
      exact ⟨fun hc => ⟨(this.1 hc).1, (this.1 hc).2 _ _ _ _⟩, fun hc => this.2 hc⟩
    · have m0 : decide (t 13 8 = 2) = true := by rw [h4]; rfl
      have rf : refS t (coms s j) j = decide (farL t (coms s j) j 8 j < 100) := by unfold refS; rw [h4]; rfl
      rw [m0] at f52
      rw [h4]
      have cont : ∀ C2, Fr (Wway 0) C1 C2 → (t 13 8 = 2 → C2 1 0 0 0 9 = n32 (rgN t (coms s j) j) ∧ ∀ y, y < rgN t (coms s j) j → C2 32 0 0 0 y = n32 (rgS t (coms s j) j (rgN t (coms s j) j) y)) → ((refS t (coms s j) j = true → nz_ib (C2 1 0 0 0 5) 4 = true ∧ ∀ l2 l3 l4 l5, nzW P (d + 9) az_k39 47 [some (sO 0), some (jO 0 j), l2, l3, l4, l5] [vr (3 + nz_ix (C2 1 0 0 0 5), 0, 0, 0)] (T, S, L0, Z, C2) (nz_RV Q)) ∧ (refS t (coms s j) j = false → Q (T, S, L0, Z, C2))) := by
        intro C2 hF2 hr2
        have e2 : C2 1 0 0 0 5 = n32 2 := by rw [hF2 1 0 0 0 5 (by unfold Wway; omega), e1, h4]
        refine ⟨fun hr => ⟨by rw [e2]; rfl, fun l2 l3 l4 l5 => ?_⟩, fun hr => fin0 hr C2 hF2⟩
        rw [e2]
        exact sg39_47_o0_k5 ⟨rfl, sm70 ⟨rfl, f52 hr C2 hF2 hr2 _ _ _⟩⟩
      refine sg39_29_o0_k5 ⟨rfl, c_ref2 hT hI hR (by omega) hj (fun C2 hF2 h9 h32 => ?_)⟩
      rw [← rf]
      have := cont C2 hF2 (fun _ => ⟨h9, h32⟩)
      simp only [decide_eq_true_eq, decide_eq_false_iff_not, L32, az01, b2i_01, b2i_n0, b2i_n1, Bool.and_true, true_and, and_true, Classical.not_not, Bool.not_eq_true, Bool.not_eq_false]
      exact ⟨fun hc => ⟨(this.1 hc).1, (this.1 hc).2 _ _ _ _⟩, fun hc => this.2 hc⟩
    · have m0 : decide (t 13 8 = 2) = false := by rw [h4]; rfl
      have rf : refS t (coms s j) j = (plainS t (coms s j) j && !decide (nwo (askS t (coms s j) j) (t 62 j) = 0)) := by unfold refS; rw [h4]; rfl
      rw [m0] at f52
      rw [h4]
      have cont : ∀ C2, Fr (Wway 0) C1 C2 → (t 13 8 = 2 → C2 1 0 0 0 9 = n32 (rgN t (coms s j) j) ∧ ∀ y, y < rgN t (coms s j) j → C2 32 0 0 0 y = n32 (rgS t (coms s j) j (rgN t (coms s j) j) y)) → ((refS t (coms s j) j = true → nz_ib (C2 1 0 0 0 5) 4 = true ∧ ∀ l2 l3 l4 l5, nzW P (d + 9) az_k39 47 [some (sO 0), some (jO 0 j), l2, l3, l4, l5] [vr (3 + nz_ix (C2 1 0 0 0 5), 0, 0, 0)] (T, S, L0, Z, C2) (nz_RV Q)) ∧ (refS t (coms s j) j = false → Q (T, S, L0, Z, C2))) := by
        intro C2 hF2 hr2
        have e2 : C2 1 0 0 0 5 = n32 3 := by rw [hF2 1 0 0 0 5 (by unfold Wway; omega), e1, h4]
        refine ⟨fun hr => ⟨by rw [e2]; rfl, fun l2 l3 l4 l5 => ?_⟩, fun hr => fin0 hr C2 hF2⟩
        rw [e2]
        exact sg39_47_o0_k6 ⟨rfl, sm63k ⟨rfl, f52 hr C2 hF2 hr2 _ _ _⟩⟩
      refine sg39_29_o0_k6 ⟨rfl, c_ref3 hT hI hR (by omega) hj h11 ?_⟩
      rw [← rf]
      have := cont C1 (Fr.rfl' C1) (fun h => by omega)
      simp only [decide_eq_true_eq, decide_eq_false_iff_not, L32, az01, b2i_01, b2i_n0, b2i_n1, Bool.and_true, true_and, and_true, Classical.not_not, Bool.not_eq_true, Bool.not_eq_false]
      exact ⟨fun hc => ⟨(this.1 hc).1, (this.1 hc).2 _ _ _ _⟩, fun hc => this.2 hc⟩
  · subst h0
    have f52 : refS t (coms s j) j = true → ∀ C2, Fr (Wway 1) C1 C2 → (t 13 8 = 2 → C2 1 1 0 0 9 = n32 (rgN t (coms s j) j) ∧ ∀ y, y < rgN t (coms s j) j → C2 32 1 0 0 y = n32 (rgS t (coms s j) j (rgN t (coms s j) j) y)) → ∀ l2 l3 l5, nzW P (d + 9) az_k39 52 [some (sO 1), some (jO 1 j), l2, l3, some (vi (b2i (decide (t 13 8 = 2)))), l5] [] (T, S, L0, Z, C2) (nz_RV Q) := by
      intro hr C2 hF hrng l2 l3 l5
      have hC2 : FJ 1 j C C2 := hF1.trans (FJ.way hF)
      refine sg39_52_o1 ⟨fun _ => ?_, fun hc => (by cases hc)⟩
      simp only [uC_row]
      refine fin2 hr _ (FJ.up hC2 (by unfold WJ; omega)) (fun x hx => ?_) (fun m => ?_) (fun hc => by omega) _ _ _ _ _
      · rw [u5_x hx, hF 8 1 j 0 x (by unfold Wway; omega)]
      · rw [u5_k (by decide), hF 35 1 j 0 m (by unfold Wway; omega)]
    refine sm39_o1 ?_
    simp (disch := omega) only [decide_eq_true_eq, decide_eq_false_iff_not, L32, az01, b2i_01, b2i_n0, b2i_n1, Bool.and_true, true_and, and_true, Classical.not_not, Bool.not_eq_true, Bool.not_eq_false, n32_mul, n32_add, n32_ix, n32_ib, n32_lt, n32_le, n32_inj, l_hb, l_hb0, l_shl, l_wo, l_eqm1, l_m1eq, uC_row, hC1', e1]
    refine ⟨hm, ?_⟩
    rcases h4 with h4 | h4 | h4 | h4
    · have m0 : decide (t 13 8 = 2) = false := by rw [h4]; rfl
      have rf : refS t (coms s j) j = false := by unfold refS; rw [h4]; rfl
      rw [m0] at f52
      rw [h4]
      have cont : ∀ C2, Fr (Wway 1) C1 C2 → (t 13 8 = 2 → C2 1 1 0 0 9 = n32 (rgN t (coms s j) j) ∧ ∀ y, y < rgN t (coms s j) j → C2 32 1 0 0 y = n32 (rgS t (coms s j) j (rgN t (coms s j) j) y)) → ((refS t (coms s j) j = true → nz_ib (C2 1 1 0 0 5) 4 = true ∧ ∀ l2 l3 l4 l5, nzW P (d + 9) az_k39 47 [some (sO 1), some (jO 1 j), l2, l3, l4, l5] [vr (3 + nz_ix (C2 1 1 0 0 5), 1, 0, 0)] (T, S, L0, Z, C2) (nz_RV Q)) ∧ (refS t (coms s j) j = false → Q (T, S, L0, Z, C2))) := by
        intro C2 hF2 hr2
        have e2 : C2 1 1 0 0 5 = n32 0 := by rw [hF2 1 1 0 0 5 (by unfold Wway; omega), e1, h4]
        refine ⟨fun hr => ⟨by rw [e2]; rfl, fun l2 l3 l4 l5 => ?_⟩, fun hr => fin0 hr C2 hF2⟩
        rw [e2]
        exact sg39_47_o1_k3 ⟨rfl, sm63k ⟨rfl, f52 hr C2 hF2 hr2 _ _ _⟩⟩
      refine sg39_29_o1_k3 ⟨rfl, sm62k ⟨rfl, ?_⟩⟩
      have := cont C1 (Fr.rfl' C1) (fun h => by omega)
      exact ⟨fun hc => absurd hc (by decide), fun _ => this.2 rf⟩
    · have m0 : decide (t 13 8 = 2) = false := by rw [h4]; rfl
      have rf : refS t (coms s j) j = (plainS t (coms s j) j && anyB 10 (rankB t (coms s j) j)) := by unfold refS; rw [h4]; rfl
      rw [m0] at f52
      rw [h4]
      have cont : ∀ C2, Fr (Wway 1) C1 C2 → (t 13 8 = 2 → C2 1 1 0 0 9 = n32 (rgN t (coms s j) j) ∧ ∀ y, y < rgN t (coms s j) j → C2 32 1 0 0 y = n32 (rgS t (coms s j) j (rgN t (coms s j) j) y)) → ((refS t (coms s j) j = true → nz_ib (C2 1 1 0 0 5) 4 = true ∧ ∀ l2 l3 l4 l5, nzW P (d + 9) az_k39 47 [some (sO 1), some (jO 1 j), l2, l3, l4, l5] [vr (3 + nz_ix (C2 1 1 0 0 5), 1, 0, 0)] (T, S, L0, Z, C2) (nz_RV Q)) ∧ (refS t (coms s j) j = false → Q (T, S, L0, Z, C2))) := by
        intro C2 hF2 hr2
        have e2 : C2 1 1 0 0 5 = n32 1 := by rw [hF2 1 1 0 0 5 (by unfold Wway; omega), e1, h4]
        refine ⟨fun hr => ⟨by rw [e2]; rfl, fun l2 l3 l4 l5 => ?_⟩, fun hr => fin0 hr C2 hF2⟩
        rw [e2]
        exact sg39_47_o1_k4 ⟨rfl, sm63k ⟨rfl, f52 hr C2 hF2 hr2 _ _ _⟩⟩
      refine sg39_29_o1_k4 ⟨rfl, c_ref1 hT hI hR (by omega) hj h11 ?_⟩
      rw [← rf]
      have := cont C1 (Fr.rfl' C1) (fun h => by omega)
      simp only [decide_eq_true_eq, decide_eq_false_iff_not, L32, az01, b2i_01, b2i_n0, b2i_n1, Bool.and_true, true_and, and_true, Classical.not_not, Bool.not_eq_true, Bool.not_eq_false]
      exact ⟨fun hc => ⟨(this.1 hc).1, (this.1 hc).2 _ _ _ _⟩, fun hc => this.2 hc⟩
    · have m0 : decide (t 13 8 = 2) = true := by rw [h4]; rfl
      have rf : refS t (coms s j) j = decide (farL t (coms s j) j 8 j < 100) := by unfold refS; rw [h4]; rfl
      rw [m0] at f52
      rw [h4]
      have cont : ∀ C2, Fr (Wway 1) C1 C2 → (t 13 8 = 2 → C2 1 1 0 0 9 = n32 (rgN t (coms s j) j) ∧ ∀ y, y < rgN t (coms s j) j → C2 32 1 0 0 y = n32 (rgS t (coms s j) j (rgN t (coms s j) j) y)) → ((refS t (coms s j) j = true → nz_ib (C2 1 1 0 0 5) 4 = true ∧ ∀ l2 l3 l4 l5, nzW P (d + 9) az_k39 47 [some (sO 1), some (jO 1 j), l2, l3, l4, l5] [vr (3 + nz_ix (C2 1 1 0 0 5), 1, 0, 0)] (T, S, L0, Z, C2) (nz_RV Q)) ∧ (refS t (coms s j) j = false → Q (T, S, L0, Z, C2))) := by
        intro C2 hF2 hr2
        have e2 : C2 1 1 0 0 5 = n32 2 := by rw [hF2 1 1 0 0 5 (by unfold Wway; omega), e1, h4]
        refine ⟨fun hr => ⟨by rw [e2]; rfl, fun l2 l3 l4 l5 => ?_⟩, fun hr => fin0 hr C2 hF2⟩
        rw [e2]
        exact sg39_47_o1_k5 ⟨rfl, sm70 ⟨rfl, f52 hr C2 hF2 hr2 _ _ _⟩⟩
      refine sg39_29_o1_k5 ⟨rfl, c_ref2 hT hI hR (by omega) hj (fun C2 hF2 h9 h32 => ?_)⟩
      rw [← rf]
      have := cont C2 hF2 (fun _ => ⟨h9, h32⟩)
      simp only [decide_eq_true_eq, decide_eq_false_iff_not, L32, az01, b2i_01, b2i_n0, b2i_n1, Bool.and_true, true_and, and_true, Classical.not_not, Bool.not_eq_true, Bool.not_eq_false]
      exact ⟨fun hc => ⟨(this.1 hc).1, (this.1 hc).2 _ _ _ _⟩, fun hc => this.2 hc⟩
    · have m0 : decide (t 13 8 = 2) = false := by rw [h4]; rfl
      have rf : refS t (coms s j) j = (plainS t (coms s j) j && !decide (nwo (askS t (coms s j) j) (t 62 j) = 0)) := by unfold refS; rw [h4]; rfl
      rw [m0] at f52
      rw [h4]
      have cont : ∀ C2, Fr (Wway 1) C1 C2 → (t 13 8 = 2 → C2 1 1 0 0 9 = n32 (rgN t (coms s j) j) ∧ ∀ y, y < rgN t (coms s j) j → C2 32 1 0 0 y = n32 (rgS t (coms s j) j (rgN t (coms s j) j) y)) → ((refS t (coms s j) j = true → nz_ib (C2 1 1 0 0 5) 4 = true ∧ ∀ l2 l3 l4 l5, nzW P (d + 9) az_k39 47 [some (sO 1), some (jO 1 j), l2, l3, l4, l5] [vr (3 + nz_ix (C2 1 1 0 0 5), 1, 0, 0)] (T, S, L0, Z, C2) (nz_RV Q)) ∧ (refS t (coms s j) j = false → Q (T, S, L0, Z, C2))) := by
        intro C2 hF2 hr2
        have e2 : C2 1 1 0 0 5 = n32 3 := by rw [hF2 1 1 0 0 5 (by unfold Wway; omega), e1, h4]
        refine ⟨fun hr => ⟨by rw [e2]; rfl, fun l2 l3 l4 l5 => ?_⟩, fun hr => fin0 hr C2 hF2⟩
        rw [e2]
        exact sg39_47_o1_k6 ⟨rfl, sm63k ⟨rfl, f52 hr C2 hF2 hr2 _ _ _⟩⟩
      refine sg39_29_o1_k6 ⟨rfl, c_ref3 hT hI hR (by omega) hj h11 ?_⟩
      rw [← rf]
      have := cont C1 (Fr.rfl' C1) (fun h => by omega)
      simp only [decide_eq_true_eq, decide_eq_false_iff_not, L32, az01, b2i_01, b2i_n0, b2i_n1, Bool.and_true, true_and, and_true, Classical.not_not, Bool.not_eq_true, Bool.not_eq_false]
      exact ⟨fun hc => ⟨(this.1 hc).1, (this.1 hc).2 _ _ _ _⟩, fun hc => this.2 hc⟩
end
