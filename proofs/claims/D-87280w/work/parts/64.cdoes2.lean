/-! the system's does, joined -/
section
variable {P : Nat × (Nat → Int32)} {d o : Nat} {t s : St} {T S L0 L Z : nz_f2} {C : nz_f5} {j : Nat}
theorem low_pow {m : Nat} (hm : m < 10) : fst 10 0 (2 ^ m).testBit = some m := by
  rw [fst_some]
  exact ⟨Nat.zero_le _, by omega, by rw [pow_bit]; simp, fun y _ hy => by rw [pow_bit, decide_eq_false (by omega)]⟩
theorem c_end0 (hI : INV t s) (hR : RC o t s C) (hG : RG o s L C) (hd : 2 ≤ d) (hj : j < 8) (hm : s j 1 = 0) {Q : nz_h → Prop}
    (hq : ∀ C', Fr (Wsh o) C C' → RC o t (endsS s j) C' → RG o (endsS s j) L C' → Q (T, S, L0, Z, C')) : ctV P d 77 [jO o j, vi (n32 0)] (T, S, L0, Z, C) Q := by
  have h4 : s j 4 = 0 := (hI.J hj).2.2.1.2.2 (Or.inl hm)
  have hJ4 := (hI.J hj).2.2.2.1
  have h6 : s j 6 = 0 := by
    apply Classical.byContradiction
    intro hne
    have := hJ4.2.2.2 (by have := hJ4.2.2.1; omega)
    omega
  rw [show n32 0 = b2i false from rfl, c_endsR hd]
  have hF : FJ o j C (endC C o j (b2i false)) := endC_FJ (FJ.rfl' C)
  refine hq _ hF.sh ?_ ?_
  · unfold endsS
    refine hR.ended hj (FJ.rfl' C) (by omega) rfl rfl rfl (fun m hm => ?_)
    rw [if_neg (by omega), if_pos (by omega)]
  · intro h0
    subst h0
    obtain ⟨g1, g2⟩ := hG rfl
    have gj := g2.1 j hj
    refine ⟨g1, ?_⟩
    unfold endsS
    refine g2.job hj (fun k x hk => hF 8 0 k 0 x (by unfold WJ; omega)) (fun _ _ _ _ _ => rfl) ⟨?_, ?_, ?_, ?_, ?_, ?_⟩ ?_ (fun y hy => ?_) (fun y hy => ?_)
    · rw [endC_8]; simp (disch := decide) only [u5_x]; exact gj.1
    · rw [endC_8]; simp (disch := decide) only [u5_x]; exact gj.2.1
    · rw [endC_8]; simp (disch := decide) only [u5_x]; exact gj.2.2.1
    · rw [endC_8]; simp (disch := decide) only [u5_x]; exact gj.2.2.2.1
    · rw [endC_8]; simp (disch := decide) only [u5_x]; exact gj.2.2.2.2.1
    · rw [endC_8]; simp (disch := decide) only [u5_x, u5_eq]; rw [if_neg (by decide), if_neg (by omega), h6]; rfl
    · unfold endC; rw [if_neg (by omega)]; simp (disch := decide) only [u5_k]; exact g2.2.1
    · unfold endC; rw [if_neg (by omega), if_neg (by omega), if_neg (by omega), if_neg (by omega)]; simp (disch := decide) only [u5_k]; exact g2.2.2.1 y hy
    · unfold endC; rw [if_neg (by omega)]; simp (disch := decide) only [u5_k]; exact g2.2.2.2 y hy
theorem c_does (ho : o < 2) (hT : TV t) (hI : INV t s) (hR : RC o t s C) (hG : RG o s L C) (hL : LI1 s L) (hd : 14 ≤ d) (hj : j < 8) (hm : s j 1 = 0) {Q : nz_h → Prop}
    (hq : ∀ C', Fr (Wsh o) C C' → RC o t (doP t (s, L) j).1 C' → RG o (doP t (s, L) j).1 (doP t (s, L) j).2 C' → Q (T, S, L0, Z, C')) : ctV P d 36 [sO o, jO o j] (T, S, L0, Z, C) Q := by
  obtain ⟨d, rfl⟩ := dge hd
  have hB := hI.B
  have hJ := hR.2.1 j hj
  have h5 := (hI.J hj).1.2.2.2
  have h57 := hT.2.2.1 j
  have e2 := (hR.1.2.1 j hj).2.1
  by_cases hp : s j 0 < t 57 j
  · have e5 := hR.pc hI hj hm hp
    have h4 : s j 4 = 0 := (hI.J hj).2.2.1.2.2 (Or.inl hm)
    obtain ⟨e90, e91, e92⟩ := hR.1.2.2.1 j (s j 0) hj hp
    have hop : opS t s j < 10 := hT.2.2.2.1 _
    have e90' : C 9 o j (s j 0) 0 = n32 (opS t s j) := e90
    have hill : doP t (s, L) j = (goesS s j, incL L 68 j) → ctV P (d + 13) 38 [sO o, jO o j] (T, S, L0, Z, C) (fun h => Q h) := fun e => by
      rw [e] at hq
      exact c_illegal hT hI hR hG (by omega) hj hm hp (fun C' hF h1 h2 => hq C' hF.sh h1 h2)
    refine sm36 ?_
    by_cases h9 : opS t s j = 9
    · have em : C 9 o j (s j 0) 1 = n32 (onS t s j) := by rw [e91]; unfold mchS onS; rw [if_pos (show t 58 (20 * j + s j 0) = 9 from h9)]
      have hon : onS t s j < 1024 := hT.2.2.2.2.1 _
      rw [h9] at e90'
      have e : doP t (s, L) j = sevP t (s, L) j := by
        unfold doP; simp only [h9]; rw [if_neg (by omega), if_neg (by decide), if_neg (by decide), if_neg (by decide), if_neg (by decide), if_neg (by decide), if_neg (by decide), if_neg (by decide)]
      rw [e] at hq
      simp (disch := omega) only [e5, e2, decide_eq_true_eq, decide_eq_false_iff_not, L32, az01, b2i_01, b2i_n0, b2i_n1, Bool.and_true, true_and, and_true, Classical.not_not, Bool.not_eq_true, Bool.not_eq_false, n32_mul, n32_add, n32_ix, n32_ib, n32_lt, n32_le, n32_inj, l_hb, l_hb0, l_shl, l_wo, l_eqm1, l_m1eq, e90', em, hJ.2.1, c_has]
      refine ⟨fun _ => ⟨by omega, fun hc => absurd trivial hc, fun _ => ?_⟩, fun hc => absurd hp hc⟩
      refine ⟨rfl, fun h => absurd h (by decide), fun _ => ⟨fun h => absurd h (by decide), fun _ => ⟨fun h => absurd h (by decide), fun _ => ⟨fun h => absurd h (by decide), fun _ => ⟨fun h => absurd h (by decide), fun _ => ⟨fun h => absurd h (by decide), fun _ => ⟨fun h => absurd h (by decide), fun _ => ⟨fun h => absurd h (by decide), fun _ => ⟨fun h => absurd h (by decide), fun _ => ⟨fun _ => ?_, fun h => absurd trivial h⟩⟩⟩⟩⟩⟩⟩⟩⟩⟩
      exact c_several ho hT hI hR hG hL (by omega) hj hm hp h9 hq
    · have hon : onS t s j < 10 := hT.2.2.2.2.2.1 _ h9
      have em : C 9 o j (s j 0) 1 = n32 (2 ^ onS t s j) := by rw [e91]; unfold mchS onS; rw [if_neg (show ¬ t 58 (20 * j + s j 0) = 9 from h9)]
      have hpw : 2 ^ onS t s j < 1024 := by
        have : 2 ^ onS t s j ≤ 2 ^ 9 := Nat.pow_le_pow_right (by decide) (by omega)
        omega
      have e35 := hJ.2.2.1 (onS t s j) hon
      have ea : askS t s j = 2 ^ onS t s j := by unfold askS onlyS; rw [decide_eq_false h9]; simp
      simp (disch := omega) only [e5, e2, decide_eq_true_eq, decide_eq_false_iff_not, L32, az01, b2i_01, b2i_n0, b2i_n1, Bool.and_true, true_and, and_true, Classical.not_not, Bool.not_eq_true, Bool.not_eq_false, n32_mul, n32_add, n32_ix, n32_ib, n32_lt, n32_le, n32_inj, l_hb, l_hb0, l_shl, l_wo, l_eqm1, l_m1eq, e90', em, hJ.2.1, c_has, c_lowest hpw (low_pow hon), c_uses (h := (T, S, L0, Z, C)) hB hR, l_shl2, uC_row, c_on]
      refine ⟨fun _ => ⟨by omega, fun _ => ?_, fun h => absurd h h9⟩, fun hc => absurd hp hc⟩
      refine ⟨rfl, fun h => ?_, fun n0 => ⟨fun h => ?_, fun n1 => ⟨fun h => ?_, fun n2 => ⟨fun h => ?_, fun n3 => ⟨fun h => ?_, fun n4 => ⟨fun h => ?_, fun n5 => ⟨fun h => ?_, fun n6 => ⟨fun h => ?_, fun n7 => ⟨fun h => ?_, fun n8 => ⟨fun h => by omega, fun n9 => by omega⟩⟩⟩⟩⟩⟩⟩⟩⟩⟩
      · exact c_lock ho hT hI hR hG hL (by omega) hj hm hp (Or.inl h) rfl hon hq
      · refine ⟨fun hu => ?_, fun hu => hill ?_⟩
        · rw [h]; exact c_47 ho hT hI hR hG hL (by omega) hj hm hp h (by decide) rfl hon hu hq
        · unfold doP; simp only [h]; rw [if_neg (by omega), if_neg (by decide), if_pos trivial, if_pos (by omega)]
      · refine ⟨fun hb => hill ?_, fun hb => ⟨fun hu => ?_, fun hu => hill ?_⟩⟩
        · unfold doP; simp only [h]; rw [if_neg (by omega), if_neg (by decide), if_neg (by decide), if_pos trivial, if_pos (by unfold hasS; rw [hb, Bool.or_true])]
        · have hh : hasS s j (onS t s j) = false := by unfold hasS; rw [hb, decide_eq_false hu]; rfl
          have e : doP t (s, L) j = comesP t (s, L) j := by
            unfold doP; simp only [h]; rw [if_neg (by omega), if_neg (by decide), if_neg (by decide), if_pos trivial, if_neg (by rw [hh]; decide)]
          rw [e] at hq
          exact c_ask0 (b := true) ho hT hI hR hG hL (by omega) hj hm hp (ask_one (by omega) hh) ea (by unfold atlS; rw [h4, h]; rfl) (fun C' hF h1 h2 => hq C' hF.sh h1 h2)
        · unfold doP; simp only [h]; rw [if_neg (by omega), if_neg (by decide), if_neg (by decide), if_pos trivial, if_pos (by unfold hasS; rw [decide_eq_true hu]; rfl)]
      · refine ⟨fun hb => ?_, fun hb => hill ?_⟩
        · have e : doP t (s, L) j = (goesS (up s j 5 (nwo (s j 5) (2 ^ onS t s j))) j, L) := by
            unfold doP; simp only [h]; rw [if_neg (by omega), if_neg (by decide), if_neg (by decide), if_neg (by decide), if_pos trivial, if_pos hb]
          rw [e] at hq
          have hF : FJ o j C (nz_u5 C 8 o j 0 7 (n32 (nwo (s j 5) (2 ^ onS t s j)))) := FJ.up (FJ.rfl' C) (by unfold WJ; omega)
          refine hq _ (onC_FJ hF).sh (hR.goX hT hI hj hm hp (fun a f ha => up_a ha) (up_f (by omega)) (up_f (by omega)) (up_f (by omega)) hF ?_ (fun n hn => ?_) (u5_x (by decide)) (u5_x (by decide))) (hG.goX (fun a f ha => up_a ha) (up_f (by omega)) hF (fun x hx => u5_x (by omega)) (fun kd x hk => u5_k (by omega)))
          · rw [u5_eq, up_e]
          · rw [u5_k (by decide), up_f (by omega)]; exact hJ.2.2.1 n hn
        · unfold doP; simp only [h]; rw [if_neg (by omega), if_neg (by decide), if_neg (by decide), if_neg (by decide), if_pos trivial, if_neg (by rw [hb]; decide)]
      · refine ⟨fun hb => ?_, fun hb => hill ?_⟩
        · have e : doP t (s, L) j = comesP t (s, L) j := by
            unfold doP; simp only [h]; rw [if_neg (by omega), if_neg (by decide), if_neg (by decide), if_neg (by decide), if_neg (by decide), if_pos trivial, if_pos hb]
          rw [e] at hq
          exact c_ask0 (b := false) ho hT hI hR hG hL (by omega) hj hm hp (ask_raise h hb) ea (by unfold atlS; rw [h]; simp) (fun C' hF h1 h2 => hq C' hF.sh h1 h2)
        · unfold doP; simp only [h]; rw [if_neg (by omega), if_neg (by decide), if_neg (by decide), if_neg (by decide), if_neg (by decide), if_pos trivial, if_neg (by rw [hb]; decide)]
      · refine ⟨fun hu => ?_, fun hu => hill ?_⟩
        · rw [h]; exact c_47 ho hT hI hR hG hL (by omega) hj hm hp h (by decide) rfl hon hu hq
        · unfold doP; simp only [h]; rw [if_neg (by omega), if_neg (by decide), if_neg (by decide), if_neg (by decide), if_neg (by decide), if_neg (by decide), if_pos trivial, if_pos (by omega)]
      · refine ⟨fun hu => ?_, fun hu => hill ?_⟩
        · rw [h]; exact c_47 ho hT hI hR hG hL (by omega) hj hm hp h (by decide) rfl hon hu hq
        · unfold doP; simp only [h]; rw [if_neg (by omega), if_neg (by decide), if_neg (by decide), if_neg (by decide), if_neg (by decide), if_neg (by decide), if_neg (by decide), if_pos (by decide), if_pos (by omega)]
      · refine ⟨fun hu => ?_, fun hu => hill ?_⟩
        · rw [h]; exact c_47 ho hT hI hR hG hL (by omega) hj hm hp h (by decide) rfl hon hu hq
        · unfold doP; simp only [h]; rw [if_neg (by omega), if_neg (by decide), if_neg (by decide), if_neg (by decide), if_neg (by decide), if_neg (by decide), if_neg (by decide), if_pos (by decide), if_pos (by omega)]
      · exact c_lock ho hT hI hR hG hL (by omega) hj hm hp (Or.inr h) rfl hon hq
  · have e : doP t (s, L) j = (endsS s j, L) := by unfold doP; rw [if_pos (show t 57 j ≤ s j 0 by omega)]
    rw [e] at hq
    obtain ⟨q, q1, q2, q3, q4⟩ := hJ.2.2.2.2.2.2.2 hm
    have := q4 (by omega)
    refine sm36 ?_
    simp (disch := omega) only [q2, e2, decide_eq_true_eq, decide_eq_false_iff_not, L32, az01, b2i_01, b2i_n0, b2i_n1, Bool.and_true, true_and, and_true, Classical.not_not, Bool.not_eq_true, Bool.not_eq_false, n32_mul, n32_add, n32_ix, n32_ib, n32_lt, n32_le, n32_inj, l_hb, l_hb0, l_shl, l_wo, l_eqm1, l_m1eq]
    refine ⟨fun hc => absurd hc (by omega), fun _ => ?_⟩
    exact c_end0 hI hR hG (by omega) hj hm hq
end
