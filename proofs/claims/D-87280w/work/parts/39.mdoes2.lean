/-! telling, several, does -/
def cslp (s : St) : Nat := sumN 8 (fun j => if s j 1 = 2 then 1 else 0)
theorem comesS_ex (t s : St) (j : Nat) : ∃ r : Nat → Nat, comesS t s j = upj s j r ∧ r 1 ≠ 2 := by
  unfold comesS
  cases refS t (coms s j) j with
  | false => exact ⟨_, coms_upj, by simp⟩
  | true =>
    cases grdS t s j with
    | false => exact ⟨_, rfl, by simp⟩
    | true => exact ⟨_, rfl, by simp⟩
theorem cslp_comes {t s : St} {j : Nat} (hj : j < 8) (h : s j 1 = 2) : cslp (comesS t s j) + 1 = cslp s := by
  obtain ⟨r, hr, hr1⟩ := comesS_ex t s j
  rw [hr]
  have := sumN_upd (f := fun k => if upj s j r k 1 = 2 then 1 else 0) (g := fun k => if s k 1 = 2 then 1 else 0) (j := j) 8 hj (fun k _ hne => by simp only [upj_ne hne])
  simp only [upj_self] at this
  rw [if_pos h, if_neg hr1] at this
  unfold cslp
  omega
theorem pow_bit {n m : Nat} : (2 ^ n).testBit m = decide (n = m) := Nat.testBit_two_pow
theorem low_told {t s : St} {j : Nat} (h4 : 0 < s j 4) (hon : onS t s j < 10) : ∃ x, fst 10 0 (askS t s j).testBit = some x := by
  refine fst_ex hon ?_
  unfold askS onlyS
  rw [decide_eq_true h4]
  simp only [Bool.true_or, cond_true]
  rw [pow_bit]; simp
theorem low_ask {t s : St} {j : Nat} (hT : TV t) (hz : s j 4 = 0) (h : askOK t j (s j)) : ∃ x, fst 10 0 (askS t s j).testBit = some x := by
  have hn' : opS t s j ≠ 9 → onS t s j < 10 := hT.2.2.2.2.2.1 _
  by_cases h9 : opS t s j = 9
  · rcases h with ⟨h1, -⟩ | ⟨h1, -⟩ | ⟨-, h2, m, hm, h3, h4⟩
    · exfalso; unfold opS at h9; unfold opR at h1; omega
    · exfalso; unfold opS at h9; unfold opR at h1; omega
    · refine fst_ex hm ?_
      unfold askS onlyS
      rw [decide_eq_false (by omega : ¬ 0 < s j 4), h9]
      simp only [decide_true, Bool.not_true, Bool.or_false, cond_false]
      rw [bits_bit, decide_eq_true hm, h4]
      show (true && ((onR t j (s j)).testBit m && _)) = true
      rw [h3]; rfl
  · refine fst_ex (hn' h9) ?_
    unfold askS onlyS
    rw [decide_eq_false h9]
    simp only [Bool.not_false, Bool.or_true, cond_true]
    rw [pow_bit]; simp
def sevP (t : St) (p : Pr) (j : Nat) : Pr :=
  cond (anyB 10 (fun m => (onS t p.1 j).testBit m && (p.1 j 5).testBit m)) (goesS p.1 j, incL p.2 68 j)
    (cond (anyB 10 (fun m => (onS t p.1 j).testBit m && decide (p.1 j (8 + m) = 0))) (comesP t p j) (goesS (moreS p.1 j (onS t p.1 j)) j, p.2))
def doP (t : St) (p : Pr) (j : Nat) : Pr :=
  if t 57 j ≤ p.1 j 0 then (endsS p.1 j, p.2)
  else if opS t p.1 j = 0 ∨ opS t p.1 j = 8 then
    (if 0 < p.1 j (8 + onS t p.1 j) then (goesS (up p.1 j (8 + onS t p.1 j) (p.1 j (8 + onS t p.1 j) + 1)) j, p.2) else if (p.1 j 5).testBit (onS t p.1 j) = true then (goesS p.1 j, incL p.2 68 j) else comesP t p j)
  else if opS t p.1 j = 1 then
    (if p.1 j (8 + onS t p.1 j) = 0 then (goesS p.1 j, incL p.2 68 j) else (goesS (up p.1 j (8 + onS t p.1 j) (p.1 j (8 + onS t p.1 j) - 1)) j, p.2))
  else if opS t p.1 j = 2 then (if hasS p.1 j (onS t p.1 j) = true then (goesS p.1 j, incL p.2 68 j) else comesP t p j)
  else if opS t p.1 j = 3 then
    (if (p.1 j 5).testBit (onS t p.1 j) = true then (goesS (up p.1 j 5 (nwo (p.1 j 5) (2 ^ onS t p.1 j))) j, p.2) else (goesS p.1 j, incL p.2 68 j))
  else if opS t p.1 j = 4 then (if (p.1 j 5).testBit (onS t p.1 j) = true then comesP t p j else (goesS p.1 j, incL p.2 68 j))
  else if opS t p.1 j = 5 then (if p.1 j (8 + onS t p.1 j) = 0 then (goesS p.1 j, incL p.2 68 j) else (sleepS p.1 j (onS t p.1 j), p.2))
  else if opS t p.1 j = 6 ∨ opS t p.1 j = 7 then
    (if p.1 j (8 + onS t p.1 j) = 0 then (goesS p.1 j, incL p.2 68 j) else (goesS (tellP t (onS t p.1 j) (decide (opS t p.1 j = 7)) 9 p).1 j, (tellP t (onS t p.1 j) (decide (opS t p.1 j = 7)) 9 p).2))
  else sevP t p j
section
variable {P : Nat × (Nat → Int32)} {d : Nat} {t s : St} {L Z : nz_f2} {C : nz_f5}
theorem tellP_none {m : Nat} {all : Bool} {p : Pr} {n : Nat} (h : slpF t p.1 m 8 = none) : tellP t m all n p = p := by
  cases n with
  | zero => rfl
  | succ n => rw [tellP, h]
theorem incL_LI {k : Nat} (h : LI1 s L) : LI1 s (incL L 70 k) := by
  rcases h with h | ⟨i, h2, h3⟩
  · exact Or.inl ((incL_13 (by decide)).trans h)
  · exact Or.inr ⟨i, (incL_13 (by decide)).trans h2, h3⟩
theorem m_tells {m : Nat} {all : Bool} (hT : TV t) (hI : INV t s) (hL : LI1 s L) (hd : 14 ≤ d) (hm : m < 10) {Q : nz_h → Prop} (hq : ∀ Z', Q (rowf t, rowf (tellP t m all 9 (s, L)).1, (tellP t m all 9 (s, L)).2, Z', C)) : ctV P d 142 [mO, vi (n32 m), vi (b2i all)] (rowf t, rowf s, L, Z, C) Q := by
  obtain ⟨d, rfl⟩ := dge hd
  refine sm142 ?_
  have loop : ∀ n s L Z, INV t s → LI1 s L → cslp s ≤ n → (∀ Z', Q (rowf t, rowf (tellP t m all (n + 1) (s, L)).1, (tellP t m all (n + 1) (s, L)).2, Z', C)) → nzW P (d + 13) az_k142 6 [some mO, some (vi (n32 m)), some (vi (b2i all)), some (vi (o2i (slpF t s m 8)))] [] (rowf t, rowf s, L, Z, C) (nz_RV Q) := by
    intro n
    induction n with
    | zero =>
      intro s L Z hI hL hc hq
      have hno : slpF t s m 8 = none := by
        cases hs : slpF t s m 8 with
        | none => rfl
        | some x =>
          obtain ⟨h1, h2, h3⟩ := slpF_some hs
          have := sumN_ge (f := fun j => if s j 1 = 2 then 1 else 0) h1
          simp only [if_pos h2] at this
          unfold cslp at hc
          omega
      rw [tellP_none hno] at hq
      rw [hno]
      refine sg142_6 ?_
      simp (disch := first | omega | (refine Nat.lt_of_lt_of_le (hB _ _) ?_; omega)) only [decide_eq_true_eq, decide_eq_false_iff_not, L32, az01, b2i_01, b2i_n0, b2i_n1, Bool.and_true, true_and, and_true, Classical.not_not, Bool.not_eq_true, Bool.not_eq_false, n32_mul, n32_add, n32_ix, n32_ib, n32_lt, n32_le, n32_inj, l_hb, l_hb0, l_shl, l_wo, l_eqm1, l_m1eq, o2i]
      exact ⟨fun _ => hq _, fun hc => (hc trivial).elim⟩
    | succ n ih =>
      intro s L Z hI hL hc hq
      cases hs : slpF t s m 8 with
      | none =>
        rw [tellP_none hs] at hq
        refine sg142_6 ?_
        simp (disch := first | omega | (refine Nat.lt_of_lt_of_le (hB _ _) ?_; omega)) only [decide_eq_true_eq, decide_eq_false_iff_not, L32, az01, b2i_01, b2i_n0, b2i_n1, Bool.and_true, true_and, and_true, Classical.not_not, Bool.not_eq_true, Bool.not_eq_false, n32_mul, n32_add, n32_ix, n32_ib, n32_lt, n32_le, n32_inj, l_hb, l_hb0, l_shl, l_wo, l_eqm1, l_m1eq, o2i]
        exact ⟨fun _ => hq _, fun hc => (hc trivial).elim⟩
      | some k =>
        obtain ⟨hk, hk2, hk3⟩ := slpF_some hs
        rw [tellP, hs] at hq
        simp only at hq
        have hA := hI.av hT hk (Or.inr hk2)
        have h4 := ((hI.J hk).2.2.1.2.1 (Or.inl hk2)).2.1
        have hon := hA.on hT h4
        have hlow := low_told (t := t) h4 hon
        have hJ4 := (hI.J hk).2.2.2.1
        have h26 : s k 2 + s k 6 ≤ 1 := by
          have := hJ4.2.2.2
          have := hJ4.2.1
          have := hJ4.2.2.1
          have : s k 6 = 0 := by
            rcases (by omega : s k 6 = 0 ∨ s k 6 = 1) with hh | hh
            · exact hh
            · have := hJ4.2.2.2 hh; omega
          omega
        have hI' := INV_comes hT hI hk (Or.inr hk2)
        have hL' : LI1 (comesS t s k) (comesL t s (incL L 70 k) k) := LI1.comes hI (incL_LI hL) hk (Or.inr hk2)
        have hcn := cslp_comes (t := t) hk hk2
        have cont : ctV P (d + 13) 129 [mO, vi (n32 k)] (rowf t, rowf s, incL L 70 k, Z, C) (fun h1 => ((decide (b2i all = 0) = true → nzW P (d + 13) az_k142 6 [some mO, some (vi (n32 m)), some (vi (b2i all)), some (vi (-1))] [] h1 (nz_RV Q)) ∧ (decide (b2i all = 0) = false → ctI P (d + 13) 143 [mO, vi (n32 m)] h1 (fun y1 h2 => nzW P (d + 13) az_k142 6 [some mO, some (vi (n32 m)), some (vi (b2i all)), some (vi y1)] [] h2 (nz_RV Q))))) := by
          rw [m_comes hI.B hT (by omega) hk (fun x hx h1 => hI.av hT hx (Or.inl h1)) hA ((incL_LI (k := k) hL).get hk h26) hlow]
          simp (disch := first | omega | (refine Nat.lt_of_lt_of_le (hB _ _) ?_; omega)) only [decide_eq_true_eq, decide_eq_false_iff_not, L32, az01, b2i_01, b2i_n0, b2i_n1, Bool.and_true, true_and, and_true, Classical.not_not, Bool.not_eq_true, Bool.not_eq_false, n32_mul, n32_add, n32_ix, n32_ib, n32_lt, n32_le, n32_inj, l_hb, l_hb0, l_shl, l_wo, l_eqm1, l_m1eq, m_sleeper hT hI']
          refine ⟨fun ha => ?_, fun ha => ?_⟩
          · have hq2 : ∀ Z', Q (rowf t, rowf (comesS t s k), comesL t s (incL L 70 k) k, Z', C) := fun Z' => by
              have := hq Z'; rw [ha] at this; exact this
            refine sg142_6 ?_
            simp (disch := first | omega | (refine Nat.lt_of_lt_of_le (hB _ _) ?_; omega)) only [decide_eq_true_eq, decide_eq_false_iff_not, L32, az01, b2i_01, b2i_n0, b2i_n1, Bool.and_true, true_and, and_true, Classical.not_not, Bool.not_eq_true, Bool.not_eq_false, n32_mul, n32_add, n32_ix, n32_ib, n32_lt, n32_le, n32_inj, l_hb, l_hb0, l_shl, l_wo, l_eqm1, l_m1eq]
            exact ⟨fun _ => hq2 _, fun hc => (hc trivial).elim⟩
          · have hq2 : ∀ Z', Q (rowf t, rowf (tellP t m all (n + 1) (comesS t s k, comesL t s (incL L 70 k) k)).1, (tellP t m all (n + 1) (comesS t s k, comesL t s (incL L 70 k) k)).2, Z', C) := fun Z' => by
              have := hq Z'; rw [ha] at this; rw [ha]; exact this
            exact ih _ _ _ hI' hL' (by omega) hq2
        refine sg142_6 ?_
        simp only [decide_eq_true_eq, decide_eq_false_iff_not, o2i]
        refine ⟨fun hh => ?_, fun _ => ⟨fun h0 => ?_, fun h0 => ⟨?_, ?_, ?_⟩⟩⟩
        · exact ((l_eqm1 (a := k) (by omega)).mp (of_decide_eq_true hh)).elim
        · have e : incL L 70 k = L := by unfold incL; rw [decide_eq_true (show L 13 13 = n32 0 from h0)]; rfl
          rw [e] at cont
          simp only [decide_eq_true_eq, decide_eq_false_iff_not] at cont
          exact cont
        · rw [n32_ib (by omega)]; exact decide_eq_true hk
        · rw [n32_ib (by omega), decide_eq_true hk]; rfl
        · have e : incL L 70 k = nz_u2 L 70 k (L 70 k + n32 1) := by unfold incL; rw [decide_eq_false (show ¬ L 13 13 = n32 0 from h0)]; rfl
          rw [e] at cont
          rw [n32_ix (by omega)]
          simp only [decide_eq_true_eq, decide_eq_false_iff_not] at cont
          exact cont
  rw [m_sleeper hT hI (by omega) hm]
  refine loop 8 s L Z hI hL ?_ hq
  have : ∀ n, sumN n (fun j => if s j 1 = 2 then 1 else 0) ≤ n := by
    intro n
    induction n with
    | zero => exact Nat.le_refl _
    | succ n ih => rw [sumN]; split <;> omega
  exact this 8
end
