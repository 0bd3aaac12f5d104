/-! the system's may -/
theorem u5_same {f : nz_f5} {a b c d e : Nat} {v : Int32} (h : f a b c d e = v) : nz_u5 f a b c d e v = f := by
  funext a' b' c' d' e'
  unfold nz_u5
  by_cases hc : a' = a ∧ b' = b ∧ c' = c ∧ d' = d ∧ e' = e
  · rw [if_pos hc, hc.1, hc.2.1, hc.2.2.1, hc.2.2.2.1, hc.2.2.2.2, h]
  · rw [if_neg hc]
theorem frB_congr {t s s' : St} (h : ∀ k, k < 8 → hadS s k = hadS s' k) : ∀ rem j, frB t s rem j = frB t s' rem j := by
  intro rem j
  unfold frB
  congr 2
  exact anyB_congr (fun k hk => by rw [h k hk])
theorem sf_congr {t s s' : St} (h : ∀ k, k < 8 → hadS s k = hadS s' k) : ∀ n rem, sfL t s n rem = sfL t s' n rem ∧ sfR t s n rem = sfR t s' n rem := by
  have e : ∀ rem, frB t s rem = frB t s' rem := fun rem => funext (frB_congr h rem)
  intro n
  induction n with
  | zero => intro rem; exact ⟨rfl, rfl⟩
  | succ n ih =>
    intro rem
    rw [sfL, sfR, sfL, sfR, e rem]
    cases fst 8 0 (frB t s' rem) with
    | none => exact ⟨rfl, rfl⟩
    | some x => exact ⟨by simp only; rw [(ih _).1], (ih _).2⟩
/-- the row with the ask in hand -/
def witS (t s : St) (j : Nat) : St := upj s j (fun f => cond (atlS t s j) (if f = 5 then s j 5 ||| askS t s j else s j f) (if 8 ≤ f ∧ f < 18 ∧ (askS t s j).testBit (f - 8) = true then s j f + 1 else s j f))
theorem wit_had {t s : St} {j : Nat} (hT : TV t) (hI : INV t s) (hj : j < 8) (h1 : s j 1 = 1) : ∀ k, k < 8 → hadS (witS t s j) k = hadS (getsS t s j) k := by
  intro k hk
  have hA := hI.av hT hj (Or.inl h1)
  have hn' : opS t s j ≠ 9 → onS t s j < 10 := hT.2.2.2.2.2.1 _
  unfold hadS
  apply bits_congr
  intro m hm
  by_cases hkj : k = j
  · subst hkj
    have eg : ∀ f, f ≠ 0 → f ≠ 1 → f ≠ 3 → f ≠ 4 → getsS t s k k f = getF t s k f := fun f a b c d => by
      unfold getsS; rw [upj_self]; rw [if_neg (by omega), if_neg a]
    unfold hasS
    rw [eg (8 + m) (by omega) (by omega) (by omega) (by omega), eg 5 (by decide) (by decide) (by decide) (by decide)]
    unfold witS
    rw [upj_self]
    unfold getF
    cases ha : atlS t s k with
    | true =>
      simp only [cond_true]
    | false =>
      simp only [cond_false]
      rw [if_neg (show ¬ (8 ≤ 5 ∧ 5 < 18 ∧ (askS t s k).testBit (5 - 8) = true) by omega), show 8 + m - 8 = m by omega]
      have hif : ∀ (b : Bool) (x : Nat), (if 8 ≤ 8 + m ∧ 8 + m < 18 ∧ b = true then x + 1 else x) = if b = true then x + 1 else x := fun b x => by
        by_cases hb : b = true
        · rw [if_pos ⟨by omega, by omega, hb⟩, if_pos hb]
        · rw [if_neg (fun hh => hb hh.2.2), if_neg hb]
      rw [hif]
      by_cases h4 : 0 < s k 4
      · have hsk : askS t s k = 2 ^ onS t s k := by unfold askS onlyS; rw [decide_eq_true h4]; rfl
        rw [decide_eq_true h4]
        simp only [cond_true]
        have hon := hA.on hT h4
        rw [if_neg (show ¬ 5 = 8 + onS t s k by omega), hsk, pow_bit]
        by_cases e : onS t s k = m
        · rw [decide_eq_true e, if_pos rfl, if_pos (show 8 + m = 8 + onS t s k by omega)]; simp [h4]
        · rw [decide_eq_false e, if_neg (show ¬ false = true by decide), if_neg (show ¬ 8 + m = 8 + onS t s k by omega)]
      · rw [decide_eq_false h4]
        simp only [cond_false]
        by_cases h9 : opS t s k = 9
        · have hbit : (askS t s k).testBit m = ((onS t s k).testBit m && decide (s k (8 + m) = 0)) := by
            unfold askS onlyS
            rw [decide_eq_false h4, h9]
            simp only [decide_true, Bool.not_true, Bool.or_false, cond_false]
            rw [bits_bit, decide_eq_true hm, Bool.true_and]
          rw [decide_eq_true h9]
          simp only [cond_true]
          rw [if_neg (show ¬ (8 ≤ 5 ∧ 5 < 18 ∧ (onS t s k).testBit (5 - 8) = true) by omega), hif, hbit]
          cases hb : (onS t s k).testBit m with
          | false => simp
          | true =>
            by_cases hz : s k (8 + m) = 0
            · simp [hz]
            · have : 0 < s k (8 + m) := by omega
              simp [hz, this]
        · have hsk : askS t s k = 2 ^ onS t s k := by unfold askS onlyS; rw [decide_eq_false h9]; simp
          have hon := hn' h9
          rw [decide_eq_false h9]
          simp only [cond_false, if_true]
          rw [if_neg (show ¬ 8 + m = 5 by omega), hsk, pow_bit, nwo_pow (by omega) (by omega)]
          by_cases e : onS t s k = m
          · rw [decide_eq_true e, if_pos rfl, if_pos (show 8 + m = 8 + onS t s k by omega)]; simp [show ¬ 8 + m = 5 by omega]
          · rw [decide_eq_false e, if_neg (show ¬ false = true by decide), if_neg (show ¬ 8 + m = 8 + onS t s k by omega)]; simp [show ¬ 8 + m = 5 by omega]
  · unfold hasS witS getsS
    rw [upj_ne hkj, upj_ne hkj]
theorem wit_safe {t s : St} {j : Nat} (hT : TV t) (hI : INV t s) (hj : j < 8) (h1 : s j 1 = 1) : safeS t (witS t s j) = safeS t (getsS t s j) := by
  have hl : leftS (witS t s j) = leftS (getsS t s j) := by
    unfold leftS
    apply bits_congr
    intro k hk
    by_cases hkj : k = j
    · subst hkj
      have e1 : witS t s k k 1 = 1 := by
        unfold witS; rw [upj_self]
        cases atlS t s k with
        | true => simp [h1]
        | false => simp [h1]
      have e2 : getsS t s k k 1 = 0 := by unfold getsS; rw [upj_self]; rfl
      rw [e1, e2]; rfl
    · unfold witS getsS; rw [upj_ne hkj, upj_ne hkj]
  unfold safeS
  rw [hl, (sf_congr (wit_had hT hI hj h1) 8 _).2]
section
variable {P : Nat × (Nat → Int32)} {d o : Nat} {t s : St} {T S L Z : nz_f2} {C : nz_f5} {j : Nat}
theorem c_isSafeWith (hT : TV t) (hI : INV t s) (hR : RC o t s C) (hd : 7 ≤ d) (hj : j < 8) (h1 : s j 1 = 1) {Q : Int32 → nz_h → Prop} (hq : ∀ C', Fr (Wsafe o) C C' → Q (b2i (safeS t (getsS t s j))) (T, S, L, Z, C')) : ctI P d 52 [sO o, jO o j] (T, S, L, Z, C) Q := by
  obtain ⟨d, rfl⟩ := dge hd
  refine sm52 ?_
  have hB := hI.B
  obtain ⟨e6, e7, e35, e12, e5, e11, e10, e0⟩ := hR.2.1 j hj
  obtain ⟨w11, w8, w9⟩ := e11 h1
  have hA := hI.av hT hj (Or.inl h1)
  have hask := askS_lt (hA.askO hT)
  have h5 := (hI.J hj).1.2.2.2
  have hBw : ∀ a f, witS t s j a f < 1000000 := by
    intro a f
    unfold witS upj
    split
    · cases atlS t s j with
      | true =>
        simp only [cond_true]
        split
        · have := Nat.or_lt_two_pow (n := 10) h5 hask; omega
        · exact hB j f
      | false =>
        simp only [cond_false]
        split
        · rename_i hc
          have := hI.tb hj (m := f - 8) (by omega)
          rw [show 8 + (f - 8) = f by omega] at this
          omega
        · exact hB j f
    · exact hB a f
  have hs := wit_safe hT hI hj h1
  have hvk : ∀ C1 : nz_f5, (∀ k x, k ≠ j → C1 8 o k 0 x = C 8 o k 0 x) → (∀ k m, k ≠ j → C1 35 o k 0 m = C 35 o k 0 m) → C1 8 o j 0 0 = n32 j → C1 8 o j 0 6 = n32 (witS t s j j 1) → C1 8 o j 0 7 = n32 (witS t s j j 5) → (∀ m, m < 10 → C1 35 o j 0 m = n32 (witS t s j j (8 + m))) → C1 8 o j 0 4 = n32 (t 62 j) → witS t s j j 5 < 1024 → HV o t (witS t s j) C1 := by
    intro C1 a1 a2 b1 b2 b3 b4 b5 b6 k hk
    by_cases hkj : k = j
    · subst hkj; exact ⟨b1, b2, b3, b4, b5, b6⟩
    · have hw : witS t s j k = s k := upj_ne hkj
      rw [hw]
      obtain ⟨c1, c2, c3, c4, c5, c6⟩ := hR.hv hI k hk
      exact ⟨(a1 k 0 hkj).trans c1, (a1 k 6 hkj).trans c2, (a1 k 7 hkj).trans c3, fun m hm => (a2 k m hkj).trans (c4 m hm), (a1 k 4 hkj).trans c5, c6⟩
  have en := (hR.1.2.1 j hj).1
  have e4 := (hR.1.2.1 j hj).2.2.2
  cases ha : atlS t s j with
  | true =>
    rw [ha] at w11
    have wf : witS t s j j = (fun f => if f = 5 then s j 5 ||| askS t s j else s j f) := by unfold witS; rw [upj_self, ha]; rfl
    simp (disch := first | omega | (refine Nat.lt_of_lt_of_le (hB _ _) ?_; omega)) only [decide_eq_true_eq, decide_eq_false_iff_not, L32, az01, b2i_01, b2i_n0, b2i_n1, Bool.and_true, true_and, and_true, Classical.not_not, Bool.not_eq_true, Bool.not_eq_false, n32_mul, n32_add, n32_ix, n32_ib, n32_lt, n32_le, n32_inj, l_hb, l_hb0, l_shl, l_wo, l_eqm1, l_m1eq, w11, uC_row, e7, w8, n32_or]
    refine ⟨fun hc => (by cases hc), fun _ => ?_⟩
    have hV1 : HV o t (witS t s j) (nz_u5 C 8 o j 0 7 (n32 (s j 5 ||| askS t s j))) := by
      refine hvk _ (fun k x hk => ?_) (fun k m hk => u5_ne (Or.inl (by decide))) ((u5_ne (Or.inr (by decide))).trans en) ?_ ?_ (fun m hm => ?_) ((u5_ne (Or.inr (by decide))).trans e4) ?_
      · unfold nz_u5; rw [if_neg (fun hh => hk hh.2.2.1)]
      · rw [u5_ne (Or.inr (by decide)), wf]; exact e6
      · rw [u5_eq, wf]; rfl
      · rw [u5_ne (Or.inl (by decide)), wf]; simp only []; rw [if_neg (by omega)]; exact e35 m hm
      · rw [wf]; simp; exact Nat.or_lt_two_pow (n := 10) h5 hask
    refine v_isSafe hT hBw hV1 (by omega) (fun C' hF hO => ?_)
    have hF2 : Fr (Wsafe o) C (nz_u5 C' 8 o j 0 7 (n32 (s j 5))) := by
      intro kd o' j' k x hn
      unfold nz_u5
      by_cases hc : kd = 8 ∧ o' = o ∧ j' = j ∧ k = 0 ∧ x = 7
      · rw [if_pos hc, hc.1, hc.2.1, hc.2.2.1, hc.2.2.2.1, hc.2.2.2.2, e7]
      · rw [if_neg hc, hF kd o' j' k x hn]
        unfold nz_u5; rw [if_neg hc]
    have := hq _ hF2
    rw [← hs] at this
    exact ⟨fun _ => ⟨b2i_01 _, this⟩, fun hc => (hc trivial).elim⟩
  | false =>
    rw [ha] at w11
    have wf : witS t s j j = (fun f => if 8 ≤ f ∧ f < 18 ∧ (askS t s j).testBit (f - 8) = true then s j f + 1 else s j f) := by unfold witS; rw [upj_self, ha]; rfl
    simp (disch := first | omega | (refine Nat.lt_of_lt_of_le (hB _ _) ?_; omega)) only [decide_eq_true_eq, decide_eq_false_iff_not, L32, az01, b2i_01, b2i_n0, b2i_n1, Bool.and_true, true_and, and_true, Classical.not_not, Bool.not_eq_true, Bool.not_eq_false, n32_mul, n32_add, n32_ix, n32_ib, n32_lt, n32_le, n32_inj, l_hb, l_hb0, l_shl, l_wo, l_eqm1, l_m1eq, w11, e7]
    refine ⟨fun _ => ?_, fun hc => (hc trivial).elim⟩
    have l87 : ∀ (C' : nz_f5), Fr (Wsafe o) (fun kd o' j' k x => if kd = 35 ∧ o' = o ∧ j' = j ∧ k = 0 ∧ x < 10 ∧ (askS t s j).testBit x = true then n32 (s j (8 + x) + 1) else C kd o' j' k x) C' → ∀ n m, n + m = 10 → ∀ l0 l2 l3, nzW P (d + 6) az_k52 87 [l0, some (jO o j), l2, l3, some (vi (b2i (safeS t (getsS t s j)))), some (vi (n32 m))] [] (T, S, L, Z, (fun kd o' j' k x => if kd = 35 ∧ o' = o ∧ j' = j ∧ k = 0 ∧ x < m then C 35 o j 0 x else C' kd o' j' k x)) (nz_RI Q) := by
      intro C' hF n
      induction n with
      | zero =>
        intro m hm l0 l2 l3
        obtain rfl : m = 10 := by omega
        refine sg52_87 ?_
        simp (disch := first | omega | (refine Nat.lt_of_lt_of_le (hB _ _) ?_; omega)) only [decide_eq_true_eq, decide_eq_false_iff_not, L32, az01, b2i_01, b2i_n0, b2i_n1, Bool.and_true, true_and, and_true, Classical.not_not, Bool.not_eq_true, Bool.not_eq_false, n32_mul, n32_add, n32_ix, n32_ib, n32_lt, n32_le, n32_inj, l_hb, l_hb0, l_shl, l_wo, l_eqm1, l_m1eq]
        refine ⟨fun _ => hq _ ?_, fun hc => by omega⟩
        intro kd o' j' k x hn
        by_cases hc : kd = 35 ∧ o' = o ∧ j' = j ∧ k = 0 ∧ x < 10
        · obtain ⟨rfl, rfl, rfl, rfl, hx⟩ := hc
          simp only [true_and, hx, if_true]
        · simp only []
          rw [if_neg hc, hF kd o' j' k x hn]
          simp only []
          rw [if_neg (fun hh => hc ⟨hh.1, hh.2.1, hh.2.2.1, hh.2.2.2.1, hh.2.2.2.2.1⟩)]
      | succ n ih =>
        intro m hm l0 l2 l3
        have hm10 : m < 10 := by omega
        have hw8 : C' 8 o j 0 8 = n32 (askS t s j) := by
          rw [hF 8 o j 0 8 (by unfold Wsafe; omega)]; simp only []; rw [if_neg (by omega)]; exact w8
        have h2 := ih (m + 1) (by omega)
        refine sg52_87 ?_
        simp (disch := first | omega | (refine Nat.lt_of_lt_of_le (hB _ _) ?_; omega)) only [decide_eq_true_eq, decide_eq_false_iff_not, L32, az01, b2i_01, b2i_n0, b2i_n1, Bool.and_true, true_and, and_true, Classical.not_not, Bool.not_eq_true, Bool.not_eq_false, n32_mul, n32_add, n32_ix, n32_ib, n32_lt, n32_le, n32_inj, l_hb, l_hb0, l_shl, l_wo, l_eqm1, l_m1eq, hw8, c_has, uC_row, show ¬ (8 = 35) by decide, false_and, if_false]
        have e35m := e35 m hm10
        have hC'm : C' 35 o j 0 m = if (askS t s j).testBit m = true then n32 (s j (8 + m) + 1) else n32 (s j (8 + m)) := by
          rw [hF 35 o j 0 m (by unfold Wsafe; omega)]
          simp only []
          by_cases hb : (askS t s j).testBit m = true
          · rw [if_pos ⟨trivial, trivial, trivial, trivial, hm10, hb⟩, if_pos hb]
          · rw [if_neg (fun hh => hb hh.2.2.2.2.2), if_neg hb, e35m]
        refine ⟨fun hc => by omega, fun _ => ⟨fun hb => ?_, fun hb => ⟨hm10, hm10, ?_⟩⟩⟩
        · have e : (fun kd o' j' k x => if kd = 35 ∧ o' = o ∧ j' = j ∧ k = 0 ∧ x < m then C 35 o j 0 x else C' kd o' j' k x) = (fun kd o' j' k x => if kd = 35 ∧ o' = o ∧ j' = j ∧ k = 0 ∧ x < m + 1 then C 35 o j 0 x else C' kd o' j' k x) := by
            funext kd o' j' k x
            by_cases hc : kd = 35 ∧ o' = o ∧ j' = j ∧ k = 0 ∧ x < m
            · rw [if_pos hc, if_pos ⟨hc.1, hc.2.1, hc.2.2.1, hc.2.2.2.1, by omega⟩]
            · rw [if_neg hc]
              by_cases hc2 : kd = 35 ∧ o' = o ∧ j' = j ∧ k = 0 ∧ x < m + 1
              · rw [if_pos hc2]
                have : x = m := by
                  apply Classical.byContradiction; intro hne; exact hc ⟨hc2.1, hc2.2.1, hc2.2.2.1, hc2.2.2.2.1, by omega⟩
                rw [hc2.1, hc2.2.1, hc2.2.2.1, hc2.2.2.2.1, this, hC'm, hb, e35m]; rfl
              · rw [if_neg hc2]
          rw [e]; exact h2 _ _ _
        · have e : nz_u5 (fun kd o' j' k x => if kd = 35 ∧ o' = o ∧ j' = j ∧ k = 0 ∧ x < m then C 35 o j 0 x else C' kd o' j' k x) 35 o j 0 m ((if True ∧ True ∧ True ∧ True ∧ m < m then C 35 o j 0 m else C' 35 o j 0 m) - n32 1) = (fun kd o' j' k x => if kd = 35 ∧ o' = o ∧ j' = j ∧ k = 0 ∧ x < m + 1 then C 35 o j 0 x else C' kd o' j' k x) := by
            rw [if_neg (by omega), hC'm, if_pos hb, n32_sub (by omega), show s j (8 + m) + 1 - 1 = s j (8 + m) by omega, ← e35m]
            funext kd o' j' k x
            unfold nz_u5
            by_cases hx : kd = 35 ∧ o' = o ∧ j' = j ∧ k = 0 ∧ x = m
            · rw [if_pos hx, if_pos ⟨hx.1, hx.2.1, hx.2.2.1, hx.2.2.2.1, by omega⟩, hx.2.2.2.2]
            · rw [if_neg hx]
              simp only []
              by_cases hc : kd = 35 ∧ o' = o ∧ j' = j ∧ k = 0 ∧ x < m
              · rw [if_pos hc, if_pos ⟨hc.1, hc.2.1, hc.2.2.1, hc.2.2.2.1, by omega⟩]
              · rw [if_neg hc, if_neg (fun hh => hx ⟨hh.1, hh.2.1, hh.2.2.1, hh.2.2.2.1, by
                  apply Classical.byContradiction; intro hne; exact hc ⟨hh.1, hh.2.1, hh.2.2.1, hh.2.2.2.1, by omega⟩⟩)]
          simp only [and_self, true_and] at e ⊢
          rw [e]
          exact h2 _ _ _
    have l33 : ∀ n m, n + m = 10 → ∀ l5, nzW P (d + 6) az_k52 33 [some (sO o), some (jO o j), some (vi (n32 (s j 5))), some (vi (b2i false)), some (vi (n32 m)), l5] [] (T, S, L, Z, (fun kd o' j' k x => if kd = 35 ∧ o' = o ∧ j' = j ∧ k = 0 ∧ x < m ∧ (askS t s j).testBit x = true then n32 (s j (8 + x) + 1) else C kd o' j' k x)) (nz_RI Q) := by
      intro n
      induction n with
      | zero =>
        intro m hm l5
        obtain rfl : m = 10 := by omega
        refine sg52_33 ?_
        simp (disch := first | omega | (refine Nat.lt_of_lt_of_le (hB _ _) ?_; omega)) only [decide_eq_true_eq, decide_eq_false_iff_not, L32, az01, b2i_01, b2i_n0, b2i_n1, Bool.and_true, true_and, and_true, Classical.not_not, Bool.not_eq_true, Bool.not_eq_false, n32_mul, n32_add, n32_ix, n32_ib, n32_lt, n32_le, n32_inj, l_hb, l_hb0, l_shl, l_wo, l_eqm1, l_m1eq, uC_row]
        refine ⟨fun _ => ?_, fun hc => by omega⟩
        have hV1 : HV o t (witS t s j) (fun kd o' j' k x => if kd = 35 ∧ o' = o ∧ j' = j ∧ k = 0 ∧ x < 10 ∧ (askS t s j).testBit x = true then n32 (s j (8 + x) + 1) else C kd o' j' k x) := by
          refine hvk _ (fun k x hk => ?_) (fun k m hk => ?_) ?_ ?_ ?_ (fun m hm => ?_) ?_ ?_
          · rw [if_neg (by omega)]
          · rw [if_neg (fun hh => hk hh.2.2.1)]
          · rw [if_neg (by omega)]; exact en
          · rw [if_neg (by omega), wf]; exact e6
          · rw [if_neg (by omega), wf]; simp only []; rw [if_neg (by omega)]; exact e7
          · rw [wf]
            simp only [show 8 + m - 8 = m by omega]
            by_cases hb : (askS t s j).testBit m = true
            · rw [if_pos ⟨trivial, trivial, trivial, trivial, hm, hb⟩, if_pos ⟨by omega, by omega, hb⟩]
            · rw [if_neg (fun hh => hb hh.2.2.2.2.2), if_neg (fun hh => hb hh.2.2)]; exact e35 m hm
          · rw [if_neg (by omega)]; exact e4
          · rw [wf]; simp only []; rw [if_neg (by omega)]; exact h5
        refine v_isSafe hT hBw hV1 (by omega) (fun C' hF hO => ?_)
        refine ⟨fun hc => (hc trivial).elim, fun _ => ?_⟩
        have hC7 : C' 8 o j 0 7 = n32 (s j 5) := by
          rw [hF 8 o j 0 7 (by unfold Wsafe; omega)]; simp only []; rw [if_neg (by omega)]; exact e7
        rw [uC_row, u5_same hC7, hs]
        have h87 := l87 C' hF 10 0 rfl
        have e : (fun kd o' j' k x => if kd = 35 ∧ o' = o ∧ j' = j ∧ k = 0 ∧ x < 0 then C 35 o j 0 x else C' kd o' j' k x) = C' := by
          funext kd o' j' k x; rw [if_neg (by omega)]
        rw [e] at h87
        exact h87 _ _ _
      | succ n ih =>
        intro m hm l5
        have hm10 : m < 10 := by omega
        have h2 := ih (m + 1) (by omega)
        have e35m := e35 m hm10
        refine sg52_33 ?_
        simp (disch := first | omega | (refine Nat.lt_of_lt_of_le (hB _ _) ?_; omega)) only [decide_eq_true_eq, decide_eq_false_iff_not, L32, az01, b2i_01, b2i_n0, b2i_n1, Bool.and_true, true_and, and_true, Classical.not_not, Bool.not_eq_true, Bool.not_eq_false, n32_mul, n32_add, n32_ix, n32_ib, n32_lt, n32_le, n32_inj, l_hb, l_hb0, l_shl, l_wo, l_eqm1, l_m1eq, w8, c_has, uC_row, show ¬ (8 = 35) by decide, false_and, if_false]
        refine ⟨fun hc => by omega, fun _ => ⟨fun hb => ?_, fun hb => ⟨hm10, hm10, ?_⟩⟩⟩
        · have e : (fun kd o' j' k x => if kd = 35 ∧ o' = o ∧ j' = j ∧ k = 0 ∧ x < m ∧ (askS t s j).testBit x = true then n32 (s j (8 + x) + 1) else C kd o' j' k x) = (fun kd o' j' k x => if kd = 35 ∧ o' = o ∧ j' = j ∧ k = 0 ∧ x < m + 1 ∧ (askS t s j).testBit x = true then n32 (s j (8 + x) + 1) else C kd o' j' k x) := by
            funext kd o' j' k x
            by_cases hc : kd = 35 ∧ o' = o ∧ j' = j ∧ k = 0 ∧ x < m ∧ (askS t s j).testBit x = true
            · rw [if_pos hc, if_pos ⟨hc.1, hc.2.1, hc.2.2.1, hc.2.2.2.1, by omega, hc.2.2.2.2.2⟩]
            · rw [if_neg hc, if_neg]
              rintro ⟨g1, g2, g3, g4, g5, g6⟩
              have : x ≠ m := fun e => by rw [e, hb] at g6; cases g6
              exact hc ⟨g1, g2, g3, g4, by omega, g6⟩
          rw [e]; exact h2 _
        · have e : nz_u5 (fun kd o' j' k x => if kd = 35 ∧ o' = o ∧ j' = j ∧ k = 0 ∧ x < m ∧ (askS t s j).testBit x = true then n32 (s j (8 + x) + 1) else C kd o' j' k x) 35 o j 0 m (C 35 o j 0 m + n32 1) = (fun kd o' j' k x => if kd = 35 ∧ o' = o ∧ j' = j ∧ k = 0 ∧ x < m + 1 ∧ (askS t s j).testBit x = true then n32 (s j (8 + x) + 1) else C kd o' j' k x) := by
            rw [e35m, n32_add]
            funext kd o' j' k x
            unfold nz_u5
            by_cases hx : kd = 35 ∧ o' = o ∧ j' = j ∧ k = 0 ∧ x = m
            · rw [if_pos hx, if_pos ⟨hx.1, hx.2.1, hx.2.2.1, hx.2.2.2.1, by omega, by rw [hx.2.2.2.2]; exact hb⟩, hx.2.2.2.2]
            · rw [if_neg hx]
              simp only []
              by_cases hc : kd = 35 ∧ o' = o ∧ j' = j ∧ k = 0 ∧ x < m ∧ (askS t s j).testBit x = true
              · rw [if_pos hc, if_pos ⟨hc.1, hc.2.1, hc.2.2.1, hc.2.2.2.1, by omega, hc.2.2.2.2.2⟩]
              · rw [if_neg hc, if_neg]
                rintro ⟨g1, g2, g3, g4, g5, g6⟩
                have : x ≠ m := fun e => hx ⟨g1, g2, g3, g4, e⟩
                exact hc ⟨g1, g2, g3, g4, by omega, g6⟩
          have hlt : ¬ (m < m ∧ (askS t s j).testBit m = true) := by omega
          simp only [true_and, hlt, if_false]
          rw [e]; exact h2 _
    have h33 := l33 10 0 rfl none
    have e : (fun kd o' j' k x => if kd = 35 ∧ o' = o ∧ j' = j ∧ k = 0 ∧ x < 0 ∧ (askS t s j).testBit x = true then n32 (s j (8 + x) + 1) else C kd o' j' k x) = C := by
      funext kd o' j' k x; rw [if_neg (by omega)]
    rw [e] at h33
    exact h33
end
