/-! who may be granted -/
def mayS (t s : St) (j : Nat) : Bool := decide (s j 1 = 1) && canS t s j && (!decide (t 13 8 = 3) || safeS t (getsS t s j))
section
variable {P : Nat × (Nat → Int32)} {d : Nat} {t s : St} {L Z : nz_f2} {C : nz_f5}
theorem m_may {j : Nat} (hB : ∀ j f, s j f < 1000000) (hT : TV t) (hd : 10 ≤ d) (hj : j < 8) (hA : s j 1 = 1 → AV t s j) (hB2 : ∀ a f, getsS t s j a f < 1000000) {Q : Int32 → nz_h → Prop} (hq : ∀ Z', Q (b2i (mayS t s j)) (rowf t, rowf s, L, Z', C)) : ctI P d 147 [mO, vi (n32 j)] (rowf t, rowf s, L, Z, C) Q := by
  obtain ⟨d, rfl⟩ := dge hd
  refine sm147 ?_
  have hm : t 13 8 < 4 := hT.2.2.2.2.2.2.2.2.2.1
  by_cases h1 : s j 1 = 1
  · have hA := hA h1
    simp (disch := first | omega | (refine Nat.lt_of_lt_of_le (hB _ _) ?_; omega)) only [decide_eq_true_eq, decide_eq_false_iff_not, L32, az01, b2i_01, b2i_n0, b2i_n1, Bool.and_true, true_and, and_true, Classical.not_not, Bool.not_eq_true, Bool.not_eq_false, n32_mul, n32_add, n32_ix, n32_ib, n32_lt, n32_le, n32_inj, l_hb, l_hb0, l_shl, l_wo, l_eqm1, l_m1eq, m_asks hB, m_can hB hT, hA, rowf_at, h1]
    refine ⟨fun hc => (hc trivial).elim, fun _ => ⟨fun hc => ⟨fun h3 => ?_, fun h3 => ans1 (hq _) (by unfold mayS; simp [h1, hc, h3])⟩, fun hc => ans0 (hq _) (by unfold mayS; simp [hc])⟩⟩
    have l67 : ∀ n k, n + k = 144 → ∀ Z', (∀ b, b < 144 → Z' 92 b = n32 (s (b / 18) (b % 18))) → ∀ l1, nzW P (d + 9) az_k147 67 [some mO, l1, some (vi (b2i (safeS t (getsS t s j)))), some (vi (n32 k))] [] (rowf t, rowf (fun a f => if a < 8 ∧ f < 18 ∧ 18 * a + f < k then s a f else getsS t s j a f), L, Z', C) (nz_RI Q) := by
      intro n
      induction n with
      | zero =>
        intro k hk Z' hZ l1
        obtain rfl : k = 144 := by omega
        refine sg147_67 ?_
        simp (disch := first | omega | (refine Nat.lt_of_lt_of_le (hB _ _) ?_; omega)) only [decide_eq_true_eq, decide_eq_false_iff_not, L32, az01, b2i_01, b2i_n0, b2i_n1, Bool.and_true, true_and, and_true, Classical.not_not, Bool.not_eq_true, Bool.not_eq_false, n32_mul, n32_add, n32_ix, n32_ib, n32_lt, n32_le, n32_inj, l_hb, l_hb0, l_shl, l_wo, l_eqm1, l_m1eq]
        refine ⟨fun _ => ?_, fun hc => by omega⟩
        have e : (fun a f => if a < 8 ∧ f < 18 ∧ 18 * a + f < 144 then s a f else getsS t s j a f) = s := by
          funext a f
          by_cases hc : a < 8 ∧ f < 18
          · rw [if_pos ⟨hc.1, hc.2, by omega⟩]
          · rw [if_neg (fun hh => hc ⟨hh.1, hh.2.1⟩)]
            simp only [getsS, upj]
            by_cases ha : a = j
            · rw [if_pos ha, if_neg (by omega), if_neg (by omega)]
              have : ¬ f < 18 := fun hf => hc ⟨by omega, hf⟩
              unfold getF
              have hon : onS t s j < 10 ∨ ¬ (atlS t s j = false ∧ opS t s j ≠ 9) ∧ ¬ (atlS t s j = false ∧ 0 < s j 4) := by
                by_cases h9 : opS t s j = 9
                · by_cases h4 : 0 < s j 4
                  · exact Or.inl (hA.on hT h4)
                  · exact Or.inr ⟨fun hh => hh.2 h9, fun hh => h4 hh.2⟩
                · exact Or.inl (hT.2.2.2.2.2.1 _ h9)
              subst ha
              cases hat : atlS t s a with
              | true => rw [cond_true, if_neg (by omega)]
              | false =>
                rw [cond_false]
                by_cases h4 : 0 < s a 4
                · have : onS t s a < 10 := hA.on hT h4
                  rw [decide_eq_true h4, cond_true, if_neg (by omega)]
                · rw [decide_eq_false h4, cond_false]
                  by_cases h9 : opS t s a = 9
                  · rw [decide_eq_true h9, cond_true, if_neg (by omega)]
                  · have : onS t s a < 10 := hT.2.2.2.2.2.1 _ h9
                    rw [decide_eq_false h9, cond_false, if_neg (by omega), if_neg (by omega)]
            · rw [if_neg ha]
        rw [e]
        have em : mayS t s j = safeS t (getsS t s j) := by unfold mayS; simp [h1, hc, h3]
        have := hq Z'
        rw [em] at this
        exact this
      | succ n ih =>
        intro k hk Z' hZ l1
        refine sg147_67 ?_
        have hk144 : k < 144 := by omega
        simp (disch := first | omega | (refine Nat.lt_of_lt_of_le (hB _ _) ?_; omega)) only [decide_eq_true_eq, decide_eq_false_iff_not, L32, az01, b2i_01, b2i_n0, b2i_n1, Bool.and_true, true_and, and_true, Classical.not_not, Bool.not_eq_true, Bool.not_eq_false, n32_mul, n32_add, n32_ix, n32_ib, n32_lt, n32_le, n32_inj, l_hb, l_hb0, l_shl, l_wo, l_eqm1, l_m1eq, hZ, uS_row]
        refine ⟨fun hc => by omega, fun _ => ⟨hk144, hk144, ?_⟩⟩
        have e : up (fun a f => if a < 8 ∧ f < 18 ∧ 18 * a + f < k then s a f else getsS t s j a f) (k / 18) (k % 18) (s (k / 18) (k % 18)) = (fun a f => if a < 8 ∧ f < 18 ∧ 18 * a + f < k + 1 then s a f else getsS t s j a f) := by
          funext a f
          unfold up
          by_cases hc : a = k / 18 ∧ f = k % 18
          · rw [if_pos hc, if_pos ⟨by omega, by omega, by omega⟩, hc.1, hc.2]
          · rw [if_neg hc]
            simp only []
            by_cases h2 : a < 8 ∧ f < 18 ∧ 18 * a + f < k
            · rw [if_pos h2, if_pos ⟨h2.1, h2.2.1, by omega⟩]
            · rw [if_neg h2, if_neg (by omega)]
        rw [e]
        exact ih (k + 1) (by omega) Z' hZ l1
    have l30 : ∀ n k, n + k = 144 → ∀ l3, nzW P (d + 9) az_k147 30 [some mO, some (vi (n32 j)), some (vi (n32 k)), l3] [] (rowf t, rowf s, L, (fun a b => if a = 92 ∧ b < k then n32 (s (b / 18) (b % 18)) else Z a b), C) (nz_RI Q) := by
      intro n
      induction n with
      | zero =>
        intro k hk l3
        obtain rfl : k = 144 := by omega
        refine sg147_30 ?_
        simp (disch := first | omega | (refine Nat.lt_of_lt_of_le (hB _ _) ?_; omega)) only [decide_eq_true_eq, decide_eq_false_iff_not, L32, az01, b2i_01, b2i_n0, b2i_n1, Bool.and_true, true_and, and_true, Classical.not_not, Bool.not_eq_true, Bool.not_eq_false, n32_mul, n32_add, n32_ix, n32_ib, n32_lt, n32_le, n32_inj, l_hb, l_hb0, l_shl, l_wo, l_eqm1, l_m1eq, m_gets hB hT, hA]
        refine ⟨fun _ => ?_, fun hc => by omega⟩
        refine m_isSafe hB2 hT (by omega) (fun Z' hZ' => ?_)
        have e : getsS t s j = (fun a f => if a < 8 ∧ f < 18 ∧ 18 * a + f < 0 then s a f else getsS t s j a f) := by
          funext a f; rw [if_neg (by omega)]
        have h67 := l67 144 0 rfl Z' (fun b hb => by rw [hZ'.2.2 b]; simp only []; rw [if_pos ⟨trivial, hb⟩]) (some (vi (n32 j)))
        rw [← e] at h67
        exact h67
      | succ n ih =>
        intro k hk l3
        refine sg147_30 ?_
        have hk144 : k < 144 := by omega
        simp (disch := first | omega | (refine Nat.lt_of_lt_of_le (hB _ _) ?_; omega)) only [decide_eq_true_eq, decide_eq_false_iff_not, L32, az01, b2i_01, b2i_n0, b2i_n1, Bool.and_true, true_and, and_true, Classical.not_not, Bool.not_eq_true, Bool.not_eq_false, n32_mul, n32_add, n32_ix, n32_ib, n32_lt, n32_le, n32_inj, l_hb, l_hb0, l_shl, l_wo, l_eqm1, l_m1eq, rowf_at, uZ_row]
        refine ⟨fun hc => by omega, fun _ => ⟨hk144, hk144, ?_⟩⟩
        have e : nz_u2 (fun a b => if a = 92 ∧ b < k then n32 (s (b / 18) (b % 18)) else Z a b) 92 k (n32 (s (k / 18) (k % 18))) = (fun a b => if a = 92 ∧ b < k + 1 then n32 (s (b / 18) (b % 18)) else Z a b) := by
          funext a b
          unfold nz_u2
          by_cases hc : a = 92 ∧ b = k
          · rw [if_pos hc, if_pos ⟨hc.1, by omega⟩, hc.2]
          · rw [if_neg hc]
            simp only []
            by_cases h2 : a = 92 ∧ b < k
            · rw [if_pos h2, if_pos ⟨h2.1, by omega⟩]
            · rw [if_neg h2, if_neg (by omega)]
        rw [e]
        exact ih (k + 1) (by omega) l3
    have e : Z = (fun a b => if a = 92 ∧ b < 0 then n32 (s (b / 18) (b % 18)) else Z a b) := by
      funext a b; rw [if_neg (by omega)]
    have := l30 144 0 rfl none
    rw [← e] at this
    exact this
  · simp (disch := first | omega | (refine Nat.lt_of_lt_of_le (hB _ _) ?_; omega)) only [decide_eq_true_eq, decide_eq_false_iff_not, L32, az01, b2i_01, b2i_n0, b2i_n1, Bool.and_true, true_and, and_true, Classical.not_not, Bool.not_eq_true, Bool.not_eq_false, n32_mul, n32_add, n32_ix, n32_ib, n32_lt, n32_le, n32_inj, l_hb, l_hb0, l_shl, l_wo, l_eqm1, l_m1eq, m_asks hB, h1]
    exact ⟨fun _ => ans0 (hq _) (by unfold mayS; simp [h1]), fun hc => hc.elim⟩
end
