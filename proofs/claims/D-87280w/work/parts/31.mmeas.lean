/-! ways of waiting: how far it is; who is refused -/
def anyB : Nat → (Nat → Bool) → Bool
  | 0, _ => false
  | n + 1, p => anyB n p || p n
theorem anyB_iff {n : Nat} {p : Nat → Bool} : anyB n p = true ↔ ∃ k, k < n ∧ p k = true := by
  induction n with
  | zero => simp [anyB]
  | succ n ih =>
    rw [anyB, Bool.or_eq_true, ih]
    constructor
    · rintro (⟨k, h1, h2⟩ | h)
      · exact ⟨k, by omega, h2⟩
      · exact ⟨n, by omega, h⟩
    · rintro ⟨k, h1, h2⟩
      by_cases hk : k = n
      · subst hk; exact Or.inr h2
      · exact Or.inl ⟨k, by omega, h2⟩
theorem anyB_F {n : Nat} {p : Nat → Bool} (h : p n = false) : anyB (n + 1) p = anyB n p := by rw [anyB, h, Bool.or_false]
theorem anyB_T {n : Nat} {p : Nat → Bool} (h : p n = true) : anyB (n + 1) p = true := by rw [anyB, h, Bool.or_true]
theorem anyB_congr {n : Nat} {p q : Nat → Bool} (h : ∀ k, k < n → p k = q k) : anyB n p = anyB n q := by
  induction n with
  | zero => rfl
  | succ n ih => rw [anyB, anyB, h n (by omega), ih (fun k hk => h k (by omega))]
def farP (t s : St) (to : Nat) (f : Nat → Nat) (q k x : Nat) : Bool := (kpS t s k).testBit x && (if q = 0 then decide (x = to) else decide (f x = q))
def farL (t s : St) (to : Nat) : Nat → Nat → Nat
  | 0, _ => 100
  | n + 1, k => if s k 1 = 1 ∧ 100 ≤ farL t s to n k ∧ anyB 8 (farP t s to (farL t s to n) n k) = true then n + 1 else farL t s to n k
theorem farL_le (t s : St) (to n k : Nat) : (1 ≤ farL t s to n k ∧ farL t s to n k ≤ n) ∨ farL t s to n k = 100 := by
  induction n with
  | zero => right; rfl
  | succ n ih =>
    rw [farL]
    split
    · left; omega
    · omega
def zf (Z : nz_f2) (f : Nat → Nat) : nz_f2 := fun a b => if a = 90 ∧ b < 8 then n32 (f b) else Z a b
theorem zf_at {Z : nz_f2} {f : Nat → Nat} {b : Nat} (h : b < 8) : zf Z f 90 b = n32 (f b) := by
  unfold zf; rw [if_pos ⟨rfl, h⟩]
theorem zf_up {Z : nz_f2} {f : Nat → Nat} {k v : Nat} (h : k < 8) : nz_u2 (zf Z f) 90 k (n32 v) = zf Z (fun b => if b = k then v else f b) := by
  funext a b
  unfold zf nz_u2
  by_cases ha : a = 90
  · subst ha
    by_cases hb : b = k
    · subst hb; simp [h]
    · simp [hb]
  · simp [ha]
theorem zf_congr {Z : nz_f2} {f g : Nat → Nat} (h : ∀ b, b < 8 → f b = g b) : zf Z f = zf Z g := by
  funext a b
  unfold zf
  by_cases hc : a = 90 ∧ b < 8
  · rw [if_pos hc, if_pos hc, h b hc.2]
  · rw [if_neg hc, if_neg hc]
theorem zf_zf {Z : nz_f2} {f g : Nat → Nat} : zf (zf Z f) g = zf Z g := by
  funext a b
  unfold zf
  by_cases hc : a = 90 ∧ b < 8
  · rw [if_pos hc, if_pos hc]
  · rw [if_neg hc, if_neg hc, if_neg hc]
def fmid (t s : St) (to q k b : Nat) : Nat := if b < k then farL t s to (q + 1) b else farL t s to q b
def finn (t s : St) (to q k x b : Nat) : Nat := if b = k then (if anyB x (farP t s to (farL t s to q) q k) = true then q + 1 else farL t s to q k) else fmid t s to q k b
section
variable {P : Nat × (Nat → Int32)} {d : Nat} {t s : St} {L Z : nz_f2} {C : nz_f5}
theorem fmid_q {to q k x : Nat} (hq : 0 < q) (hq8 : q < 8) : (fmid t s to q k x = q) ↔ (farL t s to q x = q) := by
  unfold fmid
  by_cases h : x < k
  · rw [if_pos h, farL]
    split
    · rename_i hc
      constructor
      · intro h; omega
      · intro h; omega
    · exact Iff.rfl
  · rw [if_neg h]
theorem finn_q {to q k x y : Nat} (hq : 0 < q) (hq8 : q < 8) (hk : 100 ≤ farL t s to q k) : (finn t s to q k y x = q) ↔ (farL t s to q x = q) := by
  unfold finn
  by_cases h : x = k
  · subst h
    rw [if_pos rfl]
    split
    · constructor
      · intro h; omega
      · intro h; omega
    · exact Iff.rfl
  · rw [if_neg h]
    exact fmid_q hq hq8
theorem m_measures {j : Nat} (hB : ∀ j f, s j f < 1000000) (hT : TV t) (hd : 9 ≤ d) (hj : j < 8) (hA : ∀ k, k < 8 → s k 1 = 1 → AV t s k) (Q : nz_h → Prop) : ctV P d 133 [mO, vi (n32 j)] (rowf t, rowf s, L, Z, C) Q = Q (rowf t, rowf s, L, zf Z (farL t s j 8), C) := by
  obtain ⟨d, rfl⟩ := dge hd
  refine ctV_det (fun Q hq => sm133 ?_) Q
  have l4 : ∀ q k, q < 8 → k < 8 → s k 1 = 1 → 100 ≤ farL t s j q k → (∀ l4 l5, nzW P (d + 8) az_k133 32 [some mO, some (vi (n32 j)), some (vi (n32 (q + 1))), some (vi (n32 (k + 1))), l4, l5] [] (rowf t, rowf s, L, zf Z (fmid t s j q (k + 1)), C) (nz_RV Q)) →
      ∀ n x, n + x = 8 → nzW P (d + 8) az_k133 70 [some mO, some (vi (n32 j)), some (vi (n32 (q + 1))), some (vi (n32 k)), some (vi (n32 (kpS t s k))), some (vi (n32 x))] [] (rowf t, rowf s, L, zf Z (finn t s j q k x), C) (nz_RV Q) := by
    intro q k hq8 hk h1 hf nxt n
    have hkp := kpS_lt t s k
    induction n with
    | zero =>
      intro x hx
      obtain rfl : x = 8 := by omega
      refine sg133_70 ?_
      simp (disch := first | omega | (refine Nat.lt_of_lt_of_le (hB _ _) ?_; omega)) only [decide_eq_true_eq, decide_eq_false_iff_not, L32, az01, b2i_01, b2i_n0, b2i_n1, Bool.and_true, true_and, and_true, Classical.not_not, Bool.not_eq_true, Bool.not_eq_false, n32_mul, n32_add, n32_ix, n32_ib, n32_lt, n32_le, n32_inj, l_hb, l_hb0, l_shl, l_wo, l_eqm1, l_m1eq]
      refine ⟨fun _ => ?_, fun hc => by omega⟩
      have e : zf Z (finn t s j q k 8) = zf Z (fmid t s j q (k + 1)) := by
        apply zf_congr
        intro b hb
        unfold finn fmid
        by_cases hbk : b = k
        · subst hbk
          rw [if_pos rfl, if_pos (show b < b + 1 by omega), farL]
          by_cases ha : anyB 8 (farP t s j (farL t s j q) q b) = true
          · rw [if_pos ha, if_pos ⟨h1, hf, ha⟩]
          · rw [if_neg ha, if_neg (fun hh => ha hh.2.2)]
        · rw [if_neg hbk]
          by_cases hb1 : b < k
          · rw [if_pos hb1, if_pos (by omega)]
          · rw [if_neg hb1, if_neg (by omega)]
      rw [e]
      exact nxt _ _
    | succ n ih =>
      intro x hx
      refine sg133_70 ?_
      have hx8 : x < 8 := by omega
      have hfx : finn t s j q k x x < 1000 := by
        unfold finn fmid
        have := farL_le t s j q k
        have := farL_le t s j q x
        have := farL_le t s j (q + 1) x
        split
        · split <;> omega
        · split <;> omega
      simp (disch := first | omega | (refine Nat.lt_of_lt_of_le (hB _ _) ?_; omega)) only [decide_eq_true_eq, decide_eq_false_iff_not, L32, az01, b2i_01, b2i_n0, b2i_n1, Bool.and_true, true_and, and_true, Classical.not_not, Bool.not_eq_true, Bool.not_eq_false, n32_mul, n32_add, n32_ix, n32_ib, n32_lt, n32_le, n32_inj, l_hb, l_hb0, l_shl, l_wo, l_eqm1, l_m1eq, zf_at, n32_sub, show q + 1 - 1 = q by omega, uZ_row, zf_up, show ¬ 8 ≤ x by omega, show 1 ≤ q + 1 by omega, hx8, hk]
      have stay : farP t s j (farL t s j q) q k x = false → nzW P (d + 8) az_k133 70 [some mO, some (vi (n32 j)), some (vi (n32 (q + 1))), some (vi (n32 k)), some (vi (n32 (kpS t s k))), some (vi (n32 (x + 1)))] [] (rowf t, rowf s, L, zf Z (finn t s j q k x), C) (nz_RV Q) := by
        intro hp
        have := ih (x + 1) (by omega)
        unfold finn at this ⊢
        rw [anyB_F hp] at this
        exact this
      have move : farP t s j (farL t s j q) q k x = true → nzW P (d + 8) az_k133 70 [some mO, some (vi (n32 j)), some (vi (n32 (q + 1))), some (vi (n32 k)), some (vi (n32 (kpS t s k))), some (vi (n32 (x + 1)))] [] (rowf t, rowf s, L, zf Z (fun b => if b = k then q + 1 else finn t s j q k x b), C) (nz_RV Q) := by
        intro hp
        have := ih (x + 1) (by omega)
        have e : zf Z (fun b => if b = k then q + 1 else finn t s j q k x b) = zf Z (finn t s j q k (x + 1)) := by
          apply zf_congr
          intro b hb
          unfold finn
          by_cases hbk : b = k
          · rw [if_pos hbk, if_pos hbk, if_pos (anyB_T hp)]
          · rw [if_neg hbk, if_neg hbk, if_neg hbk]
        rw [e]
        exact this
      refine ⟨fun hc => hc.elim, fun _ => ⟨fun hb => stay (by unfold farP; rw [hb]; rfl), fun hb => ⟨fun h0 => ⟨fun h3 => stay ?_, fun h3 => move ?_⟩, fun h0 => ⟨fun h3 => stay ?_, fun h3 => move ?_⟩⟩⟩⟩
      · unfold farP
        rw [hb, if_neg (by omega), decide_eq_false]; · rfl
        exact fun hh => h3 ((finn_q (by omega) hq8 hf).mpr hh)
      · unfold farP
        rw [hb, if_neg (by omega), decide_eq_true]; · rfl
        exact (finn_q (by omega) hq8 hf).mp h3
      · unfold farP
        rw [hb, if_pos (by omega), decide_eq_false h3]; rfl
      · unfold farP
        rw [hb, if_pos (by omega), decide_eq_true h3]; rfl
  have l3 : ∀ q, q < 8 → (∀ l3 l4 l5, nzW P (d + 8) az_k133 24 [some mO, some (vi (n32 j)), some (vi (n32 (q + 2))), l3, l4, l5] [] (rowf t, rowf s, L, zf Z (farL t s j (q + 1)), C) (nz_RV Q)) →
      ∀ n k, n + k = 8 → ∀ l4 l5, nzW P (d + 8) az_k133 32 [some mO, some (vi (n32 j)), some (vi (n32 (q + 1))), some (vi (n32 k)), l4, l5] [] (rowf t, rowf s, L, zf Z (fmid t s j q k), C) (nz_RV Q) := by
    intro q hq8 nxt n
    induction n with
    | zero =>
      intro k hk x4 x5
      obtain rfl : k = 8 := by omega
      refine sg133_32 ?_
      simp (disch := first | omega | (refine Nat.lt_of_lt_of_le (hB _ _) ?_; omega)) only [decide_eq_true_eq, decide_eq_false_iff_not, L32, az01, b2i_01, b2i_n0, b2i_n1, Bool.and_true, true_and, and_true, Classical.not_not, Bool.not_eq_true, Bool.not_eq_false, n32_mul, n32_add, n32_ix, n32_ib, n32_lt, n32_le, n32_inj, l_hb, l_hb0, l_shl, l_wo, l_eqm1, l_m1eq]
      refine ⟨fun _ => ?_, fun hc => by omega⟩
      have e : zf Z (fmid t s j q 8) = zf Z (farL t s j (q + 1)) := zf_congr (fun b hb => by unfold fmid; rw [if_pos hb])
      rw [e]
      exact nxt _ _ _
    | succ n ih =>
      intro k hk x4 x5
      refine sg133_32 ?_
      have hk8 : k < 8 := by omega
      have hfk : fmid t s j q k k = farL t s j q k := by unfold fmid; rw [if_neg (by omega)]
      have hfb := farL_le t s j q k
      have stay : ¬ (s k 1 = 1 ∧ 100 ≤ farL t s j q k) → ∀ x4 x5, nzW P (d + 8) az_k133 32 [some mO, some (vi (n32 j)), some (vi (n32 (q + 1))), some (vi (n32 (k + 1))), x4, x5] [] (rowf t, rowf s, L, zf Z (fmid t s j q k), C) (nz_RV Q) := by
        intro hs x4 x5
        have e : zf Z (fmid t s j q k) = zf Z (fmid t s j q (k + 1)) := by
          apply zf_congr
          intro b hb
          unfold fmid
          by_cases hbk : b = k
          · subst hbk
            rw [if_neg (by omega), if_pos (by omega), farL, if_neg (fun hh => hs ⟨hh.1, hh.2.1⟩)]
          · by_cases hb1 : b < k
            · rw [if_pos hb1, if_pos (by omega)]
            · rw [if_neg hb1, if_neg (by omega)]
        rw [e]
        exact ih (k + 1) (by omega) _ _
      by_cases h1 : s k 1 = 1
      · have hAk := hA k hk8 h1
        simp (disch := first | omega | (refine Nat.lt_of_lt_of_le (hB _ _) ?_; omega)) only [decide_eq_true_eq, decide_eq_false_iff_not, L32, az01, b2i_01, b2i_n0, b2i_n1, Bool.and_true, true_and, and_true, Classical.not_not, Bool.not_eq_true, Bool.not_eq_false, n32_mul, n32_add, n32_ix, n32_ib, n32_lt, n32_le, n32_inj, l_hb, l_hb0, l_shl, l_wo, l_eqm1, l_m1eq, m_asks hB, zf_at, hfk, m_keepers hB hT, h1, hAk, show ¬ 8 ≤ k by omega, hk8]
        refine ⟨fun hc => hc.elim, fun _ => ⟨fun hc => (hc trivial).elim, fun _ => ⟨fun h3 => ?_, fun h3 => stay (fun hh => h3 hh.2) _ _⟩⟩⟩
        have e : zf Z (fmid t s j q k) = zf Z (finn t s j q k 0) := by
          apply zf_congr
          intro b hb
          unfold finn
          by_cases hbk : b = k
          · subst hbk
            rw [if_pos rfl, hfk]; rfl
          · rw [if_neg hbk]
        rw [e]
        exact l4 q k hq8 hk8 h1 h3 (fun x4 x5 => ih (k + 1) (by omega) x4 x5) 8 0 rfl
      · simp (disch := first | omega | (refine Nat.lt_of_lt_of_le (hB _ _) ?_; omega)) only [decide_eq_true_eq, decide_eq_false_iff_not, L32, az01, b2i_01, b2i_n0, b2i_n1, Bool.and_true, true_and, and_true, Classical.not_not, Bool.not_eq_true, Bool.not_eq_false, n32_mul, n32_add, n32_ix, n32_ib, n32_lt, n32_le, n32_inj, l_hb, l_hb0, l_shl, l_wo, l_eqm1, l_m1eq, m_asks hB, h1, show ¬ 8 ≤ k by omega]
        exact ⟨fun hc => hc.elim, fun _ => ⟨fun _ => stay (fun hh => h1 hh.1) _ _, fun hc => hc.elim⟩⟩
  have l2 : ∀ n q, n + q = 8 → ∀ x3 x4 x5, nzW P (d + 8) az_k133 24 [some mO, some (vi (n32 j)), some (vi (n32 (q + 1))), x3, x4, x5] [] (rowf t, rowf s, L, zf Z (farL t s j q), C) (nz_RV Q) := by
    intro n
    induction n with
    | zero =>
      intro q hqq x3 x4 x5
      obtain rfl : q = 8 := by omega
      refine sg133_24 ?_
      simp (disch := first | omega | (refine Nat.lt_of_lt_of_le (hB _ _) ?_; omega)) only [decide_eq_true_eq, decide_eq_false_iff_not, L32, az01, b2i_01, b2i_n0, b2i_n1, Bool.and_true, true_and, and_true, Classical.not_not, Bool.not_eq_true, Bool.not_eq_false, n32_mul, n32_add, n32_ix, n32_ib, n32_lt, n32_le, n32_inj, l_hb, l_hb0, l_shl, l_wo, l_eqm1, l_m1eq]
      exact ⟨fun _ => hq, fun hc => by omega⟩
    | succ n ih =>
      intro q hqq x3 x4 x5
      refine sg133_24 ?_
      simp (disch := first | omega | (refine Nat.lt_of_lt_of_le (hB _ _) ?_; omega)) only [decide_eq_true_eq, decide_eq_false_iff_not, L32, az01, b2i_01, b2i_n0, b2i_n1, Bool.and_true, true_and, and_true, Classical.not_not, Bool.not_eq_true, Bool.not_eq_false, n32_mul, n32_add, n32_ix, n32_ib, n32_lt, n32_le, n32_inj, l_hb, l_hb0, l_shl, l_wo, l_eqm1, l_m1eq]
      refine ⟨fun hc => by omega, fun _ => ?_⟩
      have e : zf Z (farL t s j q) = zf Z (fmid t s j q 0) := zf_congr (fun b hb => by unfold fmid; rw [if_neg (by omega)])
      rw [e]
      exact l3 q (by omega) (fun a b c => ih (q + 1) (by omega) a b c) 8 0 rfl _ _
  have l1 : ∀ n k, n + k = 8 → ∀ x3 x4 x5, nzW P (d + 8) az_k133 2 [some mO, some (vi (n32 j)), some (vi (n32 k)), x3, x4, x5] [] (rowf t, rowf s, L, (fun a b => if a = 90 ∧ b < k then n32 100 else Z a b), C) (nz_RV Q) := by
    intro n
    induction n with
    | zero =>
      intro k hk x3 x4 x5
      obtain rfl : k = 8 := by omega
      refine sg133_2 ?_
      simp (disch := first | omega | (refine Nat.lt_of_lt_of_le (hB _ _) ?_; omega)) only [decide_eq_true_eq, decide_eq_false_iff_not, L32, az01, b2i_01, b2i_n0, b2i_n1, Bool.and_true, true_and, and_true, Classical.not_not, Bool.not_eq_true, Bool.not_eq_false, n32_mul, n32_add, n32_ix, n32_ib, n32_lt, n32_le, n32_inj, l_hb, l_hb0, l_shl, l_wo, l_eqm1, l_m1eq]
      refine ⟨fun _ => ?_, fun hc => by omega⟩
      exact l2 8 0 rfl _ _ _
    | succ n ih =>
      intro k hk x3 x4 x5
      refine sg133_2 ?_
      simp (disch := first | omega | (refine Nat.lt_of_lt_of_le (hB _ _) ?_; omega)) only [decide_eq_true_eq, decide_eq_false_iff_not, L32, az01, b2i_01, b2i_n0, b2i_n1, Bool.and_true, true_and, and_true, Classical.not_not, Bool.not_eq_true, Bool.not_eq_false, n32_mul, n32_add, n32_ix, n32_ib, n32_lt, n32_le, n32_inj, l_hb, l_hb0, l_shl, l_wo, l_eqm1, l_m1eq, uZ_row]
      refine ⟨fun hc => by omega, fun _ => ⟨by omega, ?_⟩⟩
      have e : nz_u2 (fun a b => if a = 90 ∧ b < k then n32 100 else Z a b) 90 k (n32 100) = (fun a b => if a = 90 ∧ b < k + 1 then n32 100 else Z a b) := by
        funext a b
        unfold nz_u2
        by_cases ha : a = 90
        · subst ha
          by_cases hb : b = k
          · subst hb; simp
          · by_cases hb1 : b < k
            · simp [hb, hb1, show b < k + 1 by omega]
            · simp [hb, hb1, show ¬ b < k + 1 by omega]
        · simp [ha]
      rw [e]
      exact ih (k + 1) (by omega) _ _ _
  have e : Z = (fun a b => if a = 90 ∧ b < 0 then n32 100 else Z a b) := by
    funext a b; rw [if_neg (by omega)]
  have := l1 8 0 rfl none none none
  rw [← e] at this
  exact this
end
