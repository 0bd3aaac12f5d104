/-! the system's does -/
theorem cslp_8 (s : St) : cslp s ≤ 8 := by
  have : ∀ n, sumN n (fun j => if s j 1 = 2 then 1 else 0) ≤ n := by
    intro n
    induction n with
    | zero => exact Nat.le_refl _
    | succ n ih => rw [sumN]; split <;> omega
  exact this 8
section
variable {P : Nat × (Nat → Int32)} {d o : Nat} {t s : St} {T S L0 L Z : nz_f2} {C : nz_f5} {j m : Nat}
theorem c_47 {op : Nat} (ho : o < 2) (hT : TV t) (hI : INV t s) (hR : RC o t s C) (hG : RG o s L C) (hL : LI1 s L) (hd : 13 ≤ d) (hj : j < 8) (hm : s j 1 = 0) (hp : s j 0 < t 57 j) (hop : opS t s j = op) (hop2 : op = 1 ∨ op = 5 ∨ op = 6 ∨ op = 7) (hon : onS t s j = m) (hm10 : m < 10) (hu : 0 < s j (8 + m)) {Q : nz_h → Prop}
    (hq : ∀ C', Fr (Wsh o) C C' → RC o t (doP t (s, L) j).1 C' → RG o (doP t (s, L) j).1 (doP t (s, L) j).2 C' → Q (T, S, L0, Z, C')) : ctV P d 47 [sO o, jO o j, vi (n32 op), vi (n32 m)] (T, S, L0, Z, C) Q := by
  obtain ⟨d, rfl⟩ := dge hd
  have hB := hI.B
  have hJ := hR.2.1 j hj
  have htb := hI.tb hj hm10
  have e35 := hJ.2.2.1 m hm10
  obtain ⟨q, hQ, q28, q97⟩ := hR.2.2 m hm10
  have hlen := QL_len hQ
  have hz : ¬ s j (8 + m) = 0 := by omega
  refine sm47 ?_
  rcases hop2 with h | h | h | h
  · subst h
    have e : doP t (s, L) j = (goesS (up s j (8 + m) (s j (8 + m) - 1)) j, L) := by
      unfold doP; simp only [hon, hop]; rw [if_neg (by omega), if_neg (by omega), if_pos trivial, if_neg hz]
    rw [e] at hq
    simp (disch := omega) only [decide_eq_true_eq, decide_eq_false_iff_not, L32, az01, b2i_01, b2i_n0, b2i_n1, Bool.and_true, true_and, and_true, Classical.not_not, Bool.not_eq_true, Bool.not_eq_false, n32_mul, n32_add, n32_ix, n32_ib, n32_lt, n32_le, n32_inj, l_hb, l_hb0, l_shl, l_wo, l_eqm1, l_m1eq, uC_row, e35, n32_sub, c_on]
    refine ⟨fun hc => absurd trivial hc, fun _ => ⟨hm10, hm10, ?_⟩⟩
    have hc := c_time (v := s j (8 + m) - 1) hT hI hR hG hj hm hp hm10
    exact hq _ hc.1.sh hc.2.1 hc.2.2
  · subst h
    have e : doP t (s, L) j = (sleepS s j m, L) := by
      unfold doP; simp only [hon, hop]; rw [if_neg (by omega), if_neg (by omega), if_neg (by decide), if_neg (by decide), if_neg (by decide), if_neg (by decide), if_pos trivial, if_neg hz]
    rw [e] at hq
    have en := (hR.1.2.1 j hj).1
    have hQ2 : QL t (upj s j (fun f => if f = 4 then s j (8 + m) else if f = 8 + m then 0 else if f = 1 then 2 else if f = 7 then s 13 12 + 1 else s j f)) m (q ++ [j]) := by
      have hnj : ∀ x, x ∈ q → x ≠ j := fun x hx e => by have := ((hQ.1 x).1 hx).2.1; rw [e] at this; omega
      refine ⟨fun x => ?_, ?_⟩
      · rw [List.mem_append, List.mem_singleton]
        by_cases hxj : x = j
        · subst hxj
          have e1 : onS t (upj s x (fun f => if f = 4 then s x (8 + m) else if f = 8 + m then 0 else if f = 1 then 2 else if f = 7 then s 13 12 + 1 else s x f)) x = m := by
            unfold onS at hon ⊢; rw [upj_self, if_neg (by decide), if_neg (by omega), if_neg (by decide), if_neg (by decide)]; exact hon
          rw [upj_self, e1, if_neg (by decide), if_neg (by omega), if_pos rfl]
          exact ⟨fun _ => ⟨hj, rfl, rfl⟩, fun _ => Or.inr rfl⟩
        · have e1 : onS t (upj s j (fun f => if f = 4 then s j (8 + m) else if f = 8 + m then 0 else if f = 1 then 2 else if f = 7 then s 13 12 + 1 else s j f)) x = onS t s x := by unfold onS; rw [upj_ne hxj]
          rw [upj_ne hxj, e1, ← hQ.1 x]
          exact ⟨fun h => h.resolve_right hxj, Or.inl⟩
      · rw [List.pairwise_append]
        refine ⟨List.Pairwise.imp_of_mem (fun {a b} ha hb hab => ?_) hQ.2, List.pairwise_singleton _ _, fun a ha b hb => ?_⟩
        · rw [upj_ne (hnj a ha), upj_ne (hnj b hb)]; exact hab
        · rw [List.mem_singleton.1 hb, upj_ne (hnj a ha), upj_self, if_neg (by decide), if_neg (by omega), if_neg (by decide), if_pos rfl]
          have h1 := (hQ.1 a).1 ha
          have := hI.2.2.1.1 a h1.1 h1.2.1
          omega
    have hlen2 := QL_len hQ2
    rw [List.length_append, List.length_singleton] at hlen2
    simp (disch := first | omega | decide) only [decide_eq_true_eq, decide_eq_false_iff_not, L32, az01, b2i_01, b2i_n0, b2i_n1, Bool.and_true, true_and, and_true, Classical.not_not, Bool.not_eq_true, Bool.not_eq_false, n32_mul, n32_add, n32_ix, n32_ib, n32_lt, n32_le, n32_inj, l_hb, l_hb0, l_shl, l_wo, l_eqm1, l_m1eq, uC_row, e35, u5_k, u5_x, u5_eq, q28, en]
    refine ⟨fun _ => ⟨fun hc => absurd trivial hc, fun _ => ⟨hm10, hm10, hm10, hm10, by omega, hm10, hm10, ?_⟩⟩, fun hc => absurd hc (by omega)⟩
    have hFr : Fr (Wsh o) C (nz_u5 (nz_u5 (nz_u5 (nz_u5 (nz_u5 C 8 o j 0 10 (n32 (s j (8 + m)))) 35 o j 0 m (n32 0)) 8 o j 0 6 (n32 2)) 97 o m 0 q.length (n32 j)) 28 o 0 0 m (n32 (q.length + 1))) := by
      refine Fr.up (Fr.up (Fr.up (Fr.up (Fr.up (Fr.rfl' C) ?_) ?_) ?_) ?_) ?_ <;> (unfold Wsh; omega)
    have hrow : ∀ k, k < 8 → sleepS s j m k = upj s j (fun f => if f = 4 then s j (8 + m) else if f = 8 + m then 0 else if f = 1 then 2 else if f = 7 then s 13 12 + 1 else s j f) k := fun k hk => by
      unfold sleepS; funext f; exact up_a (by omega)
    refine hq _ hFr (RC.rows hrow ?_) ?_
    · refine hR.q (m := m) hj hFr (fun k x hk => ?_) (fun k x hk => ?_) (fun n hn => ?_) (fun n k hn => ?_) (fun _ => hon) (fun _ => ?_) ?_ ⟨q ++ [j], hQ2, ?_, fun k x hx => ?_⟩
      · unfold nz_u5; rw [if_neg (by omega), if_neg (by omega), if_neg (by omega), if_neg (by omega), if_neg (by omega)]
      · unfold nz_u5; rw [if_neg (by omega), if_neg (by omega), if_neg (by omega), if_neg (by omega), if_neg (by omega)]
      · rw [u5_x hn]; simp (disch := decide) only [u5_k]
      · rw [u5_k (by decide)]; unfold nz_u5; rw [if_neg (by omega), if_neg (by omega), if_neg (by omega), if_neg (by omega)]
      · unfold onR; simp only []; rw [if_neg (show ¬ 0 = 4 by decide), if_neg (show ¬ 0 = 8 + m by omega), if_neg (show ¬ 0 = 1 by decide), if_neg (show ¬ 0 = 7 by decide)]; exact hon
      · unfold RJ
        rw [upj_self]
        simp only [if_true, show ¬ 1 = 4 by decide, show ¬ 5 = 4 by decide, show ¬ 2 = 4 by decide, show ¬ 0 = 4 by decide, show ¬ 5 = 1 by decide, show ¬ 5 = 7 by decide, show ¬ 2 = 1 by decide, show ¬ 2 = 7 by decide, show ¬ 0 = 1 by decide, show ¬ 0 = 7 by decide, if_false, show ¬ 1 = 8 + m by omega, show ¬ 5 = 8 + m by omega, show ¬ 2 = 8 + m by omega, show ¬ 0 = 8 + m by omega]
        refine ⟨?_, ?_, fun n hn => ?_, fun _ => ⟨?_, ?_⟩, fun _ => ?_, fun h => absurd h (by decide), fun _ => ?_, fun h => absurd h (by decide)⟩
        · simp (disch := decide) only [u5_k, u5_x, u5_eq]
        · simp (disch := decide) only [u5_k, u5_x, u5_eq]; exact hJ.2.1
        · by_cases hnm : n = m
          · rw [hnm, if_neg (by omega), if_pos rfl]; simp (disch := decide) only [u5_k, u5_eq]
          · rw [if_neg (by omega), if_neg (by omega), if_neg (by omega), if_neg (by omega)]
            rw [u5_k (by decide), u5_k (by decide), u5_k (by decide), u5_x hnm, u5_k (by decide)]; exact hJ.2.2.1 n hn
        · simp (disch := decide) only [u5_k, u5_x, u5_eq]; rw [(hJ.2.2.2.1 (by omega)).1, hm]; rfl
        · simp (disch := decide) only [u5_k, u5_x, u5_eq]; exact (hJ.2.2.2.1 (by omega)).2
        · simp (disch := decide) only [u5_k, u5_x, u5_eq]; exact hR.pc hI hj hm hp
        · simp (disch := decide) only [u5_k, u5_x, u5_eq]
      · rw [u5_eq, List.length_append, List.length_singleton]
      · rw [u5_k (by decide)]
        by_cases hk : k = q.length
        · subst hk
          rw [List.getElem?_append_right (Nat.le_refl _), Nat.sub_self] at hx
          cases hx
          rw [u5_eq]
        · have hkl : k < q.length := by
            have := (List.getElem?_eq_some_iff.1 hx).1
            rw [List.length_append, List.length_singleton] at this; omega
          rw [List.getElem?_append_left hkl] at hx
          rw [u5_x hk, u5_k (by decide), u5_k (by decide), u5_k (by decide)]; exact q97 k x hx
    · refine RG.rows hrow ?_
      intro h0
      subst h0
      refine hG.keep (fun k x hx => ?_) ?_ (fun kd x h1 h2 => ?_) (fun k => ?_) rfl
      · unfold nz_u5; rw [if_neg (by omega), if_neg (by omega), if_neg (by omega), if_neg (by omega), if_neg (by omega)]
      · simp (disch := decide) only [u5_k]
      · simp (disch := omega) only [u5_k]
      · by_cases hk : k = j
        · subst hk; rw [upj_self, if_neg (by decide), if_neg (by omega), if_neg (by decide), if_neg (by decide)]
        · rw [upj_ne hk]
  all_goals
    subst h
    have e : doP t (s, L) j = (goesS (tellP t m (decide (opS t s j = 7)) 9 (s, L)).1 j, (tellP t m (decide (opS t s j = 7)) 9 (s, L)).2) := by
      unfold doP; simp only [hon]; rw [if_neg (by omega), if_neg (by omega), if_neg (by omega), if_neg (by omega), if_neg (by omega), if_neg (by omega), if_neg (by omega), if_pos (by omega), if_neg hz]
    rw [e, hop] at hq
    simp (disch := omega) only [decide_eq_true_eq, decide_eq_false_iff_not, L32, az01, b2i_01, b2i_n0, b2i_n1, Bool.and_true, true_and, and_true, Classical.not_not, Bool.not_eq_true, Bool.not_eq_false, n32_mul, n32_add, n32_ix, n32_ib, n32_lt, n32_le, n32_inj, l_hb, l_hb0, l_shl, l_wo, l_eqm1, l_m1eq]
    refine ⟨fun _ => ⟨fun _ => ?_, fun hc => absurd hc (by decide)⟩, fun hc => absurd hc (by decide)⟩
    exact c_tell47 ho hT hj hm10 (by decide) rfl 9 s L C hI hL hR hG (by have := cslp_8 s; omega) hm hp hq
theorem c_several (ho : o < 2) (hT : TV t) (hI : INV t s) (hR : RC o t s C) (hG : RG o s L C) (hL : LI1 s L) (hd : 13 ≤ d) (hj : j < 8) (hm : s j 1 = 0) (hp : s j 0 < t 57 j) (hop : opS t s j = 9) {Q : nz_h → Prop}
    (hq : ∀ C', Fr (Wsh o) C C' → RC o t (sevP t (s, L) j).1 C' → RG o (sevP t (s, L) j).1 (sevP t (s, L) j).2 C' → Q (T, S, L0, Z, C')) : ctV P d 46 [sO o, jO o j, vi (n32 (onS t s j))] (T, S, L0, Z, C) Q := by
  obtain ⟨d, rfl⟩ := dge hd
  have hB := hI.B
  have hJ := hR.2.1 j hj
  have h5 := (hI.J hj).1.2.2.2
  have h4 : s j 4 = 0 := (hI.J hj).2.2.1.2.2 (Or.inl hm)
  have hon : onS t s j < 1024 := hT.2.2.2.2.1 _
  have husd : bits 10 (fun m => decide (0 < s j (8 + m))) < 1024 := bits_lt 10 _
  have hnw : nwo (onS t s j) (bits 10 (fun m => decide (0 < s j (8 + m)))) = bits 10 (fun m => (onS t s j).testBit m && decide (s j (8 + m) = 0)) := by
    apply Nat.eq_of_testBit_eq
    intro i
    rw [bits_bit]
    by_cases hi : i < 10
    · rw [nwo_bit (by omega) (by omega), bits_bit, decide_eq_true hi, Bool.true_and, Bool.true_and]
      by_cases hz : s j (8 + i) = 0
      · rw [decide_eq_true hz, decide_eq_false (by omega)]; rfl
      · rw [decide_eq_false hz, decide_eq_true (by omega)]; rfl
    · rw [decide_eq_false hi, Bool.false_and]
      apply Nat.testBit_lt_two_pow
      have h1 := nwo_le (onS t s j) (bits 10 (fun m => decide (0 < s j (8 + m))))
      have : 2 ^ 10 ≤ 2 ^ i := Nat.pow_le_pow_right (by decide) (by omega)
      omega
  have hbz : ∀ p : Nat → Bool, (bits 10 p = 0) ↔ anyB 10 p = false := by
    intro p
    rw [← Bool.not_eq_true, anyB_iff]
    constructor
    · rintro h ⟨k, hk, hpk⟩
      have := bits_bit 10 p k
      rw [h, Nat.zero_testBit, decide_eq_true hk, hpk] at this; cases this
    · intro h
      apply Nat.eq_of_testBit_eq
      intro i
      rw [bits_bit, Nat.zero_testBit]
      by_cases hi : i < 10
      · cases hpi : p i with
        | false => rw [Bool.and_false]
        | true => exact absurd ⟨i, hi, hpi⟩ h
      · rw [decide_eq_false hi]; rfl
  have hand : (s j 5 &&& onS t s j = 0) ↔ anyB 10 (fun m => (onS t s j).testBit m && (s j 5).testBit m) = false := by
    rw [← hbz]
    have : s j 5 &&& onS t s j = bits 10 (fun m => (onS t s j).testBit m && (s j 5).testBit m) := by
      apply Nat.eq_of_testBit_eq
      intro i
      rw [bits_bit, Nat.testBit_and]
      by_cases hi : i < 10
      · rw [decide_eq_true hi, Bool.true_and, Bool.and_comm]
      · rw [decide_eq_false hi, Bool.false_and, Nat.testBit_lt_two_pow (Nat.lt_of_lt_of_le h5 (by
          have : 2 ^ 10 ≤ 2 ^ i := Nat.pow_le_pow_right (by decide) (by omega)
          omega)), Bool.false_and]
    rw [this]
  have hle : s j 5 &&& onS t s j ≤ s j 5 := Nat.and_le_left
  have hnl := nwo_le (onS t s j) (bits 10 (fun m => decide (0 < s j (8 + m))))
  refine sm46 ?_
  simp (disch := first | omega | (refine Nat.lt_of_lt_of_le (hB _ _) ?_; omega)) only [decide_eq_true_eq, decide_eq_false_iff_not, L32, az01, b2i_01, b2i_n0, b2i_n1, Bool.and_true, true_and, and_true, Classical.not_not, Bool.not_eq_true, Bool.not_eq_false, n32_mul, n32_add, n32_ix, n32_ib, n32_lt, n32_le, n32_inj, l_hb, l_hb0, l_shl, l_wo, l_eqm1, l_m1eq, hJ.2.1, n32_and, c_used (h := (T, S, L0, Z, C)) hB hR]
  refine ⟨fun h0 => ⟨fun hz => ?_, fun hz => ?_⟩, fun h0 => ?_⟩
  · have a0 := hand.1 h0
    rw [hnw, hbz] at hz
    have e : sevP t (s, L) j = (goesS (moreS s j (onS t s j)) j, L) := by unfold sevP; rw [a0, hz]; rfl
    rw [e] at hq
    have hpos : ∀ m, m < 10 → (onS t s j).testBit m = true → 0 < s j (8 + m) := fun m hm10 hb => by
      apply Classical.byContradiction
      intro hn
      have := anyB_of (n := 10) (p := fun m => (onS t s j).testBit m && decide (s j (8 + m) = 0)) hm10 (by rw [hb, decide_eq_true (by omega)]; rfl)
      rw [hz] at this; cases this
    have loop : ∀ n m, n + m = 10 → ∀ C1, FJ o j C C1 → (∀ x, C1 8 o j 0 x = C 8 o j 0 x) → (∀ x, x < m → C1 35 o j 0 x = n32 (moreS s j (onS t s j) j (8 + x))) → (∀ x, m ≤ x → C1 35 o j 0 x = C 35 o j 0 x) → (∀ kd x, kd = 11 ∨ (46 ≤ kd ∧ kd ≤ 50) → C1 kd 0 0 0 x = C kd 0 0 0 x) → ∀ l0 l3, nzW P (d + 12) az_k46 39 [l0, some (jO o j), some (vi (n32 (onS t s j))), l3, some (vi (n32 m))] [] (T, S, L0, Z, C1) (nz_RV Q) := by
      intro n
      induction n with
      | zero =>
        intro m hm0 C1 hF h8 hlt hge hlog l0 l3
        obtain rfl : m = 10 := by omega
        refine sg46_39 ?_
        simp (disch := omega) only [decide_eq_true_eq, decide_eq_false_iff_not, L32, az01, b2i_01, b2i_n0, b2i_n1, Bool.and_true, true_and, and_true, Classical.not_not, Bool.not_eq_true, Bool.not_eq_false, n32_mul, n32_add, n32_ix, n32_ib, n32_lt, n32_le, n32_inj, l_hb, l_hb0, l_shl, l_wo, l_eqm1, l_m1eq, c_on]
        refine ⟨fun _ => ?_, fun hc => by omega⟩
        have hX : ∀ a f, a ≠ j → moreS s j (onS t s j) a f = s a f := fun a f ha => by unfold moreS; rw [upj_ne ha]
        have hXf : ∀ f, f < 8 → moreS s j (onS t s j) j f = s j f := fun f hf => by unfold moreS; rw [upj_self, if_neg (by omega)]
        refine hq _ (onC_FJ hF).sh (hR.goX hT hI hj hm hp hX (hXf 0 (by decide)) (hXf 2 (by decide)) (hXf 4 (by decide)) hF ?_ hlt (h8 13) (h8 5)) (hG.goX hX (hXf 6 (by decide)) hF (fun x _ => h8 x) hlog)
        rw [h8, hXf 5 (by decide)]; exact hJ.2.1
      | succ n ih =>
        intro m hm0 C1 hF h8 hlt hge hlog l0 l3
        have hm10 : m < 10 := by omega
        refine sg46_39 ?_
        simp (disch := omega) only [decide_eq_true_eq, decide_eq_false_iff_not, L32, az01, b2i_01, b2i_n0, b2i_n1, Bool.and_true, true_and, and_true, Classical.not_not, Bool.not_eq_true, Bool.not_eq_false, n32_mul, n32_add, n32_ix, n32_ib, n32_lt, n32_le, n32_inj, l_hb, l_hb0, l_shl, l_wo, l_eqm1, l_m1eq, c_has, uC_row]
        have hmm : moreS s j (onS t s j) j (8 + m) = if (onS t s j).testBit m = true then s j (8 + m) + 1 else s j (8 + m) := by
          unfold moreS; rw [upj_self, show 8 + m - 8 = m by omega]
          by_cases hb : (onS t s j).testBit m = true
          · rw [if_pos ⟨by omega, by omega, hb, hpos m hm10 hb⟩, if_pos hb]
          · rw [if_neg (fun hh => hb hh.2.2.1), if_neg hb]
        have e35 := hJ.2.2.1 m hm10
        refine ⟨fun hc => by omega, fun _ => ⟨fun hb => ?_, fun hb => ⟨hm10, hm10, ?_⟩⟩⟩
        · refine ih (m + 1) (by omega) C1 hF h8 (fun x hx => ?_) (fun x hx => hge x (by omega)) hlog _ _
          by_cases hxm : x = m
          · rw [hxm, hge m (Nat.le_refl _), hmm, if_neg (by rw [hb]; decide)]; exact e35
          · exact hlt x (by omega)
        · refine ih (m + 1) (by omega) _ (FJ.up hF (by unfold WJ; omega)) (fun x => (u5_k (by decide)).trans (h8 x)) (fun x hx => ?_) (fun x hx => (u5_x (by omega)).trans (hge x (by omega))) (fun kd x hk => (u5_k (by omega)).trans (hlog kd x hk)) _ _
          by_cases hxm : x = m
          · rw [hxm, u5_eq, hge m (Nat.le_refl _), hmm, if_pos hb, e35, n32_add]
          · rw [u5_x hxm]; exact hlt x (by omega)
    exact loop 10 0 rfl C (FJ.rfl' C) (fun _ => rfl) (fun x hx => by omega) (fun _ _ => rfl) (fun _ _ _ => rfl) _ _
  · have a0 := hand.1 h0
    rw [hnw, hbz, Bool.not_eq_false] at hz
    have e : sevP t (s, L) j = comesP t (s, L) j := by unfold sevP; rw [a0, hz]; rfl
    rw [e] at hq
    have ea : askS t s j = nwo (onS t s j) (bits 10 (fun m => decide (0 < s j (8 + m)))) := by
      rw [hnw]; unfold askS onlyS; rw [hop, decide_eq_false (by omega)]; rfl
    have eb : atlS t s j = false := by unfold atlS; rw [hop]; simp
    exact c_ask0 (b := false) ho hT hI hR hG hL (by omega) hj hm hp (ask_sev hop a0 hz) ea eb (fun C' hF h1 h2 => hq C' hF.sh h1 h2)
  · have a0 : anyB 10 (fun m => (onS t s j).testBit m && (s j 5).testBit m) = true := by
      rw [hand, Bool.not_eq_false] at h0; exact h0
    have e : sevP t (s, L) j = (goesS s j, incL L 68 j) := by unfold sevP; rw [a0]; rfl
    rw [e] at hq
    exact c_illegal hT hI hR hG (by omega) hj hm hp (fun C' hF h1 h2 => hq C' hF.sh h1 h2)
end
