/-! the system's isSafe -/
def Fr (W : Nat → Nat → Nat → Prop) (C C' : nz_f5) : Prop := ∀ kd o j k x, ¬ W kd o x → C' kd o j k x = C kd o j k x
theorem Fr.rfl' {W : Nat → Nat → Nat → Prop} (C : nz_f5) : Fr W C C := fun _ _ _ _ _ _ => rfl
theorem Fr.trans {W : Nat → Nat → Nat → Prop} {C C1 C2 : nz_f5} (h1 : Fr W C C1) (h2 : Fr W C1 C2) : Fr W C C2 := fun kd o j k x h => (h2 kd o j k x h).trans (h1 kd o j k x h)
theorem Fr.mono {W W' : Nat → Nat → Nat → Prop} {C C' : nz_f5} (h : Fr W C C') (hw : ∀ kd o x, W kd o x → W' kd o x) : Fr W' C C' := fun kd o j k x hh => h kd o j k x (fun hx => hh (hw kd o x hx))
theorem Fr.up {W : Nat → Nat → Nat → Prop} {C C' : nz_f5} {kd o j k x : Nat} {v : Int32} (h : Fr W C C') (hw : W kd o x) : Fr W C (nz_u5 C' kd o j k x v) := fun kd' o' j' k' x' hh => by
  unfold nz_u5
  rw [if_neg (fun e => hh (by rw [e.1, e.2.1, e.2.2.2.2]; exact hw))]
  exact h kd' o' j' k' x' hh
def Wsafe (o : Nat) (kd o' x : Nat) : Prop := o' = o ∧ (kd = 33 ∨ (kd = 1 ∧ x = 11))
/-- what a shop's jobs have -/
def HV (o : Nat) (t s : St) (C : nz_f5) : Prop := ∀ j, j < 8 → C 8 o j 0 0 = n32 j ∧ C 8 o j 0 6 = n32 (s j 1) ∧ C 8 o j 0 7 = n32 (s j 5) ∧ (∀ m, m < 10 → C 35 o j 0 m = n32 (s j (8 + m))) ∧ C 8 o j 0 4 = n32 (t 62 j) ∧ s j 5 < 1024
theorem RC.hv {o : Nat} {t s : St} {C : nz_f5} (hI : INV t s) (h : RC o t s C) : HV o t s C := fun j hj => ⟨(h.1.2.1 j hj).1, (h.2.1 j hj).1, (h.2.1 j hj).2.1, (h.2.1 j hj).2.2.1, (h.1.2.1 j hj).2.2.2, (hI.J hj).1.2.2.2⟩
theorem HV.safe {o : Nat} {t s : St} {C C' : nz_f5} (hf : Fr (Wsafe o) C C') (h : HV o t s C) : HV o t s C' := fun j hj => by
  obtain ⟨a, b, c, d, e, f⟩ := h j hj
  have g : ∀ x, C' 8 o j 0 x = C 8 o j 0 x := fun x => hf _ _ _ _ _ (by unfold Wsafe; omega)
  exact ⟨(g 0).trans a, (g 6).trans b, (g 7).trans c, fun m hm => (hf _ _ _ _ _ (by unfold Wsafe; omega)).trans (d m hm), (g 4).trans e, f⟩
theorem RC.off {o : Nat} {t s : St} {C C' : nz_f5} (h8 : ∀ j x, C' 8 o j 0 x = C 8 o j 0 x) (h7 : ∀ m x, C' 7 o m 0 x = C 7 o m 0 x) (h9 : ∀ j p x, C' 9 o j p x = C 9 o j p x) (h1 : C' 1 o 0 0 5 = C 1 o 0 0 5) (h35 : ∀ j m, C' 35 o j 0 m = C 35 o j 0 m) (h28 : ∀ m, C' 28 o 0 0 m = C 28 o 0 0 m) (h97 : ∀ m k, C' 97 o m 0 k = C 97 o m 0 k) (h : RC o t s C) : RC o t s C' := by
  obtain ⟨⟨a1, a2, a3, a4⟩, b, c⟩ := h
  refine ⟨⟨fun m hm => ?_, fun j hj => ?_, fun j p hj hp => ?_, h1.trans a4⟩, fun j hj => ?_, fun m hm => ?_⟩
  · rw [h7, h7]; exact a1 m hm
  · rw [h8, h8, h8, h8]; exact a2 j hj
  · rw [h9, h9, h9]; exact a3 j p hj hp
  · obtain ⟨e1, e2, e3, e4, e5, e6, e7, e8⟩ := b j hj
    refine ⟨by rw [h8]; exact e1, by rw [h8]; exact e2, fun m hm => by rw [h35]; exact e3 m hm, by rw [h8, h8]; exact e4, by rw [h8]; exact e5, by rw [h8, h8, h8]; exact e6, by rw [h8]; exact e7, by rw [h8]; exact e8⟩
  · obtain ⟨q, q1, q2, q3⟩ := c m hm
    exact ⟨q, q1, (h28 m).trans q2, fun k x hx => (h97 m k).trans (q3 k x hx)⟩
theorem RC.safe {o : Nat} {t s : St} {C C' : nz_f5} (hf : Fr (Wsafe o) C C') (h : RC o t s C) : RC o t s C' :=
  h.off (fun _ _ => hf _ _ _ _ _ (by unfold Wsafe; omega)) (fun _ _ => hf _ _ _ _ _ (by unfold Wsafe; omega)) (fun _ _ _ => hf _ _ _ _ _ (by unfold Wsafe; omega)) (hf _ _ _ _ _ (by unfold Wsafe; omega)) (fun _ _ => hf _ _ _ _ _ (by unfold Wsafe; omega)) (fun _ => hf _ _ _ _ _ (by unfold Wsafe; omega)) (fun _ _ => hf _ _ _ _ _ (by unfold Wsafe; omega))
section
variable {P : Nat × (Nat → Int32)} {d o : Nat} {t s : St} {h : nz_h}
theorem v_used {j : Nat} (hB : ∀ j f, s j f < 1000000) (hV : HV o t s h.2.2.2.2) (hd : 2 ≤ d) (hj : j < 8) (Q : Int32 → nz_h → Prop) : ctI P d 82 [jO o j] h Q = Q (n32 (bits 10 (fun m => decide (0 < s j (8 + m))))) h := by
  obtain ⟨d, rfl⟩ := dge hd
  refine ctI_det (fun Q hq => sm82 ?_) Q
  have loop : ∀ n m, n + m = 10 → nzW P (d + 1) az_k82 4 [some (jO o j), some (vi (n32 (bits m (fun m => decide (0 < s j (8 + m)))))), some (vi (n32 m))] [] h (nz_RI Q) := by
    intro n
    induction n with
    | zero =>
      intro m hm
      obtain rfl : m = 10 := by omega
      refine sg82_4 ?_
      simp (disch := first | omega | (refine Nat.lt_of_lt_of_le (hB _ _) ?_; omega)) only [decide_eq_true_eq, decide_eq_false_iff_not, L32, az01, b2i_01, b2i_n0, b2i_n1, Bool.and_true, true_and, and_true, Classical.not_not, Bool.not_eq_true, Bool.not_eq_false, n32_mul, n32_add, n32_ix, n32_ib, n32_lt, n32_le, n32_inj, l_hb, l_hb0, l_shl, l_wo, l_eqm1, l_m1eq]
      exact ⟨fun _ => hq, fun hc => by omega⟩
    | succ n ih =>
      intro m hm
      have hm10 : m < 10 := by omega
      have e := (hV j hj).2.2.2.1 m hm10
      refine sg82_4 ?_
      simp (disch := first | omega | (refine Nat.lt_of_lt_of_le (hB _ _) ?_; omega)) only [decide_eq_true_eq, decide_eq_false_iff_not, L32, az01, b2i_01, b2i_n0, b2i_n1, Bool.and_true, true_and, and_true, Classical.not_not, Bool.not_eq_true, Bool.not_eq_false, n32_mul, n32_add, n32_ix, n32_ib, n32_lt, n32_le, n32_inj, l_hb, l_hb0, l_shl, l_wo, l_eqm1, l_m1eq, e, n32_or]
      refine ⟨fun hc => by omega, fun _ => ⟨hm10, fun h0 => ?_, fun h0 => ?_⟩⟩
      · rw [bits_F (p := fun m => decide (0 < s j (8 + m))) (decide_eq_false (by omega))]; exact ih (m + 1) (by omega)
      · rw [bits_T (p := fun m => decide (0 < s j (8 + m))) (decide_eq_true (by omega))]; exact ih (m + 1) (by omega)
  exact loop 10 0 rfl
theorem v_having {j : Nat} (hB : ∀ j f, s j f < 1000000) (hV : HV o t s h.2.2.2.2) (hd : 3 ≤ d) (hj : j < 8) (Q : Int32 → nz_h → Prop) : ctI P d 81 [jO o j] h Q = Q (n32 (hadS s j)) h := by
  obtain ⟨d, rfl⟩ := dge hd
  refine ctI_det (fun Q hq => sm81 ?_) Q
  have e := (hV j hj).2.2.1
  simp (disch := first | omega | (refine Nat.lt_of_lt_of_le (hB _ _) ?_; omega)) only [decide_eq_true_eq, decide_eq_false_iff_not, L32, az01, b2i_01, b2i_n0, b2i_n1, Bool.and_true, true_and, and_true, Classical.not_not, Bool.not_eq_true, Bool.not_eq_false, n32_mul, n32_add, n32_ix, n32_ib, n32_lt, n32_le, n32_inj, l_hb, l_hb0, l_shl, l_wo, l_eqm1, l_m1eq, v_used hB hV, e, n32_or, had_or (hV j hj).2.2.2.2.2]
  exact hq
def frN (t s : St) (rem j : Nat) : Bool := !anyB 8 (fun k => !decide (k = j) && rem.testBit k && !decide (hadS s k &&& t 62 j = 0))
theorem v_isFree {j rem : Nat} (hT : TV t) (hB : ∀ j f, s j f < 1000000) (hV : HV o t s h.2.2.2.2) (hd : 5 ≤ d) (hj : j < 8) (hr : rem < 256) (Q : Int32 → nz_h → Prop) : ctI P d 54 [sO o, jO o j, vi (n32 rem)] h Q = Q (b2i (frN t s rem j)) h := by
  obtain ⟨d, rfl⟩ := dge hd
  refine ctI_det (fun Q hq => sm54 ?_) Q
  have e4 := (hV j hj).2.2.2.2.1
  have loop : ∀ n k, n + k = 8 → anyB k (fun k => !decide (k = j) && rem.testBit k && !decide (hadS s k &&& t 62 j = 0)) = false → ∀ l0 l6, nzW P (d + 4) az_k54 12 [l0, some (jO o j), some (vi (n32 rem)), some (vr (26, o, 0, 0)), some (vi (n32 8)), some (vi (n32 k)), l6] [] h (nz_RI Q) := by
    intro n
    induction n with
    | zero =>
      intro k hk ha l0 l6
      obtain rfl : k = 8 := by omega
      refine sg54_12 ?_
      simp (disch := first | omega | (refine Nat.lt_of_lt_of_le (hB _ _) ?_; omega)) only [decide_eq_true_eq, decide_eq_false_iff_not, L32, az01, b2i_01, b2i_n0, b2i_n1, Bool.and_true, true_and, and_true, Classical.not_not, Bool.not_eq_true, Bool.not_eq_false, n32_mul, n32_add, n32_ix, n32_ib, n32_lt, n32_le, n32_inj, l_hb, l_hb0, l_shl, l_wo, l_eqm1, l_m1eq]
      exact ⟨fun _ => ans1 hq (by unfold frN; rw [ha]; rfl), fun hc => by omega⟩
    | succ n ih =>
      intro k hk ha l0 l6
      have hk8 : k < 8 := by omega
      have e0 := (hV k hk8).1
      have hcl : t 62 j < 1024 := hT.2.2.2.2.2.2.2.2.1 _
      have ha2 : hadS s k &&& t 62 j < 1024 := Nat.and_lt_two_pow (n := 10) _ hcl
      have stay : (!decide (k = j) && rem.testBit k && !decide (hadS s k &&& t 62 j = 0)) = false → ∀ l0 l6, nzW P (d + 4) az_k54 12 [l0, some (jO o j), some (vi (n32 rem)), some (vr (26, o, 0, 0)), some (vi (n32 8)), some (vi (n32 (k + 1))), l6] [] h (nz_RI Q) := fun hh l0 l6 => ih (k + 1) (by omega) (by rw [anyB_F (p := fun k => !decide (k = j) && rem.testBit k && !decide (hadS s k &&& t 62 j = 0)) hh]; exact ha) l0 l6
      refine sg54_12 ?_
      simp (disch := first | omega | (refine Nat.lt_of_lt_of_le (hB _ _) ?_; omega)) only [decide_eq_true_eq, decide_eq_false_iff_not, L32, az01, b2i_01, b2i_n0, b2i_n1, Bool.and_true, true_and, and_true, Classical.not_not, Bool.not_eq_true, Bool.not_eq_false, n32_mul, n32_add, n32_ix, n32_ib, n32_lt, n32_le, n32_inj, l_hb, l_hb0, l_shl, l_wo, l_eqm1, l_m1eq, e0, c_has, v_having hB hV, e4, n32_and, Prod.mk.injEq, true_and, and_true]
      refine ⟨fun hc => by omega, fun _ => ⟨hk8, fun e => stay (by rw [decide_eq_true e]; rfl) _ _, fun e => ⟨fun hb => stay (by rw [hb]; simp) _ _, fun hb => ⟨fun hz => stay (by rw [decide_eq_true hz]; simp) _ _, fun hz => ans0 hq ?_⟩⟩⟩⟩
      unfold frN
      have : anyB 8 (fun k => !decide (k = j) && rem.testBit k && !decide (hadS s k &&& t 62 j = 0)) = true := anyB_iff.mpr ⟨k, hk8, by simp only [hb, decide_eq_false e, decide_eq_false hz]; rfl⟩
      rw [this]; rfl
  exact loop 8 0 rfl rfl _ _
end
def ordC (o : Nat) (l : List Nat) (C : nz_f5) : Prop := C 1 o 0 0 11 = n32 l.length ∧ ∀ (i x : Nat), l[i]? = some x → C 33 o 0 0 i = n32 x
theorem u5_ne {f : nz_f5} {a b c d e a' b' c' d' e' : Nat} {v : Int32} (h : a' ≠ a ∨ e' ≠ e) : nz_u5 f a b c d e v a' b' c' d' e' = f a' b' c' d' e' := by
  unfold nz_u5; rw [if_neg (fun hh => h.elim (fun x => x hh.1) (fun x => x hh.2.2.2.2))]
theorem u5_eq {f : nz_f5} {a b c d e : Nat} {v : Int32} : nz_u5 f a b c d e v a b c d e = v := by unfold nz_u5; rw [if_pos ⟨rfl, rfl, rfl, rfl, rfl⟩]
theorem uC_row {T S L Z : nz_f2} {C : nz_f5} (a b c d e : Nat) (v : Int32) : nz_uC (T, S, L, Z, C) a b c d e v = (T, S, L, Z, nz_u5 C a b c d e v) := rfl
section
variable {P : Nat × (Nat → Int32)} {d o : Nat} {t s : St} {T S L Z : nz_f2} {C : nz_f5}
theorem v_isSafe (hT : TV t) (hB : ∀ j f, s j f < 1000000) (hV : HV o t s C) (hd : 6 ≤ d) {Q : Int32 → nz_h → Prop} (hq : ∀ C', Fr (Wsafe o) C C' → ordC o (sfL t s 8 (leftS s)) C' → Q (b2i (safeS t s)) (T, S, L, Z, C')) : ctI P d 53 [sO o] (T, S, L, Z, C) Q := by
  obtain ⟨d, rfl⟩ := dge hd
  refine sm53 ?_
  have hl256 : leftS s < 256 := bits_lt 8 _
  have fin : ∀ rem C1, rem < 256 → Q (b2i (decide (rem = 0))) (T, S, L, Z, C1) → ∀ l3 l4 l5, nzW P (d + 5) az_k53 57 [some (sO o), some (vi (n32 rem)), some (vi (n32 0)), l3, l4, l5] [] (T, S, L, Z, C1) (nz_RI Q) := by
    intro rem C1 hr hq l3 l4 l5
    refine sg53_57 ?_
    simp (disch := omega) only [decide_eq_true_eq, decide_eq_false_iff_not, L32, az01, b2i_01, b2i_n0, b2i_n1, Bool.and_true, true_and, and_true, Classical.not_not, Bool.not_eq_true, Bool.not_eq_false, n32_mul, n32_add, n32_ix, n32_ib, n32_lt, n32_le, n32_inj, l_hb, l_hb0, l_shl, l_wo, l_eqm1, l_m1eq]
    exact ⟨fun _ => ⟨fun he => ans0 hq (decide_eq_false he), fun he => ans1 hq (decide_eq_true he)⟩, fun hc => (hc trivial).elim⟩
  have main : ∀ n rem pre C1, rem < 256 → cnt 8 rem.testBit ≤ n → pre.length + cnt 8 rem.testBit ≤ 8 → HV o t s C1 → Fr (Wsafe o) C C1 → ordC o pre C1 → (∀ C', Fr (Wsafe o) C C' → ordC o (pre ++ sfL t s n rem) C' → Q (b2i (decide (sfR t s n rem = 0))) (T, S, L, Z, C')) → ∀ l3 l4 l5,
      nzW P (d + 5) az_k53 57 [some (sO o), some (vi (n32 rem)), some (vi (n32 1)), l3, l4, l5] [] (T, S, L, Z, C1) (nz_RI Q) := by
    intro n
    induction n with
    | zero =>
      intro rem pre C1 hr hc hlen hV1 hF1 hord hqq l3 l4 l5
      have hz : rem = 0 := by
        rcases Nat.eq_zero_or_pos rem with h | h
        · exact h
        · have := pc_step rem hr h; omega
      subst hz
      refine sg53_57 ?_
      simp (disch := omega) only [decide_eq_true_eq, decide_eq_false_iff_not, L32, az01, b2i_01, b2i_n0, b2i_n1, Bool.and_true, true_and, and_true, Classical.not_not, Bool.not_eq_true, Bool.not_eq_false, n32_mul, n32_add, n32_ix, n32_ib, n32_lt, n32_le, n32_inj, l_hb, l_hb0, l_shl, l_wo, l_eqm1, l_m1eq]
      refine ⟨fun hc => by omega, fun _ => ?_⟩
      have scan : ∀ m j, m + j = 8 → ∀ l4 l5, nzW P (d + 5) az_k53 65 [some (sO o), some (vi (n32 0)), some (vi (n32 0)), some (vi (n32 j)), l4, l5] [] (T, S, L, Z, C1) (nz_RI Q) := by
        intro m
        induction m with
        | zero =>
          intro j hj l4 l5
          obtain rfl : j = 8 := by omega
          refine sg53_65 ?_
          simp (disch := omega) only [decide_eq_true_eq, decide_eq_false_iff_not, L32, az01, b2i_01, b2i_n0, b2i_n1, Bool.and_true, true_and, and_true, Classical.not_not, Bool.not_eq_true, Bool.not_eq_false, n32_mul, n32_add, n32_ix, n32_ib, n32_lt, n32_le, n32_inj, l_hb, l_hb0, l_shl, l_wo, l_eqm1, l_m1eq]
          refine ⟨fun _ => ⟨fun hc => (hc trivial).elim, fun _ => fin 0 C1 (by decide) (hqq C1 hF1 (by rw [sfL, List.append_nil]; exact hord)) _ _ _⟩, fun hc => by omega⟩
        | succ m ih =>
          intro j hj l4 l5
          refine sg53_65 ?_
          simp (disch := omega) only [decide_eq_true_eq, decide_eq_false_iff_not, L32, az01, b2i_01, b2i_n0, b2i_n1, Bool.and_true, true_and, and_true, Classical.not_not, Bool.not_eq_true, Bool.not_eq_false, n32_mul, n32_add, n32_ix, n32_ib, n32_lt, n32_le, n32_inj, l_hb, l_hb0, l_shl, l_wo, l_eqm1, l_m1eq, c_has, Nat.zero_testBit]
          exact ⟨fun hc => by omega, fun _ => ⟨fun hc => (hc trivial).elim, fun _ => ⟨fun _ => ih (j + 1) (by omega) _ _, fun hc => (hc trivial).elim⟩⟩⟩
      exact scan 8 0 rfl _ _
    | succ n ih =>
      intro rem pre C1 hr hc hlen hV1 hF1 hord hqq l3 l4 l5
      refine sg53_57 ?_
      simp (disch := omega) only [decide_eq_true_eq, decide_eq_false_iff_not, L32, az01, b2i_01, b2i_n0, b2i_n1, Bool.and_true, true_and, and_true, Classical.not_not, Bool.not_eq_true, Bool.not_eq_false, n32_mul, n32_add, n32_ix, n32_ib, n32_lt, n32_le, n32_inj, l_hb, l_hb0, l_shl, l_wo, l_eqm1, l_m1eq]
      refine ⟨fun hc => by omega, fun _ => ?_⟩
      cases hf : fst 8 0 (frB t s rem) with
      | none =>
        have scan : ∀ m j, m + j = 8 → ∀ l4 l5, nzW P (d + 5) az_k53 65 [some (sO o), some (vi (n32 rem)), some (vi (n32 0)), some (vi (n32 j)), l4, l5] [] (T, S, L, Z, C1) (nz_RI Q) := by
          intro m
          induction m with
          | zero =>
            intro j hj l4 l5
            obtain rfl : j = 8 := by omega
            refine sg53_65 ?_
            have h := hqq C1 hF1 (by rw [sfL, hf]; simp only [List.append_nil]; exact hord)
            rw [sfR, hf] at h
            simp (disch := omega) only [decide_eq_true_eq, decide_eq_false_iff_not, L32, az01, b2i_01, b2i_n0, b2i_n1, Bool.and_true, true_and, and_true, Classical.not_not, Bool.not_eq_true, Bool.not_eq_false, n32_mul, n32_add, n32_ix, n32_ib, n32_lt, n32_le, n32_inj, l_hb, l_hb0, l_shl, l_wo, l_eqm1, l_m1eq]
            exact ⟨fun _ => ⟨fun hc => (hc trivial).elim, fun _ => fin rem C1 hr h _ _ _⟩, fun hc => by omega⟩
          | succ m ihm =>
            intro j hj l4 l5
            have hj8 : j < 8 := by omega
            have hfr := fst_none.mp hf j (Nat.zero_le _) (by omega)
            refine sg53_65 ?_
            simp (disch := omega) only [decide_eq_true_eq, decide_eq_false_iff_not, L32, az01, b2i_01, b2i_n0, b2i_n1, Bool.and_true, true_and, and_true, Classical.not_not, Bool.not_eq_true, Bool.not_eq_false, n32_mul, n32_add, n32_ix, n32_ib, n32_lt, n32_le, n32_inj, l_hb, l_hb0, l_shl, l_wo, l_eqm1, l_m1eq, c_has, v_isFree (h := (T, S, L, Z, C1)) hT hB hV1]
            refine ⟨fun hc => by omega, fun _ => ⟨fun hc => (hc trivial).elim, fun _ => ⟨fun _ => ihm (j + 1) (by omega) _ _, fun hb => ⟨hj8, fun _ => ihm (j + 1) (by omega) _ _, fun hfree => ?_⟩⟩⟩⟩
            exfalso
            have : frB t s rem j = (rem.testBit j && frN t s rem j) := rfl
            rw [this, hb, hfree] at hfr; cases hfr
        exact scan 8 0 rfl _ _
      | some x =>
        have hx2 := fst_some.mp hf
        have hx8 : x < 8 := by omega
        have hxx : (rem.testBit x && frN t s rem x) = true := hx2.2.2.1
        simp only [Bool.and_eq_true] at hxx
        have hcn := cnt_nwo hx8 hxx.1
        have hpx : 2 ^ x < 256 := Nat.pow_lt_pow_right (a := 2) (n := 8) (by decide) hx8
        have hrem' : nwo rem (2 ^ x) < 256 := Nat.lt_of_le_of_lt (nwo_le _ _) hr
        have hlen8 : pre.length < 8 := by omega
        have pick : ∀ k, k ≤ x → ∀ l4 l5, nzW P (d + 5) az_k53 118 [some (sO o), some (vi (n32 rem)), some (vi (n32 1)), some (vi (n32 k)), l4, l5] [] (T, S, L, Z, C1) (nz_RI Q) := by
          have key : ∀ m k, m + k = x → ∀ l4 l5, nzW P (d + 5) az_k53 118 [some (sO o), some (vi (n32 rem)), some (vi (n32 1)), some (vi (n32 k)), l4, l5] [] (T, S, L, Z, C1) (nz_RI Q) := by
            intro m
            induction m with
            | zero =>
              intro k hk l4 l5
              obtain rfl : k = x := by omega
              refine sg53_118 ?_
              simp (disch := first | omega | decide) only [decide_eq_true_eq, decide_eq_false_iff_not, L32, az01, b2i_01, b2i_n0, b2i_n1, Bool.and_true, true_and, and_true, Classical.not_not, Bool.not_eq_true, Bool.not_eq_false, n32_mul, n32_add, n32_ix, n32_ib, n32_lt, n32_le, n32_inj, l_hb, l_hb0, l_shl, l_wo, l_eqm1, l_m1eq, c_has, v_isFree (h := (T, S, L, Z, C1)) hT hB hV1, hord.1, uC_row, u5_ne]
              refine ⟨fun hb => (by rw [hxx.1] at hb; cases hb), fun _ => ⟨hx8, fun _ => ⟨by omega, ?_⟩, fun hb => (by rw [hxx.2] at hb; cases hb)⟩⟩
              have hF2 : Fr (Wsafe o) C (nz_u5 (nz_u5 C1 33 o 0 0 pre.length (n32 k)) 1 o 0 0 11 (n32 (pre.length + 1))) := (hF1.up (by unfold Wsafe; omega)).up (by unfold Wsafe; omega)
              refine ih (nwo rem (2 ^ k)) (pre ++ [k]) _ hrem' (by omega) (by rw [List.length_append]; simp; omega) (hV.safe hF2) hF2 ?_ ?_ _ _ _
              · refine ⟨by rw [u5_eq, List.length_append]; rfl, fun i y hy => ?_⟩
                rw [u5_ne (by left; decide)]
                by_cases hi : i = pre.length
                · subst hi
                  rw [List.getElem?_append_right (Nat.le_refl _), Nat.sub_self] at hy
                  simp at hy
                  rw [u5_eq, hy]
                · have hi2 : i < pre.length := by
                    have := (List.getElem?_eq_some_iff.mp hy).1
                    rw [List.length_append] at this
                    simp at this
                    omega
                  rw [List.getElem?_append_left hi2] at hy
                  rw [u5_ne (Or.inr hi)]
                  exact hord.2 i y hy
              · intro C' hF' hC'
                have h := hqq C' hF'
                rw [sfL, sfR, hf] at h
                simp only [List.append_assoc, List.singleton_append] at h hC'
                exact h hC'
            | succ m ihm =>
              intro k hk l4 l5
              have hk8 : k < 8 := by omega
              have hfr := hx2.2.2.2 k (Nat.zero_le _) (by omega)
              refine sg53_118 ?_
              simp (disch := first | omega | decide) only [decide_eq_true_eq, decide_eq_false_iff_not, L32, az01, b2i_01, b2i_n0, b2i_n1, Bool.and_true, true_and, and_true, Classical.not_not, Bool.not_eq_true, Bool.not_eq_false, n32_mul, n32_add, n32_ix, n32_ib, n32_lt, n32_le, n32_inj, l_hb, l_hb0, l_shl, l_wo, l_eqm1, l_m1eq, c_has, v_isFree (h := (T, S, L, Z, C1)) hT hB hV1]
              refine ⟨fun _ => ihm (k + 1) (by omega) _ _, fun hb => ⟨hk8, fun hfree => ?_, fun _ => ihm (k + 1) (by omega) _ _⟩⟩
              exfalso
              have : frB t s rem k = (rem.testBit k && frN t s rem k) := rfl
              rw [this, hb, hfree] at hfr; cases hfr
          intro k hk
          exact key (x - k) k (by omega)
        have scan : ∀ m j, m + j = x → ∀ l4 l5, nzW P (d + 5) az_k53 65 [some (sO o), some (vi (n32 rem)), some (vi (n32 0)), some (vi (n32 j)), l4, l5] [] (T, S, L, Z, C1) (nz_RI Q) := by
          intro m
          induction m with
          | zero =>
            intro j hj l4 l5
            obtain rfl : j = x := by omega
            refine sg53_65 ?_
            simp (disch := omega) only [decide_eq_true_eq, decide_eq_false_iff_not, L32, az01, b2i_01, b2i_n0, b2i_n1, Bool.and_true, true_and, and_true, Classical.not_not, Bool.not_eq_true, Bool.not_eq_false, n32_mul, n32_add, n32_ix, n32_ib, n32_lt, n32_le, n32_inj, l_hb, l_hb0, l_shl, l_wo, l_eqm1, l_m1eq, c_has, v_isFree (h := (T, S, L, Z, C1)) hT hB hV1]
            refine ⟨fun hc => by omega, fun _ => ⟨fun hc => (hc trivial).elim, fun _ => ⟨fun hb => (by rw [hxx.1] at hb; cases hb), fun _ => ⟨hx8, fun hb => (by rw [hxx.2] at hb; cases hb), fun _ => ?_⟩⟩⟩⟩
            refine sg53_65 ?_
            simp (disch := omega) only [decide_eq_true_eq, decide_eq_false_iff_not, L32, az01, b2i_01, b2i_n0, b2i_n1, Bool.and_true, true_and, and_true, Classical.not_not, Bool.not_eq_true, Bool.not_eq_false, n32_mul, n32_add, n32_ix, n32_ib, n32_lt, n32_le, n32_inj, l_hb, l_hb0, l_shl, l_wo, l_eqm1, l_m1eq]
            exact ⟨fun _ => ⟨fun _ => pick 0 (Nat.zero_le _) _ _, fun hc => by omega⟩, fun _ => ⟨fun _ => ⟨fun _ => pick 0 (Nat.zero_le _) _ _, fun hc => by omega⟩, fun hc => by omega⟩⟩
          | succ m ihm =>
            intro j hj l4 l5
            have hj8 : j < 8 := by omega
            have hfr := hx2.2.2.2 j (Nat.zero_le _) (by omega)
            refine sg53_65 ?_
            simp (disch := omega) only [decide_eq_true_eq, decide_eq_false_iff_not, L32, az01, b2i_01, b2i_n0, b2i_n1, Bool.and_true, true_and, and_true, Classical.not_not, Bool.not_eq_true, Bool.not_eq_false, n32_mul, n32_add, n32_ix, n32_ib, n32_lt, n32_le, n32_inj, l_hb, l_hb0, l_shl, l_wo, l_eqm1, l_m1eq, c_has, v_isFree (h := (T, S, L, Z, C1)) hT hB hV1]
            refine ⟨fun hc => by omega, fun _ => ⟨fun hc => (hc trivial).elim, fun _ => ⟨fun _ => ihm (j + 1) (by omega) _ _, fun hb => ⟨hj8, fun _ => ihm (j + 1) (by omega) _ _, fun hfree => ?_⟩⟩⟩⟩
            exfalso
            have : frB t s rem j = (rem.testBit j && frN t s rem j) := rfl
            rw [this, hb, hfree] at hfr; cases hfr
        exact scan x 0 (by omega) _ _
  have left : ∀ n k, n + k = 8 → ∀ l5, nzW P (d + 5) az_k53 13 [some (sO o), some (vi (n32 (bits k (fun j => !decide (s j 1 = 3))))), some (vr (26, o, 0, 0)), some (vi (n32 8)), some (vi (n32 k)), l5] [] (T, S, L, Z, C) (nz_RI Q) := by
    intro n
    induction n with
    | zero =>
      intro k hk l5
      obtain rfl : k = 8 := by omega
      refine sg53_13 ?_
      simp (disch := omega) only [decide_eq_true_eq, decide_eq_false_iff_not, L32, az01, b2i_01, b2i_n0, b2i_n1, Bool.and_true, true_and, and_true, Classical.not_not, Bool.not_eq_true, Bool.not_eq_false, n32_mul, n32_add, n32_ix, n32_ib, n32_lt, n32_le, n32_inj, l_hb, l_hb0, l_shl, l_wo, l_eqm1, l_m1eq, uC_row]
      refine ⟨fun _ => ?_, fun hc => by omega⟩
      have hc8 := cnt_le 8 (leftS s).testBit
      have hF2 : Fr (Wsafe o) C (nz_u5 C 1 o 0 0 11 (n32 0)) := (Fr.rfl' C).up (by unfold Wsafe; omega)
      exact main 8 (leftS s) [] _ hl256 hc8 (by simpa using hc8) (hV.safe hF2) hF2 ⟨u5_eq, fun i x hx => by simp at hx⟩ hq _ _ _
    | succ n ih =>
      intro k hk l5
      have hk8 : k < 8 := by omega
      have h2 := ih (k + 1) (by omega)
      obtain ⟨e0, e6, -⟩ := hV k hk8
      refine sg53_13 ?_
      simp (disch := first | omega | (refine Nat.lt_of_lt_of_le (hB _ _) ?_; omega)) only [decide_eq_true_eq, decide_eq_false_iff_not, L32, az01, b2i_01, b2i_n0, b2i_n1, Bool.and_true, true_and, and_true, Classical.not_not, Bool.not_eq_true, Bool.not_eq_false, n32_mul, n32_add, n32_ix, n32_ib, n32_lt, n32_le, n32_inj, l_hb, l_hb0, l_shl, l_wo, l_eqm1, l_m1eq, e0, e6, n32_or]
      refine ⟨fun hc => by omega, fun _ => ⟨hk8, fun hb => ?_, fun hb => ?_⟩⟩
      · rw [← bits_F (p := fun j => !decide (s j 1 = 3)) (by simp [hb])] at h2; exact h2 _
      · rw [← bits_T (p := fun j => !decide (s j 1 = 3)) (by simp [hb])] at h2; exact h2 _
  exact left 8 0 rfl _
end
