/-! rings of orders -/
def fitB (o : Nat → Nat → Bool) (w : Nat → Nat) (a m : Nat) : Bool := o (w (a - 1)) m && !anyB a (fun k => decide (w k = m))
def Wc (F : (Nat → Nat) → Nat → List (Nat → Nat)) (o : Nat → Nat → Bool) (w : Nat → Nat) (a : Nat) : Nat → List (Nat → Nat)
  | 0 => []
  | c + 1 => cond (fitB o w a (9 - c)) (F (updN w a (9 - c)) (a + 1)) [] ++ Wc F o w a c
def Gn (o : Nat → Nat → Bool) : Nat → (Nat → Nat) → Nat → List (Nat → Nat)
  | 0, w, a => cond (o (w (a - 1)) (w 0)) [w] []
  | r + 1, w, a => Wc (Gn o r) o w a (9 - w 0)
def Tn (o : Nat → Nat → Bool) (n : Nat) : Nat → List (Nat → Nat)
  | 0 => []
  | c + 1 => Gn o (n - 1) (fun _ => 9 - c) 1 ++ Tn o n c
def add30 (acc l : List (Nat → Nat)) : List (Nat → Nat) := (acc ++ l).take 30
/-- the shortest rings: from this length on -/
def fnd (o : Nat → Nat → Bool) : Nat → Nat × List (Nat → Nat)
  | 0 => (0, [])
  | j + 1 => if (Tn o (10 - j) 10).length = 0 then fnd o j else (10 - j, (Tn o (10 - j) 10).take 30)
theorem add30_nil {acc : List (Nat → Nat)} (h : acc.length ≤ 30) : add30 acc [] = acc := by
  unfold add30; rw [List.append_nil, List.take_of_length_le h]
theorem add30_len {acc l : List (Nat → Nat)} : (add30 acc l).length ≤ 30 := by
  unfold add30; rw [List.length_take]; omega
theorem add30_add {acc l l' : List (Nat → Nat)} : add30 (add30 acc l) l' = add30 acc (l ++ l') := by
  unfold add30
  by_cases h : (acc ++ l).length ≤ 30
  · rw [List.take_of_length_le h, List.append_assoc]
  · have e : (acc ++ (l ++ l')).take 30 = (acc ++ l).take 30 := by rw [← List.append_assoc]; exact List.take_append_of_le_length (by omega)
    rw [e, List.take_append_of_le_length (by rw [List.length_take]; omega), List.take_take, Nat.min_self]
theorem add30_full {acc l : List (Nat → Nat)} (h : acc.length = 30) : add30 acc l = acc := by
  unfold add30
  rw [List.take_append_of_le_length (by omega), List.take_of_length_le (by omega)]
theorem add30_one {acc : List (Nat → Nat)} {w : Nat → Nat} (h : acc.length < 30) : add30 acc [w] = acc ++ [w] := by
  unfold add30; rw [List.take_of_length_le (by simp; omega)]
def RRc (n : Nat) (acc : List (Nat → Nat)) (C : nz_f5) : Prop := acc.length ≤ 30 ∧ C 10 0 0 0 7 = n32 acc.length ∧ ∀ (i : Nat) (w : Nat → Nat), acc[i]? = some w → ∀ k, k < n → C 41 0 0 0 (10 * i + k) = n32 (w k)
def oC (o : Nat → Nat → Bool) (C : nz_f5) : Prop := ∀ f, f < 10 → ∃ a, a < 1024 ∧ C 40 0 0 0 f = n32 a ∧ ∀ g, g < 10 → a.testBit g = o f g
/-- all but the rings' rows and the path behind a depth -/
def Fp (a : Nat) (C C' : nz_f5) : Prop := ∀ kd o' k l x, ¬ (o' = 0 ∧ (kd = 41 ∨ (kd = 42 ∧ a ≤ x) ∨ (kd = 10 ∧ x = 7))) → C' kd o' k l x = C kd o' k l x
theorem Fp.trans {a : Nat} {C C1 C2 : nz_f5} (h1 : Fp a C C1) (h2 : Fp a C1 C2) : Fp a C C2 := fun kd o' k l x h => (h2 kd o' k l x h).trans (h1 kd o' k l x h)
theorem Fp.le {a b : Nat} {C C1 : nz_f5} (h1 : Fp b C C1) (h : a ≤ b) : Fp a C C1 := fun kd o' k l x hh => h1 kd o' k l x (by omega)
theorem Fp.up {a kd x : Nat} {C C1 : nz_f5} {v : Int32} (h : Fp a C C1) (hw : kd = 41 ∨ (kd = 42 ∧ a ≤ x) ∨ (kd = 10 ∧ x = 7)) : Fp a C (nz_u5 C1 kd 0 0 0 x v) := fun kd2 o2 k2 l2 x2 hh => by
  unfold nz_u5
  rw [if_neg (by omega)]; exact h kd2 o2 k2 l2 x2 hh
theorem oC.fp {o : Nat → Nat → Bool} {a : Nat} {C C' : nz_f5} (h : oC o C) (hF : Fp a C C') : oC o C' := fun f hf => by
  obtain ⟨x, h1, h2, h3⟩ := h f hf
  exact ⟨x, h1, (hF _ _ _ _ _ (by omega)).trans h2, h3⟩
section
variable {P : Nat × (Nat → Int32)} {d : Nat} {T S L Z : nz_f2} {C : nz_f5} {o : Nat → Nat → Bool} {n : Nat}
theorem c_comes89 {w : Nat → Nat} {acc : List (Nat → Nat)} (hn : n ≤ 10) (h8 : C 10 0 0 0 8 = n32 n) (hp : ∀ k, k < n → C 42 0 0 0 k = n32 (w k)) (hR : RRc n acc C) (hd : 2 ≤ d) {Q : nz_h → Prop}
    (hq : ∀ C', Fp n C C' → RRc n (add30 acc [w]) C' → Q (T, S, L, Z, C')) : ctV P d 89 [vr (10, 0, 0, 0)] (T, S, L, Z, C) Q := by
  obtain ⟨d, rfl⟩ := dge hd
  obtain ⟨h30, h7, hr⟩ := hR
  refine sm89 ?_
  simp (disch := omega) only [decide_eq_true_eq, decide_eq_false_iff_not, L32, az01, b2i_01, b2i_n0, b2i_n1, Bool.and_true, true_and, and_true, Classical.not_not, Bool.not_eq_true, Bool.not_eq_false, n32_mul, n32_add, n32_ix, n32_ib, n32_lt, n32_le, n32_inj, l_hb, l_hb0, l_shl, l_wo, l_eqm1, l_m1eq, h7]
  refine ⟨fun hne => ?_, fun he => hq C (fun _ _ _ _ _ _ => rfl) (by rw [add30_full he]; exact ⟨h30, h7, hr⟩)⟩
  have hlt : acc.length < 30 := by omega
  have loop : ∀ r k, r + k = n → ∀ C1, Fp n C C1 → C1 10 0 0 0 7 = n32 acc.length → (∀ x, x < 10 * acc.length → C1 41 0 0 0 x = C 41 0 0 0 x) → (∀ x, x < k → C1 41 0 0 0 (10 * acc.length + x) = n32 (w x)) → nzW P (d + 1) az_k89 12 [some (vr (10, 0, 0, 0)), some (vi (n32 k))] [] (T, S, L, Z, C1) (nz_RV Q) := by
    intro r
    induction r with
    | zero =>
      intro k hk C1 hF g7 g1 g2
      obtain rfl : k = n := by omega
      have e8 : C1 10 0 0 0 8 = n32 k := (hF _ _ _ _ _ (by omega)).trans h8
      refine sg89_12 ?_
      simp (disch := omega) only [decide_eq_true_eq, decide_eq_false_iff_not, L32, az01, b2i_01, b2i_n0, b2i_n1, Bool.and_true, true_and, and_true, Classical.not_not, Bool.not_eq_true, Bool.not_eq_false, n32_mul, n32_add, n32_ix, n32_ib, n32_lt, n32_le, n32_inj, l_hb, l_hb0, l_shl, l_wo, l_eqm1, l_m1eq, e8, g7, uC_row]
      refine ⟨fun _ => hq _ (hF.up (by omega)) ?_, fun hc => by omega⟩
      rw [add30_one hlt]
      refine ⟨by simp; omega, by rw [u5_eq]; simp, fun i w' hi x hx => ?_⟩
      rw [u5_k (by decide)]
      by_cases hil : i < acc.length
      · rw [List.getElem?_append_left hil] at hi
        rw [g1 _ (by omega)]; exact hr i w' hi x hx
      · rw [List.getElem?_append_right (by omega)] at hi
        have hi0 : i - acc.length = 0 := by
          apply Classical.byContradiction
          intro hne
          rw [List.getElem?_eq_none (by simp; omega)] at hi; cases hi
        rw [hi0] at hi
        simp at hi
        subst hi
        rw [show i = acc.length by omega]; exact g2 x hx
    | succ r ih =>
      intro k hk C1 hF g7 g1 g2
      have e8 : C1 10 0 0 0 8 = n32 n := (hF _ _ _ _ _ (by omega)).trans h8
      have e42 : C1 42 0 0 0 k = n32 (w k) := (hF _ _ _ _ _ (by omega)).trans (hp k (by omega))
      refine sg89_12 ?_
      simp (disch := omega) only [decide_eq_true_eq, decide_eq_false_iff_not, L32, az01, b2i_01, b2i_n0, b2i_n1, Bool.and_true, true_and, and_true, Classical.not_not, Bool.not_eq_true, Bool.not_eq_false, n32_mul, n32_add, n32_ix, n32_ib, n32_lt, n32_le, n32_inj, l_hb, l_hb0, l_shl, l_wo, l_eqm1, l_m1eq, e8, g7, e42, uC_row]
      refine ⟨fun hc => by omega, fun _ => ⟨by omega, by omega, ?_⟩⟩
      refine ih (k + 1) (by omega) _ (hF.up (by omega)) (by rw [u5_k (by decide)]; exact g7) (fun x hx => by rw [u5_x (by omega)]; exact g1 x hx) (fun x hx => ?_)
      by_cases hxk : x = k
      · rw [hxk, u5_eq]
      · rw [u5_x (by omega)]; exact g2 x (by omega)
  exact loop n 0 rfl C (fun _ _ _ _ _ _ => rfl) h7 (fun _ _ => rfl) (fun x hx => by omega)
theorem c_goes88 (hn : n ≤ 10) {Q : nz_h → Prop} : ∀ r a, 1 ≤ a → a + r = n → ∀ d, 4 + r ≤ d → ∀ (w : Nat → Nat) (b : Nat) (acc : List (Nat → Nat)) (C : nz_f5), (∀ k, k < a → w k < 10 ∧ C 42 0 0 0 k = n32 (w k)) → b < 1024 → (∀ m, m < 10 → b.testBit m = anyB a (fun k => decide (w k = m))) → oC o C → C 10 0 0 0 8 = n32 n → RRc n acc C → ∀ (Q : nz_h → Prop),
    (∀ C', Fp a C C' → RRc n (add30 acc (Gn o r w a)) C' → Q (T, S, L, Z, C')) → ctV P d 88 [vr (10, 0, 0, 0), vi (n32 a), vi (n32 b)] (T, S, L, Z, C) Q := by
  intro r
  induction r with
  | zero =>
    intro a h1 ha d hd w b acc C hp hb hbit ho h8 hR Q hq
    obtain ⟨d, rfl⟩ := dge hd
    obtain ⟨wl, pl⟩ := hp (a - 1) (by omega)
    obtain ⟨w0, p0⟩ := hp 0 (by omega)
    obtain ⟨x, x1, x2, x3⟩ := ho (w (a - 1)) wl
    have ea : n32 a - n32 1 = n32 (a - 1) := n32_sub h1
    refine sm88 ?_
    simp (disch := omega) only [decide_eq_true_eq, decide_eq_false_iff_not, L32, az01, b2i_01, b2i_n0, b2i_n1, Bool.and_true, true_and, and_true, Classical.not_not, Bool.not_eq_true, Bool.not_eq_false, n32_mul, n32_add, n32_ix, n32_ib, n32_lt, n32_le, n32_inj, l_hb, l_hb0, l_shl, l_wo, l_eqm1, l_m1eq, ea, pl, h8, x2, p0, c_has, x3 _ w0]
    refine ⟨by omega, wl, fun hc => absurd (by omega) hc, fun _ => ⟨by omega, fun hf => ?_, fun ht => ?_⟩⟩
    · have := hq C (fun _ _ _ _ _ _ => rfl)
      rw [Gn, hf, cond_false, add30_nil hR.1] at this
      exact this hR
    · have ha' : a = n := by omega
      subst ha'
      refine c_comes89 (w := w) hn h8 (fun k hk => (hp k hk).2) hR (by omega) (fun C1 hF1 hR1 => hq C1 hF1 ?_)
      rw [Gn, ht]; exact hR1
  | succ r ih =>
    intro a h1 ha d hd w b acc C hp hb hbit ho h8 hR Q hq
    obtain ⟨d, rfl⟩ : ∃ e, d = e + 2 := ⟨d - 2, by omega⟩
    obtain ⟨wl, pl⟩ := hp (a - 1) (by omega)
    obtain ⟨w0, p0⟩ := hp 0 (by omega)
    obtain ⟨x, x1, x2, x3⟩ := ho (w (a - 1)) wl
    have ea : n32 a - n32 1 = n32 (a - 1) := n32_sub h1
    rw [Gn] at hq
    have loop : ∀ c, c ≤ 10 → ∀ (acc : List (Nat → Nat)) C1, Fp a C C1 → RRc n acc C1 → (∀ C', Fp a C C' → RRc n (add30 acc (Wc (Gn o r) o w a c)) C' → Q (T, S, L, Z, C')) → nzW P (d + 1) az_k88 50 [some (vr (10, 0, 0, 0)), some (vi (n32 a)), some (vi (n32 b)), some (vi (n32 x)), some (vi (n32 (10 - c)))] [] (T, S, L, Z, C1) (nz_RV Q) := by
      intro c
      induction c with
      | zero =>
        intro _ acc C1 hF1 hR1 hq1
        rw [Wc, add30_nil hR1.1] at hq1
        refine sg88_50 ?_
        simp (disch := omega) only [decide_eq_true_eq, decide_eq_false_iff_not, L32, az01, b2i_01, b2i_n0, b2i_n1, Bool.and_true, true_and, and_true, Classical.not_not, Bool.not_eq_true, Bool.not_eq_false, n32_mul, n32_add, n32_ix, n32_ib, n32_lt, n32_le, n32_inj, l_hb, l_hb0, l_shl, l_wo, l_eqm1, l_m1eq]
        exact ⟨fun _ => hq1 C1 hF1 hR1, fun hc => by omega⟩
      | succ c ihc =>
        intro hc acc C1 hF1 hR1 hq1
        have hm10 : 10 - (c + 1) = 9 - c := by omega
        have hm : 9 - c < 10 := by omega
        have e10 : 9 - c + 1 = 10 - c := by omega
        rw [hm10]
        have skip : fitB o w a (9 - c) = false → nzW P (d + 1) az_k88 50 [some (vr (10, 0, 0, 0)), some (vi (n32 a)), some (vi (n32 b)), some (vi (n32 x)), some (vi (n32 (9 - c + 1)))] [] (T, S, L, Z, C1) (nz_RV Q) := fun hf => by
          rw [Wc, hf, cond_false, List.nil_append] at hq1
          rw [e10]; exact ihc (by omega) acc C1 hF1 hR1 hq1
        refine sg88_50 ?_
        simp (disch := omega) only [decide_eq_true_eq, decide_eq_false_iff_not, L32, az01, b2i_01, b2i_n0, b2i_n1, Bool.and_true, true_and, and_true, Classical.not_not, Bool.not_eq_true, Bool.not_eq_false, n32_mul, n32_add, n32_ix, n32_ib, n32_lt, n32_le, n32_inj, l_hb, l_hb0, l_shl, l_wo, l_eqm1, l_m1eq, c_has, x3 _ hm, uC_row, n32_or]
        refine ⟨fun hc => by omega, fun _ => ⟨fun hf => skip ?_, fun ht => ⟨fun hb0 => ⟨by omega, ?_⟩, fun hb1 => skip ?_⟩⟩⟩
        · unfold fitB; rw [hf]; rfl
        · have hfit : fitB o w a (9 - c) = true := by
            unfold fitB; rw [ht, ← hbit _ hm, hb0]; rfl
          rw [Wc, hfit, cond_true] at hq1
          refine ih (a + 1) (by omega) (by omega) (d + 1) (by omega) (updN w a (9 - c)) (b ||| 2 ^ (9 - c)) acc _ (fun k hk => ?_) ?_ (fun m hm' => ?_) ?_ ?_ ?_ _ (fun C2 hF2 hR2 => ?_)
          · by_cases hka : k = a
            · rw [hka, updN_eq, u5_eq]; exact ⟨hm, rfl⟩
            · rw [updN_ne hka, u5_x hka]
              exact ⟨(hp k (by omega)).1, (hF1 _ _ _ _ _ (by omega)).trans (hp k (by omega)).2⟩
          · refine Nat.or_lt_two_pow (n := 10) hb ?_
            exact Nat.pow_lt_pow_right (by decide) hm
          · rw [Nat.testBit_or, pow_bit, hbit m hm', anyB_or, updN_eq]
            congr 1
            exact anyB_congr (fun k hk => by rw [updN_ne (by omega)])
          · exact (ho.fp hF1).fp (a := a) (Fp.up (fun _ _ _ _ _ _ => rfl) (by omega))
          · rw [u5_k (by decide)]; exact (hF1 _ _ _ _ _ (by omega)).trans h8
          · exact ⟨hR1.1, by rw [u5_k (by decide)]; exact hR1.2.1, fun i w' hi k hk => by rw [u5_k (by decide)]; exact hR1.2.2 i w' hi k hk⟩
          · rw [e10]
            have hF3 : Fp a C C2 := (hF1.up (by omega)).trans (hF2.le (by omega))
            refine ihc (by omega) _ C2 hF3 hR2 (fun C3 hF4 hR4 => hq1 C3 hF4 ?_)
            rw [add30_add] at hR4; exact hR4
        · unfold fitB; rw [← hbit _ hm, hb1, Bool.not_true, Bool.and_false]
    have hne : a ≠ n := by omega
    refine sm88 ?_
    simp (disch := omega) only [decide_eq_true_eq, decide_eq_false_iff_not, L32, az01, b2i_01, b2i_n0, b2i_n1, Bool.and_true, true_and, and_true, Classical.not_not, Bool.not_eq_true, Bool.not_eq_false, n32_mul, n32_add, n32_ix, n32_ib, n32_lt, n32_le, n32_inj, l_hb, l_hb0, l_shl, l_wo, l_eqm1, l_m1eq, ea, pl, h8, x2, p0]
    refine ⟨by omega, wl, fun _ => ⟨by omega, ?_⟩, fun hc => absurd hc hne⟩
    have := loop (9 - w 0) (by omega) acc C (fun _ _ _ _ _ _ => rfl) hR hq
    rw [show 10 - (9 - w 0) = w 0 + 1 by omega] at this
    exact this
theorem c_finds (ho : oC o C) (hd : 16 ≤ d) {Q : nz_h → Prop}
    (hq : ∀ C', (∀ kd o' k l x, ¬ (o' = 0 ∧ (kd = 41 ∨ kd = 42 ∨ (kd = 10 ∧ (x = 7 ∨ x = 8)))) → C' kd o' k l x = C kd o' k l x) → C' 10 0 0 0 8 = n32 (fnd o 9).1 → RRc (fnd o 9).1 (fnd o 9).2 C' → Q (T, S, L, Z, C')) : ctV P d 87 [vr (10, 0, 0, 0)] (T, S, L, Z, C) Q := by
  obtain ⟨d, rfl⟩ := dge hd
  refine sm87 ?_
  have loop : ∀ j, j ≤ 9 → fnd o j = fnd o 9 → ∀ C1, (∀ kd o' k l x, ¬ (o' = 0 ∧ (kd = 41 ∨ kd = 42 ∨ (kd = 10 ∧ (x = 7 ∨ x = 8)))) → C1 kd o' k l x = C kd o' k l x) → C1 10 0 0 0 8 = n32 (11 - j) → C1 10 0 0 0 7 = n32 0 → ∀ l1, nzW P (d + 15) az_k87 10 [some (vr (10, 0, 0, 0)), l1] [] (T, S, L, Z, C1) (nz_RV Q) := by
    intro j
    induction j with
    | zero =>
      intro _ he C1 hF g8 g7 l1
      refine sg87_10 ?_
      simp (disch := omega) only [decide_eq_true_eq, decide_eq_false_iff_not, L32, az01, b2i_01, b2i_n0, b2i_n1, Bool.and_true, true_and, and_true, Classical.not_not, Bool.not_eq_true, Bool.not_eq_false, n32_mul, n32_add, n32_ix, n32_ib, n32_lt, n32_le, n32_inj, l_hb, l_hb0, l_shl, l_wo, l_eqm1, l_m1eq, g8, uC_row]
      refine ⟨fun _ => ?_, fun hc => by omega⟩
      have e : fnd o 9 = (0, []) := he.symm
      rw [e] at hq
      exact hq _ (fun kd o' k l x hh => by unfold nz_u5; rw [if_neg (by omega)]; exact hF kd o' k l x hh) u5_eq ⟨by simp, by rw [u5_x (by decide)]; exact g7, fun i w hi => by simp at hi⟩
    | succ j ih =>
      intro hj he C1 hF g8 g7 l1
      have hn : 11 - (j + 1) = 10 - j := by omega
      rw [hn] at g8
      have n10 : 10 - j ≤ 10 := by omega
      rw [fnd] at he
      have inner : ∀ c, c ≤ 10 → ∀ (acc : List (Nat → Nat)), add30 acc (Tn o (10 - j) c) = add30 [] (Tn o (10 - j) 10) → ∀ C2, (∀ kd o' k l x, ¬ (o' = 0 ∧ (kd = 41 ∨ kd = 42 ∨ (kd = 10 ∧ (x = 7 ∨ x = 8)))) → C2 kd o' k l x = C kd o' k l x) → C2 10 0 0 0 8 = n32 (10 - j) → RRc (10 - j) acc C2 → nzW P (d + 15) az_k87 21 [some (vr (10, 0, 0, 0)), some (vi (n32 (10 - c)))] [] (T, S, L, Z, C2) (nz_RV Q) := by
        intro c
        induction c with
        | zero =>
          intro _ acc ha C2 hF2 f8 hR2
          rw [Tn, add30_nil hR2.1] at ha
          have el : acc.length = min 30 (Tn o (10 - j) 10).length := by rw [ha]; unfold add30; rw [List.nil_append, List.length_take]
          have l30 := hR2.1
          refine sg87_21 ?_
          simp (disch := omega) only [decide_eq_true_eq, decide_eq_false_iff_not, L32, az01, b2i_01, b2i_n0, b2i_n1, Bool.and_true, true_and, and_true, Classical.not_not, Bool.not_eq_true, Bool.not_eq_false, n32_mul, n32_add, n32_ix, n32_ib, n32_lt, n32_le, n32_inj, l_hb, l_hb0, l_shl, l_wo, l_eqm1, l_m1eq, hR2.2.1, f8, uC_row]
          refine ⟨fun _ => ⟨fun hz => ?_, fun hz => ?_⟩, fun hc => by omega⟩
          · have hT0 : (Tn o (10 - j) 10).length = 0 := by omega
            rw [if_pos hT0] at he
            refine ih (by omega) he _ (fun kd o' k l x hh => by unfold nz_u5; rw [if_neg (by omega)]; exact hF2 kd o' k l x hh) (by rw [u5_eq]; congr 1; omega) (by rw [u5_x (by decide), hR2.2.1]; congr 1; omega) _
          · rw [if_neg (by omega)] at he
            rw [← he] at hq
            refine hq C2 hF2 f8 ?_
            have : add30 [] (Tn o (10 - j) 10) = (Tn o (10 - j) 10).take 30 := rfl
            rw [← this, ← ha]; exact hR2
        | succ c ihc =>
          intro hc acc ha C2 hF2 f8 hR2
          have hm10 : 10 - (c + 1) = 9 - c := by omega
          have e10 : 9 - c + 1 = 10 - c := by omega
          rw [hm10]
          refine sg87_21 ?_
          simp (disch := omega) only [decide_eq_true_eq, decide_eq_false_iff_not, L32, az01, b2i_01, b2i_n0, b2i_n1, Bool.and_true, true_and, and_true, Classical.not_not, Bool.not_eq_true, Bool.not_eq_false, n32_mul, n32_add, n32_ix, n32_ib, n32_lt, n32_le, n32_inj, l_hb, l_hb0, l_shl, l_wo, l_eqm1, l_m1eq, uC_row]
          refine ⟨fun hc => by omega, fun _ => ⟨by omega, ?_⟩⟩
          have hk : ∀ m, m < 10 → (2 ^ (9 - c)).testBit m = anyB 1 (fun _ => decide (9 - c = m)) := fun m hm => by
            rw [pow_bit]; rfl
          refine c_goes88 (o := o) (n := 10 - j) (Q := Q) n10 (10 - j - 1) 1 (by omega) (by omega) (d + 15) (by omega) (fun _ => 9 - c) (2 ^ (9 - c)) acc _ (fun k hk => ?_) ?_ hk ?_ ?_ ?_ _ (fun C3 hF3 hR3 => ?_)
          · obtain rfl : k = 0 := by omega
            exact ⟨by omega, u5_eq⟩
          · exact Nat.pow_lt_pow_right (by decide) (show 9 - c < 10 by omega)
          · intro f hf
            obtain ⟨x, x1, x2, x3⟩ := ho f hf
            exact ⟨x, x1, by rw [u5_k (by decide)]; exact (hF2 _ _ _ _ _ (by omega)).trans x2, x3⟩
          · rw [u5_k (by decide)]; exact f8
          · exact ⟨hR2.1, by rw [u5_k (by decide)]; exact hR2.2.1, fun i w' hi k hk => by rw [u5_k (by decide)]; exact hR2.2.2 i w' hi k hk⟩
          · rw [e10]
            rw [Tn] at ha
            refine ihc (by omega) (add30 acc (Gn o (10 - j - 1) (fun _ => 9 - c) 1)) (by rw [add30_add]; exact ha) C3 (fun kd o' k l x hh => ?_) ?_ hR3
            · rw [hF3 kd o' k l x (by omega)]; unfold nz_u5; rw [if_neg (by omega)]; exact hF2 kd o' k l x hh
            · rw [hF3 _ _ _ _ _ (by omega), u5_k (by decide)]; exact f8
      refine sg87_10 ?_
      simp (disch := omega) only [decide_eq_true_eq, decide_eq_false_iff_not, L32, az01, b2i_01, b2i_n0, b2i_n1, Bool.and_true, true_and, and_true, Classical.not_not, Bool.not_eq_true, Bool.not_eq_false, n32_mul, n32_add, n32_ix, n32_ib, n32_lt, n32_le, n32_inj, l_hb, l_hb0, l_shl, l_wo, l_eqm1, l_m1eq, g8]
      refine ⟨fun hc => by omega, fun _ => ?_⟩
      exact inner 10 (Nat.le_refl _) [] rfl C1 hF g8 ⟨by simp, g7, fun i w hi => by simp at hi⟩
  simp (disch := omega) only [decide_eq_true_eq, decide_eq_false_iff_not, L32, az01, b2i_01, b2i_n0, b2i_n1, Bool.and_true, true_and, and_true, Classical.not_not, Bool.not_eq_true, Bool.not_eq_false, n32_mul, n32_add, n32_ix, n32_ib, n32_lt, n32_le, n32_inj, l_hb, l_hb0, l_shl, l_wo, l_eqm1, l_m1eq, uC_row]
  exact loop 9 (Nat.le_refl _) rfl _ (fun kd o' k l x hh => by unfold nz_u5; rw [if_neg (by omega), if_neg (by omega)]) u5_eq (by rw [u5_x (by decide), u5_eq]) _
end
