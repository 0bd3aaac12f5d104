/-! the system's search: rows that were met -/
def hashN (f : Nat → Int32) : Nat → Int32
  | 0 => n32 7
  | k + 1 => n32 31 * hashN f k + f k
def hsh (C : nz_f5) (i : Nat) : Int32 := hashN (fun k => C 51 0 0 0 (138 * i + k)) 138
theorem hashN_congr {f g : Nat → Int32} : ∀ k, (∀ x, x < k → f x = g x) → hashN f k = hashN g k := by
  intro k
  induction k with
  | zero => intro _; rfl
  | succ k ih => intro h; rw [hashN, hashN, ih (fun x hx => h x (by omega)), h k (by omega)]
def updN {α : Type} (f : Nat → α) (n : Nat) (v : α) : Nat → α := fun i => if i = n then v else f i
theorem updN_eq {α : Type} {f : Nat → α} {n : Nat} {v : α} : updN f n v n = v := by unfold updN; rw [if_pos rfl]
theorem updN_ne {α : Type} {f : Nat → α} {n i : Nat} {v : α} (h : i ≠ n) : updN f n v i = f i := by unfold updN; rw [if_neg h]
def AR (t : St) (n : Nat) (ρ : Nat → St) (C : nz_f5) : Prop := ∀ i, i < n → KR t (ρ i) ∧ CR t (ρ i) C i ∧ C 52 0 0 0 i = hsh C i
def FS (n : Nat) (C C' : nz_f5) : Prop := ∀ kd o' k l x, ¬ (o' = 0 ∧ kd = 51 ∧ 138 * n ≤ x) → ¬ (o' = 0 ∧ (kd = 52 ∨ kd = 53 ∨ kd = 54) ∧ x = n) → ¬ (o' = 0 ∧ kd = 12 ∧ x = 5) → C' kd o' k l x = C kd o' k l x
theorem F51.fs {n : Nat} {C C' : nz_f5} (h : F51 n C C') : FS n C C' := fun kd o' k l x h1 _ _ => h kd o' k l x (by omega)
theorem FS.trans {n : Nat} {C C1 C2 : nz_f5} (h1 : FS n C C1) (h2 : FS n C1 C2) : FS n C C2 := fun kd o' k l x a b c => (h2 kd o' k l x a b c).trans (h1 kd o' k l x a b c)
theorem FS.up {n kd o' k l x : Nat} {C C' : nz_f5} {v : Int32} (h : FS n C C') (hw : o' = 0 ∧ (((kd = 52 ∨ kd = 53 ∨ kd = 54) ∧ x = n) ∨ (kd = 12 ∧ x = 5))) : FS n C (nz_u5 C' kd o' k l x v) := fun kd2 o2 k2 l2 x2 a b c => by
  unfold nz_u5
  by_cases hc : kd2 = kd ∧ o2 = o' ∧ k2 = k ∧ l2 = l ∧ x2 = x
  · exfalso; omega
  · rw [if_neg hc]; exact h kd2 o2 k2 l2 x2 a b c
section
variable {P : Nat × (Nat → Int32)} {d o : Nat} {t s ρ : St} {T S L Z : nz_f2} {C C' : nz_f5} {j : Nat}
theorem CR.off {i : Nat} (h : CR t ρ C i) (h51 : ∀ x, x < 138 → C' 51 0 0 0 (138 * i + x) = C 51 0 0 0 (138 * i + x)) : CR t ρ C' i := by
  refine ⟨fun j y hj hy => by rw [h51 _ (by omega)]; exact h.1 j y hj hy, fun m hm => ?_⟩
  obtain ⟨q, q1, q2⟩ := h.2 m hm
  exact ⟨q, q1, by rw [h51 _ (by omega)]; exact q2⟩
theorem AR.off {n : Nat} {ρ : Nat → St} (h : AR t n ρ C) (h51 : ∀ x, x < 138 * n → C' 51 0 0 0 x = C 51 0 0 0 x) (h52 : ∀ i, i < n → C' 52 0 0 0 i = C 52 0 0 0 i) : AR t n ρ C' := fun i hi => by
  obtain ⟨a, b, c⟩ := h i hi
  have e : ∀ x, x < 138 → C' 51 0 0 0 (138 * i + x) = C 51 0 0 0 (138 * i + x) := fun x hx => h51 _ (by omega)
  refine ⟨a, b.off e, ?_⟩
  rw [h52 i hi, c]
  exact (hashN_congr 138 (fun x hx => (e x hx).symm))
theorem AR.fs {n : Nat} {ρ : Nat → St} (h : AR t n ρ C) (hF : FS n C C') : AR t n ρ C' := h.off (fun x hx => hF _ _ _ _ _ (by omega) (by omega) (by omega)) (fun i hi => hF _ _ _ _ _ (by omega) (by omega) (by omega))
theorem RC.fs {n : Nat} (h : RC 1 t s C) (hF : FS n C C') : RC 1 t s C' := h.off (fun _ _ => hF _ _ _ _ _ (by omega) (by omega) (by omega)) (fun _ _ => hF _ _ _ _ _ (by omega) (by omega) (by omega)) (fun _ _ _ => hF _ _ _ _ _ (by omega) (by omega) (by omega)) (hF _ _ _ _ _ (by omega) (by omega) (by omega)) (fun _ _ => hF _ _ _ _ _ (by omega) (by omega) (by omega)) (fun _ => hF _ _ _ _ _ (by omega) (by omega) (by omega)) (fun _ _ => hF _ _ _ _ _ (by omega) (by omega) (by omega))
theorem c_hash {i : Nat} (hi : i ≤ 400) (hd : 2 ≤ d) (Q : Int32 → nz_h → Prop) : ctI P d 101 [vr (12, 0, 0, 0), vi (n32 (i * 138))] (T, S, L, Z, C) Q = Q (hsh C i) (T, S, L, Z, C) := by
  obtain ⟨d, rfl⟩ := dge hd
  refine ctI_det (fun Q hq => sm101 ?_) Q
  rw [Nat.mul_comm i 138]
  have loop : ∀ r k, r + k = 138 → nzW P (d + 1) az_k101 5 [some (vr (12, 0, 0, 0)), some (vi (n32 (138 * i))), some (vi (hashN (fun k => C 51 0 0 0 (138 * i + k)) k)), some (vi (n32 k))] [] (T, S, L, Z, C) (nz_RI Q) := by
    intro r
    induction r with
    | zero =>
      intro k hk
      obtain rfl : k = 138 := by omega
      refine sg101_5 ?_
      simp (disch := omega) only [decide_eq_true_eq, decide_eq_false_iff_not, L32, az01, b2i_01, b2i_n0, b2i_n1, Bool.and_true, true_and, and_true, Classical.not_not, Bool.not_eq_true, Bool.not_eq_false, n32_mul, n32_add, n32_ix, n32_ib, n32_lt, n32_le, n32_inj, l_hb, l_hb0, l_shl, l_wo, l_eqm1, l_m1eq]
      exact ⟨fun _ => hq, fun hc => by omega⟩
    | succ r ih =>
      intro k hk
      refine sg101_5 ?_
      simp (disch := omega) only [decide_eq_true_eq, decide_eq_false_iff_not, L32, az01, b2i_01, b2i_n0, b2i_n1, Bool.and_true, true_and, and_true, Classical.not_not, Bool.not_eq_true, Bool.not_eq_false, n32_mul, n32_add, n32_ix, n32_ib, n32_lt, n32_le, n32_inj, l_hb, l_hb0, l_shl, l_wo, l_eqm1, l_m1eq]
      exact ⟨fun hc => by omega, fun _ => ⟨by omega, ih (k + 1) (by omega)⟩⟩
  exact loop 138 0 rfl
def sameC (C : nz_f5) (a b : Nat) : Bool := !anyB 138 (fun x => !decide (C 51 0 0 0 (138 * a + x) = C 51 0 0 0 (138 * b + x)))
theorem sameC_iff {a b : Nat} : sameC C a b = true ↔ ∀ x, x < 138 → C 51 0 0 0 (138 * a + x) = C 51 0 0 0 (138 * b + x) := by
  unfold sameC
  rw [Bool.not_eq_true']
  constructor
  · intro h x hx
    apply Classical.byContradiction
    intro hne
    rw [anyB_of hx (by rw [decide_eq_false hne]; rfl)] at h; cases h
  · intro h
    cases ha : anyB 138 (fun x => !decide (C 51 0 0 0 (138 * a + x) = C 51 0 0 0 (138 * b + x))) with
    | false => rfl
    | true =>
      obtain ⟨k, hk, hp⟩ := anyB_iff.1 ha
      rw [h k hk] at hp; simp at hp
theorem c_isSame {a b : Nat} (ha : a ≤ 400) (hb : b ≤ 400) (hd : 2 ≤ d) (Q : Int32 → nz_h → Prop) : ctI P d 102 [vr (12, 0, 0, 0), vi (n32 (a * 138)), vi (n32 (b * 138))] (T, S, L, Z, C) Q = Q (b2i (sameC C a b)) (T, S, L, Z, C) := by
  obtain ⟨d, rfl⟩ := dge hd
  refine ctI_det (fun Q hq => sm102 ?_) Q
  rw [Nat.mul_comm a 138, Nat.mul_comm b 138]
  have loop : ∀ r k, r + k = 138 → (∀ x, x < k → C 51 0 0 0 (138 * a + x) = C 51 0 0 0 (138 * b + x)) → nzW P (d + 1) az_k102 2 [some (vr (12, 0, 0, 0)), some (vi (n32 (138 * a))), some (vi (n32 (138 * b))), some (vi (n32 k))] [] (T, S, L, Z, C) (nz_RI Q) := by
    intro r
    induction r with
    | zero =>
      intro k hk he
      obtain rfl : k = 138 := by omega
      refine sg102_2 ?_
      simp (disch := omega) only [decide_eq_true_eq, decide_eq_false_iff_not, L32, az01, b2i_01, b2i_n0, b2i_n1, Bool.and_true, true_and, and_true, Classical.not_not, Bool.not_eq_true, Bool.not_eq_false, n32_mul, n32_add, n32_ix, n32_ib, n32_lt, n32_le, n32_inj, l_hb, l_hb0, l_shl, l_wo, l_eqm1, l_m1eq]
      exact ⟨fun _ => ans1 hq (sameC_iff.2 he), fun hc => by omega⟩
    | succ r ih =>
      intro k hk he
      refine sg102_2 ?_
      simp (disch := omega) only [decide_eq_true_eq, decide_eq_false_iff_not, L32, az01, b2i_01, b2i_n0, b2i_n1, Bool.and_true, true_and, and_true, Classical.not_not, Bool.not_eq_true, Bool.not_eq_false, n32_mul, n32_add, n32_ix, n32_ib, n32_lt, n32_le, n32_inj, l_hb, l_hb0, l_shl, l_wo, l_eqm1, l_m1eq]
      refine ⟨fun hc => by omega, fun _ => ⟨by omega, by omega, fun h => ih (k + 1) (by omega) (fun x hx => ?_), fun h => ans0 hq ?_⟩⟩
      · by_cases hxk : x = k
        · rw [hxk]; exact h
        · exact he x (by omega)
      · cases hs : sameC C a b with
        | false => rfl
        | true => exact absurd (sameC_iff.1 hs k (by omega)) h
  exact loop 138 0 rfl (fun x hx => by omega)
theorem c_isMet {n : Nat} {ρ : Nat → St} {ρ' : St} (hT : TV t) (hn : n ≤ 400) (h5 : C 12 0 0 0 5 = n32 n) (hA : AR t n ρ C) (hK : KR t ρ') (hC : CR t ρ' C n) (hd : 3 ≤ d) {Q : Int32 → nz_h → Prop}
    (hq1 : anyB n (fun i => sameB (ρ i) ρ') = true → Q (n32 1) (T, S, L, Z, C))
    (hq0 : anyB n (fun i => sameB (ρ i) ρ') = false → Q (n32 0) (T, S, L, Z, nz_u5 C 52 0 0 0 n (hsh C n))) : ctI P d 100 [vr (12, 0, 0, 0)] (T, S, L, Z, C) Q := by
  obtain ⟨d, rfl⟩ := dge hd
  refine sm100 ?_
  simp (disch := omega) only [decide_eq_true_eq, decide_eq_false_iff_not, L32, az01, b2i_01, b2i_n0, b2i_n1, Bool.and_true, true_and, and_true, Classical.not_not, Bool.not_eq_true, Bool.not_eq_false, n32_mul, n32_add, n32_ix, n32_ib, n32_lt, n32_le, n32_inj, l_hb, l_hb0, l_shl, l_wo, l_eqm1, l_m1eq, h5, c_hash]
  have same : ∀ i, i < n → sameB (ρ i) ρ' = sameC C i n := fun i hi => by
    obtain ⟨a, b, c⟩ := hA i hi
    have := CR_same hT a hK b hC
    cases h1 : sameC C i n with
    | true => exact sameB_iff.2 (this.1 (sameC_iff.1 h1))
    | false =>
      cases h2 : sameB (ρ i) ρ' with
      | false => rfl
      | true => rw [sameC_iff.2 (this.2 (sameB_iff.1 h2))] at h1; cases h1
  have loop : ∀ r i, r + i = n → (∀ k, k < i → sameB (ρ k) ρ' = false) → nzW P (d + 2) az_k100 17 [some (vr (12, 0, 0, 0)), some (vi (n32 (n * 138))), some (vi (hsh C n)), some (vi (n32 i))] [] (T, S, L, Z, C) (nz_RI Q) := by
    intro r
    induction r with
    | zero =>
      intro i hi hno
      obtain rfl : i = n := by omega
      refine sg100_17 ?_
      simp (disch := omega) only [decide_eq_true_eq, decide_eq_false_iff_not, L32, az01, b2i_01, b2i_n0, b2i_n1, Bool.and_true, true_and, and_true, Classical.not_not, Bool.not_eq_true, Bool.not_eq_false, n32_mul, n32_add, n32_ix, n32_ib, n32_lt, n32_le, n32_inj, l_hb, l_hb0, l_shl, l_wo, l_eqm1, l_m1eq, h5, uC_row]
      refine ⟨fun _ => ⟨by omega, hq0 ?_⟩, fun hc => by omega⟩
      cases ha : anyB i (fun k => sameB (ρ k) ρ') with
      | false => rfl
      | true => obtain ⟨k, hk, hp⟩ := anyB_iff.1 ha; rw [hno k hk] at hp; cases hp
    | succ r ih =>
      intro i hi hno
      have hin : i < n := by omega
      have nxt : sameB (ρ i) ρ' = false → nzW P (d + 2) az_k100 17 [some (vr (12, 0, 0, 0)), some (vi (n32 (n * 138))), some (vi (hsh C n)), some (vi (n32 (i + 1)))] [] (T, S, L, Z, C) (nz_RI Q) := fun hs => ih (i + 1) (by omega) (fun k hk => by
        by_cases hki : k = i
        · rw [hki]; exact hs
        · exact hno k (by omega))
      obtain ⟨a, b, c⟩ := hA i hin
      refine sg100_17 ?_
      simp (disch := omega) only [decide_eq_true_eq, decide_eq_false_iff_not, L32, az01, b2i_01, b2i_n0, b2i_n1, Bool.and_true, true_and, and_true, Classical.not_not, Bool.not_eq_true, Bool.not_eq_false, n32_mul, n32_add, n32_ix, n32_ib, n32_lt, n32_le, n32_inj, l_hb, l_hb0, l_shl, l_wo, l_eqm1, l_m1eq, h5, c, c_isSame]
      refine ⟨fun hc => by omega, fun _ => ⟨by omega, fun hne => nxt ?_, fun he => ⟨fun hs => nxt ?_, fun hs => hq1 (anyB_of hin ?_)⟩⟩⟩
      · rw [same i hin]
        cases h1 : sameC C i n with
        | false => rfl
        | true => exact absurd (hashN_congr 138 (sameC_iff.1 h1)) hne
      · rw [same i hin]; exact hs
      · rw [same i hin]; exact hs
  exact loop n 0 rfl (fun k hk => by omega)
theorem c_meets99 {n : Nat} {ρ : Nat → St} {x1 x2 : Int32} (hT : TV t) (hI : INV t s) (h0 : ∀ j, j < 8 → s j 1 ≠ 0) (hR : RC 1 t s C) (hn : n ≤ 400) (h5 : C 12 0 0 0 5 = n32 n) (hA : AR t n ρ C) (hd : 6 ≤ d) {Q : Int32 → nz_h → Prop}
    (hq1 : anyB n (fun i => sameB (ρ i) (kF t s)) = true → ∀ C', FS n C C' → AR t n ρ C' → C' 12 0 0 0 5 = n32 n → Q (n32 0) (T, S, L, Z, C'))
    (hq0 : anyB n (fun i => sameB (ρ i) (kF t s)) = false → ∀ C', FS n C C' → AR t (n + 1) (updN ρ n (kF t s)) C' → C' 12 0 0 0 5 = n32 (n + 1) → C' 53 0 0 0 n = x1 → C' 54 0 0 0 n = x2 → Q (n32 1) (T, S, L, Z, C')) : ctI P d 99 [vr (12, 0, 0, 0), vi x1, vi x2] (T, S, L, Z, C) Q := by
  obtain ⟨d, rfl⟩ := dge hd
  refine sm99 ?_
  have hK := kF_KR hT hI h0
  simp (disch := omega) only [decide_eq_true_eq, decide_eq_false_iff_not, L32, az01, b2i_01, b2i_n0, b2i_n1, Bool.and_true, true_and, and_true, Classical.not_not, Bool.not_eq_true, Bool.not_eq_false, n32_mul, n32_add, n32_ix, n32_ib, n32_lt, n32_le, n32_inj, l_hb, l_hb0, l_shl, l_wo, l_eqm1, l_m1eq, h5]
  refine c_lays hT hI h0 hR hn (by omega) (fun C1 hF1 hC1 => ?_)
  have h51 : C1 12 0 0 0 5 = n32 n := (hF1 _ _ _ _ _ (by omega)).trans h5
  have hA1 := hA.fs hF1.fs
  refine c_isMet hT hn h51 hA1 hK hC1 (by omega) (fun ha => ?_) (fun ha => ?_)
  · simp (disch := omega) only [decide_eq_true_eq, decide_eq_false_iff_not, L32, az01, b2i_01, b2i_n0, b2i_n1, Bool.and_true, true_and, and_true, Classical.not_not, Bool.not_eq_true, Bool.not_eq_false, n32_mul, n32_add, n32_ix, n32_ib, n32_lt, n32_le, n32_inj, l_hb, l_hb0, l_shl, l_wo, l_eqm1, l_m1eq]
    exact ⟨fun hc => by omega, fun _ => hq1 ha C1 hF1.fs hA1 h51⟩
  · simp (disch := first | omega | decide) only [decide_eq_true_eq, decide_eq_false_iff_not, L32, az01, b2i_01, b2i_n0, b2i_n1, Bool.and_true, true_and, and_true, Classical.not_not, Bool.not_eq_true, Bool.not_eq_false, n32_mul, n32_add, n32_ix, n32_ib, n32_lt, n32_le, n32_inj, l_hb, l_hb0, l_shl, l_wo, l_eqm1, l_m1eq, u5_k, h51, uC_row]
    refine ⟨fun _ => ⟨by omega, by omega, ?_⟩, fun hc => (hc trivial).elim⟩
    refine hq0 ha _ ?_ (fun i hi => ?_) (by rw [u5_eq]) ?_ ?_
    · refine FS.up (FS.up (FS.up (FS.up hF1.fs ?_) ?_) ?_) ?_ <;> omega
    · have e51 : ∀ x, nz_u5 (nz_u5 (nz_u5 (nz_u5 C1 52 0 0 0 n (hsh C1 n)) 53 0 0 0 n x1) 54 0 0 0 n x2) 12 0 0 0 5 (n32 (n + 1)) 51 0 0 0 x = C1 51 0 0 0 x := fun x => by simp (disch := decide) only [u5_k]
      have e52 : ∀ i, nz_u5 (nz_u5 (nz_u5 (nz_u5 C1 52 0 0 0 n (hsh C1 n)) 53 0 0 0 n x1) 54 0 0 0 n x2) 12 0 0 0 5 (n32 (n + 1)) 52 0 0 0 i = if i = n then hsh C1 n else C1 52 0 0 0 i := fun i => by simp (disch := decide) only [u5_k, u5_at]
      have eh : ∀ i, hsh (nz_u5 (nz_u5 (nz_u5 (nz_u5 C1 52 0 0 0 n (hsh C1 n)) 53 0 0 0 n x1) 54 0 0 0 n x2) 12 0 0 0 5 (n32 (n + 1))) i = hsh C1 i := fun i => hashN_congr 138 (fun x _ => e51 _)
      rw [eh, e52]
      by_cases hin : i = n
      · subst hin
        rw [updN_eq, if_pos rfl]
        exact ⟨hK, hC1.off (fun x _ => e51 _), rfl⟩
      · obtain ⟨a, b, c⟩ := hA1 i (by omega)
        rw [updN_ne hin, if_neg hin]
        exact ⟨a, b.off (fun x _ => e51 _), c⟩
    · simp (disch := decide) only [u5_k, u5_eq]
    · simp (disch := decide) only [u5_k, u5_eq]
end
