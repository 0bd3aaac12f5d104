/-! the system's asks against the reference model's comes -/
def logW (kd o' x : Nat) : Prop := o' = 0 ∧ ((kd = 11 ∧ x = 11) ∨ (46 ≤ kd ∧ kd ≤ 50))
def askC (C : nz_f5) (o j : Nat) (x y : Int32) : nz_f5 := nz_u5 (nz_u5 (nz_u5 (nz_u5 C 8 o j 0 8 x) 8 o j 0 11 y) 8 o j 0 6 (n32 1)) 8 o j 0 9 (n32 0)
section
variable {o : Nat} {t s : St} {C C' : nz_f5} {j : Nat} {r : Nat → Nat}
theorem askC_FJ {x y : Int32} (h : FJ o j C C') : FJ o j C (askC C' o j x y) := by
  unfold askC
  refine FJ.up (FJ.up (FJ.up (FJ.up h ?_) ?_) ?_) ?_ <;> (unfold WJ; omega)
theorem RC.goA (hR : RC o t s C) (hj : j < 8) (hF : FJ o j C C') (hs : s j 1 ≠ 2) (r1 : r 1 = 0) (r4 : r 4 = 0) (e6 : C' 8 o j 0 6 = n32 0) (e7 : C' 8 o j 0 7 = n32 (r 5)) (e35 : ∀ m, m < 10 → C' 35 o j 0 m = n32 (r (8 + m))) (e12 : C' 8 o j 0 12 = n32 0) (e13 : C' 8 o j 0 13 = n32 (r 2))
    (hq : ∃ q, q < 22 ∧ C' 8 o j 0 5 = n32 q ∧ (r 0 < t 57 j → q = r 0) ∧ (t 57 j ≤ r 0 → t 57 j ≤ q)) : RC o t (upj s j r) C' := by
  refine hR.job hj hF hs (by omega) ?_
  unfold RJ
  rw [upj_self, r1, r4]
  exact ⟨e6, e7, e35, fun _ => ⟨e12, e13⟩, fun h => by omega, fun h => by omega, fun h => by omega, fun _ => hq⟩
end
theorem u2_at {f : nz_f2} {a b b' : Nat} {v : Int32} : nz_u2 f a b v a b' = if b' = b then v else f a b' := by
  unfold nz_u2
  by_cases h : b' = b
  · rw [if_pos ⟨rfl, h⟩, if_pos h]
  · rw [if_neg (fun hh => h hh.2), if_neg h]
theorem u5_at {f : nz_f5} {a b c d e e' : Nat} {v : Int32} : nz_u5 f a b c d e v a b c d e' = if e' = e then v else f a b c d e' := by
  unfold nz_u5
  by_cases h : e' = e
  · rw [if_pos ⟨rfl, rfl, rfl, rfl, h⟩, if_pos h]
  · rw [if_neg (fun hh => h hh.2.2.2.2), if_neg h]
theorem ringL_k {L : nz_f2} {kd b n a x : Nat} {f : Nat → Nat} (h : a ≠ kd) : ringL L kd b n f a x = L a x := by
  unfold ringL; rw [if_neg (fun hh => h hh.1)]
theorem ringL_at {L : nz_f2} {kd b n x : Nat} {f : Nat → Nat} : ringL L kd b n f kd x = if b ≤ x ∧ x < b + n then n32 (f (x - b)) else L kd x := by
  unfold ringL
  by_cases h : b ≤ x ∧ x < b + n
  · rw [if_pos ⟨rfl, h⟩, if_pos h]
  · rw [if_neg (fun hh => h hh.2), if_neg h]
section
variable {P : Nat × (Nat → Int32)} {d o : Nat} {t s : St} {T S L0 L Z : nz_f2} {C : nz_f5} {j : Nat}
theorem c_log {i n p a x : Nat} (hd : 4 ≤ d) (h11 : C 11 0 0 0 11 = n32 i) (hi : i < 16) (hn : n ≤ 8) (ej : C 8 0 j 0 0 = n32 j) (e5 : C 8 0 j 0 5 = n32 p) (e8 : C 8 0 j 0 8 = n32 a) (ha : a < 1024) (hx : fst 10 0 a.testBit = some x) {Q : nz_h → Prop}
    (hq : ∀ C', Fr logW C C' → C' 11 0 0 0 11 = n32 (i + 1) → (∀ y, C' 46 0 0 0 y = if y = i then n32 j else C 46 0 0 0 y) → (∀ y, C' 47 0 0 0 y = if y = i then n32 p else C 47 0 0 0 y) → (∀ y, C' 48 0 0 0 y = if y = i then n32 x else C 48 0 0 0 y) → (∀ y, C' 49 0 0 0 y = if y = i then n32 n else C 49 0 0 0 y) → (∀ y, C' 50 0 0 0 y = if 8 * i ≤ y ∧ y < 8 * i + n then C 32 0 0 0 (y - 8 * i) else C 50 0 0 0 y) → Q (T, S, L0, Z, C')) : ctV P d 93 [vr (11, 0, 0, 0), jO 0 j, vi (n32 n)] (T, S, L0, Z, C) Q := by
  obtain ⟨d, rfl⟩ := dge hd
  refine sm93 ?_
  have loop : ∀ r m C1, r + m = n → Fr logW C C1 → C1 11 0 0 0 11 = n32 i → (∀ y, C1 46 0 0 0 y = if y = i then n32 j else C 46 0 0 0 y) → (∀ y, C1 47 0 0 0 y = if y = i then n32 p else C 47 0 0 0 y) → (∀ y, C1 48 0 0 0 y = if y = i then n32 x else C 48 0 0 0 y) → (∀ y, C1 49 0 0 0 y = if y = i then n32 n else C 49 0 0 0 y) → (∀ y, C1 50 0 0 0 y = if 8 * i ≤ y ∧ y < 8 * i + m then C 32 0 0 0 (y - 8 * i) else C 50 0 0 0 y) → ∀ l1, nzW P (d + 3) az_k93 54 [some (vr (11, 0, 0, 0)), l1, some (vi (n32 n)), some (vi (n32 m))] [] (T, S, L0, Z, C1) (nz_RV Q) := by
    intro r
    induction r with
    | zero =>
      intro m C1 hm hF c11 c46 c47 c48 c49 c50 l1
      obtain rfl : m = n := by omega
      refine sg93_54 ?_
      simp (disch := omega) only [decide_eq_true_eq, decide_eq_false_iff_not, L32, az01, b2i_01, b2i_n0, b2i_n1, Bool.and_true, true_and, and_true, Classical.not_not, Bool.not_eq_true, Bool.not_eq_false, n32_mul, n32_add, n32_ix, n32_ib, n32_lt, n32_le, n32_inj, l_hb, l_hb0, l_shl, l_wo, l_eqm1, l_m1eq, uC_row, c11]
      refine ⟨fun _ => hq _ (hF.up (by unfold logW; omega)) u5_eq (fun y => ?_) (fun y => ?_) (fun y => ?_) (fun y => ?_) (fun y => ?_), fun hc => by omega⟩
      · rw [u5_k (by decide)]; exact c46 y
      · rw [u5_k (by decide)]; exact c47 y
      · rw [u5_k (by decide)]; exact c48 y
      · rw [u5_k (by decide)]; exact c49 y
      · rw [u5_k (by decide)]; exact c50 y
    | succ r ih =>
      intro m C1 hm hF c11 c46 c47 c48 c49 c50 l1
      refine sg93_54 ?_
      have h32 : C1 32 0 0 0 m = C 32 0 0 0 m := hF 32 0 0 0 m (by unfold logW; omega)
      simp (disch := omega) only [decide_eq_true_eq, decide_eq_false_iff_not, L32, az01, b2i_01, b2i_n0, b2i_n1, Bool.and_true, true_and, and_true, Classical.not_not, Bool.not_eq_true, Bool.not_eq_false, n32_mul, n32_add, n32_ix, n32_ib, n32_lt, n32_le, n32_inj, l_hb, l_hb0, l_shl, l_wo, l_eqm1, l_m1eq, uC_row, c11, h32]
      refine ⟨fun hc => by omega, fun _ => ⟨by omega, by omega, ?_⟩⟩
      refine ih (m + 1) _ (by omega) (hF.up (by unfold logW; omega)) ((u5_k (by decide)).trans c11) (fun y => (u5_k (by decide)).trans (c46 y)) (fun y => (u5_k (by decide)).trans (c47 y)) (fun y => (u5_k (by decide)).trans (c48 y)) (fun y => (u5_k (by decide)).trans (c49 y)) (fun y => ?_) _
      rw [u5_at, c50 y]
      by_cases hy : y = 8 * i + m
      · rw [if_pos hy, if_pos (by omega), hy, show 8 * i + m - 8 * i = m by omega]
      · rw [if_neg hy]
        by_cases h2 : 8 * i ≤ y ∧ y < 8 * i + m
        · rw [if_pos h2, if_pos (by omega)]
        · rw [if_neg h2, if_neg (by omega)]
  simp (disch := first | omega | decide) only [decide_eq_true_eq, decide_eq_false_iff_not, L32, az01, b2i_01, b2i_n0, b2i_n1, Bool.and_true, true_and, and_true, Classical.not_not, Bool.not_eq_true, Bool.not_eq_false, n32_mul, n32_add, n32_ix, n32_ib, n32_lt, n32_le, n32_inj, l_hb, l_hb0, l_shl, l_wo, l_eqm1, l_m1eq, uC_row, h11, ej, e5, e8, u5_k, u5_x, u5_eq, c_lowest ha hx]
  refine ⟨hi, hi, hi, hi, ?_⟩
  refine loop n 0 _ (by omega) ?_ ?_ (fun y => ?_) (fun y => ?_) (fun y => ?_) (fun y => ?_) (fun y => ?_) _
  · refine Fr.up (Fr.up (Fr.up (Fr.up (Fr.rfl' C) ?_) ?_) ?_) ?_ <;> (unfold logW; omega)
  · simp (disch := decide) only [u5_k]; exact h11
  · simp (disch := decide) only [u5_k, u5_at]
  · simp (disch := decide) only [u5_k, u5_at]
  · simp (disch := decide) only [u5_k, u5_at]
  · simp (disch := decide) only [u5_k, u5_at]
  · simp (disch := decide) only [u5_k]; rw [if_neg (by omega)]
end
