/-! the system's job: steps of one job, frames, the log's relation -/
def WJ (o j kd o' k x : Nat) : Prop := o' = o ∧ ((kd = 8 ∧ k = j ∧ 5 ≤ x) ∨ (kd = 35 ∧ k = j) ∨ (30 ≤ kd ∧ kd ≤ 33) ∨ (kd = 1 ∧ (x = 9 ∨ x = 11)) ∨ (o = 0 ∧ ((kd = 11 ∧ x = 11) ∨ (46 ≤ kd ∧ kd ≤ 50))))
def FJ (o j : Nat) (C C' : nz_f5) : Prop := ∀ kd o' k l x, ¬ WJ o j kd o' k x → C' kd o' k l x = C kd o' k l x
theorem FJ.rfl' {o j : Nat} (C : nz_f5) : FJ o j C C := fun _ _ _ _ _ _ => rfl
theorem FJ.trans {o j : Nat} {C C1 C2 : nz_f5} (h1 : FJ o j C C1) (h2 : FJ o j C1 C2) : FJ o j C C2 := fun kd o' k l x h => (h2 kd o' k l x h).trans (h1 kd o' k l x h)
theorem FJ.up {o j : Nat} {C C' : nz_f5} {kd o' k l x : Nat} {v : Int32} (h : FJ o j C C') (hw : WJ o j kd o' k x) : FJ o j C (nz_u5 C' kd o' k l x v) := fun kd2 o2 k2 l2 x2 hh => by
  unfold nz_u5
  by_cases hc : kd2 = kd ∧ o2 = o' ∧ k2 = k ∧ l2 = l ∧ x2 = x
  · exfalso; apply hh; rw [hc.1, hc.2.1, hc.2.2.1, hc.2.2.2.2]; exact hw
  · rw [if_neg hc]; exact h kd2 o2 k2 l2 x2 hh
theorem FJ.way {o j : Nat} {C C' : nz_f5} (h : Fr (Wway o) C C') : FJ o j C C' := fun kd o' k l x hh => h kd o' k l x (fun hw => hh (by unfold Wway at hw; unfold WJ; omega))
def Wsh (o kd o' x : Nat) : Prop := o' = o ∧ ((kd = 8 ∧ 5 ≤ x) ∨ kd = 35 ∨ kd = 28 ∨ kd = 97 ∨ (30 ≤ kd ∧ kd ≤ 33) ∨ (kd = 1 ∧ (x = 9 ∨ x = 11)) ∨ (o = 0 ∧ ((kd = 11 ∧ x = 11) ∨ (46 ≤ kd ∧ kd ≤ 50))))
theorem FJ.sh {o j : Nat} {C C' : nz_f5} (h : FJ o j C C') : Fr (Wsh o) C C' := fun kd o' k l x hh => h kd o' k l x (fun hw => hh (by unfold WJ at hw; unfold Wsh; omega))
theorem u5_x {f : nz_f5} {a b c d e a' b' c' d' e' : Nat} {v : Int32} (h : e' ≠ e) : nz_u5 f a b c d e v a' b' c' d' e' = f a' b' c' d' e' := u5_ne (Or.inr h)
theorem u5_k {f : nz_f5} {a b c d e a' b' c' d' e' : Nat} {v : Int32} (h : a' ≠ a) : nz_u5 f a b c d e v a' b' c' d' e' = f a' b' c' d' e' := u5_ne (Or.inl h)
section
variable {o : Nat} {t s : St} {C C' : nz_f5} {j : Nat} {r : Nat → Nat}
theorem RJ_at {s' : St} {k : Nat} (h : s' k = s k) (hC8 : ∀ x, C' 8 o k 0 x = C 8 o k 0 x) (hC35 : ∀ m, C' 35 o k 0 m = C 35 o k 0 m) (hR : RJ o t s C k) : RJ o t s' C' k := by
  have e1 : atlS t s' k = atlS t s k := by unfold atlS opS; rw [h]
  have e2 : askS t s' k = askS t s k := by unfold askS onlyS onS opS; rw [h]
  unfold RJ
  rw [e1, e2, h]
  simp only [hC8, hC35]
  exact hR
theorem RC.job (hR : RC o t s C) (hj : j < 8) (hF : FJ o j C C') (hs : s j 1 ≠ 2) (hr : r 1 ≠ 2) (hJ : RJ o t (upj s j r) C' j) : RC o t (upj s j r) C' := by
  have h8 : ∀ k x, k ≠ j ∨ x < 5 → C' 8 o k 0 x = C 8 o k 0 x := fun k x h => hF 8 o k 0 x (by unfold WJ; omega)
  have h35 : ∀ k m, k ≠ j → C' 35 o k 0 m = C 35 o k 0 m := fun k m h => hF 35 o k 0 m (by unfold WJ; omega)
  refine ⟨⟨fun m hm => ?_, fun k hk => ?_, fun k p hk hp => ?_, ?_⟩, fun k hk => ?_, fun m hm => ?_⟩
  · rw [hF 7 o m 0 0 (by unfold WJ; omega), hF 7 o m 0 1 (by unfold WJ; omega)]; exact hR.1.1 m hm
  · rw [h8 k 0 (by omega), h8 k 2 (by omega), h8 k 3 (by omega), h8 k 4 (by omega)]; exact hR.1.2.1 k hk
  · rw [hF 9 o k p 0 (by unfold WJ; omega), hF 9 o k p 1 (by unfold WJ; omega), hF 9 o k p 2 (by unfold WJ; omega)]; exact hR.1.2.2.1 k p hk hp
  · rw [hF 1 o 0 0 5 (by unfold WJ; omega)]; exact hR.1.2.2.2
  · by_cases hkj : k = j
    · rw [hkj]; exact hJ
    · exact RJ_at (upj_ne hkj) (fun x => h8 k x (Or.inl hkj)) (fun m => h35 k m hkj) (hR.2.1 k hk)
  · obtain ⟨q, ⟨h1, h2⟩, h3, h4⟩ := hR.2.2 m hm
    have hq : ∀ x, x ∈ q → x ≠ j := fun x hx e => hs (by rw [← e]; exact ((h1 x).1 hx).2.1)
    refine ⟨q, ⟨fun x => ?_, ?_⟩, ?_, fun k x hk => ?_⟩
    · by_cases hxj : x = j
      · subst hxj
        rw [upj_self]
        exact ⟨fun hx => absurd rfl (hq x hx), fun hh => absurd hh.2.1 hr⟩
      · have : onS t (upj s j r) x = onS t s x := by unfold onS; rw [upj_ne hxj]
        rw [upj_ne hxj, this]; exact h1 x
    · refine List.Pairwise.imp_of_mem (fun {a b} ha hb hab => ?_) h2
      rw [upj_ne (hq a ha), upj_ne (hq b hb)]; exact hab
    · rw [hF 28 o 0 0 m (by unfold WJ; omega)]; exact h3
    · rw [hF 97 o m 0 k (by unfold WJ; omega)]; exact h4 k x hk
/-- after Job.on -/
def onC (C : nz_f5) (o j : Nat) (x : Int32) : nz_f5 := nz_u5 (nz_u5 (nz_u5 (nz_u5 (nz_u5 (nz_u5 C 8 o j 0 5 (C 8 o j 0 5 + x)) 8 o j 0 6 (n32 0)) 8 o j 0 12 (n32 0)) 8 o j 0 11 (n32 0)) 8 o j 0 8 (n32 0)) 8 o j 0 9 (n32 0)
theorem onC_FJ {x : Int32} (h : FJ o j C C') : FJ o j C (onC C' o j x) := by
  unfold onC
  refine FJ.up (FJ.up (FJ.up (FJ.up (FJ.up (FJ.up h ?_) ?_) ?_) ?_) ?_) ?_ <;> (unfold WJ; omega)
theorem RC.go {C1 : nz_f5} {x : Int32} (hR : RC o t s C) (hj : j < 8) (hF : FJ o j C C1) (hs : s j 1 ≠ 2) (r1 : r 1 = 0) (r4 : r 4 = 0) (e7 : C1 8 o j 0 7 = n32 (r 5)) (e35 : ∀ m, m < 10 → C1 35 o j 0 m = n32 (r (8 + m))) (e13 : C1 8 o j 0 13 = n32 (r 2))
    (hq : ∃ q, q < 22 ∧ C1 8 o j 0 5 + x = n32 q ∧ (r 0 < t 57 j → q = r 0) ∧ (t 57 j ≤ r 0 → t 57 j ≤ q)) : RC o t (upj s j r) (onC C1 o j x) := by
  refine hR.job hj (onC_FJ hF) hs (by omega) ?_
  unfold RJ
  rw [upj_self, r1, r4]
  refine ⟨?_, ?_, fun m hm => ?_, fun _ => ⟨?_, ?_⟩, fun h => by omega, fun h => by omega, fun h => by omega, fun _ => ?_⟩
  · unfold onC; simp (disch := decide) only [u5_eq, u5_x]
  · unfold onC; simp (disch := decide) only [u5_eq, u5_x]; exact e7
  · unfold onC; simp (disch := decide) only [u5_k]; exact e35 m hm
  · unfold onC; simp (disch := decide) only [u5_eq, u5_x]; rfl
  · unfold onC; simp (disch := decide) only [u5_eq, u5_x]; exact e13
  · obtain ⟨q, a, b, c⟩ := hq
    refine ⟨q, a, ?_, c⟩
    unfold onC; simp (disch := decide) only [u5_eq, u5_x]; exact b
/-- after Job.ends -/
def endC (C : nz_f5) (o j : Nat) (x : Int32) : nz_f5 := fun kd o' k l y => if kd = 35 ∧ o' = o ∧ k = j ∧ l = 0 ∧ y < 10 then n32 0 else nz_u5 (nz_u5 (nz_u5 C 8 o j 0 6 (n32 3)) 8 o j 0 14 x) 8 o j 0 7 (n32 0) kd o' k l y
theorem endC_FJ {x : Int32} (h : FJ o j C C') : FJ o j C (endC C' o j x) := by
  intro kd o' k l y hh
  unfold endC
  rw [if_neg (fun hc => hh (by unfold WJ; omega))]
  refine FJ.up (FJ.up (FJ.up h ?_) ?_) ?_ kd o' k l y hh <;> (unfold WJ; omega)
theorem endC_8 {x : Int32} {k l y : Nat} : endC C o j x 8 o k l y = nz_u5 (nz_u5 (nz_u5 C 8 o j 0 6 (n32 3)) 8 o j 0 14 x) 8 o j 0 7 (n32 0) 8 o k l y := by
  unfold endC; rw [if_neg (by omega)]
theorem RC.ended {C1 : nz_f5} {x : Int32} (hR : RC o t s C) (hj : j < 8) (hF : FJ o j C C1) (hs : s j 1 ≠ 2) (r1 : r 1 = 3) (r4 : r 4 = 0) (r5 : r 5 = 0) (r8 : ∀ m, m < 10 → r (8 + m) = 0) : RC o t (upj s j r) (endC C1 o j x) := by
  refine hR.job hj (endC_FJ hF) hs (by omega) ?_
  unfold RJ
  rw [upj_self, r1, r4, r5]
  refine ⟨?_, ?_, fun m hm => ?_, fun h => (h rfl).elim, fun h => by omega, fun h => by omega, fun h => by omega, fun h => by omega⟩
  · rw [endC_8]; simp (disch := decide) only [u5_eq, u5_x]
  · rw [endC_8]; simp (disch := decide) only [u5_eq, u5_x]
  · rw [r8 m hm]; unfold endC; rw [if_pos ⟨rfl, rfl, rfl, rfl, hm⟩]
end
/-- the log of shop 0: counts, refusals -/
def RL (s : St) (L : nz_f2) (C : nz_f5) : Prop :=
  (∀ j, j < 8 → C 8 0 j 0 16 = L 67 j ∧ C 8 0 j 0 17 = L 68 j ∧ C 8 0 j 0 18 = L 69 j ∧ C 8 0 j 0 19 = L 70 j ∧ C 8 0 j 0 20 = L 71 j ∧ C 8 0 j 0 14 = n32 (s j 6)) ∧
  C 11 0 0 0 11 = L 13 26 ∧ (∀ i, i < 16 → C 46 0 0 0 i = L 75 i ∧ C 47 0 0 0 i = L 76 i ∧ C 48 0 0 0 i = L 77 i ∧ C 49 0 0 0 i = L 78 i) ∧ (∀ i, i < 128 → C 50 0 0 0 i = L 79 i)
def RG (o : Nat) (s : St) (L : nz_f2) (C : nz_f5) : Prop := o = 0 → L 13 13 ≠ n32 0 ∧ RL s L C
theorem RL.job {s : St} {L L' : nz_f2} {C C' : nz_f5} {j : Nat} {r : Nat → Nat} (h : RL s L C) (hj : j < 8)
    (h8 : ∀ k x, k ≠ j → C' 8 0 k 0 x = C 8 0 k 0 x) (hl : ∀ kd k, 67 ≤ kd → kd ≤ 71 → k ≠ j → L' kd k = L kd k)
    (hJ : C' 8 0 j 0 16 = L' 67 j ∧ C' 8 0 j 0 17 = L' 68 j ∧ C' 8 0 j 0 18 = L' 69 j ∧ C' 8 0 j 0 19 = L' 70 j ∧ C' 8 0 j 0 20 = L' 71 j ∧ C' 8 0 j 0 14 = n32 (r 6))
    (h11 : C' 11 0 0 0 11 = L' 13 26) (h46 : ∀ i, i < 16 → C' 46 0 0 0 i = L' 75 i ∧ C' 47 0 0 0 i = L' 76 i ∧ C' 48 0 0 0 i = L' 77 i ∧ C' 49 0 0 0 i = L' 78 i) (h50 : ∀ i, i < 128 → C' 50 0 0 0 i = L' 79 i) : RL (upj s j r) L' C' := by
  refine ⟨fun k hk => ?_, h11, h46, h50⟩
  by_cases hkj : k = j
  · rw [hkj, upj_self]; exact hJ
  · rw [upj_ne hkj, h8 k _ hkj, h8 k _ hkj, h8 k _ hkj, h8 k _ hkj, h8 k _ hkj, h8 k _ hkj, hl 67 k (by omega) (by omega) hkj, hl 68 k (by omega) (by omega) hkj, hl 69 k (by omega) (by omega) hkj, hl 70 k (by omega) (by omega) hkj, hl 71 k (by omega) (by omega) hkj]
    exact h.1 k hk
section
variable {P : Nat × (Nat → Int32)} {d o : Nat} {t s : St} {T S L Z : nz_f2} {C : nz_f5} {j : Nat}
theorem c_on {x : Int32} (hd : 2 ≤ d) (Q : nz_h → Prop) : ctV P d 79 [jO o j, vi x] (T, S, L, Z, C) Q = Q (T, S, L, Z, onC C o j x) := by
  obtain ⟨d, rfl⟩ := dge hd
  refine ctV_det (fun Q hq => sm79 ?_) Q
  simp only [decide_eq_true_eq, decide_eq_false_iff_not, L32, az01, b2i_01, b2i_n0, b2i_n1, Bool.and_true, true_and, and_true, Classical.not_not, Bool.not_eq_true, Bool.not_eq_false, uC_row]
  exact hq
theorem c_endsR {b : Bool} (hd : 2 ≤ d) (Q : nz_h → Prop) : ctV P d 77 [jO o j, vi (b2i b)] (T, S, L, Z, C) Q = Q (T, S, L, Z, endC C o j (b2i b)) := by
  obtain ⟨d, rfl⟩ := dge hd
  refine ctV_det (fun Q hq => sm77 ?_) Q
  have loop : ∀ n m, n + m = 10 → ∀ l1, nzW P (d + 1) az_k77 17 [some (jO o j), l1, some (vi (n32 m))] [] (T, S, L, Z, fun kd o' k l y => if kd = 35 ∧ o' = o ∧ k = j ∧ l = 0 ∧ y < m then n32 0 else nz_u5 (nz_u5 (nz_u5 C 8 o j 0 6 (n32 3)) 8 o j 0 14 (b2i b)) 8 o j 0 7 (n32 0) kd o' k l y) (nz_RV Q) := by
    intro n
    induction n with
    | zero =>
      intro m hm l1
      obtain rfl : m = 10 := by omega
      refine sg77_17 ?_
      simp (disch := omega) only [decide_eq_true_eq, decide_eq_false_iff_not, L32, az01, b2i_01, b2i_n0, b2i_n1, Bool.and_true, true_and, and_true, Classical.not_not, Bool.not_eq_true, Bool.not_eq_false, n32_mul, n32_add, n32_ix, n32_ib, n32_lt, n32_le, n32_inj, l_hb, l_hb0, l_shl, l_wo, l_eqm1, l_m1eq]
      exact ⟨fun _ => hq, fun hc => by omega⟩
    | succ n ih =>
      intro m hm l1
      refine sg77_17 ?_
      simp (disch := omega) only [decide_eq_true_eq, decide_eq_false_iff_not, L32, az01, b2i_01, b2i_n0, b2i_n1, Bool.and_true, true_and, and_true, Classical.not_not, Bool.not_eq_true, Bool.not_eq_false, n32_mul, n32_add, n32_ix, n32_ib, n32_lt, n32_le, n32_inj, l_hb, l_hb0, l_shl, l_wo, l_eqm1, l_m1eq, uC_row]
      refine ⟨fun hc => by omega, fun _ => ⟨by omega, ?_⟩⟩
      have := ih (m + 1) (by omega) l1
      refine cast (congrArg (fun X => nzW P (d + 1) az_k77 17 [some (jO o j), l1, some (vi (n32 (m + 1)))] [] (T, S, L, Z, X) (nz_RV Q)) ?_) this
      funext kd o' k l y
      generalize nz_u5 (nz_u5 C 8 o j 0 6 (n32 3)) 8 o j 0 14 (b2i b) = CC
      unfold nz_u5
      by_cases hc : kd = 35 ∧ o' = o ∧ k = j ∧ l = 0 ∧ y = m
      · rw [if_pos hc, if_pos ⟨hc.1, hc.2.1, hc.2.2.1, hc.2.2.2.1, by omega⟩]
      · rw [if_neg hc]
        simp only []
        by_cases hc2 : kd = 35 ∧ o' = o ∧ k = j ∧ l = 0 ∧ y < m
        · rw [if_pos hc2, if_pos ⟨hc2.1, hc2.2.1, hc2.2.2.1, hc2.2.2.2.1, by omega⟩]
        · rw [if_neg hc2, if_neg (fun hh => hc2 ⟨hh.1, hh.2.1, hh.2.2.1, hh.2.2.2.1, by
            apply Classical.byContradiction; intro hne; exact hc ⟨hh.1, hh.2.1, hh.2.2.1, hh.2.2.2.1, by omega⟩⟩)]
  simp only [decide_eq_true_eq, decide_eq_false_iff_not, L32, az01, b2i_01, b2i_n0, b2i_n1, Bool.and_true, true_and, and_true, Classical.not_not, Bool.not_eq_true, Bool.not_eq_false, uC_row]
  have := loop 10 0 rfl (some (vi (b2i b)))
  refine cast (congrArg (fun X => nzW P (d + 1) az_k77 17 [some (jO o j), some (vi (b2i b)), some (vi (n32 0))] [] (T, S, L, Z, X) (nz_RV Q)) ?_) this
  funext kd o' k l y
  rw [if_neg (by omega)]
end
