/-! a run begins -/
def begS (s : St) : St := fun j f => if (j < 8 ∧ f < 18) ∨ (j = 13 ∧ f = 12) then 0 else s j f
def begP (s : St) (k : Nat) : St := fun j f => if f < 18 ∧ 18 * j + f < k then 0 else s j f
theorem begP_up {s : St} {k : Nat} : up (begP s k) (k / 18) (k % 18) 0 = begP s (k + 1) := by
  funext j f
  unfold up begP
  by_cases h : j = k / 18 ∧ f = k % 18
  · rw [if_pos h, if_pos (by omega)]
  · rw [if_neg h]
    by_cases h2 : f < 18 ∧ 18 * j + f < k
    · rw [if_pos h2, if_pos (by omega)]
    · rw [if_neg h2, if_neg (by omega)]
theorem begP_144 {s : St} : up (begP s 144) 13 12 0 = begS s := by
  funext j f
  unfold up begP begS
  by_cases h : j = 13 ∧ f = 12
  · rw [if_pos h, if_pos (by omega)]
  · rw [if_neg h]
    by_cases h2 : f < 18 ∧ 18 * j + f < 144
    · rw [if_pos h2, if_pos (by omega)]
    · rw [if_neg h2, if_neg (by omega)]
theorem begP_0 {s : St} : begP s 0 = s := by
  funext j f; unfold begP; rw [if_neg (by omega)]
theorem begS_at {s : St} {j f : Nat} (hj : j < 8) (hf : f < 18) : begS s j f = 0 := by
  unfold begS; rw [if_pos (by omega)]
theorem begS_row {s : St} {j : Nat} (hj : j < 8) : muR (begS s j) = 183 := by
  unfold muR mwt; rw [begS_at hj (by omega), begS_at hj (by omega), begS_at hj (by omega)]; rfl
theorem begS_mu {s : St} : mu (begS s) = 1464 := by
  unfold mu
  simp only [sumN]
  rw [begS_row (by omega), begS_row (by omega), begS_row (by omega), begS_row (by omega), begS_row (by omega), begS_row (by omega), begS_row (by omega), begS_row (by omega)]
theorem begS_INV {t s : St} (hB : ∀ j f, s j f < 1000000) : INV t (begS s) := by
  have z : ∀ j f, j < 8 → f < 18 → begS s j f = 0 := fun j f hj hf => begS_at hj hf
  refine ⟨fun j hj => ?_, fun j k hj hk hne m hm h => ?_, ⟨fun j hj h => ?_, fun j k hj hk h => ?_⟩, ?_, fun j f => ?_⟩
  · have r1 := z j 1 hj (by omega)
    have r0 := z j 0 hj (by omega)
    have r5 := z j 5 hj (by omega)
    have r4 := z j 4 hj (by omega)
    have r2 := z j 2 hj (by omega)
    have r3 := z j 3 hj (by omega)
    have r6 := z j 6 hj (by omega)
    have r8 : ∀ m, m < 10 → begS s j (8 + m) = 0 := fun m hm => z j (8 + m) hj (by omega)
    refine ⟨⟨by omega, by omega, by omega, by omega⟩, fun m hm h => by have := r8 m hm; omega, ⟨by omega, fun h => by omega, fun _ => r4⟩, ⟨by omega, by omega, by omega, by omega⟩, ⟨fun m hm => by have := r8 m hm; omega, by omega⟩, by omega, fun _ => r3, fun h => ?_⟩
    unfold triR at h
    rw [r1] at h
    cases h
  · have := z j (8 + m) hj (by omega); omega
  · have := z j 1 hj (by omega); omega
  · have := z j 1 hj (by omega); omega
  · rw [begS_mu]
    unfold begS; rw [if_pos (by omega)]; omega
  · unfold begS
    by_cases h : (j < 8 ∧ f < 18) ∨ (j = 13 ∧ f = 12)
    · rw [if_pos h]; omega
    · rw [if_neg h]; exact hB j f
theorem begS_rfl {s : St} : rflS (begS s) = 16 := by
  have z : ∀ j f, j < 8 → f < 18 → begS s j f = 0 := fun j f hj hf => begS_at hj hf
  unfold rflS
  simp only [sumN]
  simp only [z 0 2 (by omega) (by omega), z 0 6 (by omega) (by omega), z 1 2 (by omega) (by omega), z 1 6 (by omega) (by omega), z 2 2 (by omega) (by omega), z 2 6 (by omega) (by omega), z 3 2 (by omega) (by omega), z 3 6 (by omega) (by omega), z 4 2 (by omega) (by omega), z 4 6 (by omega) (by omega), z 5 2 (by omega) (by omega), z 5 6 (by omega) (by omega), z 6 2 (by omega) (by omega), z 6 6 (by omega) (by omega), z 7 2 (by omega) (by omega), z 7 6 (by omega) (by omega)]
theorem begS_rem {s : St} : remS (begS s) = 360 := by
  have z : ∀ j f, j < 8 → f < 18 → begS s j f = 0 := fun j f hj hf => begS_at hj hf
  unfold remS
  simp only [sumN]
  simp only [z 0 2 (by omega) (by omega), z 0 0 (by omega) (by omega), z 1 2 (by omega) (by omega), z 1 0 (by omega) (by omega), z 2 2 (by omega) (by omega), z 2 0 (by omega) (by omega), z 3 2 (by omega) (by omega), z 3 0 (by omega) (by omega), z 4 2 (by omega) (by omega), z 4 0 (by omega) (by omega), z 5 2 (by omega) (by omega), z 5 0 (by omega) (by omega), z 6 2 (by omega) (by omega), z 6 0 (by omega) (by omega), z 7 2 (by omega) (by omega), z 7 0 (by omega) (by omega)]
section
variable {P : Nat × (Nat → Int32)} {d o : Nat} {t s : St} {T S L Z : nz_f2} {C : nz_f5} {j : Nat}
theorem m_begin (hd : 2 ≤ d) (Q : nz_h → Prop) : ctV P d 115 [mO] (T, rowf s, L, Z, C) Q = Q (T, rowf (begS s), L, Z, C) := by
  obtain ⟨d, rfl⟩ := dge hd
  refine ctV_det (fun Q hq => sm115 ?_) Q
  have loop : ∀ n k, n + k = 144 → nzW P (d + 1) az_k115 2 [some mO, some (vi (n32 k))] [] (T, rowf (begP s k), L, Z, C) (nz_RV Q) := by
    intro n
    induction n with
    | zero =>
      intro k hk
      obtain rfl : k = 144 := by omega
      refine sg115_2 ?_
      simp (disch := omega) only [decide_eq_true_eq, decide_eq_false_iff_not, L32, az01, b2i_01, b2i_n0, b2i_n1, Bool.and_true, true_and, and_true, Classical.not_not, Bool.not_eq_true, Bool.not_eq_false, n32_mul, n32_add, n32_ix, n32_ib, n32_lt, n32_le, n32_inj, l_hb, l_hb0, l_shl, l_wo, l_eqm1, l_m1eq, uS_row, begP_144]
      exact ⟨fun _ => hq, fun hc => by omega⟩
    | succ n ih =>
      intro k hk
      refine sg115_2 ?_
      simp (disch := omega) only [decide_eq_true_eq, decide_eq_false_iff_not, L32, az01, b2i_01, b2i_n0, b2i_n1, Bool.and_true, true_and, and_true, Classical.not_not, Bool.not_eq_true, Bool.not_eq_false, n32_mul, n32_add, n32_ix, n32_ib, n32_lt, n32_le, n32_inj, l_hb, l_hb0, l_shl, l_wo, l_eqm1, l_m1eq, uS_row, begP_up]
      exact ⟨fun hc => by omega, fun _ => ⟨by omega, ih (k + 1) (by omega)⟩⟩
  have := loop 144 0 rfl
  rw [begP_0] at this
  exact this
def Wbe (o kd o' x : Nat) : Prop := o' = o ∧ ((kd = 8 ∧ 5 ≤ x) ∨ kd = 35 ∨ kd = 28)
def Fb (o j : Nat) (C C' : nz_f5) : Prop := ∀ kd o' k l x, ¬ (o' = o ∧ ((kd = 8 ∧ k = j ∧ 5 ≤ x) ∨ (kd = 35 ∧ k = j))) → C' kd o' k l x = C kd o' k l x
theorem Fb.up {C C' : nz_f5} {kd o' k l x : Nat} {v : Int32} (h : Fb o j C C') (hw : o' = o ∧ ((kd = 8 ∧ k = j ∧ 5 ≤ x) ∨ (kd = 35 ∧ k = j))) : Fb o j C (nz_u5 C' kd o' k l x v) := fun kd2 o2 k2 l2 x2 hh => by
  unfold nz_u5
  by_cases hc : kd2 = kd ∧ o2 = o' ∧ k2 = k ∧ l2 = l ∧ x2 = x
  · exfalso; apply hh; rw [hc.1, hc.2.1, hc.2.2.1, hc.2.2.2.2]; exact hw
  · rw [if_neg hc]; exact h kd2 o2 k2 l2 x2 hh
theorem c_jbegins (hd : 2 ≤ d) {Q : nz_h → Prop}
    (hq : ∀ C', Fb o j C C' → (∀ x, 5 ≤ x → x ≤ 20 → x ≠ 15 → C' 8 o j 0 x = n32 0) → (∀ m, m < 10 → C' 35 o j 0 m = n32 0) → Q (T, S, L, Z, C')) : ctV P d 76 [jO o j] (T, S, L, Z, C) Q := by
  obtain ⟨d, rfl⟩ := dge hd
  refine sm76 ?_
  have loop : ∀ n m, n + m = 10 → ∀ C1, Fb o j C C1 → (∀ x, 5 ≤ x → x ≤ 14 → C1 8 o j 0 x = n32 0) → (∀ y, y < m → C1 35 o j 0 y = n32 0) → nzW P (d + 1) az_k76 52 [some (jO o j), some (vi (n32 m))] [] (T, S, L, Z, C1) (nz_RV Q) := by
    intro n
    induction n with
    | zero =>
      intro m hm C1 hF h8 h35
      obtain rfl : m = 10 := by omega
      refine sg76_52 ?_
      simp (disch := omega) only [decide_eq_true_eq, decide_eq_false_iff_not, L32, az01, b2i_01, b2i_n0, b2i_n1, Bool.and_true, true_and, and_true, Classical.not_not, Bool.not_eq_true, Bool.not_eq_false, n32_mul, n32_add, n32_ix, n32_ib, n32_lt, n32_le, n32_inj, l_hb, l_hb0, l_shl, l_wo, l_eqm1, l_m1eq, uC_row]
      refine ⟨fun _ => hq _ ?_ (fun x h1 h2 h3 => ?_) (fun y hy => ?_), fun hc => by omega⟩
      · refine Fb.up (Fb.up (Fb.up (Fb.up (Fb.up hF ?_) ?_) ?_) ?_) ?_ <;> omega
      · by_cases hx : x ≤ 14
        · rw [u5_x (by omega), u5_x (by omega), u5_x (by omega), u5_x (by omega), u5_x (by omega)]
          exact h8 x h1 hx
        · have : x = 16 ∨ x = 17 ∨ x = 18 ∨ x = 19 ∨ x = 20 := by omega
          rcases this with rfl | rfl | rfl | rfl | rfl <;> simp (disch := decide) only [u5_eq, u5_x]
      · rw [u5_k (by decide), u5_k (by decide), u5_k (by decide), u5_k (by decide), u5_k (by decide)]
        exact h35 y hy
    | succ n ih =>
      intro m hm C1 hF h8 h35
      refine sg76_52 ?_
      simp (disch := omega) only [decide_eq_true_eq, decide_eq_false_iff_not, L32, az01, b2i_01, b2i_n0, b2i_n1, Bool.and_true, true_and, and_true, Classical.not_not, Bool.not_eq_true, Bool.not_eq_false, n32_mul, n32_add, n32_ix, n32_ib, n32_lt, n32_le, n32_inj, l_hb, l_hb0, l_shl, l_wo, l_eqm1, l_m1eq, uC_row]
      refine ⟨fun hc => by omega, fun _ => ⟨by omega, ?_⟩⟩
      refine ih (m + 1) (by omega) _ (hF.up (by omega)) (fun x h1 h2 => ?_) (fun y hy => ?_)
      · rw [u5_k (by decide)]; exact h8 x h1 h2
      · by_cases hym : y = m
        · rw [hym, u5_eq]
        · rw [u5_x hym]; exact h35 y (by omega)
  simp (disch := omega) only [decide_eq_true_eq, decide_eq_false_iff_not, L32, az01, b2i_01, b2i_n0, b2i_n1, Bool.and_true, true_and, and_true, Classical.not_not, Bool.not_eq_true, Bool.not_eq_false, n32_mul, n32_add, n32_ix, n32_ib, n32_lt, n32_le, n32_inj, l_hb, l_hb0, l_shl, l_wo, l_eqm1, l_m1eq, uC_row]
  refine loop 10 0 rfl _ ?_ (fun x h1 h2 => ?_) (fun y hy => by omega)
  · refine Fb.up (Fb.up (Fb.up (Fb.up (Fb.up (Fb.up (Fb.up (Fb.up (Fb.up (Fb.up (fun _ _ _ _ _ _ => rfl) ?_) ?_) ?_) ?_) ?_) ?_) ?_) ?_) ?_) ?_ <;> omega
  · have : x = 5 ∨ x = 6 ∨ x = 7 ∨ x = 8 ∨ x = 9 ∨ x = 10 ∨ x = 11 ∨ x = 12 ∨ x = 13 ∨ x = 14 := by omega
    rcases this with rfl | rfl | rfl | rfl | rfl | rfl | rfl | rfl | rfl | rfl <;> simp (disch := decide) only [u5_eq, u5_x]
theorem c_begins (hd : 3 ≤ d) {Q : nz_h → Prop}
    (hq : ∀ C', Fr (Wbe o) C C' → (∀ j x, j < 8 → 5 ≤ x → x ≤ 20 → x ≠ 15 → C' 8 o j 0 x = n32 0) → (∀ j m, j < 8 → m < 10 → C' 35 o j 0 m = n32 0) → (∀ m, m < 10 → C' 28 o 0 0 m = n32 0) → Q (T, S, L, Z, C')) : ctV P d 34 [sO o] (T, S, L, Z, C) Q := by
  obtain ⟨d, rfl⟩ := dge hd
  refine sm34 ?_
  have loop2 : ∀ n m, n + m = 10 → ∀ C1, Fr (Wbe o) C C1 → (∀ j x, j < 8 → 5 ≤ x → x ≤ 20 → x ≠ 15 → C1 8 o j 0 x = n32 0) → (∀ j m, j < 8 → m < 10 → C1 35 o j 0 m = n32 0) → (∀ y, y < m → C1 28 o 0 0 y = n32 0) → ∀ l2 l3 l4, nzW P (d + 2) az_k34 33 [some (sO o), some (vi (n32 m)), l2, l3, l4] [] (T, S, L, Z, C1) (nz_RV Q) := by
    intro n
    induction n with
    | zero =>
      intro m hm C1 hF h8 h35 h28 l2 l3 l4
      obtain rfl : m = 10 := by omega
      refine sg34_33 ?_
      simp (disch := omega) only [decide_eq_true_eq, decide_eq_false_iff_not, L32, az01, b2i_01, b2i_n0, b2i_n1, Bool.and_true, true_and, and_true, Classical.not_not, Bool.not_eq_true, Bool.not_eq_false, n32_mul, n32_add, n32_ix, n32_ib, n32_lt, n32_le, n32_inj, l_hb, l_hb0, l_shl, l_wo, l_eqm1, l_m1eq]
      exact ⟨fun _ => hq C1 hF h8 h35 h28, fun hc => by omega⟩
    | succ n ih =>
      intro m hm C1 hF h8 h35 h28 l2 l3 l4
      refine sg34_33 ?_
      simp (disch := omega) only [decide_eq_true_eq, decide_eq_false_iff_not, L32, az01, b2i_01, b2i_n0, b2i_n1, Bool.and_true, true_and, and_true, Classical.not_not, Bool.not_eq_true, Bool.not_eq_false, n32_mul, n32_add, n32_ix, n32_ib, n32_lt, n32_le, n32_inj, l_hb, l_hb0, l_shl, l_wo, l_eqm1, l_m1eq, uC_row]
      refine ⟨fun hc => by omega, fun _ => ⟨by omega, ?_⟩⟩
      refine ih (m + 1) (by omega) _ (hF.up (by unfold Wbe; omega)) (fun j x h0 h1 h2 h3 => ?_) (fun j m h1 h2 => ?_) (fun y hy => ?_) _ _ _
      · rw [u5_k (by decide)]; exact h8 j x h0 h1 h2 h3
      · rw [u5_k (by decide)]; exact h35 j m h1 h2
      · by_cases hym : y = m
        · rw [hym, u5_eq]
        · rw [u5_x hym]; exact h28 y (by omega)
  have loop : ∀ n k, n + k = 8 → ∀ C1, Fr (Wbe o) C C1 → (∀ j x, j < k → 5 ≤ x → x ≤ 20 → x ≠ 15 → C1 8 o j 0 x = n32 0) → (∀ j m, j < k → m < 10 → C1 35 o j 0 m = n32 0) → ∀ l4, nzW P (d + 2) az_k34 10 [some (sO o), some (vr (26, o, 0, 0)), some (vi (n32 8)), some (vi (n32 k)), l4] [] (T, S, L, Z, C1) (nz_RV Q) := by
    intro n
    induction n with
    | zero =>
      intro k hk C1 hF h8 h35 l4
      obtain rfl : k = 8 := by omega
      refine sg34_10 ?_
      simp (disch := omega) only [decide_eq_true_eq, decide_eq_false_iff_not, L32, az01, b2i_01, b2i_n0, b2i_n1, Bool.and_true, true_and, and_true, Classical.not_not, Bool.not_eq_true, Bool.not_eq_false, n32_mul, n32_add, n32_ix, n32_ib, n32_lt, n32_le, n32_inj, l_hb, l_hb0, l_shl, l_wo, l_eqm1, l_m1eq]
      exact ⟨fun _ => loop2 10 0 rfl C1 hF h8 h35 (fun y hy => by omega) _ _ _, fun hc => by omega⟩
    | succ n ih =>
      intro k hk C1 hF h8 h35 l4
      refine sg34_10 ?_
      simp (disch := omega) only [decide_eq_true_eq, decide_eq_false_iff_not, L32, az01, b2i_01, b2i_n0, b2i_n1, Bool.and_true, true_and, and_true, Classical.not_not, Bool.not_eq_true, Bool.not_eq_false, n32_mul, n32_add, n32_ix, n32_ib, n32_lt, n32_le, n32_inj, l_hb, l_hb0, l_shl, l_wo, l_eqm1, l_m1eq]
      refine ⟨fun hc => by omega, fun _ => ⟨by omega, ?_⟩⟩
      refine c_jbegins (by omega) (fun C2 hF2 g8 g35 => ?_)
      refine ih (k + 1) (by omega) C2 (hF.trans (fun kd o' j k x hh => hF2 kd o' j k x (fun hw => hh (by unfold Wbe; omega)))) (fun j x h0 h1 h2 h3 => ?_) (fun j m h0 hm => ?_) _
      · by_cases hjk : j = k
        · rw [hjk]; exact g8 x h1 h2 h3
        · rw [hF2 8 o j 0 x (by omega)]; exact h8 j x (by omega) h1 h2 h3
      · by_cases hjk : j = k
        · rw [hjk]; exact g35 m hm
        · rw [hF2 35 o j 0 m (by omega)]; exact h35 j m (by omega) hm
  exact loop 8 0 rfl C (Fr.rfl' C) (fun j x h => by omega) (fun j m h => by omega) _
theorem RC.begins {C' : nz_f5} (hR : RT o t C) (hF : Fr (Wbe o) C C') (h8 : ∀ j x, j < 8 → 5 ≤ x → x ≤ 20 → x ≠ 15 → C' 8 o j 0 x = n32 0) (h35 : ∀ j m, j < 8 → m < 10 → C' 35 o j 0 m = n32 0) (h28 : ∀ m, m < 10 → C' 28 o 0 0 m = n32 0) : RC o t (begS s) C' := by
  have z : ∀ j f, j < 8 → f < 18 → begS s j f = 0 := fun j f hj hf => begS_at hj hf
  refine ⟨⟨fun m hm => ?_, fun k hk => ?_, fun k p hk hp => ?_, ?_⟩, fun j hj => ?_, fun m hm => ⟨[], ⟨fun x => ?_, List.Pairwise.nil⟩, h28 m hm, fun k x h => by cases h⟩⟩
  · rw [hF 7 o m 0 0 (by unfold Wbe; omega), hF 7 o m 0 1 (by unfold Wbe; omega)]; exact hR.1 m hm
  · rw [hF 8 o k 0 0 (by unfold Wbe; omega), hF 8 o k 0 2 (by unfold Wbe; omega), hF 8 o k 0 3 (by unfold Wbe; omega), hF 8 o k 0 4 (by unfold Wbe; omega)]; exact hR.2.1 k hk
  · rw [hF 9 o k p 0 (by unfold Wbe; omega), hF 9 o k p 1 (by unfold Wbe; omega), hF 9 o k p 2 (by unfold Wbe; omega)]; exact hR.2.2.1 k p hk hp
  · rw [hF 1 o 0 0 5 (by unfold Wbe; omega)]; exact hR.2.2.2
  · unfold RJ
    rw [z j 1 hj (by omega), z j 5 hj (by omega), z j 4 hj (by omega), z j 2 hj (by omega), z j 0 hj (by omega)]
    refine ⟨h8 j 6 hj (by omega) (by omega) (by omega), h8 j 7 hj (by omega) (by omega) (by omega), fun m hm => by rw [z j (8 + m) hj (by omega)]; exact h35 j m hj hm, fun _ => ⟨h8 j 12 hj (by omega) (by omega) (by omega), h8 j 13 hj (by omega) (by omega) (by omega)⟩, fun h => by omega, fun h => by omega, fun h => by omega, fun _ => ⟨0, by omega, h8 j 5 hj (by omega) (by omega) (by omega), fun _ => rfl, fun h => h⟩⟩
  · refine ⟨fun h => (by cases h), fun h => ?_⟩
    have := z x 1 h.1 (by omega)
    omega
end
