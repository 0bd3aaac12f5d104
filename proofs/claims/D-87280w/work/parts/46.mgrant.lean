/-! grants: what is learned, what is written, tries that let them pass -/
def remS (s : St) : Nat := sumN 8 (fun j => (22 - s j 0) + 23 * (1 - s j 2))
theorem remS_upj {s : St} {j : Nat} {r : Nat → Nat} (hj : j < 8) : remS (upj s j r) + ((22 - s j 0) + 23 * (1 - s j 2)) = remS s + ((22 - r 0) + 23 * (1 - r 2)) := by
  have := sumN_upd (f := fun k => (22 - upj s j r k 0) + 23 * (1 - upj s j r k 2)) (g := fun k => (22 - s k 0) + 23 * (1 - s k 2)) (j := j) 8 hj (fun k _ hne => by simp only [upj_ne hne])
  simp only [upj_self] at this
  unfold remS
  exact this
def keepL (a b : Nat) : Prop := ¬ (a = 13 ∧ b = 26) ∧ a ≠ 67 ∧ a ≠ 68 ∧ a ≠ 69 ∧ a ≠ 70 ∧ a ≠ 75 ∧ a ≠ 76 ∧ a ≠ 77 ∧ a ≠ 78 ∧ a ≠ 79
theorem incL_keep {L : nz_f2} {kd j a b : Nat} (h : a ≠ kd) : incL L kd j a b = L a b := by
  unfold incL
  cases decide (L 13 13 = n32 0)
  · exact u2_ne h
  · rfl
theorem comesL_keep {t s : St} {L : nz_f2} {j a b : Nat} (h : keepL a b) : comesL t s L j a b = L a b := by
  unfold comesL
  cases (refS t (coms s j) j && !decide (L 13 13 = n32 0)) with
  | false => rfl
  | true =>
    obtain ⟨h1, h2, h3, h4, h5, h6, h7, h8, h9, h10⟩ := h
    show refL t (coms s j) L j (nz_ix (L 13 26)) a b = L a b
    unfold refL ringL
    rw [u2_ne h9, if_neg (fun hh => h10 hh.1), u2_ne h8, u2_ne h7, u2_ne h6, u2_ne h2]
    unfold nz_u2
    rw [if_neg h1]
theorem tellP_keep {t : St} {m : Nat} {all : Bool} {a b : Nat} (h : keepL a b) : ∀ n (p : Pr), (tellP t m all n p).2 a b = p.2 a b := by
  intro n
  induction n with
  | zero => intro p; rfl
  | succ n ih =>
    intro p
    rw [tellP]
    cases hs : slpF t p.1 m 8 with
    | none => rfl
    | some k =>
      have e : (comesP t (p.1, incL p.2 70 k) k).2 a b = p.2 a b := (comesL_keep h).trans (incL_keep h.2.2.2.2.1)
      simp only
      cases all with
      | false => exact e
      | true => rw [cond_true, ih]; exact e
theorem doP_keep {t : St} {p : Pr} {j a b : Nat} (h : keepL a b) : (doP t p j).2 a b = p.2 a b := by
  have e1 : incL p.2 68 j a b = p.2 a b := incL_keep h.2.2.1
  have e2 : (comesP t p j).2 a b = p.2 a b := comesL_keep h
  unfold doP sevP
  repeat' split
  all_goals first | rfl | exact e1 | exact e2 | exact tellP_keep h _ _ | skip
  cases anyB 10 (fun m => (onS t p.1 j).testBit m && (p.1 j 5).testBit m) with
  | true => exact e1
  | false =>
    cases anyB 10 (fun m => (onS t p.1 j).testBit m && decide (p.1 j (8 + m) = 0)) with
    | true => exact e2
    | false => rfl
theorem passP_keep {t : St} {p : Pr} {a b : Nat} (h : keepL a b) : ∀ n, (passP t n p).2 a b = p.2 a b := by
  intro n
  induction n with
  | zero => rfl
  | succ n ih =>
    rw [passP]
    cases triS t (passP t n p).1 n with
    | true => exact (incL_keep h.2.2.2.1).trans ih
    | false => exact ih
theorem setN_keep {t : St} {a b : Nat} (h : keepL a b) : ∀ n (p : Pr), (setN t n p).2 a b = p.2 a b := by
  intro n
  induction n with
  | zero => intro p; rfl
  | succ n ih =>
    intro p
    rw [setN]
    cases hx : nxtP t p with
    | none => rfl
    | some q =>
      simp only
      rw [ih]
      unfold nxtP at hx
      split at hx
      · cases hx; exact doP_keep h
      · cases ha : anyB 8 (mayS t p.1) with
        | true => rw [ha] at hx; cases hx
        | false =>
          cases hb : anyB 8 (triS t p.1) with
          | true => rw [ha, hb] at hx; cases hx; exact passP_keep h 8
          | false => rw [ha, hb] at hx; cases hx
section
variable {t s : St} {j : Nat}
theorem rem_comes (hT : TV t) (hj : j < 8) (hp : s j 0 < 20) : remS (comesS t s j) ≤ remS s := by
  have h57 := hT.2.2.1 j
  unfold comesS
  cases refS t (coms s j) j with
  | false =>
    rw [cond_false, coms_upj]
    have := remS_upj (s := s) (r := fun f => if f = 1 then 1 else if f = 3 then 0 else s j f) hj
    simp at this; omega
  | true =>
    cases hg : grdS t s j with
    | false =>
      have := remS_upj (s := s) (r := fun f => if f = 1 then 3 else if f = 2 ∨ f = 6 then 1 else if f = 3 ∨ f = 4 ∨ f = 5 ∨ (8 ≤ f ∧ f < 18) then 0 else s j f) hj
      have e : remS (comesE s j) = remS (upj s j (fun f => if f = 1 then 3 else if f = 2 ∨ f = 6 then 1 else if f = 3 ∨ f = 4 ∨ f = 5 ∨ (8 ≤ f ∧ f < 18) then 0 else s j f)) := rfl
      simp at this
      rw [cond_true, cond_false, e]; omega
    | true =>
      unfold grdS at hg
      simp only [Bool.and_eq_true, decide_eq_true_eq] at hg
      have := remS_upj (s := s) (r := fun f => if f = 0 then (if t 61 j < t 57 j then t 61 j else t 57 j) else if f = 1 ∨ f = 3 ∨ f = 4 then 0 else if f = 2 then 1 else s j f) hj
      have e : remS (comesG t s j) = remS (upj s j (fun f => if f = 0 then (if t 61 j < t 57 j then t 61 j else t 57 j) else if f = 1 ∨ f = 3 ∨ f = 4 then 0 else if f = 2 then 1 else s j f)) := rfl
      simp [hg.1] at this
      rw [cond_true, cond_true, e]; omega
theorem rem_goX {X : St} (hj : j < 8) (hX : ∀ a f, a ≠ j → X a f = s a f) (x0 : X j 0 = s j 0) (x2 : X j 2 = s j 2) : remS (goesS X j) ≤ remS s := by
  rw [goes_upj hX]
  obtain ⟨R, hR⟩ : ∃ R : Nat → Nat, R = (fun f => if f = 1 then 0 else if f = 0 then X j 0 + 1 else X j f) := ⟨_, rfl⟩
  have r0 : R 0 = s j 0 + 1 := by rw [hR]; simp [x0]
  have r2 : R 2 = s j 2 := by rw [hR]; simp [x2]
  rw [← hR]
  have := remS_upj (s := s) (r := R) hj
  rw [r0, r2] at this
  omega
theorem rem_tellP (hT : TV t) {m : Nat} {all : Bool} : ∀ n (p : Pr), INV t p.1 → LI1 p.1 p.2 → remS (tellP t m all n p).1 ≤ remS p.1 := by
  intro n
  induction n with
  | zero => intro p _ _; exact Nat.le_refl _
  | succ n ih =>
    intro p h1 h2
    rw [tellP]
    cases hs : slpF t p.1 m 8 with
    | none => exact Nat.le_refl _
    | some k =>
      obtain ⟨hk, hk2, hk3⟩ := slpF_some hs
      have hr := rem_comes hT hk (h1.av hT hk (Or.inr hk2)).1
      simp only
      cases all with
      | false => exact hr
      | true =>
        have hI' := INV_comes hT h1 hk (Or.inr hk2)
        have hL' : LI1 (comesS t p.1 k) (comesL t p.1 (incL p.2 70 k) k) := LI1.comes h1 (incL_LI h2) hk (Or.inr hk2)
        exact Nat.le_trans (ih (comesP t (p.1, incL p.2 70 k) k) hI' hL') hr
theorem rem_do {L : nz_f2} (hT : TV t) (hI : INV t s) (hL : LI1 s L) (hj : j < 8) (hm : s j 1 = 0) : remS (doP t (s, L) j).1 ≤ remS s := by
  have h57 := hT.2.2.1 j
  have e1 : remS (goesS s j) ≤ remS s := rem_goX hj (fun _ _ _ => rfl) rfl rfl
  have e2 : s j 0 < 20 → remS (comesS t s j) ≤ remS s := rem_comes hT hj
  have e3 : ∀ f v, f ≠ 0 → f ≠ 2 → remS (goesS (up s j f v) j) ≤ remS s := fun f v h0 h2 => rem_goX hj (fun a f ha => by unfold up; rw [if_neg (by omega)]) (by unfold up; rw [if_neg (by omega)]) (by unfold up; rw [if_neg (by omega)])
  have e4 : remS (endsS s j) ≤ remS s := by
    have := remS_upj (s := s) (r := fun f => if f = 1 then 3 else if f = 3 ∨ f = 4 ∨ f = 5 ∨ (8 ≤ f ∧ f < 18) then 0 else s j f) hj
    have e : remS (endsS s j) = remS (upj s j (fun f => if f = 1 then 3 else if f = 3 ∨ f = 4 ∨ f = 5 ∨ (8 ≤ f ∧ f < 18) then 0 else s j f)) := rfl
    simp at this; omega
  have e5 : ∀ m, remS (sleepS s j m) ≤ remS s := fun m => by
    apply Nat.le_of_eq
    unfold remS
    have : ∀ n, n ≤ 8 → sumN n (fun k => (22 - sleepS s j m k 0) + 23 * (1 - sleepS s j m k 2)) = sumN n (fun k => (22 - s k 0) + 23 * (1 - s k 2)) := by
      intro n
      induction n with
      | zero => intro _; rfl
      | succ n ih =>
        intro hn8
        have e2 : ∀ f, f = 0 ∨ f = 2 → sleepS s j m n f = s n f := fun f hf => by
          unfold sleepS up upj
          rw [if_neg (by omega)]
          by_cases hnj : n = j
          · rw [if_pos hnj]
            simp only []
            rw [if_neg (by omega), if_neg (by omega), if_neg (by omega), if_neg (by omega), hnj]
          · rw [if_neg hnj]
        rw [sumN, sumN, ih (by omega), e2 0 (Or.inl rfl), e2 2 (Or.inr rfl)]
    exact this 8 (Nat.le_refl _)
  have e6 : remS (goesS (moreS s j (onS t s j)) j) ≤ remS s := by
    have e : ∀ f, f < 8 → moreS s j (onS t s j) j f = s j f := fun f hf => by simp only [moreS, upj, if_true]; rw [if_neg (by omega)]
    exact rem_goX hj (fun a f ha => by simp only [moreS, upj]; rw [if_neg ha]) (e 0 (by omega)) (e 2 (by omega))
  have e7 : ∀ m all, remS (goesS (tellP t m all 9 (s, L)).1 j) ≤ remS s := fun m all => Nat.le_trans (rem_goX hj (fun _ _ _ => rfl) rfl rfl) (rem_tellP hT 9 (s, L) hI hL)
  unfold doP
  simp only
  split
  · exact e4
  · have e2 := e2 (by omega)
    split
    · split
      · exact e3 _ _ (by omega) (by omega)
      · split
        · exact e1
        · exact e2
    · split
      · split
        · exact e1
        · exact e3 _ _ (by omega) (by omega)
      · split
        · split
          · exact e1
          · exact e2
        · split
          · split
            · exact e3 _ _ (by omega) (by omega)
            · exact e1
          · split
            · split
              · exact e2
              · exact e1
            · split
              · split
                · exact e1
                · exact e5 _
              · split
                · split
                  · exact e1
                  · exact e7 _ _
                · unfold sevP
                  simp only
                  cases anyB 10 (fun m => (onS t s j).testBit m && (s j 5).testBit m) with
                  | true => exact e1
                  | false =>
                    cases anyB 10 (fun m => (onS t s j).testBit m && decide (s j (8 + m) = 0)) with
                    | true => exact e2
                    | false => exact e6
theorem rem_pass (hj : j < 8) : remS (passS s j) ≤ remS s := by
  have := remS_upj (s := s) (r := fun f => if f = 1 ∨ f = 3 then 0 else if f = 0 then s j 0 + 2 else s j f) hj
  have e : remS (passS s j) = remS (upj s j (fun f => if f = 1 ∨ f = 3 then 0 else if f = 0 then s j 0 + 2 else s j f)) := rfl
  simp at this; omega
theorem rem_passP {p : Pr} : ∀ n, n ≤ 8 → remS (passP t n p).1 ≤ remS p.1 := by
  intro n
  induction n with
  | zero => intro _; exact Nat.le_refl _
  | succ n ih =>
    intro hn
    rw [passP]
    cases triS t (passP t n p).1 n with
    | true => exact Nat.le_trans (rem_pass (by omega)) (ih (by omega))
    | false => exact ih (by omega)
/-- what settling keeps -/
theorem setN_inv (hT : TV t) : ∀ n (p : Pr), INV t p.1 → LI1 p.1 p.2 → INV t (setN t n p).1 ∧ LI1 (setN t n p).1 (setN t n p).2 ∧ mu (setN t n p).1 ≤ mu p.1 ∧ remS (setN t n p).1 ≤ remS p.1 := by
  intro n
  induction n with
  | zero => intro p h1 h2; exact ⟨h1, h2, Nat.le_refl _, Nat.le_refl _⟩
  | succ n ih =>
    intro p h1 h2
    rw [setN]
    cases hx : nxtP t p with
    | none => exact ⟨h1, h2, Nat.le_refl _, Nat.le_refl _⟩
    | some q =>
      have key : INV t q.1 ∧ LI1 q.1 q.2 ∧ mu q.1 ≤ mu p.1 ∧ remS q.1 ≤ remS p.1 := by
        unfold nxtP at hx
        split at hx
        · rename_i k hf
          cases hx
          have hk := (fst_some.mp hf).2.1
          have h0 : p.1 k 1 = 0 := of_decide_eq_true (fst_some.mp hf).2.2.1
          obtain ⟨a1, a2, a3⟩ := do_keeps hT h1 h2 (by omega) h0
          exact ⟨a1, a2, Nat.le_of_lt a3, rem_do hT h1 h2 (by omega) h0⟩
        · cases ha : anyB 8 (mayS t p.1) with
          | true => rw [ha] at hx; cases hx
          | false =>
            cases hb : anyB 8 (triS t p.1) with
            | true =>
              rw [ha, hb] at hx
              cases hx
              obtain ⟨b1, b2, b3, b4⟩ := passP_inv hT h1 h2 8 (Nat.le_refl _)
              exact ⟨b1, b2, b3, rem_passP 8 (Nat.le_refl _)⟩
            | false => rw [ha, hb] at hx; cases hx
      obtain ⟨c1, c2, c3, c4⟩ := ih q key.1 key.2.1
      exact ⟨c1, c2, Nat.le_trans c3 key.2.2.1, Nat.le_trans c4 key.2.2.2⟩
end
