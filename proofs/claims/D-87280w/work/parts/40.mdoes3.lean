/-! what a job does next: the contract, and what it keeps -/
section
variable {t s : St} {L : nz_f2} {j : Nat}
theorem mu_goX {X : St} (hj : j < 8) (hm : s j 1 = 0) (hp : s j 0 < 22) (hX : ∀ a f, a ≠ j → X a f = s a f) (x0 : X j 0 = s j 0) (x2 : X j 2 = s j 2) : mu (goesS X j) + 4 ≤ mu s := by
  rw [goes_upj hX]
  have := mu_upj (s := s) (r := fun f => if f = 1 then 0 else if f = 0 then X j 0 + 1 else X j f) hj
  have h2 : muR (fun f => if f = 1 then 0 else if f = 0 then X j 0 + 1 else X j f) + 4 ≤ muR (s j) := by
    unfold muR mwt; simp [hm, x0, x2]; omega
  omega
theorem mu_ends (hj : j < 8) (hm : s j 1 < 3) : mu (endsS s j) < mu s := by
  have := mu_upj (s := s) (r := fun f => if f = 1 then 3 else if f = 3 ∨ f = 4 ∨ f = 5 ∨ (8 ≤ f ∧ f < 18) then 0 else s j f) hj
  have h2 : muR (fun f => if f = 1 then 3 else if f = 3 ∨ f = 4 ∨ f = 5 ∨ (8 ≤ f ∧ f < 18) then 0 else s j f) < muR (s j) := by
    unfold muR mwt; simp
    rcases (by omega : s j 1 = 0 ∨ s j 1 = 1 ∨ s j 1 = 2) with h | h | h <;> rw [h] <;> simp
  have e : mu (endsS s j) = mu (upj s j (fun f => if f = 1 then 3 else if f = 3 ∨ f = 4 ∨ f = 5 ∨ (8 ≤ f ∧ f < 18) then 0 else s j f)) := rfl
  omega
theorem mu_comes (hT : TV t) (hI : INV t s) (hj : j < 8) (hm : s j 1 = 0 ∨ s j 1 = 2) (hp : s j 0 < 20) : mu (comesS t s j) < mu s := by
  have h2 := (hI.J hj).2.2.2.1.2.1
  have h57 := hT.2.2.1 j
  unfold comesS
  cases refS t (coms s j) j with
  | false =>
    rw [cond_false, coms_upj]
    have := mu_upj (s := s) (r := fun f => if f = 1 then 1 else if f = 3 then 0 else s j f) hj
    have h2 : muR (fun f => if f = 1 then 1 else if f = 3 then 0 else s j f) < muR (s j) := by
      unfold muR mwt; simp; rcases hm with h | h <;> rw [h] <;> simp
    omega
  | true =>
    cases hg : grdS t s j with
    | false =>
      rw [cond_true, cond_false]
      have := mu_upj (s := s) (r := fun f => if f = 1 then 3 else if f = 2 ∨ f = 6 then 1 else if f = 3 ∨ f = 4 ∨ f = 5 ∨ (8 ≤ f ∧ f < 18) then 0 else s j f) hj
      have h3 : muR (fun f => if f = 1 then 3 else if f = 2 ∨ f = 6 then 1 else if f = 3 ∨ f = 4 ∨ f = 5 ∨ (8 ≤ f ∧ f < 18) then 0 else s j f) < muR (s j) := by
        unfold muR mwt; simp; rcases hm with h | h <;> rw [h] <;> simp <;> omega
      have e : mu (comesE s j) = mu (upj s j (fun f => if f = 1 then 3 else if f = 2 ∨ f = 6 then 1 else if f = 3 ∨ f = 4 ∨ f = 5 ∨ (8 ≤ f ∧ f < 18) then 0 else s j f)) := rfl
      omega
    | true =>
      rw [cond_true, cond_true]
      unfold grdS at hg
      simp only [Bool.and_eq_true, decide_eq_true_eq] at hg
      have := mu_upj (s := s) (r := fun f => if f = 0 then (if t 61 j < t 57 j then t 61 j else t 57 j) else if f = 1 ∨ f = 3 ∨ f = 4 then 0 else if f = 2 then 1 else s j f) hj
      have h3 : muR (fun f => if f = 0 then (if t 61 j < t 57 j then t 61 j else t 57 j) else if f = 1 ∨ f = 3 ∨ f = 4 then 0 else if f = 2 then 1 else s j f) < muR (s j) := by
        unfold muR mwt; simp [hg.1]; rcases hm with h | h <;> rw [h] <;> simp <;> omega
      have e : mu (comesG t s j) = mu (upj s j (fun f => if f = 0 then (if t 61 j < t 57 j then t 61 j else t 57 j) else if f = 1 ∨ f = 3 ∨ f = 4 then 0 else if f = 2 then 1 else s j f)) := rfl
      omega
theorem mu_sleep {m : Nat} (hj : j < 8) (hm : s j 1 = 0) : mu (sleepS s j m) < mu s := by
  have e : mu (sleepS s j m) = mu (upj s j (fun f => if f = 4 then s j (8 + m) else if f = 8 + m then 0 else if f = 1 then 2 else if f = 7 then s 13 12 + 1 else s j f)) := by
    unfold mu
    have : ∀ n, n ≤ 8 → sumN n (fun k => muR (sleepS s j m k)) = sumN n (fun k => muR (upj s j (fun f => if f = 4 then s j (8 + m) else if f = 8 + m then 0 else if f = 1 then 2 else if f = 7 then s 13 12 + 1 else s j f) k)) := by
      intro n
      induction n with
      | zero => intro _; rfl
      | succ n ih =>
        intro hn8
        rw [sumN, sumN, ih (by omega)]
        congr 2
        funext f
        unfold sleepS up
        rw [if_neg (by omega)]
    exact this 8 (Nat.le_refl _)
  rw [e]
  have := mu_upj (s := s) (r := fun f => if f = 4 then s j (8 + m) else if f = 8 + m then 0 else if f = 1 then 2 else if f = 7 then s 13 12 + 1 else s j f) hj
  have h2 : muR (fun f => if f = 4 then s j (8 + m) else if f = 8 + m then 0 else if f = 1 then 2 else if f = 7 then s 13 12 + 1 else s j f) < muR (s j) := by
    unfold muR mwt
    simp [show ¬ (0 = 8 + m) by omega, show ¬ (2 = 8 + m) by omega, show ¬ (1 = 8 + m) by omega, hm]
  omega
theorem tellP_inv (hT : TV t) {m : Nat} {all : Bool} : ∀ n (p : Pr), INV t p.1 → LI1 p.1 p.2 → INV t (tellP t m all n p).1 ∧ LI1 (tellP t m all n p).1 (tellP t m all n p).2 ∧ mu (tellP t m all n p).1 ≤ mu p.1 ∧ ∀ j, p.1 j 1 ≠ 2 → (tellP t m all n p).1 j = p.1 j := by
  intro n
  induction n with
  | zero => intro p h1 h2; exact ⟨h1, h2, Nat.le_refl _, fun _ _ => rfl⟩
  | succ n ih =>
    intro p h1 h2
    rw [tellP]
    cases hs : slpF t p.1 m 8 with
    | none => exact ⟨h1, h2, Nat.le_refl _, fun _ _ => rfl⟩
    | some k =>
      obtain ⟨hk, hk2, hk3⟩ := slpF_some hs
      have hI' := INV_comes hT h1 hk (Or.inr hk2)
      have hL' : LI1 (comesS t p.1 k) (comesL t p.1 (incL p.2 70 k) k) := LI1.comes h1 (incL_LI h2) hk (Or.inr hk2)
      have hmu := mu_comes hT h1 hk (Or.inr hk2) (h1.av hT hk (Or.inr hk2)).1
      have hrow : ∀ j, p.1 j 1 ≠ 2 → comesS t p.1 k j = p.1 j := fun j hj => by
        obtain ⟨r, hr, -⟩ := comesS_ex t p.1 k
        rw [hr, upj_ne (fun e => hj (by rw [e]; exact hk2))]
      simp only
      cases all with
      | false => exact ⟨hI', hL', Nat.le_of_lt hmu, hrow⟩
      | true =>
        obtain ⟨a1, a2, a3, a4⟩ := ih (comesP t (p.1, incL p.2 70 k) k) hI' hL'
        refine ⟨a1, a2, Nat.le_trans a3 (Nat.le_of_lt hmu), fun j hj => ?_⟩
        have e : (comesP t (p.1, incL p.2 70 k) k).1 j = p.1 j := hrow j hj
        have := a4 j (by rw [e]; exact hj)
        rw [cond_true, this, e]
/-- when a job that goes on comes to ask -/
theorem ask_sev (h0 : opS t s j = 9) (h1 : anyB 10 (fun m => (onS t s j).testBit m && (s j 5).testBit m) = false) (h2 : anyB 10 (fun m => (onS t s j).testBit m && decide (s j (8 + m) = 0)) = true) : askOK t j (s j) := by
  right; right
  refine ⟨h0, fun m hm hb => ?_, ?_⟩
  · cases hc : (s j 5).testBit m with
    | false => rfl
    | true =>
      have : anyB 10 (fun m => (onS t s j).testBit m && (s j 5).testBit m) = true := anyB_iff.mpr ⟨m, hm, by
        have hb' : (onS t s j).testBit m = true := hb
        simp only [hb', hc]; rfl⟩
      rw [h1] at this; cases this
  · obtain ⟨m, hm, hp⟩ := anyB_iff.mp h2
    simp only [Bool.and_eq_true, decide_eq_true_eq] at hp
    exact ⟨m, hm, hp.1, hp.2⟩
theorem ask_one (h0 : opS t s j = 0 ∨ opS t s j = 8 ∨ opS t s j = 2) (h1 : hasS s j (onS t s j) = false) : askOK t j (s j) := Or.inl ⟨h0, h1⟩
theorem ask_raise (h0 : opS t s j = 4) (h1 : (s j 5).testBit (onS t s j) = true) : askOK t j (s j) := Or.inr (Or.inl ⟨h0, h1⟩)
theorem do_keeps (hT : TV t) (hI : INV t s) (hL : LI1 s L) (hj : j < 8) (hm : s j 1 = 0) : INV t (doP t (s, L) j).1 ∧ LI1 (doP t (s, L) j).1 (doP t (s, L) j).2 ∧ mu (doP t (s, L) j).1 < mu s := by
  have h57 := hT.2.2.1 j
  have h022 := (hI.J hj).1.2.1
  have ill : s j 0 < 20 → INV t (goesS s j) ∧ LI1 (goesS s j) (incL L 68 j) ∧ mu (goesS s j) < mu s := fun hp =>
    ⟨INV_ill hI hj hm hp, (LI1.ill hL hj (by decide) (X := s) (fun _ _ _ => rfl) rfl rfl).1, by have := mu_goX (X := s) hj hm h022 (fun _ _ _ => rfl) rfl rfl; omega⟩
  have com : s j 0 < t 57 j → askOK t j (s j) → INV t (comesS t s j) ∧ LI1 (comesS t s j) (comesL t s L j) ∧ mu (comesS t s j) < mu s := fun hp ha =>
    ⟨INV_comes hT hI hj (Or.inl ⟨hm, hp, ha⟩), LI1.comes hI hL hj (Or.inl hm), mu_comes hT hI hj (Or.inl hm) (by omega)⟩
  have tim : ∀ v, s j 0 < 20 → onS t s j < 10 → v ≤ s j (8 + onS t s j) + 1 → (0 < v → 0 < s j (8 + onS t s j)) → INV t (goesS (up s j (8 + onS t s j) v) j) ∧ LI1 (goesS (up s j (8 + onS t s j) v) j) L ∧ mu (goesS (up s j (8 + onS t s j) v) j) < mu s := fun v hp hon h1 h2 => by
    have e : ∀ f, f < 8 → up s j (8 + onS t s j) v j f = s j f := fun f hf => by unfold up; rw [if_neg (by omega)]
    have eX : ∀ a f, a ≠ j → up s j (8 + onS t s j) v a f = s a f := fun a f ha => by unfold up; rw [if_neg (by omega)]
    exact ⟨INV_tim hI hj hm hp hon h1 h2, (LI1.ill hL hj (kd := 0) (by decide) eX (e 2 (by omega)) (e 6 (by omega))).2, by have := mu_goX hj hm h022 eX (e 0 (by omega)) (e 2 (by omega)); omega⟩
  have hn' : opS t s j ≠ 9 → onS t s j < 10 := hT.2.2.2.2.2.1 _
  have ho10 : opS t s j < 10 := hT.2.2.2.1 _
  unfold doP
  simp only
  split
  · refine ⟨INV_ends hI hj, ?_, mu_ends hj (by omega)⟩
    exact hL.upj hj rfl rfl (by simp)
  · rename_i hp
    have hp : s j 0 < t 57 j := by omega
    split
    · rename_i h08
      have hon := hn' (by omega)
      split
      · exact tim _ (by omega) hon (by omega) (by omega)
      · split
        · exact ill (by omega)
        · rename_i h1 h2
          exact com hp (ask_one (by omega) (by unfold hasS; simp at h2; rw [h2, decide_eq_false h1]; rfl))
    · split
      · rename_i h08 h1o
        have hon := hn' (by omega)
        split
        · exact ill (by omega)
        · exact tim _ (by omega) hon (by omega) (by omega)
      · split
        · rename_i h08 h1o h2o
          split
          · exact ill (by omega)
          · rename_i hh
            exact com hp (ask_one (by omega) (by simpa using hh))
        · split
          · rename_i h08 h1o h2o h3o
            have hon := hn' (by omega)
            split
            · have e : ∀ f, f ≠ 5 → up s j 5 (nwo (s j 5) (2 ^ onS t s j)) j f = s j f := fun f hf => by unfold up; rw [if_neg (by omega)]
              have eX : ∀ a f, a ≠ j → up s j 5 (nwo (s j 5) (2 ^ onS t s j)) a f = s a f := fun a f ha => by unfold up; rw [if_neg (by omega)]
              exact ⟨INV_leave hI hj hm (by omega) hon, (LI1.ill hL hj (kd := 0) (by decide) eX (e 2 (by omega)) (e 6 (by omega))).2, by have := mu_goX hj hm h022 eX (e 0 (by omega)) (e 2 (by omega)); simp only; omega⟩
            · exact ill (by omega)
          · split
            · rename_i h08 h1o h2o h3o h4o
              split
              · rename_i hh
                exact com hp (ask_raise h4o hh)
              · exact ill (by omega)
            · split
              · rename_i h08 h1o h2o h3o h4o h5o
                have hon := hn' (by omega)
                split
                · exact ill (by omega)
                · rename_i hz
                  refine ⟨INV_sleep hT hI hj hm hp h5o rfl hon (by omega), ?_, mu_sleep hj hm⟩
                  have e : rflS (sleepS s j (onS t s j)) = rflS s := by
                    unfold rflS
                    have : ∀ n, n ≤ 8 → sumN n (fun k => 2 - sleepS s j (onS t s j) k 2 - sleepS s j (onS t s j) k 6) = sumN n (fun k => 2 - s k 2 - s k 6) := by
                      intro n
                      induction n with
                      | zero => intro _; rfl
                      | succ n ih =>
                        intro hn8
                        have e2 : ∀ f, f = 2 ∨ f = 6 → sleepS s j (onS t s j) n f = s n f := fun f hf => by
                          unfold sleepS up upj
                          rw [if_neg (by omega)]
                          by_cases hnj : n = j
                          · rw [if_pos hnj]
                            simp only []
                            rw [if_neg (by omega), if_neg (by omega), if_neg (by omega), if_neg (by omega), hnj]
                          · rw [if_neg hnj]
                        rw [sumN, sumN, ih (by omega), e2 2 (Or.inl rfl), e2 6 (Or.inr rfl)]
                    exact this 8 (Nat.le_refl _)
                  rcases hL with h | ⟨i, h2, h3⟩
                  · exact Or.inl h
                  · exact Or.inr ⟨i, h2, by rw [e]; exact h3⟩
              · split
                · rename_i h08 h1o h2o h3o h4o h5o h67
                  split
                  · exact ill (by omega)
                  · obtain ⟨a1, a2, a3, a4⟩ := tellP_inv hT (m := onS t s j) (all := decide (opS t s j = 7)) 9 (s, L) hI hL
                    have ej := a4 j (by simp only; omega)
                    simp only at ej
                    refine ⟨INV_ill a1 hj (by rw [ej]; exact hm) (by rw [ej]; omega), (LI1.ill a2 hj (kd := 0) (by decide) (fun _ _ _ => rfl) rfl rfl).2, ?_⟩
                    have := mu_goX (s := (tellP t (onS t s j) (decide (opS t s j = 7)) 9 (s, L)).1) (X := (tellP t (onS t s j) (decide (opS t s j = 7)) 9 (s, L)).1) hj (by rw [ej]; exact hm) (by rw [ej]; omega) (fun _ _ _ => rfl) rfl rfl
                    simp only at a3 ⊢
                    omega
                · rename_i h08 h1o h2o h3o h4o h5o h67
                  unfold sevP
                  simp only
                  cases h1 : anyB 10 (fun m => (onS t s j).testBit m && (s j 5).testBit m) with
                  | true => exact ill (by omega)
                  | false =>
                    cases h2 : anyB 10 (fun m => (onS t s j).testBit m && decide (s j (8 + m) = 0)) with
                    | true => exact com hp (ask_sev (by omega) h1 h2)
                    | false =>
                      have e : ∀ f, f < 8 → moreS s j (onS t s j) j f = s j f := fun f hf => by simp only [moreS, upj, if_true]; rw [if_neg (by omega)]
                      have eX : ∀ a f, a ≠ j → moreS s j (onS t s j) a f = s a f := fun a f ha => by simp only [moreS, upj]; rw [if_neg ha]
                      exact ⟨INV_sev hI hj hm (by omega), (LI1.ill hL hj (kd := 0) (by decide) eX (e 2 (by omega)) (e 6 (by omega))).2, by have := mu_goX hj hm h022 eX (e 0 (by omega)) (e 2 (by omega)); simp only [cond_false]; omega⟩
end
