/-! runs, plainly -/
theorem LI3.congr {L L' : nz_f2} (h : LI3 L) (h85 : ∀ x, L' 85 x = L 85 x) (h34 : L' 13 34 = L 13 34) : LI3 L' := by
  have eo : ordB L' = ordB L := by funext i; unfold ordB; rw [h85]
  unfold LI3 at h ⊢; rw [eo, h34]; exact h
def setP (t : St) (p : Pr) : Pr := setN t 6000 p
def pickS (t : St) (g : Nat) (s : St) : Option Nat := match fst 8 0 (mayS t s) with
  | none => none
  | some j => some (if g < t 13 10 ∧ mayS t s (t 63 g) = true then t 63 g else j)
def runN (t : St) : Nat → Pr → Pr
  | 0, p => p
  | n + 1, p => match pickS t (nz_ix (p.2 13 22)) p.1 with
    | none => p
    | some j => runN t n (setP t (grantP t p j))
def begL (L : nz_f2) : nz_f2 := fun a b => if a = 13 ∧ (b = 13 ∨ b = 14) then n32 1 else if a = 13 ∧ (b = 22 ∨ b = 26 ∨ b = 32) then n32 0 else if 67 ≤ a ∧ a ≤ 71 ∧ b < 8 then n32 0 else L a b
def runP (t s : St) (L : nz_f2) : Pr := runN t 6000 (setP t (begS s, begL L))
/-- what holds of a shop and its log -/
def GI (t : St) (p : Pr) : Prop := INV t p.1 ∧ LI1 p.1 p.2 ∧ LI2 p.1 p.2 ∧ LI3 p.2
section
variable {t s : St} {L : nz_f2} {j : Nat} {p : Pr}
theorem mayS_can (h : mayS t s j = true) : s j 1 = 1 ∧ canS t s j = true := by
  unfold mayS at h
  simp only [Bool.and_eq_true, decide_eq_true_eq] at h
  exact h.1
theorem GI.fuel (h : GI t p) : mu p.1 < 6000 := by have := h.1.2.2.2.1; omega
theorem GI.set (hT : TV t) (h : GI t p) : GI t (setP t p) ∧ mu (setP t p).1 ≤ mu p.1 ∧ (setP t p).2 13 13 = p.2 13 13 := by
  obtain ⟨h1, h2, h3, h4⟩ := h
  obtain ⟨a, b, c, d⟩ := setN_inv hT 6000 p h1 h2
  have k : ∀ a x, keepL a x → (setP t p).2 a x = p.2 a x := fun a x hk => setN_keep hk 6000 p
  have k13 := k 13 13 (by unfold keepL; omega)
  have k22 := k 13 22 (by unfold keepL; omega)
  refine ⟨⟨a, b, ?_, h4.congr (fun x => k 85 x (by unfold keepL; omega)) (k 13 34 (by unfold keepL; omega))⟩, c, k13⟩
  rcases h3 with h | ⟨g, hg, hr⟩
  · exact Or.inl (k13.trans h)
  · refine Or.inr ⟨g, k22.trans hg, ?_⟩
    have : remS (setP t p).1 ≤ remS p.1 := d
    omega
theorem GI.grant (hT : TV t) (h : GI t p) (hj : j < 8) (h1 : p.1 j 1 = 1) (hc : canS t p.1 j = true) : GI t (grantP t p j) ∧ mu (grantP t p j).1 < mu p.1 ∧ (grantP t p j).2 13 13 = p.2 13 13 := by
  obtain ⟨hI, hL, hL2, hL3⟩ := h
  have hA := hI.av hT hj (Or.inl h1)
  have hIG := INV_gets hT hI hj h1 hc
  have hLG : LI1 (getsS t p.1 j) (grantL t p.1 p.2 j) := hL.gets hj
  obtain ⟨a, b, c, d⟩ := tryP_inv hT (p := (getsS t p.1 j, grantL t p.1 p.2 j)) hIG hLG 8 (Nat.le_refl _)
  have hgr := (gets_rem (t := t) (s := p.1) hj (by have := hA.1; omega)).resolve_right (fun hh => hh.elim (fun x => x getF_2) (fun x => x h1))
  have k : ∀ a x, a ≠ 69 → (grantP t p j).2 a x = grantL t p.1 p.2 j a x := fun a x hk => tryP_keep hk 8
  have k13 : (grantP t p j).2 13 13 = p.2 13 13 := (k 13 13 (by decide)).trans (grantL_keep (by decide) (by decide))
  refine ⟨⟨a, b, ?_, ?_⟩, ?_, k13⟩
  · rcases hL2 with h | ⟨g, hg, hr⟩
    · exact Or.inl (k13.trans h)
    · by_cases h0 : p.2 13 13 = n32 0
      · exact Or.inl (k13.trans h0)
      · have hrem : remS (grantP t p j).1 ≤ remS (getsS t p.1 j) := d
        refine Or.inr ⟨g + 1, ?_, by omega⟩
        rw [k 13 22 (by decide)]
        unfold grantL
        rw [decide_eq_false h0, cond_false, u2_eq, hg, n32_ix (by omega)]
  · by_cases h0 : p.2 13 13 = n32 0
    · have e : grantL t p.1 p.2 j = p.2 := by unfold grantL; rw [decide_eq_true h0]; rfl
      exact hL3.congr (fun x => by rw [k 85 x (by decide), e]) (by rw [k 13 34 (by decide), e])
    · have h100 := lrnN_LI3 (s := p.1) (j := j) (b := askS t p.1 j) hL3 100 (by omega)
      have e : ∀ a x, a ≠ 71 → a ≠ 72 → a ≠ 73 → a ≠ 74 → ¬ (a = 13 ∧ x = 22) → grantL t p.1 p.2 j a x = lrnN p.1 j (askS t p.1 j) p.2 100 a x := fun a x h1 h2 h3 h4 h5 => by
        unfold grantL
        rw [decide_eq_false h0, cond_false]
        have : ∀ (f : nz_f2) v, nz_u2 f 13 22 v a x = f a x := fun f v => by unfold nz_u2; rw [if_neg h5]
        rw [this, u2_ne h1, u2_ne h4, u2_ne h3, u2_ne h2]
      exact h100.congr (fun x => by rw [k 85 x (by decide), e 85 x (by decide) (by decide) (by decide) (by decide) (by omega)]) (by rw [k 13 34 (by decide), e 13 34 (by decide) (by decide) (by decide) (by decide) (by omega)])
  · have : mu (grantP t p j).1 ≤ mu (getsS t p.1 j) := c
    omega
theorem pickS_some {g x : Nat} (hT : TV t) (h : pickS t g s = some x) : x < 8 ∧ mayS t s x = true := by
  unfold pickS at h
  cases hf : fst 8 0 (mayS t s) with
  | none => rw [hf] at h; cases h
  | some j =>
    rw [hf] at h
    simp only [Option.some.injEq] at h
    have hj := fst_some.1 hf
    by_cases hc : g < t 13 10 ∧ mayS t s (t 63 g) = true
    · rw [if_pos hc] at h; subst h; exact ⟨hT.2.2.2.2.2.2.2.2.2.2.1 g, hc.2⟩
    · rw [if_neg hc] at h; subst h; exact ⟨by omega, hj.2.2.1⟩
/-- what a run keeps, and where it ends -/
theorem runN_inv (hT : TV t) : ∀ n (p : Pr), GI t p → mu p.1 < n → GI t (runN t n p) ∧ fst 8 0 (mayS t (runN t n p).1) = none ∧ (runN t n p).2 13 13 = p.2 13 13 := by
  intro n
  induction n with
  | zero => intro p _ h; omega
  | succ n ih =>
    intro p h hn
    rw [runN]
    cases hp : pickS t (nz_ix (p.2 13 22)) p.1 with
    | none =>
      refine ⟨h, ?_, rfl⟩
      unfold pickS at hp
      simp only
      cases hf : fst 8 0 (mayS t p.1) with
      | none => rfl
      | some j => rw [hf] at hp; cases hp
    | some j =>
      obtain ⟨hj, hm⟩ := pickS_some hT hp
      obtain ⟨c1, c2⟩ := mayS_can hm
      obtain ⟨g1, g2, g3⟩ := h.grant hT hj c1 c2
      obtain ⟨s1, s2, s3⟩ := g1.set hT
      obtain ⟨r1, r2, r3⟩ := ih (setP t (grantP t p j)) s1 (by omega)
      exact ⟨r1, r2, r3.trans (s3.trans g3)⟩
theorem begL_at {a b : Nat} (h1 : ¬ (a = 13 ∧ (b = 13 ∨ b = 14))) (h2 : ¬ (a = 13 ∧ (b = 22 ∨ b = 26 ∨ b = 32))) (h3 : ¬ (67 ≤ a ∧ a ≤ 71 ∧ b < 8)) : begL L a b = L a b := by
  unfold begL; rw [if_neg h1, if_neg h2, if_neg h3]
theorem beg_GI (hB : ∀ j f, s j f < 1000000) (h3 : LI3 L) : GI t (begS s, begL L) := by
  refine ⟨begS_INV hB, Or.inr ⟨0, ?_, ?_⟩, Or.inr ⟨0, ?_, ?_⟩, h3.congr (fun x => begL_at (a := 85) (b := x) (by omega) (by omega) (by omega)) (begL_at (a := 13) (b := 34) (by omega) (by omega) (by omega))⟩
  · show begL L 13 26 = n32 0
    unfold begL; rw [if_neg (by omega), if_pos (by omega)]
  · show 0 + rflS (begS s) ≤ 16
    rw [begS_rfl]; omega
  · show begL L 13 22 = n32 0
    unfold begL; rw [if_neg (by omega), if_pos (by omega)]
  · show 0 + remS (begS s) ≤ 360
    rw [begS_rem]; omega
theorem runP_inv (hT : TV t) (hB : ∀ j f, s j f < 1000000) (h3 : LI3 L) : GI t (runP t s L) ∧ fst 8 0 (mayS t (runP t s L).1) = none ∧ (runP t s L).2 13 13 = n32 1 := by
  obtain ⟨s1, s2, s3⟩ := (beg_GI (t := t) hB h3).set hT
  obtain ⟨r1, r2, r3⟩ := runN_inv hT 6000 _ s1 s1.fuel
  refine ⟨r1, r2, r3.trans (s3.trans ?_)⟩
  show begL L 13 13 = n32 1
  unfold begL; rw [if_pos (by omega)]
theorem run_keep {a b : Nat} (hk : keepL a b) (hg : a ≠ 81 ∧ a ≠ 82 ∧ a ≠ 83 ∧ a ≠ 84 ∧ a ≠ 85 ∧ ¬ (a = 13 ∧ b = 34)) (hg2 : a ≠ 71 ∧ a ≠ 72 ∧ a ≠ 73 ∧ a ≠ 74 ∧ ¬ (a = 13 ∧ b = 22)) : ∀ n (p : Pr), (runN t n p).2 a b = p.2 a b := by
  intro n
  induction n with
  | zero => intro p; rfl
  | succ n ih =>
    intro p
    rw [runN]
    cases pickS t (nz_ix (p.2 13 22)) p.1 with
    | none => rfl
    | some j =>
      simp only
      rw [ih]
      have e1 : (setP t (grantP t p j)).2 a b = (grantP t p j).2 a b := setN_keep hk 6000 _
      have e2 : (grantP t p j).2 a b = grantL t p.1 p.2 j a b := tryP_keep (by unfold keepL at hk; omega) 8
      rw [e1, e2]
      exact grantL_keep hg hg2
/-- all ended: no ring -/
theorem rwN_0 (h : ∀ j, j < 8 → s j 1 = 3) : rwN t s = 0 := by
  unfold rwN
  cases hw : whoF t s 8 with
  | none => rfl
  | some v =>
    exfalso
    obtain ⟨w1, w2, w3, w4⟩ := whoF_some 8 hw
    obtain ⟨n1, n8, hc⟩ := rg_clo (t := t) (s := s) w1 rfl (by omega)
    have hb := clo_lt (fun v hv => aL_lt hv) w1 hc
    have h2 := hc.2
    unfold eS at h2
    rw [Bool.and_eq_true, decide_eq_true_eq] at h2
    have := h _ (hb _ (Nat.le_refl _))
    omega
end
