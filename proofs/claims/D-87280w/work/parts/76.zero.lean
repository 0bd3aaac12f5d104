/-! runs that are not recorded; what lies outside the rows stays zero -/
def zL : nz_f2 := fun _ _ => n32 0
def GZ (s : St) : Prop := ∀ a f, ¬ (a < 8 ∧ f < 18) → ¬ (a = 13 ∧ f = 12) → s a f = 0
section
variable {t s : St} {L : nz_f2} {j : Nat} {p : Pr}
theorem GZ.xupj {r : Nat → Nat} (h : GZ s) (hj : j < 8) (hr : ∀ f, 18 ≤ f → r f = 0) : GZ (upj s j r) := fun a f h1 h2 => by
  unfold upj
  by_cases ha : a = j
  · rw [if_pos ha]; exact hr f (by omega)
  · rw [if_neg ha]; exact h a f h1 h2
theorem GZ.xup {f v : Nat} (h : GZ s) (hf : (j < 8 ∧ f < 18) ∨ (j = 13 ∧ f = 12)) : GZ (up s j f v) := fun a g h1 h2 => by
  unfold up
  rw [if_neg (by omega)]; exact h a g h1 h2
theorem GZ.at (h : GZ s) (hj : j < 8) {f : Nat} (hf : 18 ≤ f) : s j f = 0 := h j f (by omega) (by omega)
theorem GZ.ends (h : GZ s) (hj : j < 8) : GZ (endsS s j) := h.xupj hj (fun f hf => by rw [if_neg (by omega), if_neg (by omega)]; exact h.at hj hf)
theorem GZ.goes (h : GZ s) (hj : j < 8) : GZ (goesS s j) := h.xupj hj (fun f hf => by rw [if_neg (by omega), if_neg (by omega)]; exact h.at hj hf)
theorem GZ.pass (h : GZ s) (hj : j < 8) : GZ (passS s j) := h.xupj hj (fun f hf => by rw [if_neg (by omega), if_neg (by omega)]; exact h.at hj hf)
theorem GZ.more {b : Nat} (h : GZ s) (hj : j < 8) : GZ (moreS s j b) := h.xupj hj (fun f hf => by rw [if_neg (by omega)]; exact h.at hj hf)
theorem GZ.sleep {m : Nat} (h : GZ s) (hj : j < 8) : GZ (sleepS s j m) := by
  unfold sleepS
  refine GZ.xup (h.xupj hj (fun f hf => ?_)) (Or.inr ⟨rfl, rfl⟩)
  rw [if_neg (by omega)]
  by_cases e : f = 8 + m
  · rw [if_pos e]
  · rw [if_neg e, if_neg (by omega), if_neg (by omega)]; exact h.at hj hf
theorem GZ.comes (h : GZ s) (hj : j < 8) : GZ (comesS t s j) := by
  unfold comesS
  cases refS t (coms s j) j with
  | false => exact GZ.xup (GZ.xup h (Or.inl ⟨hj, by omega⟩)) (Or.inl ⟨hj, by omega⟩)
  | true =>
    cases grdS t s j with
    | true => exact h.xupj hj (fun f hf => by rw [if_neg (by omega), if_neg (by omega), if_neg (by omega)]; exact h.at hj hf)
    | false => exact h.xupj hj (fun f hf => by rw [if_neg (by omega), if_neg (by omega), if_neg (by omega)]; exact h.at hj hf)
theorem GZ.tell {m : Nat} {all : Bool} : ∀ n (p : Pr), GZ p.1 → GZ (tellP t m all n p).1 := by
  intro n
  induction n with
  | zero => intro p h; exact h
  | succ n ih =>
    intro p h
    rw [tellP]
    cases hs : slpF t p.1 m 8 with
    | none => exact h
    | some k =>
      have hk := (slpF_some hs).1
      have hc : GZ (comesP t (p.1, incL p.2 70 k) k).1 := h.comes hk
      cases all with
      | true => exact ih _ hc
      | false => exact hc
theorem GZ.xdoP (hT : TV t) (h : GZ p.1) (hj : j < 8) : GZ (doP t p j).1 := by
  have ho : opS t p.1 j ≠ 9 → onS t p.1 j < 10 := hT.2.2.2.2.2.1 _
  have g1 := h.goes hj
  have g2 : GZ (comesP t p j).1 := h.comes hj
  unfold doP
  split
  · exact h.ends hj
  · split
    · split
      · exact (h.xup (Or.inl ⟨hj, by omega⟩)).goes hj
      · split
        · exact g1
        · exact g2
    · split
      · split
        · exact g1
        · exact (h.xup (Or.inl ⟨hj, by omega⟩)).goes hj
      · split
        · split
          · exact g1
          · exact g2
        · split
          · split
            · exact (h.xup (Or.inl ⟨hj, by omega⟩)).goes hj
            · exact g1
          · split
            · split
              · exact g2
              · exact g1
            · split
              · split
                · exact g1
                · exact h.sleep hj
              · split
                · split
                  · exact g1
                  · exact (GZ.tell 9 p h).goes hj
                · unfold sevP
                  cases anyB 10 (fun m => (onS t p.1 j).testBit m && (p.1 j 5).testBit m) with
                  | true => exact g1
                  | false =>
                    cases anyB 10 (fun m => (onS t p.1 j).testBit m && decide (p.1 j (8 + m) = 0)) with
                    | true => exact g2
                    | false => exact (h.more hj).goes hj
theorem GZ.xpassP (h : GZ p.1) : ∀ n, n ≤ 8 → GZ (passP t n p).1 := by
  intro n
  induction n with
  | zero => intro _; exact h
  | succ n ih =>
    intro hn
    rw [passP]
    cases triS t (passP t n p).1 n with
    | true => exact (ih (by omega)).pass (by omega)
    | false => exact ih (by omega)
theorem GZ.xsetN (hT : TV t) : ∀ n (p : Pr), GZ p.1 → GZ (setN t n p).1 := by
  intro n
  induction n with
  | zero => intro p h; exact h
  | succ n ih =>
    intro p h
    rw [setN]
    cases hx : nxtP t p with
    | none => exact h
    | some q =>
      refine ih q ?_
      unfold nxtP at hx
      split at hx
      · rename_i k hf
        cases hx
        exact h.xdoP hT (by have := (fst_some.mp hf).2.1; omega)
      · cases ha : anyB 8 (mayS t p.1) with
        | true => rw [ha] at hx; cases hx
        | false =>
          cases hb : anyB 8 (triS t p.1) with
          | true => rw [ha, hb] at hx; cases hx; exact h.xpassP 8 (Nat.le_refl _)
          | false => rw [ha, hb] at hx; cases hx
theorem GZ.gets (hT : TV t) (h : GZ s) (hj : j < 8) (hA : AV t s j) : GZ (getsS t s j) := by
  refine h.xupj hj (fun f hf => ?_)
  have ho : opS t s j ≠ 9 → onS t s j < 10 := hT.2.2.2.2.2.1 _
  have h4 := hA.2
  rw [if_neg (by omega), if_neg (by omega)]
  unfold getF
  cases atlS t s j with
  | true => rw [cond_true, if_neg (by omega)]; exact h.at hj hf
  | false =>
    rw [cond_false]
    by_cases h0 : 0 < s j 4
    · rw [decide_eq_true h0, cond_true, if_neg (by have := h4 h0; omega)]; exact h.at hj hf
    · rw [decide_eq_false h0, cond_false]
      by_cases h9 : opS t s j = 9
      · rw [decide_eq_true h9, cond_true, if_neg (by omega)]; exact h.at hj hf
      · rw [decide_eq_false h9, cond_false, if_neg (by omega), if_neg (by have := ho h9; omega)]; exact h.at hj hf
theorem GZ.xtryP (h : GZ p.1) : ∀ n, n ≤ 8 → GZ (tryP t n p).1 := by
  intro n
  induction n with
  | zero => intro _; exact h
  | succ n ih =>
    intro hn
    rw [tryP]
    cases triS t (tryP t n p).1 n with
    | false => exact ih (by omega)
    | true =>
      rw [cond_true]
      cases decide ((tryP t n p).1 n 3 + 1 < t 60 (20 * n + (tryP t n p).1 n 0)) with
      | true => exact GZ.xup (ih (by omega)) (Or.inl ⟨by omega, by omega⟩)
      | false => exact (ih (by omega)).pass (by omega)
theorem GZ.grant (hT : TV t) (hI : INV t p.1) (h : GZ p.1) (hj : j < 8) (h1 : p.1 j 1 = 1) : GZ (grantP t p j).1 := by
  unfold grantP
  exact GZ.xtryP (p := (getsS t p.1 j, grantL t p.1 p.2 j)) (h.gets hT hj (hI.av hT hj (Or.inl h1))) 8 (Nat.le_refl _)
theorem GZ.xrunN (hT : TV t) : ∀ n (p : Pr), GI t p → mu p.1 < n → GZ p.1 → GZ (runN t n p).1 := by
  intro n
  induction n with
  | zero => intro p _ _ h; exact h
  | succ n ih =>
    intro p h hn hz
    rw [runN]
    cases hp : pickS t (nz_ix (p.2 13 22)) p.1 with
    | none => exact hz
    | some j =>
      obtain ⟨hj, hm⟩ := pickS_some hT hp
      obtain ⟨c1, c2⟩ := mayS_can hm
      obtain ⟨g1, g2, g3⟩ := h.grant hT hj c1 c2
      obtain ⟨s1, s2, s3⟩ := g1.set hT
      exact ih _ s1 (by omega) (GZ.xsetN hT 6000 _ (hz.grant hT h.1 hj c1))
theorem GZ.beg (h : GZ s) : GZ (begS s) := fun a f h1 h2 => by
  unfold begS
  by_cases hc : (a < 8 ∧ f < 18) ∨ (a = 13 ∧ f = 12)
  · rw [if_pos hc]
  · rw [if_neg hc]; exact h a f h1 h2
/-! without records the log stays -/
theorem inc0 (h0 : L 13 13 = n32 0) {kd : Nat} : incL L kd j = L := by unfold incL; rw [decide_eq_true h0]; rfl
theorem com0 (h0 : L 13 13 = n32 0) : comesP t (s, L) j = (comesS t s j, L) := by
  unfold comesP comesL
  simp only
  rw [decide_eq_true h0, Bool.not_true, Bool.and_false]; rfl
theorem tell0 (h0 : L 13 13 = n32 0) {m : Nat} {all : Bool} : ∀ n s, tellP t m all n (s, L) = ((tellP t m all n (s, zL)).1, L) := by
  intro n
  induction n with
  | zero => intro s; rfl
  | succ n ih =>
    intro s
    rw [tellP, tellP]
    simp only
    cases slpF t s m 8 with
    | none => rfl
    | some k =>
      simp only
      rw [inc0 h0, com0 h0, inc0 (L := zL) rfl, com0 (L := zL) rfl]
      cases all with
      | true => rw [cond_true, cond_true]; exact ih _
      | false => rfl
theorem do0 (h0 : L 13 13 = n32 0) : doP t (s, L) j = ((doP t (s, zL) j).1, L) := by
  unfold doP sevP
  simp only [inc0 h0, com0 h0, inc0 (L := zL) rfl, com0 (L := zL) rfl]
  rw [tell0 h0]
  split
  · rfl
  · split
    · split
      · rfl
      · split
        · rfl
        · rfl
    · split
      · split
        · rfl
        · rfl
      · split
        · split
          · rfl
          · rfl
        · split
          · split
            · rfl
            · rfl
          · split
            · split
              · rfl
              · rfl
            · split
              · split
                · rfl
                · rfl
              · split
                · split
                  · rfl
                  · rfl
                · cases anyB 10 (fun m => (onS t s j).testBit m && (s j 5).testBit m) with
                  | true => rfl
                  | false =>
                    cases anyB 10 (fun m => (onS t s j).testBit m && decide (s j (8 + m) = 0)) with
                    | true => rfl
                    | false => rfl
theorem pass0 (h0 : L 13 13 = n32 0) : ∀ n, passP t n (s, L) = ((passP t n (s, zL)).1, L) := by
  intro n
  induction n with
  | zero => rfl
  | succ n ih =>
    rw [passP, passP, ih]
    simp only
    cases triS t (passP t n (s, zL)).1 n with
    | true => rw [cond_true, cond_true, inc0 h0]
    | false => rfl
theorem nxt0 (h0 : L 13 13 = n32 0) : nxtP t (s, L) = (nxtP t (s, zL)).map (fun q => (q.1, L)) := by
  unfold nxtP
  simp only
  cases fst 8 0 (gojB s) with
  | some k => simp only [Option.map_some]; rw [do0 h0]
  | none =>
    simp only
    cases anyB 8 (mayS t s) with
    | true => rfl
    | false =>
      rw [cond_false, cond_false]
      cases anyB 8 (triS t s) with
      | true => rw [cond_true, cond_true, pass0 h0]; rfl
      | false => rfl
theorem set0 (h0 : L 13 13 = n32 0) : ∀ n s, setN t n (s, L) = ((setN t n (s, zL)).1, L) ∧ (setN t n (s, zL)).2 = zL := by
  have z : ∀ n s, (setN t n (s, zL)).2 = zL := by
    intro n
    induction n with
    | zero => intro s; rfl
    | succ n ih =>
      intro s
      rw [setN]
      cases hx : nxtP t (s, zL) with
      | none => rfl
      | some q =>
        have hz := nxt0 (t := t) (s := s) (L := zL) rfl
        rw [hx] at hz
        simp only [Option.map_some, Option.some.injEq] at hz
        rw [hz]; exact ih q.1
  intro n
  induction n with
  | zero => intro s; exact ⟨rfl, rfl⟩
  | succ n ih =>
    intro s
    refine ⟨?_, z (n + 1) s⟩
    rw [setN, setN, nxt0 h0]
    cases hx : nxtP t (s, zL) with
    | none => rfl
    | some q =>
      have hz := nxt0 (t := t) (s := s) (L := zL) rfl
      rw [hx] at hz
      simp only [Option.map_some, Option.some.injEq] at hz
      simp only [Option.map_some]
      rw [(ih q.1).1]
      have e : q = (q.1, zL) := hz
      rw [e]
theorem try0 (h0 : L 13 13 = n32 0) : ∀ n, tryP t n (s, L) = ((tryP t n (s, zL)).1, L) := by
  intro n
  induction n with
  | zero => rfl
  | succ n ih =>
    rw [tryP, tryP, ih]
    simp only
    cases triS t (tryP t n (s, zL)).1 n with
    | false => rfl
    | true =>
      rw [cond_true, cond_true]
      cases decide ((tryP t n (s, zL)).1 n 3 + 1 < t 60 (20 * n + (tryP t n (s, zL)).1 n 0)) with
      | true => rfl
      | false => rw [cond_false, cond_false, inc0 h0]
theorem grant0 (h0 : L 13 13 = n32 0) : grantP t (s, L) j = ((grantP t (s, zL) j).1, L) := by
  have e : ∀ L : nz_f2, L 13 13 = n32 0 → grantL t s L j = L := fun L h => by unfold grantL; rw [decide_eq_true h]; rfl
  unfold grantP
  simp only
  rw [e L h0, e zL rfl]
  exact try0 h0 8
/-- the next state, without records -/
def nS (t s : St) (j : Nat) : St := (setP t (grantP t (s, zL) j)).1
theorem next0 (h0 : L 13 13 = n32 0) : setP t (grantP t (s, L) j) = (nS t s j, L) := by
  unfold nS setP
  rw [grant0 h0, (set0 h0 6000 _).1]
  have := grant0 (t := t) (s := s) (j := j) (L := zL) rfl
  rw [this]
theorem zGI (h : INV t s) : GI t (s, zL) := ⟨h, Or.inl rfl, Or.inl rfl, by
  show zL 13 34 = n32 (cnt 100 (ordB zL))
  rw [show cnt 100 (ordB zL) = 0 from by decide]; rfl⟩
/-- settled: nobody goes on -/
theorem set_done (hT : TV t) : ∀ n (p : Pr), INV t p.1 → LI1 p.1 p.2 → mu p.1 < n → ∀ j, j < 8 → (setN t n p).1 j 1 ≠ 0 := by
  intro n
  induction n with
  | zero => intro p _ _ h; omega
  | succ n ih =>
    intro p h1 h2 hn
    rw [setN]
    cases hx : nxtP t p with
    | none =>
      intro j hj h0
      unfold nxtP at hx
      split at hx
      · cases hx
      · rename_i hf
        have := fst_none.1 hf j (by omega) (by omega)
        unfold gojB at this
        rw [decide_eq_true h0] at this; cases this
    | some q =>
      have key : INV t q.1 ∧ LI1 q.1 q.2 ∧ mu q.1 < mu p.1 := by
        unfold nxtP at hx
        split at hx
        · rename_i k hf
          cases hx
          have hk := (fst_some.mp hf).2.1
          have h0 : p.1 k 1 = 0 := of_decide_eq_true (fst_some.mp hf).2.2.1
          exact do_keeps hT h1 h2 (by omega) h0
        · cases ha : anyB 8 (mayS t p.1) with
          | true => rw [ha] at hx; cases hx
          | false =>
            cases hb : anyB 8 (triS t p.1) with
            | true =>
              rw [ha, hb] at hx
              cases hx
              obtain ⟨b1, b2, b3, b4⟩ := passP_inv hT h1 h2 8 (Nat.le_refl _)
              exact ⟨b1, b2, b4 hb⟩
            | false => rw [ha, hb] at hx; cases hx
      exact ih q key.1 key.2.1 (by omega)
end
