/-! the system's sleepers -/
section
variable {t s : St} {m : Nat}
theorem slpF_spec : ∀ n, (∀ x, slpF t s m n = some x → x < n ∧ s x 1 = 2 ∧ onS t s x = m ∧ ∀ k, k < n → s k 1 = 2 → onS t s k = m → s x 7 ≤ s k 7) ∧ (slpF t s m n = none → ∀ k, k < n → s k 1 = 2 → onS t s k = m → False) := by
  intro n
  induction n with
  | zero => exact ⟨fun x h => (by cases h), fun _ k hk => by omega⟩
  | succ n ih =>
    rw [slpF]
    cases hv : slpF t s m n with
    | none =>
      rw [hv] at ih
      simp only [Bool.and_true]
      cases hc : (decide (s n 1 = 2) && decide (onS t s n = m)) with
      | true =>
        rw [Bool.and_eq_true, decide_eq_true_eq, decide_eq_true_eq] at hc
        refine ⟨fun x h => ?_, fun h => (by cases h)⟩
        cases h
        refine ⟨by omega, hc.1, hc.2, fun k hk h1 h2 => ?_⟩
        by_cases e : k = n
        · rw [e]; exact Nat.le_refl _
        · exact (ih.2 rfl k (by omega) h1 h2).elim
      | false =>
        refine ⟨fun x h => (by cases h), fun _ k hk h1 h2 => ?_⟩
        by_cases e : k = n
        · subst e; rw [decide_eq_true h1, decide_eq_true h2] at hc; cases hc
        · exact ih.2 rfl k (by omega) h1 h2
    | some x =>
      rw [hv] at ih
      have hx := ih.1 x rfl
      simp only []
      cases hc : (decide (s n 1 = 2) && decide (onS t s n = m) && decide (s n 7 < s x 7)) with
      | true =>
        rw [Bool.and_eq_true, Bool.and_eq_true, decide_eq_true_eq, decide_eq_true_eq, decide_eq_true_eq] at hc
        refine ⟨fun y h => ?_, fun h => (by cases h)⟩
        cases h
        refine ⟨by omega, hc.1.1, hc.1.2, fun k hk h1 h2 => ?_⟩
        by_cases e : k = n
        · rw [e]; exact Nat.le_refl _
        · have := hx.2.2.2 k (by omega) h1 h2; omega
      | false =>
        refine ⟨fun y h => ?_, fun h => (by cases h)⟩
        cases h
        refine ⟨by omega, hx.2.1, hx.2.2.1, fun k hk h1 h2 => ?_⟩
        by_cases e : k = n
        · subst e
          rw [decide_eq_true h1, decide_eq_true h2, Bool.true_and, Bool.true_and, decide_eq_false_iff_not] at hc
          omega
        · exact hx.2.2.2 k (by omega) h1 h2
theorem slp_nil (h : QL t s m []) : slpF t s m 8 = none := by
  cases hv : slpF t s m 8 with
  | none => rfl
  | some x =>
    have := (slpF_spec 8).1 x hv
    have hx := (h.1 x).2 ⟨this.1, this.2.1, this.2.2.1⟩
    cases hx
theorem slp_cons {k : Nat} {q : List Nat} (h : QL t s m (k :: q)) : slpF t s m 8 = some k := by
  have hk := (h.1 k).1 (List.mem_cons_self ..)
  cases hv : slpF t s m 8 with
  | none => exact ((slpF_spec 8).2 hv k hk.1 hk.2.1 hk.2.2).elim
  | some x =>
    have := (slpF_spec 8).1 x hv
    have hx := (h.1 x).2 ⟨this.1, this.2.1, this.2.2.1⟩
    have hle := this.2.2.2 k hk.1 hk.2.1 hk.2.2
    rcases List.mem_cons.1 hx with e | e
    · rw [e]
    · have := (List.pairwise_cons.1 h.2).1 x e
      omega
theorem getD_at {q : List Nat} {p : Nat} (hp : p < q.length) : q.getD p 0 = q[p] := by simp [List.getD, hp]
theorem QL_len {q : List Nat} (h : QL t s m q) : q.length ≤ 8 := by
  have hn : q.Pairwise (fun a b => a ≠ b) := h.2.imp (fun {a b} hab e => by rw [e] at hab; omega)
  refine pigeon 8 q.length (fun i => q.getD i 0) (fun p hp => ?_) (fun p p' hp hp' he => ?_)
  · have : q.getD p 0 ∈ q := by rw [getD_at hp]; exact List.getElem_mem hp
    exact ((h.1 _).1 this).1
  · rw [getD_at hp, getD_at hp'] at he
    rw [List.pairwise_iff_getElem] at hn
    rcases Nat.lt_trichotomy p p' with hlt | hlt | hlt
    · exact (hn p p' hp hp' hlt he).elim
    · exact hlt
    · exact (hn p' p hp' hp hlt he.symm).elim
end
/-- what the others see of a change of job k's row, and of the queue of m -/
theorem RC.q {o : Nat} {t s : St} {C C' : nz_f5} {j m : Nat} {r : Nat → Nat} (hR : RC o t s C) (hj : j < 8) (hF : Fr (Wsh o) C C') (h8 : ∀ k x, k ≠ j → C' 8 o k 0 x = C 8 o k 0 x) (h35 : ∀ k x, k ≠ j → C' 35 o k 0 x = C 35 o k 0 x)
    (h28 : ∀ n, n ≠ m → C' 28 o 0 0 n = C 28 o 0 0 n) (h97 : ∀ n k, n ≠ m → C' 97 o n 0 k = C 97 o n 0 k) (hs : s j 1 = 2 → onS t s j = m) (hr : r 1 = 2 → onR t j r = m) (hJ : RJ o t (upj s j r) C' j) (hQ : RQ o t (upj s j r) C' m) : RC o t (upj s j r) C' := by
  refine ⟨⟨fun m hm => ?_, fun k hk => ?_, fun k p hk hp => ?_, ?_⟩, fun k hk => ?_, fun n hn => ?_⟩
  · rw [hF 7 o m 0 0 (by unfold Wsh; omega), hF 7 o m 0 1 (by unfold Wsh; omega)]; exact hR.1.1 m hm
  · rw [hF 8 o k 0 0 (by unfold Wsh; omega), hF 8 o k 0 2 (by unfold Wsh; omega), hF 8 o k 0 3 (by unfold Wsh; omega), hF 8 o k 0 4 (by unfold Wsh; omega)]; exact hR.1.2.1 k hk
  · rw [hF 9 o k p 0 (by unfold Wsh; omega), hF 9 o k p 1 (by unfold Wsh; omega), hF 9 o k p 2 (by unfold Wsh; omega)]; exact hR.1.2.2.1 k p hk hp
  · rw [hF 1 o 0 0 5 (by unfold Wsh; omega)]; exact hR.1.2.2.2
  · by_cases hkj : k = j
    · rw [hkj]; exact hJ
    · exact RJ_at (upj_ne hkj) (fun x => h8 k x hkj) (fun m => h35 k m hkj) (hR.2.1 k hk)
  · by_cases hnm : n = m
    · rw [hnm]; exact hQ
    · obtain ⟨q, ⟨h1, h2⟩, h3, h4⟩ := hR.2.2 n hn
      have hq : ∀ x, x ∈ q → x ≠ j := fun x hx e => by
        have := (h1 x).1 hx
        rw [e] at this
        exact hnm (this.2.2.symm.trans (hs this.2.1))
      refine ⟨q, ⟨fun x => ?_, ?_⟩, ?_, fun k x hk => ?_⟩
      · by_cases hxj : x = j
        · subst hxj
          have : onS t (upj s x r) x = onR t x r := by unfold onS onR; rw [upj_self]
          rw [this, upj_self]
          exact ⟨fun hx => absurd rfl (hq x hx), fun hh => absurd (hh.2.2.symm.trans (hr hh.2.1)) hnm⟩
        · have : onS t (upj s j r) x = onS t s x := by unfold onS; rw [upj_ne hxj]
          rw [upj_ne hxj, this]; exact h1 x
      · refine List.Pairwise.imp_of_mem (fun {a b} ha hb hab => ?_) h2
        rw [upj_ne (hq a ha), upj_ne (hq b hb)]; exact hab
      · rw [h28 n hnm]; exact h3
      · rw [h97 n k hnm]; exact h4 k x hk
section
variable {P : Nat × (Nat → Int32)} {d o : Nat} {t s : St} {T S L0 L Z : nz_f2} {C : nz_f5} {m : Nat}
theorem FJ.sh' {j : Nat} {C' : nz_f5} (h : FJ o j C C') : Fr (Wsh o) C C' := h.sh
theorem c_wakes {k : Nat} {q : List Nat} (ho : o < 2) (hT : TV t) (hI : INV t s) (hR : RC o t s C) (hG : RG o s L C) (hL : LI1 s L) (hd : 11 ≤ d) (hm : m < 10) (hQ : QL t s m (k :: q)) (q28 : C 28 o 0 0 m = n32 (k :: q).length) (q97 : ∀ (i x : Nat), (k :: q)[i]? = some x → C 97 o m 0 i = n32 x) {Q : nz_h → Prop}
    (hq : ∀ C', Fr (Wsh o) C C' → RC o t (comesP t (s, incL L 70 k) k).1 C' → RG o (comesP t (s, incL L 70 k) k).1 (comesP t (s, incL L 70 k) k).2 C' → Q (T, S, L0, Z, C')) : ctV P d 48 [sO o, vi (n32 m)] (T, S, L0, Z, C) Q := by
  obtain ⟨d, rfl⟩ := dge hd
  have hlen := QL_len hQ
  have hk := (hQ.1 k).1 (List.mem_cons_self ..)
  have hk8 := hk.1
  have h2 := hk.2.1
  have hon := hk.2.2
  have h97 := q97 0 k rfl
  have hJ := hI.J hk8
  have h4 : 0 < s k 4 := (hJ.2.2.1.2.1 (Or.inl h2)).2.1
  have hJ4 := hJ.2.2.2.1
  obtain ⟨e6, e7, e35, e12, e5, e11, e10, e0⟩ := hR.2.1 k hk8
  refine sm48 ?_
  simp only [List.length_cons] at q28 hlen
  simp (disch := omega) only [decide_eq_true_eq, decide_eq_false_iff_not, L32, az01, b2i_01, b2i_n0, b2i_n1, Bool.and_true, true_and, and_true, Classical.not_not, Bool.not_eq_true, Bool.not_eq_false, n32_mul, n32_add, n32_ix, n32_ib, n32_lt, n32_le, n32_inj, l_hb, l_hb0, l_shl, l_wo, l_eqm1, l_m1eq, uC_row, q28, h97, n32_sub]
  refine ⟨hm, by omega, hk8, hm, hm, ?_⟩
  have fin : ∀ C1, Fr (Wsh o) C C1 → (∀ j x, C1 8 o j 0 x = C 8 o j 0 x) → (∀ j x, C1 35 o j 0 x = C 35 o j 0 x) → (∀ n, n ≠ m → C1 28 o 0 0 n = C 28 o 0 0 n) → (∀ n x, n ≠ m → C1 97 o n 0 x = C 97 o n 0 x) → C1 28 o 0 0 m = n32 q.length → (∀ (i x : Nat), q[i]? = some x → C1 97 o m 0 i = n32 x) → (∀ kd x, kd = 11 ∨ (46 ≤ kd ∧ kd ≤ 50) → C1 kd 0 0 0 x = C kd 0 0 0 x) → ctV P (d + 10) 39 [sO o, jO o k, vi (n32 (2 ^ m)), vi (n32 0)] (T, S, L0, Z, nz_u5 (nz_u5 C1 8 o k 0 19 (C1 8 o k 0 19 + n32 1)) 8 o k 0 12 (n32 1)) Q := by
    intro C1 hF h8 h35 h28 h97 g28 g97 hlog
    have hR1 : RC o t (coms s k) (askC (nz_u5 (nz_u5 C1 8 o k 0 19 (C1 8 o k 0 19 + n32 1)) 8 o k 0 12 (n32 1)) o k (n32 (2 ^ m)) (b2i false)) := by
      rw [coms_upj]
      refine hR.q (m := m) hk8 ?_ (fun j x hj => ?_) (fun j x hj => ?_) (fun n hn => ?_) (fun n x hn => ?_) (fun _ => hon) (fun h => ?_) ?_ ?_
      · intro kd o' j l x hh
        rw [← hF kd o' j l x hh]
        unfold askC nz_u5
        by_cases hc : kd = 8 ∧ o' = o ∧ j = k ∧ l = 0 ∧ 5 ≤ x
        · exact (hh (by unfold Wsh; omega)).elim
        · rw [if_neg (by omega), if_neg (by omega), if_neg (by omega), if_neg (by omega), if_neg (by omega), if_neg (by omega)]
      · rw [← h8 j x]
        unfold askC nz_u5
        rw [if_neg (by omega), if_neg (by omega), if_neg (by omega), if_neg (by omega), if_neg (by omega), if_neg (by omega)]
      · rw [← h35 j x]
        unfold askC; simp (disch := decide) only [u5_k]
      · rw [← h28 n hn]
        unfold askC; simp (disch := decide) only [u5_k]
      · rw [← h97 n x hn]
        unfold askC; simp (disch := decide) only [u5_k]
      · exact absurd h (by rw [if_pos rfl]; decide)
      · rw [← coms_upj]
        have c1 : coms s k k 1 = 1 := by unfold coms up; simp
        have c3 : coms s k k 3 = 0 := by unfold coms up; simp
        have ea : askS t s k = 2 ^ m := by unfold askS onlyS; rw [decide_eq_true h4, hon]; rfl
        have et : atlS t s k = false := by unfold atlS; rw [decide_eq_false (by omega)]; rfl
        unfold RJ
        rw [c1, c3, coms_atl, coms_ask, ea, et, coms_at (f := 5) (by decide) (by decide), coms_at (f := 4) (by decide) (by decide), coms_at (f := 2) (by decide) (by decide), coms_at (f := 0) (by decide) (by decide), decide_eq_true h4]
        refine ⟨?_, ?_, fun m hm => ?_, fun _ => ⟨?_, ?_⟩, fun _ => ?_, fun _ => ⟨?_, ?_, ?_⟩, fun h => ?_, fun h => by omega⟩
        · unfold askC; simp (disch := decide) only [u5_eq, u5_x]
        · unfold askC; simp (disch := decide) only [u5_eq, u5_x]; rw [h8]; exact e7
        · unfold askC; simp (disch := decide) only [u5_k]; rw [coms_at (by omega) (by omega), h35]; exact e35 m hm
        · unfold askC; simp (disch := decide) only [u5_eq, u5_x]; rfl
        · unfold askC; simp (disch := decide) only [u5_eq, u5_x]; rw [h8]; exact (e12 (by omega)).2
        · unfold askC; simp (disch := decide) only [u5_eq, u5_x]; rw [h8]; exact e5 (Or.inr h2)
        · unfold askC; simp (disch := decide) only [u5_eq, u5_x]
        · unfold askC; simp (disch := decide) only [u5_eq, u5_x]
        · unfold askC; simp (disch := decide) only [u5_eq, u5_x]
        · unfold askC; simp (disch := decide) only [u5_eq, u5_x]; rw [h8]; exact e10 h4
      · have hp := List.pairwise_cons.1 hQ.2
        have hnk : ∀ x, x ∈ q → x ≠ k := fun x hx e => by have := hp.1 x hx; rw [e] at this; omega
        refine ⟨q, ⟨fun x => ?_, ?_⟩, ?_, fun i x hi => ?_⟩
        · by_cases hxk : x = k
          · rw [hxk, upj_self, if_pos rfl]
            exact ⟨fun hx => absurd rfl (hnk k hx), fun hh => by omega⟩
          · have e1 : onS t (upj s k (fun f => if f = 1 then 1 else if f = 3 then 0 else s k f)) x = onS t s x := by unfold onS; rw [upj_ne hxk]
            rw [upj_ne hxk, e1, ← hQ.1 x, List.mem_cons]
            exact ⟨Or.inr, fun h => h.resolve_left hxk⟩
        · refine List.Pairwise.imp_of_mem (fun {a b} ha hb hab => ?_) hp.2
          rw [upj_ne (hnk a ha), upj_ne (hnk b hb)]; exact hab
        · unfold askC; simp (disch := decide) only [u5_k]; exact g28
        · unfold askC; simp (disch := decide) only [u5_k]; exact g97 i x hi
    have h6 : s k 6 = 0 := by
      apply Classical.byContradiction
      intro hne
      have := hJ4.2.2.2 (by have := hJ4.2.2.1; omega)
      omega
    have hG1 : RG o s (incL L 70 k) (nz_u5 (nz_u5 C1 8 o k 0 19 (C1 8 o k 0 19 + n32 1)) 8 o k 0 12 (n32 1)) := by
      intro h0
      subst h0
      obtain ⟨g1, g2⟩ := hG rfl
      have el : incL L 70 k = nz_u2 L 70 k (L 70 k + n32 1) := by unfold incL; rw [decide_eq_false g1]; rfl
      rw [el]
      refine ⟨by rw [u2_ne (by decide)]; exact g1, fun j hj => ?_, ?_, fun i hi => ?_, fun i hi => ?_⟩
      · have gj := g2.1 j hj
        by_cases hjk : j = k
        · subst hjk
          simp (disch := decide) only [u5_x, u5_eq, u2_ne, u2_eq, h8]
          exact ⟨gj.1, gj.2.1, gj.2.2.1, by rw [gj.2.2.2.1], gj.2.2.2.2.1, gj.2.2.2.2.2⟩
        · have hu : ∀ x, nz_u5 (nz_u5 C1 8 0 k 0 19 (C1 8 0 k 0 19 + n32 1)) 8 0 k 0 12 (n32 1) 8 0 j 0 x = C 8 0 j 0 x := fun x => by
            rw [← h8 j x]; unfold nz_u5; rw [if_neg (by omega), if_neg (by omega)]
          have h70 : ∀ kd, nz_u2 L 70 k (L 70 k + n32 1) kd j = L kd j := fun kd => by
            unfold nz_u2; rw [if_neg (fun hh => hjk hh.2)]
          simp only [hu, h70]; exact gj
      · simp (disch := decide) only [u5_k, u2_ne]; rw [hlog 11 11 (by omega)]; exact g2.2.1
      · simp (disch := decide) only [u5_k, u2_ne]; rw [hlog 46 i (by omega), hlog 47 i (by omega), hlog 48 i (by omega), hlog 49 i (by omega)]; exact g2.2.2.1 i hi
      · simp (disch := decide) only [u5_k, u2_ne]; rw [hlog 50 i (by omega)]; exact g2.2.2.2 i hi
    have hL1 := incL_LI (k := k) hL
    refine c_comes (b := false) ho hT (INV_coms hT hI hk8 (Or.inr h2)) hJ4.2.1 hR1 hG1 (fun h0 => hL1.get hk8 (by have := hJ4.2.1; omega) (hG1 h0).1) ?_ (by omega) hk8 (fun C' hF' hR' hG' => ?_)
    · rw [coms_ask]; exact low_told h4 (by omega)
    · refine hq C' ?_ hR' hG'
      refine hF.trans (Fr.trans ?_ hF'.sh)
      exact Fr.up (Fr.up (Fr.rfl' C1) (by unfold Wsh; omega)) (by unfold Wsh; omega)
  have loop : ∀ r i C1, r + i = q.length → Fr (Wsh o) C C1 → (∀ j x, C1 8 o j 0 x = C 8 o j 0 x) → (∀ j x, C1 35 o j 0 x = C 35 o j 0 x) → (∀ n, n ≠ m → C1 28 o 0 0 n = C 28 o 0 0 n) → (∀ n x, n ≠ m → C1 97 o n 0 x = C 97 o n 0 x) → C1 28 o 0 0 m = n32 q.length → (∀ (y x : Nat), y < i → q[y]? = some x → C1 97 o m 0 y = n32 x) → (∀ (y x : Nat), i ≤ y → q[y]? = some x → C1 97 o m 0 (y + 1) = n32 x) → (∀ kd x, kd = 11 ∨ (46 ≤ kd ∧ kd ≤ 50) → C1 kd 0 0 0 x = C kd 0 0 0 x) → nzW P (d + 10) az_k48 26 [some (sO o), some (vi (n32 m)), some (jO o k), some (vi (n32 i))] [] (T, S, L0, Z, C1) (nz_RV Q) := by
    intro r
    induction r with
    | zero =>
      intro i C1 hr hF h8 h35 h28 h97 g28 g97 g97b hlog
      refine sg48_26 ?_
      simp (disch := omega) only [decide_eq_true_eq, decide_eq_false_iff_not, L32, az01, b2i_01, b2i_n0, b2i_n1, Bool.and_true, true_and, and_true, Classical.not_not, Bool.not_eq_true, Bool.not_eq_false, n32_mul, n32_add, n32_ix, n32_ib, n32_lt, n32_le, n32_inj, l_hb, l_hb0, l_shl, l_wo, l_eqm1, l_m1eq, uC_row, g28, l_shl2]
      refine ⟨hm, fun _ => ?_, fun hc => by omega⟩
      refine fin C1 hF h8 h35 h28 h97 g28 (fun y x hy => g97 y x ?_ hy) hlog
      have := (List.getElem?_eq_some_iff.1 hy).1
      omega
    | succ r ih =>
      intro i C1 hr hF h8 h35 h28 h97 g28 g97 g97b hlog
      refine sg48_26 ?_
      simp (disch := omega) only [decide_eq_true_eq, decide_eq_false_iff_not, L32, az01, b2i_01, b2i_n0, b2i_n1, Bool.and_true, true_and, and_true, Classical.not_not, Bool.not_eq_true, Bool.not_eq_false, n32_mul, n32_add, n32_ix, n32_ib, n32_lt, n32_le, n32_inj, l_hb, l_hb0, l_shl, l_wo, l_eqm1, l_m1eq, uC_row, g28]
      refine ⟨hm, fun hc => by omega, fun _ => ⟨hm, hm, by omega, by omega, ?_⟩⟩
      refine ih (i + 1) _ (by omega) (hF.up (by unfold Wsh; omega)) (fun j x => (u5_k (by decide)).trans (h8 j x)) (fun j x => (u5_k (by decide)).trans (h35 j x)) (fun n hn => (u5_k (by decide)).trans (h28 n hn)) (fun n x hn => ?_) ((u5_k (by decide)).trans g28) (fun y x hy hx => ?_) (fun y x hy hx => ?_) (fun kd x hk => ?_)
      · rw [← h97 n x hn]; unfold nz_u5; rw [if_neg (by omega)]
      · by_cases hyi : y = i
        · subst hyi; rw [u5_eq]; exact g97b y x (Nat.le_refl _) hx
        · rw [u5_x hyi]; exact g97 y x (by omega) hx
      · rw [u5_x (by omega)]; exact g97b y x (by omega) hx
      · rw [u5_k (by omega)]; exact hlog kd x hk
  refine loop q.length 0 _ (by omega) ?_ (fun j x => ?_) (fun j x => ?_) (fun n hn => ?_) (fun n x hn => ?_) ?_ (fun y x hy => by omega) (fun y x _ hy => ?_) (fun kd x hk => ?_)
  · exact Fr.up (Fr.rfl' C) (by unfold Wsh; omega)
  · exact u5_k (by decide)
  · exact u5_k (by decide)
  · exact u5_x hn
  · exact u5_k (by decide)
  · rw [u5_eq]; rfl
  · rw [u5_k (by decide)]; exact q97 (y + 1) x (by rw [List.getElem?_cons_succ]; exact hy)
  · exact u5_k (by omega)
end
