/-! the system's steps that go on -/
section
variable {P : Nat × (Nat → Int32)} {d o : Nat} {t s : St} {T S L0 L Z : nz_f2} {C C1 : nz_f5} {j : Nat}
theorem RC.pc (hI : INV t s) (hR : RC o t s C) (hj : j < 8) (hm : s j 1 = 0) (hp : s j 0 < t 57 j) : C 8 o j 0 5 = n32 (s j 0) := by
  obtain ⟨q, h1, h2, h3, h4⟩ := (hR.2.1 j hj).2.2.2.2.2.2.2 hm
  rw [h2, h3 hp]
theorem RC.goX {X : St} (hT : TV t) (hI : INV t s) (hR : RC o t s C) (hj : j < 8) (hm : s j 1 = 0) (hp : s j 0 < t 57 j) (hX : ∀ a f, a ≠ j → X a f = s a f) (x0 : X j 0 = s j 0) (x2 : X j 2 = s j 2) (x4 : X j 4 = s j 4) (hF : FJ o j C C1) (e7 : C1 8 o j 0 7 = n32 (X j 5)) (e35 : ∀ m, m < 10 → C1 35 o j 0 m = n32 (X j (8 + m))) (e13 : C1 8 o j 0 13 = C 8 o j 0 13) (e5 : C1 8 o j 0 5 = C 8 o j 0 5) : RC o t (goesS X j) (onC C1 o j (n32 1)) := by
  have h57 := hT.2.2.1 j
  rw [goes_upj hX]
  refine hR.go hj hF (by omega) rfl ?_ ?_ (fun m hm => ?_) ?_ ⟨s j 0 + 1, by omega, ?_, fun h => ?_, fun h => ?_⟩
  · simp only [show ¬ 4 = 1 by decide, show ¬ 4 = 0 by decide, if_false]; rw [x4]; exact (hI.J hj).2.2.1.2.2 (Or.inl hm)
  · exact e7
  · rw [if_neg (by omega), if_neg (by omega)]; exact e35 m hm
  · rw [e13, ((hR.2.1 j hj).2.2.2.1 (by omega)).2]
    simp only [show ¬ 2 = 1 by decide, show ¬ 2 = 0 by decide, if_false]; rw [x2]
  · rw [e5, hR.pc hI hj hm hp, n32_add]
  · simp only [show ¬ 0 = 1 by decide, if_false, if_true]; rw [x0]
  · simp only [show ¬ 0 = 1 by decide, if_false, if_true] at h; rw [x0] at h; exact h
theorem RG.goX {X : St} {x : Int32} (hG : RG o s L C) (hX : ∀ a f, a ≠ j → X a f = s a f) (x6 : X j 6 = s j 6) (hF : FJ o j C C1) (h8 : ∀ x, (x = 14 ∨ (16 ≤ x ∧ x ≤ 20)) → C1 8 o j 0 x = C 8 o j 0 x) (hlog : ∀ kd x, kd = 11 ∨ (46 ≤ kd ∧ kd ≤ 50) → C1 kd 0 0 0 x = C kd 0 0 0 x) : RG o (goesS X j) L (onC C1 o j x) := by
  intro h0
  subst h0
  refine hG.keep (fun k y hy => ?_) ?_ (fun kd y h1 h2 => ?_) (fun k => ?_) rfl
  · by_cases hk : k = j
    · subst hk
      unfold onC; rw [u5_x (by omega), u5_x (by omega), u5_x (by omega), u5_x (by omega), u5_x (by omega), u5_x (by omega)]; exact h8 y hy
    · exact (onC_FJ hF) 8 0 k 0 y (by unfold WJ; omega)
  · unfold onC; simp (disch := decide) only [u5_k]; exact hlog 11 11 (by omega)
  · unfold onC; simp (disch := omega) only [u5_k]; exact hlog kd y (by omega)
  · rw [goes_upj hX]
    by_cases hk : k = j
    · subst hk; rw [upj_self]; exact x6
    · rw [upj_ne hk]
theorem c_illegal (hT : TV t) (hI : INV t s) (hR : RC o t s C) (hG : RG o s L C) (hd : 3 ≤ d) (hj : j < 8) (hm : s j 1 = 0) (hp : s j 0 < t 57 j) {Q : nz_h → Prop}
    (hq : ∀ C', FJ o j C C' → RC o t (goesS s j) C' → RG o (goesS s j) (incL L 68 j) C' → Q (T, S, L0, Z, C')) : ctV P d 38 [sO o, jO o j] (T, S, L0, Z, C) Q := by
  obtain ⟨d, rfl⟩ := dge hd
  refine sm38 ?_
  simp (disch := omega) only [decide_eq_true_eq, decide_eq_false_iff_not, L32, az01, b2i_01, b2i_n0, b2i_n1, Bool.and_true, true_and, and_true, Classical.not_not, Bool.not_eq_true, Bool.not_eq_false, uC_row, c_on]
  have hF : FJ o j C (nz_u5 C 8 o j 0 17 (C 8 o j 0 17 + n32 1)) := FJ.up (FJ.rfl' C) (by unfold WJ; omega)
  have hJ := hR.2.1 j hj
  refine hq _ (onC_FJ hF) (hR.goX hT hI hj hm hp (fun _ _ _ => rfl) rfl rfl rfl hF ((u5_x (by decide)).trans hJ.2.1) (fun m hm => (u5_k (by decide)).trans (hJ.2.2.1 m hm)) (u5_x (by decide)) (u5_x (by decide))) ?_
  intro h0
  subst h0
  obtain ⟨g1, g2⟩ := hG rfl
  have el : incL L 68 j = nz_u2 L 68 j (L 68 j + n32 1) := by unfold incL; rw [decide_eq_false g1]; rfl
  rw [el]
  refine ⟨by rw [u2_ne (by decide)]; exact g1, ?_⟩
  have e : goesS s j = upj s j (fun f => if f = 1 then 0 else if f = 0 then s j 0 + 1 else s j f) := goes_upj (fun _ _ _ => rfl)
  rw [e]
  have gj := g2.1 j hj
  refine g2.job hj (fun k x hk => (onC_FJ hF) 8 0 k 0 x (by unfold WJ; omega)) (fun kd k h1 h2 hk => ?_) ⟨?_, ?_, ?_, ?_, ?_, ?_⟩ ?_ (fun y hy => ?_) (fun y hy => ?_)
  · by_cases h68 : kd = 68
    · rw [h68, u2_at, if_neg hk]
    · exact u2_ne h68
  · unfold onC; simp (disch := decide) only [u5_x, u2_ne]; exact gj.1
  · unfold onC; simp (disch := decide) only [u5_x, u5_eq, u2_eq]; rw [gj.2.1]
  · unfold onC; simp (disch := decide) only [u5_x, u2_ne]; exact gj.2.2.1
  · unfold onC; simp (disch := decide) only [u5_x, u2_ne]; exact gj.2.2.2.1
  · unfold onC; simp (disch := decide) only [u5_x, u2_ne]; exact gj.2.2.2.2.1
  · unfold onC; simp (disch := decide) only [u5_x]; exact gj.2.2.2.2.2
  · unfold onC; simp (disch := decide) only [u5_k, u2_ne]; exact g2.2.1
  · unfold onC; simp (disch := decide) only [u5_k, u2_ne]; exact g2.2.2.1 y hy
  · unfold onC; simp (disch := decide) only [u5_k, u2_ne]; exact g2.2.2.2 y hy
theorem coms_atl {k : Nat} : atlS t (coms s j) k = atlS t s k := by
  unfold atlS; rw [coms_op, coms_at (by decide) (by decide)]
theorem RC.asks0 (hI : INV t s) (hR : RC o t s C) (hj : j < 8) (hm : s j 1 = 0) (hp : s j 0 < t 57 j) : RC o t (coms s j) (askC C o j (n32 (askS t s j)) (b2i (atlS t s j))) := by
  have h4 : s j 4 = 0 := (hI.J hj).2.2.1.2.2 (Or.inl hm)
  have hF : FJ o j C (askC C o j (n32 (askS t s j)) (b2i (atlS t s j))) := askC_FJ (FJ.rfl' C)
  obtain ⟨e6, e7, e35, e12, e5, e11, e10, e0⟩ := hR.2.1 j hj
  have hpc := hR.pc hI hj hm hp
  have c1 : coms s j j 1 = 1 := by unfold coms up; simp
  have c3 : coms s j j 3 = 0 := by unfold coms up; simp
  have hJ : RJ o t (coms s j) (askC C o j (n32 (askS t s j)) (b2i (atlS t s j))) j := by
    unfold RJ
    rw [c1, c3, coms_atl, coms_ask, coms_at (f := 5) (by decide) (by decide), coms_at (f := 4) (by decide) (by decide), coms_at (f := 2) (by decide) (by decide), coms_at (f := 0) (by decide) (by decide), h4]
    refine ⟨?_, ?_, fun m hm => ?_, fun _ => ⟨?_, ?_⟩, fun _ => ?_, fun _ => ⟨?_, ?_, ?_⟩, fun h => by omega, fun h => by omega⟩
    · unfold askC; simp (disch := decide) only [u5_eq, u5_x]
    · unfold askC; simp (disch := decide) only [u5_eq, u5_x]; exact e7
    · unfold askC; simp (disch := decide) only [u5_k]; rw [coms_at (by omega) (by omega)]; exact e35 m hm
    · unfold askC; simp (disch := decide) only [u5_eq, u5_x]; rw [(e12 (by omega)).1, hm]; rfl
    · unfold askC; simp (disch := decide) only [u5_eq, u5_x]; exact (e12 (by omega)).2
    · unfold askC; simp (disch := decide) only [u5_eq, u5_x]; exact hpc
    · unfold askC; simp (disch := decide) only [u5_eq, u5_x]
    · unfold askC; simp (disch := decide) only [u5_eq, u5_x]
    · unfold askC; simp (disch := decide) only [u5_eq, u5_x]
  rw [coms_upj] at hJ ⊢
  exact hR.job hj hF (by omega) (by rw [if_pos rfl]; decide) hJ
theorem c_ask0 {a : Nat} {b : Bool} (ho : o < 2) (hT : TV t) (hI : INV t s) (hR : RC o t s C) (hG : RG o s L C) (hL : LI1 s L) (hd : 10 ≤ d) (hj : j < 8) (hm : s j 1 = 0) (hp : s j 0 < t 57 j) (ha : askOK t j (s j)) (ea : askS t s j = a) (eb : atlS t s j = b) {Q : nz_h → Prop}
    (hq : ∀ C', FJ o j C C' → RC o t (comesS t s j) C' → RG o (comesS t s j) (comesL t s L j) C' → Q (T, S, L0, Z, C')) : ctV P d 39 [sO o, jO o j, vi (n32 a), vi (b2i b)] (T, S, L0, Z, C) Q := by
  have h4 : s j 4 = 0 := (hI.J hj).2.2.1.2.2 (Or.inl hm)
  have hJ4 := (hI.J hj).2.2.2.1
  have h6 : s j 6 = 0 := by
    apply Classical.byContradiction
    intro hne
    have := hJ4.2.2.2 (by have := hJ4.2.2.1; omega)
    omega
  have hR1 := hR.asks0 hI hj hm hp
  rw [ea, eb] at hR1
  refine c_comes ho hT (INV_coms hT hI hj (Or.inl ⟨hm, hp, ha⟩)) hJ4.2.1 hR1 hG (fun h0 => hL.get hj (by have := hJ4.2.1; omega) (hG h0).1) ?_ hd hj hq
  rw [coms_ask]
  exact low_ask hT h4 ha
end
