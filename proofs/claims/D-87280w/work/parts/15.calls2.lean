/-! the row of every kind of call -/
theorem az_row {i : Nat} (hi : i < 183) : ∃ q, az_M[i]? = some q ∧ az_yn i = q.1 ∧ Jvm.Cond.code q.1 q.2.1 q.2.2.1 q.2.2.2.1 ∈ lw_all ∧ Jvm.Cond.initialized q.1.cls ∈ lw_all ∧ (q.1.cls ≠ "java/lang/invoke/MethodHandle" ∧ q.1.cls ≠ "java/lang/invoke/VarHandle" ∧ (parseMethodDescriptor q.1.desc).map (fun d => d.parameters.length) = some q.2.2.2.2.2) ∧ plainName q.1.cls = true ∧ q.2.2.1 ≤ 11 ∧ q.1.cls = az_cn q.2.2.2.2.1 := by
  obtain ⟨q, hq, hmok⟩ := az_mrow hi
  obtain ⟨a1, a2, a3, a4, a5, a6, a7⟩ := az_mok_spec hmok
  refine ⟨q, hq, by unfold az_yn; rw [hq], ?_, by rw [a1]; exact az_iz _ (List.mem_map.mpr ⟨_, a2, rfl⟩), ⟨a3, a4, a5⟩, a6, a7, a1⟩
  have := az_cdk hi
  unfold az_cdw at this
  rw [hq] at this
  exact this
section
variable {ρ α : Type} {X : az_HM ρ α} {p : Program} {l : Launch} {e : Env} {R : Room} {s : State} {m : MethodId} {args : Array Value} {below : List Frame} {meth : Method} {c : Code} {Q : State → Prop} {q : az_MT} {c0 s0 : Nat}
theorem az_take {st : List (az_V ρ)} {ad : ρ → Nat} (b : Nat) : (((st.take b).reverse.map (az_tr ad)).reverse ++ (st.drop b).map (az_tr ad)) = st.map (az_tr ad) := by
  rw [← List.map_reverse, List.reverse_reverse, ← List.map_append, List.take_append_drop]
theorem az_t39 {pc : Nat} {k : Int32} {np a b cx d : Nat} {L : List Nat} {ls : az_L ρ} {st : List (az_V ρ)} {h : α} {dd : Nat} (hF : az_Fr p s m args meth c q) (hK : az_hK X s) (hfr : dd + 1 ≤ R.frames ∧ 30 * (dd + 1) ≤ R.locals) (hok : az_ok q.2.2.2.2.1 q.2.2.1 q.2.2.2.1 (decide (q.1.name = "<init>")) q.2.1 pc (39, k, np, a, b, cx, d, L) = true)
    {g : Option Bool} {mi : Nat} {as : List (az_V ρ)} {np' : Nat} {ls' : az_L ρ} {st' : List (az_V ρ)} {h' h2 : α} {v : Option (az_V ρ)} (hs : az_step (az_hO X) (39, k, np, a, b, cx, d, L) ls st h = some (g, Sum.inr (Sum.inr (Sum.inl (mi, as, np', ls', st', h')))))
    (hM : az_Mt X l dd mi as h' v h2) (hm1 : az_hc X h ≤ az_hc X h2) (hm2 : az_hs X h ≤ az_hs X h2) (hvv : ∀ w, v = some w → az_vv (az_hV X) w) (hr : az_hc X h2 - c0 ≤ R.cells ∧ az_hs X h2 - s0 ≤ R.slots)
    (kk : az_W X p l e R s m args below meth c Q q.2.2.1 c0 s0 h2 np' ls' (v.toList ++ st')) : az_W X p l e R s m args below meth c Q q.2.2.1 c0 s0 h pc ls st := by
  simp only [az_step] at hs
  cases hbl : Nat.ble b st.length with
  | false => simp only [hbl, cond_false] at hs; cases hs
  | true =>
    simp only [hbl, cond_true] at hs
    obtain ⟨h8, -, hs⟩ := az_callS hs
    simp only [Sum.inr.injEq, Sum.inl.injEq, Prod.mk.injEq] at hs
    obtain ⟨rfl, rfl, rfl, rfl, rfl, rfl⟩ := hs
    simp only [az_ok, Bool.or_eq_true, Bool.and_eq_true, decide_eq_true_eq] at hok
    obtain ⟨⟨⟨⟨⟨hd, rfl⟩, ha⟩, hsm⟩, hnb⟩, hlk⟩ := hok
    obtain ⟨qq, hqq, hyn, hcw, hiw, hpd, hpl, hml, hcn⟩ := az_row ha
    rw [hqq] at hnb
    have hnb : qq.2.2.2.2.2 = b := Option.some.inj hnb
    have hM := hM qq hqq
    intro H locs lr hR hL hl hlo hso h1 h2'
    have hx := hF.1
    have hb := hF.2.1
    have hts := hF.2.2.2.2.2.2.1
    have hown := hF.2.2.2.2.2.1
    have hbl' : b ≤ st.length := Nat.le_of_ble_eq_true hbl
    have hlen : ((st.take b).reverse.map (az_tr (az_hA X))).length = b := by simp [hbl']
    have hst : st.map (az_tr (az_hA X)) = ((st.take b).reverse.map (az_tr (az_hA X))).reverse ++ (st.drop b).map (az_tr (az_hA X)) := (az_take b).symm
    have hpre : PreS s H (az_Pc X (st.take b).reverse h') ((st.take b).reverse.map (az_tr (az_hA X))) := ⟨az_blind, fun U hU hW => ⟨rfl, by rw [hU]; exact hR, az_K.moved hW hK⟩⟩
    have hstat : Jvm.Cond.static qq.1 ∈ lw_all := by rw [← hyn]; exact az_sm _ (List.mem_map.mpr ⟨_, hsm, rfl⟩)
    have hRR : (az_rm dd (az_hc X h2 - az_hc X h') (az_hs X h2 - az_hs X h')).frames + 1 ≤ R.frames ∧ 8 + (qq.2.2.1 + 11) + (az_rm dd (az_hc X h2 - az_hc X h') (az_hs X h2 - az_hs X h')).locals ≤ R.locals := ⟨hfr.1, by show 8 + (qq.2.2.1 + 11) + 30 * dd ≤ R.locals; omega⟩
    have hsz : (F0 m pc lr (st.map (az_tr (az_hA X)))).locals.size = q.2.2.1 := hl.1
    have hW8 : 2 * (F0 m pc lr (st.map (az_tr (az_hA X)))).monitorRoom + (((st.drop b).map (az_tr (az_hA X))).map fun v => v.category).sum ≤ 8 := by
      show 2 * 0 + _ ≤ 8
      rw [az_sum]; omega
    refine az_back (len := 3) (a9 := ((st.take b).reverse.map (az_tr (az_hA X))).toArray) hm1 hm2 hvv ?_ hL hl hlo (az_drp b hso) h1 h2' kk
    rcases hlk with hlk | hlk
    · have hlk1 : Jvm.Cond.methodLink (az_cn q.2.2.2.2.1) (az_hd L) qq.1 ∈ lw_all := by rw [← hyn]; exact az_ml _ hlk
      exact va_runS (As := (st.take b).reverse.map (az_tr (az_hA X))) (rest := (st.drop b).map (az_tr (az_hA X))) (own := az_cn q.2.2.2.2.1) (index := az_hd L) ⟨hx, hb, hF.2.2.1, hown, hts⟩ hM (va_cwS b hts (lw_S hlk1 hstat hiw hcw) rfl rfl rfl (by rw [← hnb]; exact hpd) hRR) hpre rfl hlen hsz hst hW8 hd ⟨by omega, by omega⟩
    · have hlk1 : va_Nw (.methodLinkNest (az_cn q.2.2.2.2.1) (az_hd L) qq.1 "LockBook") s := by rw [← hyn]; exact hK.2.1 _ (az_nws_M _ hlk)
      exact va_runSN (As := (st.take b).reverse.map (az_tr (az_hA X))) (rest := (st.drop b).map (az_tr (az_hA X))) (own := az_cn q.2.2.2.2.1) (index := az_hd L) ⟨hx, hb, hF.2.2.1, hown, hts⟩ hM ⟨va_cnB b hts (lw_meth hcw) rfl rfl rfl hlk1 (hts _ hiw) (by rw [← hnb]; exact hpd) hRR, hts _ hstat, trivial⟩ hpre rfl hlen hsz hst hW8 hd ⟨by omega, by omega⟩
theorem az_t41 {pc : Nat} {k : Int32} {np a b cx d : Nat} {L : List Nat} {ls : az_L ρ} {st : List (az_V ρ)} {h : α} {dd : Nat} (hLaw : az_Law X) (hF : az_Fr p s m args meth c q) (hK : az_hK X s) (hfr : dd + 1 ≤ R.frames ∧ 30 * (dd + 1) ≤ R.locals) (hok : az_ok q.2.2.2.2.1 q.2.2.1 q.2.2.2.1 (decide (q.1.name = "<init>")) q.2.1 pc (41, k, np, a, b, cx, d, L) = true)
    {g : Option Bool} {mi : Nat} {as : List (az_V ρ)} {np' : Nat} {ls' : az_L ρ} {st' : List (az_V ρ)} {h' h2 : α} {v : Option (az_V ρ)} (hs : az_step (az_hO X) (41, k, np, a, b, cx, d, L) ls st h = some (g, Sum.inr (Sum.inr (Sum.inl (mi, as, np', ls', st', h')))))
    (hM : az_Mt X l dd mi as h' v h2) (hm1 : az_hc X h ≤ az_hc X h2) (hm2 : az_hs X h ≤ az_hs X h2) (hvv : ∀ w, v = some w → az_vv (az_hV X) w) (hr : az_hc X h2 - c0 ≤ R.cells ∧ az_hs X h2 - s0 ≤ R.slots)
    (kk : az_W X p l e R s m args below meth c Q q.2.2.1 c0 s0 h2 np' ls' (v.toList ++ st')) : az_W X p l e R s m args below meth c Q q.2.2.1 c0 s0 h pc ls st := by
  simp only [az_step] at hs
  split at hs
  · rename_i r1 t ht
    obtain ⟨h8, -, hs⟩ := az_callS hs
    simp only [Sum.inr.injEq, Sum.inl.injEq, Prod.mk.injEq] at hs
    obtain ⟨rfl, rfl, rfl, rfl, rfl, rfl⟩ := hs
    simp only [az_ok, Bool.or_eq_true, Bool.and_eq_true, decide_eq_true_eq] at hok
    obtain ⟨⟨⟨⟨⟨⟨hd, rfl⟩, ha⟩, him⟩, hnb⟩, hini⟩, hlk⟩ := hok
    obtain ⟨qq, hqq, hyn, hcw, hiw, hpd, hpl, hml, hcn⟩ := az_row ha
    rw [hqq] at hnb hini
    have hnb : qq.2.2.2.2.2 = b := Option.some.inj hnb
    have hini : (qq.1.name, qq.2.2.2.1) = ("<init>", none) := Option.some.inj hini
    simp only [Prod.mk.injEq] at hini
    have hM := hM qq hqq
    rw [hini.2] at hM hcw
    have hin : Jvm.Cond.instanceMethod qq.1 ∈ lw_all := by rw [← hyn]; exact az_im _ (List.mem_map.mpr ⟨_, him, rfl⟩)
    intro H locs lr hR hL hl hlo hso h1 h2'
    have hx := hF.1
    have hb := hF.2.1
    have hts := hF.2.2.2.2.2.2.1
    have hown := hF.2.2.2.2.2.1
    have hdr := az_drp b hso
    rw [ht] at hdr
    have hlt : b < st.length := by
      rcases Nat.lt_or_ge b st.length with z | z
      · exact z
      · rw [List.drop_eq_nil_of_le z] at ht; cases ht
    have hlen : ((st.take b).reverse.map (az_tr (az_hA X))).length = b := by simp [Nat.le_of_lt hlt]
    have hst : st.map (az_tr (az_hA X)) = ((st.take b).reverse.map (az_tr (az_hA X))).reverse ++ Value.ref (az_hA X r1) :: st'.map (az_tr (az_hA X)) := by
      have := (az_take (ad := az_hA X) (st := st) b).symm
      rw [ht] at this
      exact this
    have hRR : (az_rm dd (az_hc X h2 - az_hc X h') (az_hs X h2 - az_hs X h')).frames + 1 ≤ R.frames ∧ 8 + (qq.2.2.1 + 11) + (az_rm dd (az_hc X h2 - az_hc X h') (az_hs X h2 - az_hs X h')).locals ≤ R.locals := ⟨hfr.1, by show 8 + (qq.2.2.1 + 11) + 30 * dd ≤ R.locals; omega⟩
    have hsz : (F0 m pc lr (st.map (az_tr (az_hA X)))).locals.size = q.2.2.1 := hl.1
    have hW8 : 2 * (F0 m pc lr (st.map (az_tr (az_hA X)))).monitorRoom + ((st'.map (az_tr (az_hA X))).map fun v => v.category).sum ≤ 8 := by
      show 2 * 0 + _ ≤ 8
      rw [az_sum]; omega
    have hpc : ∀ U : State, U.heap = H → s.WarmedH U.vm → az_Pc X (vr r1 :: (st.take b).reverse) h' (Value.ref (az_hA X r1) :: (st.take b).reverse.map (az_tr (az_hA X))).toArray U := fun U hU hW => ⟨rfl, by rw [hU]; exact hR, az_K.moved hW hK⟩
    refine az_back (len := 3) (a9 := (Value.ref (az_hA X r1) :: (st.take b).reverse.map (az_tr (az_hA X))).toArray) hm1 hm2 hvv ?_ hL hl hlo (az_tl hdr) h1 h2' kk
    have hpre : PreS s H (az_Pc X (vr r1 :: (st.take b).reverse) h') (.ref (az_hA X r1) :: (st.take b).reverse.map (az_tr (az_hA X))) := ⟨az_blind, hpc⟩
    rcases hlk with hlk | hlk
    · have hlk1 : Jvm.Cond.methodLink (az_cn q.2.2.2.2.1) (az_hd L) qq.1 ∈ lw_all := by rw [← hyn]; exact az_ml _ hlk
      exact va_runI (As := (st.take b).reverse.map (az_tr (az_hA X))) (rest := st'.map (az_tr (az_hA X))) (own := az_cn q.2.2.2.2.1) (index := az_hd L) ⟨hx, hb, hF.2.2.1, hown, hts⟩ hM (cwI b hts (lw_meth hcw) rfl rfl rfl (hts _ hiw) (hts _ hlk1) (hts _ hin) hini.1 (by rw [← hnb]; exact hpd) hRR) hpre rfl hlen hsz hst hW8 hd ⟨by omega, by omega⟩
    · have hlk1 : va_Nw (.methodLinkNest (az_cn q.2.2.2.2.1) (az_hd L) qq.1 "LockBook") s := by rw [← hyn]; exact hK.2.1 _ (az_nws_M _ hlk)
      exact va_runIN (As := (st.take b).reverse.map (az_tr (az_hA X))) (rest := st'.map (az_tr (az_hA X))) (own := az_cn q.2.2.2.2.1) (index := az_hd L) ⟨hx, hb, hF.2.2.1, hown, hts⟩ hM ⟨va_cnB b hts (lw_meth hcw) rfl rfl rfl hlk1 (hts _ hiw) (by rw [← hnb]; exact hpd) hRR, hini.1, hts _ hin⟩ hpre rfl hlen hsz hst hW8 hd ⟨by omega, by omega⟩
  · cases hs
theorem az_se2 : az_SE.all (fun i => decide ((az_M[i]?).map (fun q => q.2.2.2.2.1) ≠ some 2)) = true := by decide +kernel
theorem az_cnl {i : Nat} (h : i < 14) (h2 : i ≠ 2) : ∃ z, az_cl[i]? = some z ∧ z.1 = az_cn i := by
  match i, h with
  | 0, _ => exact ⟨_, rfl, rfl⟩
  | 1, _ => exact ⟨_, rfl, rfl⟩
  | 2, _ => exact absurd rfl h2
  | 3, _ => exact ⟨_, rfl, rfl⟩
  | 4, _ => exact ⟨_, rfl, rfl⟩
  | 5, _ => exact ⟨_, rfl, rfl⟩
  | 6, _ => exact ⟨_, rfl, rfl⟩
  | 7, _ => exact ⟨_, rfl, rfl⟩
  | 8, _ => exact ⟨_, rfl, rfl⟩
  | 9, _ => exact ⟨_, rfl, rfl⟩
  | 10, _ => exact ⟨_, rfl, rfl⟩
  | 11, _ => exact ⟨_, rfl, rfl⟩
  | 12, _ => exact ⟨_, rfl, rfl⟩
  | 13, _ => exact ⟨_, rfl, rfl⟩
  | n + 14, h => omega
theorem az_t40m {pc : Nat} {a b : Nat} {L : List Nat} {ls : az_L ρ} {st : List (az_V ρ)} {h : α} {dd : Nat} (hLaw : az_Law X) (hF : az_Fr p s m args meth c q) (hK : az_hK X s) (hfr : dd + 1 ≤ R.frames ∧ 30 * (dd + 1) ≤ R.locals) (hd : decode q.2.1 pc = .ok (.invokevirtual (az_hd L), 3))
    {r1 : ρ} {t : List (az_V ρ)} {q1 : Nat} (ht : st.drop b = Sum.inr (some r1) :: t) (hq1 : az_cs (az_hO X) h r1 = some q1) (hq6 : 3 ≤ q1 ∧ q1 ≤ 6) (hlk : (q.2.2.2.2.1, az_hd L, [62, 64, 63].getD a 0) ∈ az_ML) (ha3 : a < 3) (hb2 : b = [2, 2, 0].getD a 0)
    {h2 : α} {v : Option (az_V ρ)} (h8 : t.length ≤ 8)
    (hM : az_Mt X l dd (az_man a q1) (vr r1 :: (st.take b).reverse) h v h2) (hm1 : az_hc X h ≤ az_hc X h2) (hm2 : az_hs X h ≤ az_hs X h2) (hvv : ∀ w, v = some w → az_vv (az_hV X) w) (hr : az_hc X h2 - c0 ≤ R.cells ∧ az_hs X h2 - s0 ≤ R.slots)
    (kk : az_W X p l e R s m args below meth c Q q.2.2.1 c0 s0 h2 (pc + 3) ls (v.toList ++ t)) : az_W X p l e R s m args below meth c Q q.2.2.1 c0 s0 h pc ls st := by
    have hmd : (q1, [62, 64, 63].getD a 0, az_man a q1) ∈ az_MD ∧ az_man a q1 < 183 ∧ az_man a q1 ∈ az_IM ∧ [62, 64, 63].getD a 0 < 183 ∧ [62, 64, 63].getD a 0 ∈ az_IM ∧ [62, 64, 63].getD a 0 ∈ ([62, 64, 63] : List Nat) := by
      have key : ∀ a : Fin 3, ∀ j : Fin 4, decide ((3 + j.val, [62, 64, 63].getD a.val 0, az_man a.val (3 + j.val)) ∈ az_MD) = true ∧ az_man a.val (3 + j.val) < 183 ∧ decide (az_man a.val (3 + j.val) ∈ az_IM) = true ∧ [62, 64, 63].getD a.val 0 < 183 ∧ decide ([62, 64, 63].getD a.val 0 ∈ az_IM) = true ∧ decide ([62, 64, 63].getD a.val 0 ∈ ([62, 64, 63] : List Nat)) = true := by decide +kernel
      have := key ⟨a, ha3⟩ ⟨q1 - 3, by omega⟩
      simp only [show 3 + (q1 - 3) = q1 by omega, decide_eq_true_eq] at this
      exact this
    obtain ⟨hmd, ha, him, ha0, him0, hin3⟩ := hmd
    obtain ⟨qq, hqq, hyn, hcw, hiw, hpd, hpl, hml, hcn⟩ := az_row ha
    obtain ⟨q0, hqq0, hyn0, hcw0, hiw0, hpd0, -, -, hcn0⟩ := az_row ha0
    have hM := hM qq hqq
    have hin : Jvm.Cond.instanceMethod qq.1 ∈ lw_all := by rw [← hyn]; exact az_im _ (List.mem_map.mpr ⟨_, him, rfl⟩)
    have hin0 : Jvm.Cond.instanceMethod q0.1 ∈ lw_all := by rw [← hyn0]; exact az_im _ (List.mem_map.mpr ⟨_, him0, rfl⟩)
    have hsel : Jvm.Cond.selects (az_cn q1) q0.1 qq.1 ∈ lw_all := by
      have := az_md _ (List.mem_map.mpr ⟨_, hmd, rfl⟩)
      simp only [hyn, hyn0] at this; exact this
    have hcls0 : q0.1.cls = "LockBook$Manner" ∧ q0.2.2.2.2.2 = b := by
      have key : ∀ a, a < 3 → (az_M[[62, 64, 63].getD a 0]?).map (fun q => (q.1.cls, q.2.2.2.2.2)) = some ("LockBook$Manner", [2, 2, 0].getD a 0) := by decide +kernel
      have := key a ha3
      rw [hqq0] at this
      simp only [Option.map_some, Option.some.injEq, Prod.mk.injEq] at this
      exact ⟨this.1, by rw [hb2]; exact this.2⟩
    have hsam : Jvm.Cond.sameMethod q0.1.cls "LockBook$Manner" q0.1.name q0.1.desc ∈ lw_all := by
      have := az_sam _ (List.mem_map.mpr ⟨_, hin3, rfl⟩)
      rw [hyn0] at this; exact this
    have hq0e : (⟨"LockBook$Manner", q0.1.name, q0.1.desc⟩ : MethodName) = q0.1 := by rw [← hcls0.1]
    intro H locs lr hR hL hl hlo hso h1 h2'
    have hx := hF.1
    have hb := hF.2.1
    have hts := hF.2.2.2.2.2.2.1
    have hown := hF.2.2.2.2.2.1
    have hdr := az_drp b hso
    rw [ht] at hdr
    have hlt : b < st.length := by
      rcases Nat.lt_or_ge b st.length with z | z
      · exact z
      · rw [List.drop_eq_nil_of_le z] at ht; cases ht
    have hlen : ((st.take b).reverse.map (az_tr (az_hA X))).length = b := by simp [Nat.le_of_lt hlt]
    have hst : st.map (az_tr (az_hA X)) = ((st.take b).reverse.map (az_tr (az_hA X))).reverse ++ Value.ref (az_hA X r1) :: t.map (az_tr (az_hA X)) := by
      have := (az_take (ad := az_hA X) (st := st) b).symm
      rw [ht] at this
      exact this
    have hRR : (az_rm dd (az_hc X h2 - az_hc X h) (az_hs X h2 - az_hs X h)).frames + 1 ≤ R.frames ∧ 8 + (qq.2.2.1 + 11) + (az_rm dd (az_hc X h2 - az_hc X h) (az_hs X h2 - az_hs X h)).locals ≤ R.locals := ⟨hfr.1, by show 8 + (qq.2.2.1 + 11) + 30 * dd ≤ R.locals; omega⟩
    have hsz : (F0 m pc lr (st.map (az_tr (az_hA X)))).locals.size = q.2.2.1 := hl.1
    have hW8 : 2 * (F0 m pc lr (st.map (az_tr (az_hA X)))).monitorRoom + ((t.map (az_tr (az_hA X))).map fun v => v.category).sum ≤ 8 := by
      show 2 * 0 + _ ≤ 8
      rw [az_sum]; omega
    have hpc : ∀ U : State, U.heap = H → s.WarmedH U.vm → az_Pc X (vr r1 :: (st.take b).reverse) h (Value.ref (az_hA X r1) :: (st.take b).reverse.map (az_tr (az_hA X))).toArray U := fun U hU hW => ⟨rfl, by rw [hU]; exact hR, az_K.moved hW hK⟩
    refine az_back (len := 3) (a9 := (Value.ref (az_hA X r1) :: (st.take b).reverse.map (az_tr (az_hA X))).toArray) hm1 hm2 hvv ?_ hL hl hlo (az_tl hdr) h1 h2' kk
    obtain ⟨-, fs, hat⟩ := hLaw.2.2.2.2.2.2.2.2.2.2.1 h H r1 q1 hR (az_hdv hdr r1 rfl) hq1
    obtain ⟨z, hz1, hz2⟩ := az_cnl (i := q1) (by omega) (by omega)
    have hrecv := va_recv hK.1 (az_P1 hat) (ci := q1) (q0 := 0) hz1 rfl
    rw [hz2] at hrecv
    have hpre : PreV s H (az_cn q1) (az_hA X r1) (az_Pc X (vr r1 :: (st.take b).reverse) h) ((st.take b).reverse.map (az_tr (az_hA X))) := ⟨az_blind, hrecv, hpc⟩
    have hlk1 : Jvm.Cond.methodLink (az_cn q.2.2.2.2.1) (az_hd L) q0.1 ∈ lw_all := by rw [← hyn0]; exact az_ml _ hlk
    have hg : GoodIn lw_all (va_wsO (az_cn q.2.2.2.2.1) (az_hd L) (az_cn q1) "LockBook$Manner" q0.1 qq.1 (ws_ qq.1 qq.2.1 qq.2.2.1 qq.2.2.2.1)) := by
      refine lw_app ?_ (lw_meth hcw)
      intro w hw
      simp only [List.mem_cons, List.not_mem_nil, or_false] at hw
      rcases hw with e | e | e | e | e | e
      · rw [e]; exact hlk1
      · rw [e]; exact hsam
      · rw [e, hq0e]; exact hin0
      · rw [e]; exact hsel
      · rw [e]; exact hin
      · rw [e]; exact hiw
    exact va_runU (As := (st.take b).reverse.map (az_tr (az_hA X))) (rest := t.map (az_tr (az_hA X))) (own := az_cn q.2.2.2.2.1) (C := az_cn q1) (owner := "LockBook$Manner") (index := az_hd L) ⟨hx, hb, hF.2.2.1, hown, hts⟩ hM (va_cwO b hts hg rfl rfl rfl (by rw [hq0e]; exact hcw0) ⟨by decide, by decide, by rw [← hcls0.2]; exact hpd0.2.2⟩ hRR) hpre rfl hlen hsz hst hW8 hd ⟨by omega, by omega⟩
theorem az_t40 {pc : Nat} {k : Int32} {np a b cx d : Nat} {L : List Nat} {ls : az_L ρ} {st : List (az_V ρ)} {h : α} {dd : Nat} (hLaw : az_Law X) (hF : az_Fr p s m args meth c q) (hK : az_hK X s) (hfr : dd + 1 ≤ R.frames ∧ 30 * (dd + 1) ≤ R.locals) (hok : az_ok q.2.2.2.2.1 q.2.2.1 q.2.2.2.1 (decide (q.1.name = "<init>")) q.2.1 pc (40, k, np, a, b, cx, d, L) = true)
    {g : Option Bool} {mi : Nat} {as : List (az_V ρ)} {np' : Nat} {ls' : az_L ρ} {st' : List (az_V ρ)} {h' h2 : α} {v : Option (az_V ρ)} (hs : az_step (az_hO X) (40, k, np, a, b, cx, d, L) ls st h = some (g, Sum.inr (Sum.inr (Sum.inl (mi, as, np', ls', st', h')))))
    (hg : az_gd g = true) (hM : az_Mt X l dd mi as h' v h2) (hm1 : az_hc X h ≤ az_hc X h2) (hm2 : az_hs X h ≤ az_hs X h2) (hvv : ∀ w, v = some w → az_vv (az_hV X) w) (hr : az_hc X h2 - c0 ≤ R.cells ∧ az_hs X h2 - s0 ≤ R.slots)
    (kk : az_W X p l e R s m args below meth c Q q.2.2.1 c0 s0 h2 np' ls' (v.toList ++ st')) : az_W X p l e R s m args below meth c Q q.2.2.1 c0 s0 h pc ls st := by
  simp only [az_step] at hs
  split at hs
  · rename_i r1 t ht
    split at hs
    · rename_i q1 hq1
      simp only [az_ok, Bool.or_eq_true, Bool.and_eq_true, decide_eq_true_eq] at hok
      obtain ⟨⟨hd, rfl⟩, hok⟩ := hok
      rcases hok with ⟨⟨⟨rfl, hlk⟩, ha3⟩, hb2⟩ | ⟨⟨⟨⟨⟨hc14, ha⟩, him⟩, hse⟩, hnb⟩, hlk⟩
      · simp only [show Nat.beq 99 99 = true from rfl, cond_true] at hs
        obtain ⟨h8, hge, hs9⟩ := az_callgS hs
        clear hs
        subst hge
        simp only [Sum.inr.injEq, Sum.inl.injEq, Prod.mk.injEq] at hs9
        obtain ⟨rfl, rfl, rfl, rfl, rfl, rfl⟩ := hs9
        have hg : (Nat.ble 3 q1 && Nat.ble q1 6) = true := hg
        rw [Bool.and_eq_true] at hg
        exact az_t40m hLaw hF hK hfr hd ht hq1 ⟨Nat.le_of_ble_eq_true hg.1, Nat.le_of_ble_eq_true hg.2⟩ hlk ha3 hb2 h8 hM hm1 hm2 hvv hr kk
      · have h99 : Nat.beq cx 99 = false := by
          rw [Bool.eq_false_iff]; intro z; have := Nat.eq_of_beq_eq_true z; omega
        simp only [h99, cond_false] at hs
        cases hbq : Nat.beq q1 cx with
        | false => simp only [hbq, cond_false] at hs; cases hs
        | true =>
        simp only [hbq, cond_true] at hs
        have hqc : q1 = cx := Nat.eq_of_beq_eq_true hbq
        subst hqc
        obtain ⟨h8, -, hs⟩ := az_callS hs
        simp only [Sum.inr.injEq, Sum.inl.injEq, Prod.mk.injEq] at hs
        obtain ⟨rfl, rfl, rfl, rfl, rfl, rfl⟩ := hs
        obtain ⟨qq, hqq, hyn, hcw, hiw, hpd, hpl, hml, hcn⟩ := az_row ha
        rw [hqq] at hnb
        have hnb : qq.2.2.2.2 = (q1, b) := Option.some.inj hnb
        have hnb1 : qq.2.2.2.2.1 = q1 := by rw [hnb]
        have hnb2 : qq.2.2.2.2.2 = b := by rw [hnb]
        have hM := hM qq hqq
        have hin : Jvm.Cond.instanceMethod qq.1 ∈ lw_all := by rw [← hyn]; exact az_im _ (List.mem_map.mpr ⟨_, him, rfl⟩)
        have hsel : Jvm.Cond.selects qq.1.cls qq.1 qq.1 ∈ lw_all := by
          have := az_se _ (List.mem_map.mpr ⟨_, hse, rfl⟩)
          rw [hyn] at this; exact this
        intro H locs lr hR hL hl hlo hso h1 h2'
        have hx := hF.1
        have hb := hF.2.1
        have hts := hF.2.2.2.2.2.2.1
        have hown := hF.2.2.2.2.2.1
        have hdr := az_drp b hso
        rw [ht] at hdr
        have hlt : b < st.length := by
          rcases Nat.lt_or_ge b st.length with z | z
          · exact z
          · rw [List.drop_eq_nil_of_le z] at ht; cases ht
        have hlen : ((st.take b).reverse.map (az_tr (az_hA X))).length = b := by simp [Nat.le_of_lt hlt]
        have hst : st.map (az_tr (az_hA X)) = ((st.take b).reverse.map (az_tr (az_hA X))).reverse ++ Value.ref (az_hA X r1) :: st'.map (az_tr (az_hA X)) := by
          have := (az_take (ad := az_hA X) (st := st) b).symm
          rw [ht] at this
          exact this
        have hRR : (az_rm dd (az_hc X h2 - az_hc X h') (az_hs X h2 - az_hs X h')).frames + 1 ≤ R.frames ∧ 8 + (qq.2.2.1 + 11) + (az_rm dd (az_hc X h2 - az_hc X h') (az_hs X h2 - az_hs X h')).locals ≤ R.locals := ⟨hfr.1, by show 8 + (qq.2.2.1 + 11) + 30 * dd ≤ R.locals; omega⟩
        have hsz : (F0 m pc lr (st.map (az_tr (az_hA X)))).locals.size = q.2.2.1 := hl.1
        have hW8 : 2 * (F0 m pc lr (st.map (az_tr (az_hA X)))).monitorRoom + ((st'.map (az_tr (az_hA X))).map fun v => v.category).sum ≤ 8 := by
          show 2 * 0 + _ ≤ 8
          rw [az_sum]; omega
        have hpc : ∀ U : State, U.heap = H → s.WarmedH U.vm → az_Pc X (vr r1 :: (st.take b).reverse) h' (Value.ref (az_hA X r1) :: (st.take b).reverse.map (az_tr (az_hA X))).toArray U := fun U hU hW => ⟨rfl, by rw [hU]; exact hR, az_K.moved hW hK⟩
        refine az_back (len := 3) (a9 := (Value.ref (az_hA X r1) :: (st.take b).reverse.map (az_tr (az_hA X))).toArray) hm1 hm2 hvv ?_ hL hl hlo (az_tl hdr) h1 h2' kk
        obtain ⟨-, fs, hat⟩ := hLaw.2.2.2.2.2.2.2.2.2.2.1 h' H r1 q1 hR (az_hdv hdr r1 rfl) hq1
        have hq2 : q1 ≠ 2 := fun e => by
          have := List.all_eq_true.mp az_se2 _ hse
          rw [decide_eq_true_eq, hqq, Option.map_some, hnb1, e] at this
          exact this rfl
        have hcl : ∃ z, az_cl[q1]? = some z ∧ z.1 = az_cn q1 := az_cnl hc14 hq2
        obtain ⟨z, hz1, hz2⟩ := hcl
        have hrecv := va_recv hK.1 (az_P1 hat) (ci := q1) (q0 := 0) hz1 rfl
        rw [hz2, ← hnb1, ← hcn] at hrecv
        have hpre : PreV s H qq.1.cls (az_hA X r1) (az_Pc X (vr r1 :: (st.take b).reverse) h') ((st.take b).reverse.map (az_tr (az_hA X))) := ⟨az_blind, hrecv, hpc⟩
        have hlk1 : Jvm.Cond.methodLink (az_cn q.2.2.2.2.1) (az_hd L) qq.1 ∈ lw_all := by rw [← hyn]; exact az_ml _ hlk
        exact va_runV (As := (st.take b).reverse.map (az_tr (az_hA X))) (rest := st'.map (az_tr (az_hA X))) (own := az_cn q.2.2.2.2.1) (C := qq.1.cls) (index := az_hd L) ⟨hx, hb, hF.2.2.1, hown, hts⟩ hM (cwV b hts (lw_V hlk1 hin hsel hiw hcw) rfl rfl rfl ⟨rfl, by rw [← hnb2]; exact hpd⟩ hRR) hpre rfl hlen hsz hst hW8 hd ⟨by omega, by omega⟩
    · cases hs
  · cases hs
theorem az_t42 {pc : Nat} {k : Int32} {np a b cx d : Nat} {L : List Nat} {ls : az_L ρ} {st : List (az_V ρ)} {h : α} {dd : Nat} (hLaw : az_Law X) (hF : az_Fr p s m args meth c q) (hK : az_hK X s) (hfr : dd + 1 ≤ R.frames ∧ 30 * (dd + 1) ≤ R.locals) (hok : az_ok q.2.2.2.2.1 q.2.2.1 q.2.2.2.1 (decide (q.1.name = "<init>")) q.2.1 pc (42, k, np, a, b, cx, d, L) = true)
    {g : Option Bool} {mi : Nat} {as : List (az_V ρ)} {np' : Nat} {ls' : az_L ρ} {st' : List (az_V ρ)} {h' h2 : α} {v : Option (az_V ρ)} (hs : az_step (az_hO X) (42, k, np, a, b, cx, d, L) ls st h = some (g, Sum.inr (Sum.inr (Sum.inl (mi, as, np', ls', st', h')))))
    (hM : az_Mt X l dd mi as h' v h2) (hm1 : az_hc X h ≤ az_hc X h2) (hm2 : az_hs X h ≤ az_hs X h2) (hvv : ∀ w, v = some w → az_vv (az_hV X) w) (hr : az_hc X h2 - c0 ≤ R.cells ∧ az_hs X h2 - s0 ≤ R.slots)
    (kk : az_W X p l e R s m args below meth c Q q.2.2.1 c0 s0 h2 np' ls' (v.toList ++ st')) : az_W X p l e R s m args below meth c Q q.2.2.1 c0 s0 h pc ls st := by
  simp only [az_step] at hs
  split at hs
  · rename_i r1 t ht
    split at hs
    · rename_i q1 hq1
      simp only [az_ok, Bool.or_eq_true, Bool.and_eq_true, decide_eq_true_eq] at hok
      obtain ⟨⟨⟨rfl, hown1⟩, rfl⟩, hok⟩ := hok
      cases hbq : Nat.beq q1 11 with
      | false => simp only [hbq, cond_false] at hs; cases hs
      | true =>
      simp only [hbq, cond_true] at hs
      have hqc : q1 = 11 := Nat.eq_of_beq_eq_true hbq
      subst hqc
      obtain ⟨h8, -, hs⟩ := az_callS hs
      simp only [Sum.inr.injEq, Sum.inl.injEq, Prod.mk.injEq] at hs
      obtain ⟨rfl, rfl, rfl, rfl, rfl, rfl⟩ := hs
      rcases hok with hh | hh
      · obtain ⟨⟨rfl, rfl⟩, hd⟩ := hh
        obtain ⟨qq, hqq, hyn, hcw, hiw, hpd, hpl, hml, hcn⟩ := az_row (i := 93) (by decide)
        have hq0 : az_M[93]? = some (az_yn 93, qq.2) := by rw [hyn]; exact hqq
        have hM := hM qq hqq
        intro H locs lr hR hL hl hlo hso h1 h2'
        have hx := hF.1
        have hb := hF.2.1
        have hts := hF.2.2.2.2.2.2.1
        have hown := hF.2.2.2.2.2.1
        have hdr := az_drp 2 hso
        rw [ht] at hdr
        have hlt : 2 < st.length := by
          rcases Nat.lt_or_ge 2 st.length with z | z
          · exact z
          · rw [List.drop_eq_nil_of_le z] at ht; cases ht
        have hlen : ((st.take 2).reverse.map (az_tr (az_hA X))).length = 2 := by simp [Nat.le_of_lt hlt]
        have hst : st.map (az_tr (az_hA X)) = ((st.take 2).reverse.map (az_tr (az_hA X))).reverse ++ Value.ref (az_hA X r1) :: st'.map (az_tr (az_hA X)) := by
          have := (az_take (ad := az_hA X) (st := st) 2).symm
          rw [ht] at this
          exact this
        have hRR : (az_rm dd (az_hc X h2 - az_hc X h') (az_hs X h2 - az_hs X h')).frames + 1 ≤ R.frames ∧ 8 + (qq.2.2.1 + 11) + (az_rm dd (az_hc X h2 - az_hc X h') (az_hs X h2 - az_hs X h')).locals ≤ R.locals := ⟨hfr.1, by show 8 + (qq.2.2.1 + 11) + 30 * dd ≤ R.locals; omega⟩
        have hsz : (F0 m pc lr (st.map (az_tr (az_hA X)))).locals.size = q.2.2.1 := hl.1
        have hW8 : 2 * (F0 m pc lr (st.map (az_tr (az_hA X)))).monitorRoom + ((st'.map (az_tr (az_hA X))).map fun v => v.category).sum ≤ 8 := by
          show 2 * 0 + _ ≤ 8
          rw [az_sum]; omega
        have hpc : ∀ U : State, U.heap = H → s.WarmedH U.vm → az_Pc X (vr r1 :: (st.take 2).reverse) h' (Value.ref (az_hA X r1) :: (st.take 2).reverse.map (az_tr (az_hA X))).toArray U := fun U hU hW => ⟨rfl, by rw [hU]; exact hR, az_K.moved hW hK⟩
        refine az_back (len := 5) (a9 := (Value.ref (az_hA X r1) :: (st.take 2).reverse.map (az_tr (az_hA X))).toArray) hm1 hm2 hvv ?_ hL hl hlo (az_tl hdr) h1 h2' kk
        obtain ⟨-, fs, hat⟩ := hLaw.2.2.2.2.2.2.2.2.2.2.1 h' H r1 11 hR (az_hdv hdr r1 rfl) hq1
        have hrecv := va_recv hK.1 (az_P1 hat) (ci := 11) (q0 := 0) (q := (RX11, TX11, 12)) rfl rfl
        have hpre : PreV s H "LockBook$RunLog" (az_hA X r1) (az_Pc X (vr r1 :: (st.take 2).reverse) h') ((st.take 2).reverse.map (az_tr (az_hA X))) := ⟨az_blind, hrecv, hpc⟩
        have hin : Jvm.Cond.instanceMethod qq.1 ∈ lw_all := by rw [← hyn]; exact az_im _ (List.mem_map.mpr ⟨93, by decide, rfl⟩)
        have hw := az_if93
        rw [hyn] at hw
        have hg : GoodIn lw_all (va_wsF "LockBook$Shop" 172 "LockBook$RunLog" az_x93 qq.1 (ws_ qq.1 qq.2.1 qq.2.2.1 qq.2.2.2.1)) := by
          refine lw_app ?_ (lw_meth hcw)
          intro w hw1
          simp only [List.mem_cons, List.not_mem_nil, or_false] at hw1
          rcases hw1 with e | e | e | e
          · rw [e]; exact hw _ (by simp)
          · rw [e]; exact hw _ (by simp)
          · rw [e]; exact hin
          · rw [e]; exact hiw
        have hFw : va_Fw "LockBook$RunLog" az_x93 qq.1 s := by rw [← hyn]; exact hK.2.2.1
        exact va_runF (As := (st.take 2).reverse.map (az_tr (az_hA X))) (rest := st'.map (az_tr (az_hA X))) (own := "LockBook$Shop") (C := "LockBook$RunLog") (index := 172) (hK.1.1 11 (RX11, TX11, 12) rfl).2 ⟨hx, hb, hF.2.2.1, by rw [hown1] at hown; exact hown, hts⟩ hM (va_cwF 2 hts hg rfl rfl rfl hFw (by decide +kernel) hRR) hpre rfl hlen hsz hst hW8 hd ⟨by omega, by omega⟩
      · obtain ⟨⟨rfl, rfl⟩, hd⟩ := hh
        obtain ⟨qq, hqq, hyn, hcw, hiw, hpd, hpl, hml, hcn⟩ := az_row (i := 94) (by decide)
        have hq0 : az_M[94]? = some (az_yn 94, qq.2) := by rw [hyn]; exact hqq
        have hM := hM qq hqq
        intro H locs lr hR hL hl hlo hso h1 h2'
        have hx := hF.1
        have hb := hF.2.1
        have hts := hF.2.2.2.2.2.2.1
        have hown := hF.2.2.2.2.2.1
        have hdr := az_drp 3 hso
        rw [ht] at hdr
        have hlt : 3 < st.length := by
          rcases Nat.lt_or_ge 3 st.length with z | z
          · exact z
          · rw [List.drop_eq_nil_of_le z] at ht; cases ht
        have hlen : ((st.take 3).reverse.map (az_tr (az_hA X))).length = 3 := by simp [Nat.le_of_lt hlt]
        have hst : st.map (az_tr (az_hA X)) = ((st.take 3).reverse.map (az_tr (az_hA X))).reverse ++ Value.ref (az_hA X r1) :: st'.map (az_tr (az_hA X)) := by
          have := (az_take (ad := az_hA X) (st := st) 3).symm
          rw [ht] at this
          exact this
        have hRR : (az_rm dd (az_hc X h2 - az_hc X h') (az_hs X h2 - az_hs X h')).frames + 1 ≤ R.frames ∧ 8 + (qq.2.2.1 + 11) + (az_rm dd (az_hc X h2 - az_hc X h') (az_hs X h2 - az_hs X h')).locals ≤ R.locals := ⟨hfr.1, by show 8 + (qq.2.2.1 + 11) + 30 * dd ≤ R.locals; omega⟩
        have hsz : (F0 m pc lr (st.map (az_tr (az_hA X)))).locals.size = q.2.2.1 := hl.1
        have hW8 : 2 * (F0 m pc lr (st.map (az_tr (az_hA X)))).monitorRoom + ((st'.map (az_tr (az_hA X))).map fun v => v.category).sum ≤ 8 := by
          show 2 * 0 + _ ≤ 8
          rw [az_sum]; omega
        have hpc : ∀ U : State, U.heap = H → s.WarmedH U.vm → az_Pc X (vr r1 :: (st.take 3).reverse) h' (Value.ref (az_hA X r1) :: (st.take 3).reverse.map (az_tr (az_hA X))).toArray U := fun U hU hW => ⟨rfl, by rw [hU]; exact hR, az_K.moved hW hK⟩
        refine az_back (len := 5) (a9 := (Value.ref (az_hA X r1) :: (st.take 3).reverse.map (az_tr (az_hA X))).toArray) hm1 hm2 hvv ?_ hL hl hlo (az_tl hdr) h1 h2' kk
        obtain ⟨-, fs, hat⟩ := hLaw.2.2.2.2.2.2.2.2.2.2.1 h' H r1 11 hR (az_hdv hdr r1 rfl) hq1
        have hrecv := va_recv hK.1 (az_P1 hat) (ci := 11) (q0 := 0) (q := (RX11, TX11, 12)) rfl rfl
        have hpre : PreV s H "LockBook$RunLog" (az_hA X r1) (az_Pc X (vr r1 :: (st.take 3).reverse) h') ((st.take 3).reverse.map (az_tr (az_hA X))) := ⟨az_blind, hrecv, hpc⟩
        have hin : Jvm.Cond.instanceMethod qq.1 ∈ lw_all := by rw [← hyn]; exact az_im _ (List.mem_map.mpr ⟨94, by decide, rfl⟩)
        have hw := az_if94
        rw [hyn] at hw
        have hg : GoodIn lw_all (va_wsF "LockBook$Shop" 240 "LockBook$RunLog" az_x94 qq.1 (ws_ qq.1 qq.2.1 qq.2.2.1 qq.2.2.2.1)) := by
          refine lw_app ?_ (lw_meth hcw)
          intro w hw1
          simp only [List.mem_cons, List.not_mem_nil, or_false] at hw1
          rcases hw1 with e | e | e | e
          · rw [e]; exact hw _ (by simp)
          · rw [e]; exact hw _ (by simp)
          · rw [e]; exact hin
          · rw [e]; exact hiw
        have hFw : va_Fw "LockBook$RunLog" az_x94 qq.1 s := by rw [← hyn]; exact hK.2.2.2.1
        exact va_runF (As := (st.take 3).reverse.map (az_tr (az_hA X))) (rest := st'.map (az_tr (az_hA X))) (own := "LockBook$Shop") (C := "LockBook$RunLog") (index := 240) (hK.1.1 11 (RX11, TX11, 12) rfl).2 ⟨hx, hb, hF.2.2.1, by rw [hown1] at hown; exact hown, hts⟩ hM (va_cwF 3 hts hg rfl rfl rfl hFw (by decide +kernel) hRR) hpre rfl hlen hsz hst hW8 hd ⟨by omega, by omega⟩
    · cases hs
  · cases hs
end
