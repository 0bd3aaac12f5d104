/-! soundness, one step: branches, switches, ends, library calls -/
section
variable {ρ α : Type} {X : az_HM ρ α} {p : Program} {l : Launch} {e : Env} {R : Room} {s : State} {m : MethodId} {args : Array Value} {below : List Frame} {meth : Method} {c : Code} {Q : State → Prop} {q : az_MT} {c0 s0 : Nat}
theorem az_sum (ad : ρ → Nat) (st : List (az_V ρ)) : ((st.map (az_tr ad)).map fun v => v.category).sum = st.length := by
  induction st with
  | nil => rfl
  | cons v t ih => simp only [List.map_cons, List.sum_cons, az_cat, ih, List.length_cons]; omega
theorem az_t33 {pc : Nat} {k : Int32} {np a b cx d : Nat} {L : List Nat} {ls : az_L ρ} {st : List (az_V ρ)} {h : α} (hLaw : az_Law X) (hF : az_Fr p s m args meth c q) (hok : az_ok q.2.2.2.2.1 q.2.2.1 q.2.2.2.1 (decide (q.1.name = "<init>")) q.2.1 pc (33, k, np, a, b, cx, d, L) = true)
    {g : Option Bool} {qb : Bool} {ta np' : Nat} {ls' : az_L ρ} {st' : List (az_V ρ)} {h' : α} (hs : az_step (az_hO X) (33, k, np, a, b, cx, d, L) ls st h = some (g, Sum.inr (Sum.inl (qb, ta, np', ls', st', h'))))
    (kk : az_W X p l e R s m args below meth c Q q.2.2.1 c0 s0 h' (cond qb ta np') ls' st') : az_W X p l e R s m args below meth c Q q.2.2.1 c0 s0 h pc ls st := by
  simp only [az_step] at hs
  split at hs
  · rename_i x t
    simp only [az_br, Option.some.injEq, Prod.mk.injEq, Sum.inr.injEq, Sum.inl.injEq] at hs
    obtain ⟨rfl, rfl, rfl, rfl, rfl, rfl, rfl⟩ := hs
    simp only [az_ok, Bool.and_eq_true, decide_eq_true_eq] at hok
    intro H locs lr hR hL hl hlo hso h1 h2
    have hx := hF.1
    have hb := hF.2.1
    have hts := hF.2.2.2.2.2.2.1
    have hown := hF.2.2.2.2.2.1
    obtain ⟨⟨hd, hn⟩, hb6⟩ := hok
    subst hn
    obtain ⟨-, hso⟩ := List.forall_mem_cons.mp hso
    have kk := kk H locs lr hR hL hl hlo hso h1 h2
    have ht : (pc : Int) + ((a : Int) - (pc : Int)) = (a : Int) := by omega
    have K1 : az_cmp b x 0 = true → W p l e R s m args below meth c H locs (az_hc X h - c0) (az_hs X h - s0) Q (F0 m a lr (t.map (az_tr (az_hA X)))) := fun z => by
      rw [z] at kk; exact kk
    have K2 : az_cmp b x 0 = false → W p l e R s m args below meth c H locs (az_hc X h - c0) (az_hs X h - s0) Q (F0 m (pc + 3) lr (t.map (az_tr (az_hA X)))) := fun z => by
      rw [z] at kk; exact kk
    match b, hb6 with
    | 0, _ => exact lv_if_eq (tgt := a) hx hb hd ht (fun z => K1 (decide_eq_true z)) (fun z => K2 (decide_eq_false z))
    | 1, _ => exact lv_if_ne (tgt := a) hx hb hd ht (fun z => K1 (decide_eq_true z)) (fun z => K2 (decide_eq_false (not_not_intro z)))
    | 2, _ => exact lv_if_lt (tgt := a) hx hb hd ht (fun z => K1 (decide_eq_true z)) (fun z => K2 (decide_eq_false z))
    | 3, _ => exact lv_if_ge (tgt := a) hx hb hd ht (fun z => K1 (decide_eq_true z)) (fun z => K2 (decide_eq_false z))
    | 4, _ => exact lv_if_gt (tgt := a) hx hb hd ht (fun z => K1 (decide_eq_true z)) (fun z => K2 (decide_eq_false z))
    | 5, _ => exact lv_if_le (tgt := a) hx hb hd ht (fun z => K1 (decide_eq_true z)) (fun z => K2 (decide_eq_false z))
    | n + 6, hb6 => omega
  · cases hs
theorem az_t34 {pc : Nat} {k : Int32} {np a b cx d : Nat} {L : List Nat} {ls : az_L ρ} {st : List (az_V ρ)} {h : α} (hLaw : az_Law X) (hF : az_Fr p s m args meth c q) (hok : az_ok q.2.2.2.2.1 q.2.2.1 q.2.2.2.1 (decide (q.1.name = "<init>")) q.2.1 pc (34, k, np, a, b, cx, d, L) = true)
    {g : Option Bool} {qb : Bool} {ta np' : Nat} {ls' : az_L ρ} {st' : List (az_V ρ)} {h' : α} (hs : az_step (az_hO X) (34, k, np, a, b, cx, d, L) ls st h = some (g, Sum.inr (Sum.inl (qb, ta, np', ls', st', h'))))
    (kk : az_W X p l e R s m args below meth c Q q.2.2.1 c0 s0 h' (cond qb ta np') ls' st') : az_W X p l e R s m args below meth c Q q.2.2.1 c0 s0 h pc ls st := by
  simp only [az_step] at hs
  split at hs
  · rename_i y x t
    simp only [az_br, Option.some.injEq, Prod.mk.injEq, Sum.inr.injEq, Sum.inl.injEq] at hs
    obtain ⟨rfl, rfl, rfl, rfl, rfl, rfl, rfl⟩ := hs
    simp only [az_ok, Bool.and_eq_true, decide_eq_true_eq] at hok
    intro H locs lr hR hL hl hlo hso h1 h2
    have hx := hF.1
    have hb := hF.2.1
    have hts := hF.2.2.2.2.2.2.1
    have hown := hF.2.2.2.2.2.1
    obtain ⟨⟨hd, hn⟩, hb6⟩ := hok
    subst hn
    obtain ⟨-, hso⟩ := List.forall_mem_cons.mp hso
    obtain ⟨-, hso⟩ := List.forall_mem_cons.mp hso
    have kk := kk H locs lr hR hL hl hlo hso h1 h2
    have ht : (pc : Int) + ((a : Int) - (pc : Int)) = (a : Int) := by omega
    have K1 : az_cmp b x y = true → W p l e R s m args below meth c H locs (az_hc X h - c0) (az_hs X h - s0) Q (F0 m a lr (t.map (az_tr (az_hA X)))) := fun z => by
      rw [z] at kk; exact kk
    have K2 : az_cmp b x y = false → W p l e R s m args below meth c H locs (az_hc X h - c0) (az_hs X h - s0) Q (F0 m (pc + 3) lr (t.map (az_tr (az_hA X)))) := fun z => by
      rw [z] at kk; exact kk
    match b, hb6 with
    | 0, _ => exact lv_icmp_eq (tgt := a) hx hb hd ht (fun z => K1 (decide_eq_true z)) (fun z => K2 (decide_eq_false z))
    | 1, _ => exact lv_icmp_ne (tgt := a) hx hb hd ht (fun z => K1 (decide_eq_true z)) (fun z => K2 (decide_eq_false (not_not_intro z)))
    | 2, _ => exact lv_icmp_lt (tgt := a) hx hb hd ht (fun z => K1 (decide_eq_true z)) (fun z => K2 (decide_eq_false z))
    | 3, _ => exact lv_icmp_ge (tgt := a) hx hb hd ht (fun z => K1 (decide_eq_true z)) (fun z => K2 (decide_eq_false z))
    | 4, _ => exact lv_icmp_gt (tgt := a) hx hb hd ht (fun z => K1 (decide_eq_true z)) (fun z => K2 (decide_eq_false z))
    | 5, _ => exact lv_icmp_le (tgt := a) hx hb hd ht (fun z => K1 (decide_eq_true z)) (fun z => K2 (decide_eq_false z))
    | n + 6, hb6 => omega
  · cases hs
theorem az_t35 {pc : Nat} {k : Int32} {np a b cx d : Nat} {L : List Nat} {ls : az_L ρ} {st : List (az_V ρ)} {h : α} (hLaw : az_Law X) (hF : az_Fr p s m args meth c q) (hok : az_ok q.2.2.2.2.1 q.2.2.1 q.2.2.2.1 (decide (q.1.name = "<init>")) q.2.1 pc (35, k, np, a, b, cx, d, L) = true)
    {g : Option Bool} {qb : Bool} {ta np' : Nat} {ls' : az_L ρ} {st' : List (az_V ρ)} {h' : α} (hs : az_step (az_hO X) (35, k, np, a, b, cx, d, L) ls st h = some (g, Sum.inr (Sum.inl (qb, ta, np', ls', st', h'))))
    (kk : az_W X p l e R s m args below meth c Q q.2.2.1 c0 s0 h' (cond qb ta np') ls' st') : az_W X p l e R s m args below meth c Q q.2.2.1 c0 s0 h pc ls st := by
  simp only [az_step] at hs
  split at hs
  · rename_i v t
    simp only [az_br, Option.some.injEq, Prod.mk.injEq, Sum.inr.injEq, Sum.inl.injEq] at hs
    obtain ⟨rfl, rfl, rfl, rfl, rfl, rfl, rfl⟩ := hs
    simp only [az_ok, Bool.and_eq_true, decide_eq_true_eq] at hok
    intro H locs lr hR hL hl hlo hso h1 h2
    have hx := hF.1
    have hb := hF.2.1
    have hts := hF.2.2.2.2.2.2.1
    have hown := hF.2.2.2.2.2.1
    obtain ⟨hd, hn⟩ := hok
    subst hn
    obtain ⟨-, hso⟩ := List.forall_mem_cons.mp hso
    have kk := kk H locs lr hR hL hl hlo hso h1 h2
    have ht : (pc : Int) + ((a : Int) - (pc : Int)) = (a : Int) := by omega
    rcases v with _ | r
    · exact lv_ifnullN (tgt := a) hx hb hd ht kk
    · exact lv_ifnull hx hb hd kk
  · cases hs
theorem az_t36 {pc : Nat} {k : Int32} {np a b cx d : Nat} {L : List Nat} {ls : az_L ρ} {st : List (az_V ρ)} {h : α} (hLaw : az_Law X) (hF : az_Fr p s m args meth c q) (hok : az_ok q.2.2.2.2.1 q.2.2.1 q.2.2.2.1 (decide (q.1.name = "<init>")) q.2.1 pc (36, k, np, a, b, cx, d, L) = true)
    {g : Option Bool} {qb : Bool} {ta np' : Nat} {ls' : az_L ρ} {st' : List (az_V ρ)} {h' : α} (hs : az_step (az_hO X) (36, k, np, a, b, cx, d, L) ls st h = some (g, Sum.inr (Sum.inl (qb, ta, np', ls', st', h'))))
    (kk : az_W X p l e R s m args below meth c Q q.2.2.1 c0 s0 h' (cond qb ta np') ls' st') : az_W X p l e R s m args below meth c Q q.2.2.1 c0 s0 h pc ls st := by
  simp only [az_step] at hs
  split at hs
  · rename_i v t
    simp only [az_br, Option.some.injEq, Prod.mk.injEq, Sum.inr.injEq, Sum.inl.injEq] at hs
    obtain ⟨rfl, rfl, rfl, rfl, rfl, rfl, rfl⟩ := hs
    simp only [az_ok, Bool.and_eq_true, decide_eq_true_eq] at hok
    intro H locs lr hR hL hl hlo hso h1 h2
    have hx := hF.1
    have hb := hF.2.1
    have hts := hF.2.2.2.2.2.2.1
    have hown := hF.2.2.2.2.2.1
    obtain ⟨hd, hn⟩ := hok
    subst hn
    obtain ⟨-, hso⟩ := List.forall_mem_cons.mp hso
    have kk := kk H locs lr hR hL hl hlo hso h1 h2
    have ht : (pc : Int) + ((a : Int) - (pc : Int)) = (a : Int) := by omega
    rcases v with _ | r
    · exact lv_ifnonnullN hx hb hd kk
    · exact lv_ifnonnull (tgt := a) hx hb hd ht kk
  · cases hs
theorem az_t37 {pc : Nat} {k : Int32} {np a b cx d : Nat} {L : List Nat} {ls : az_L ρ} {st : List (az_V ρ)} {h : α} (hLaw : az_Law X) (hF : az_Fr p s m args meth c q) (hok : az_ok q.2.2.2.2.1 q.2.2.1 q.2.2.2.1 (decide (q.1.name = "<init>")) q.2.1 pc (37, k, np, a, b, cx, d, L) = true)
    {g : Option Bool} {qb : Bool} {ta np' : Nat} {ls' : az_L ρ} {st' : List (az_V ρ)} {h' : α} (hs : az_step (az_hO X) (37, k, np, a, b, cx, d, L) ls st h = some (g, Sum.inr (Sum.inl (qb, ta, np', ls', st', h'))))
    (kk : az_W X p l e R s m args below meth c Q q.2.2.1 c0 s0 h' (cond qb ta np') ls' st') : az_W X p l e R s m args below meth c Q q.2.2.1 c0 s0 h pc ls st := by
  simp only [az_step] at hs
  split at hs
  · rename_i y x t
    simp only [az_ok, Bool.and_eq_true, decide_eq_true_eq] at hok
    obtain ⟨⟨hn, hb0⟩, hd⟩ := hok
    subst hn
    subst hb0
    simp only [Nat.beq_eq_true_eq, cond_true, az_br, Option.some.injEq, Prod.mk.injEq, Sum.inr.injEq, Sum.inl.injEq, show Nat.beq 0 0 = true from rfl] at hs
    obtain ⟨rfl, rfl, rfl, rfl, rfl, rfl, rfl⟩ := hs
    intro H locs lr hR hL hl hlo hso h1 h2
    have hx := hF.1
    have hb := hF.2.1
    have hts := hF.2.2.2.2.2.2.1
    have hown := hF.2.2.2.2.2.1
    obtain ⟨hy, hso⟩ := List.forall_mem_cons.mp hso
    obtain ⟨hx0, hso⟩ := List.forall_mem_cons.mp hso
    have kk := kk H locs lr hR hL hl hlo hso h1 h2
    have ht : (pc : Int) + ((a : Int) - (pc : Int)) = (a : Int) := by omega
    have key : ∀ z : az_V ρ, ∀ u, z = Sum.inr u → az_tr (az_hA X) z = va_rf (u.map (az_hA X)) := by
      intro z u hz
      subst hz
      rcases u with _ | r <;> rfl
    have heq : (x.map (az_hA X) = y.map (az_hA X)) ↔ az_eqr (az_hO X) x y = true := by
      rcases x with _ | x <;> rcases y with _ | y
      · exact ⟨fun _ => rfl, fun _ => rfl⟩
      · exact ⟨fun z => by simp at z, fun z => by simp [az_eqr] at z⟩
      · exact ⟨fun z => by simp at z, fun z => by simp [az_eqr] at z⟩
      · have h9 := hLaw.2.2.2.2.2.2.2.2.2.2.2 x y (hx0 x rfl) (hy y rfl)
        show (some _ = some _) ↔ az_eq (az_hO X) x y = true
        rw [h9]
        exact ⟨fun z => Option.some.inj z, fun z => by rw [z]⟩
    rw [List.map_cons, List.map_cons, key _ y rfl, key _ x rfl]
    refine lv_acmp_eq (tgt := a) hx hb hd ht (fun z => ?_) (fun z => ?_)
    · rw [heq.mp z] at kk; exact kk
    · rw [Bool.eq_false_iff.mpr (fun w => z (heq.mpr w))] at kk; exact kk
  · cases hs
theorem az_t38 {pc : Nat} {k : Int32} {np a b cx d : Nat} {L : List Nat} {ls : az_L ρ} {st : List (az_V ρ)} {h : α} (hLaw : az_Law X) (hF : az_Fr p s m args meth c q) (hok : az_ok q.2.2.2.2.1 q.2.2.1 q.2.2.2.1 (decide (q.1.name = "<init>")) q.2.1 pc (38, k, np, a, b, cx, d, L) = true)
    {g : Option Bool} {x lo : Int32} {L2 : List Nat} {df : Nat} {ls' : az_L ρ} {st' : List (az_V ρ)} {h' : α} (hs : az_step (az_hO X) (38, k, np, a, b, cx, d, L) ls st h = some (g, Sum.inr (Sum.inr (Sum.inr (Sum.inr (x, lo, L2, df, ls', st', h'))))))
    (kk : az_W X p l e R s m args below meth c Q q.2.2.1 c0 s0 h' (az_sw x lo L2 df) ls' st') : az_W X p l e R s m args below meth c Q q.2.2.1 c0 s0 h pc ls st := by
  simp only [az_step] at hs
  split at hs
  · rename_i x1 t
    simp only [Option.some.injEq, Prod.mk.injEq, Sum.inr.injEq, Sum.inl.injEq] at hs
    obtain ⟨rfl, rfl, rfl, rfl, rfl, rfl, rfl, rfl⟩ := hs
    simp only [az_ok, decide_eq_true_eq] at hok
    intro H locs lr hR hL hl hlo hso h1 h2
    have hx := hF.1
    have hb := hF.2.1
    have hts := hF.2.2.2.2.2.2.1
    have hown := hF.2.2.2.2.2.1
    obtain ⟨-, hso⟩ := List.forall_mem_cons.mp hso
    have kk := kk H locs lr hR hL hl hlo hso h1 h2
    have ht : (pc : Int) + ((a : Int) - (pc : Int)) = (a : Int) := by omega
    by_cases hlo2 : x1.toInt < k.toInt
    · rw [show az_sw x1 k L a = a by unfold az_sw; rw [if_pos hlo2]] at kk
      exact lv_tableOut (tgt := a) hx hb hok (Or.inl hlo2) ht kk
    · by_cases hhi : k.toInt + L.length - 1 < x1.toInt
      · rw [show az_sw x1 k L a = a by
          unfold az_sw
          rw [if_neg hlo2, List.getD_eq_getElem?_getD, List.getElem?_eq_none (by omega)]
          rfl] at kk
        exact lv_tableOut (tgt := a) hx hb hok (Or.inr hhi) ht kk
      · have hlt : (x1.toInt - k.toInt).toNat < L.length := by omega
        have hsw : az_sw x1 k L a = L[(x1.toInt - k.toInt).toNat] := by
          unfold az_sw
          rw [if_neg hlo2, List.getD_eq_getElem?_getD, List.getElem?_eq_getElem hlt]
          rfl
        rw [hsw] at kk
        refine lv_tableIn (tgt := L[(x1.toInt - k.toInt).toNat]) (off := (L[(x1.toInt - k.toInt).toNat] : Int) - (pc : Int)) hx hb hok hlo2 hhi ?_ (by omega) kk
        simp [hlt]
  · cases hs
theorem az_t47 {pc : Nat} {k : Int32} {np a b cx d : Nat} {L : List Nat} {ls : az_L ρ} {st : List (az_V ρ)} {h : α} (hLaw : az_Law X) (hF : az_Fr p s m args meth c q) (hK : az_hK X s) (hfr : 1 ≤ R.frames ∧ 30 ≤ R.locals) (hok : az_ok q.2.2.2.2.1 q.2.2.1 q.2.2.2.1 (decide (q.1.name = "<init>")) q.2.1 pc (47, k, np, a, b, cx, d, L) = true)
    {g : Option Bool} {np' : Nat} {ls' : az_L ρ} {st' : List (az_V ρ)} {h' : α} (hs : az_step (az_hO X) (47, k, np, a, b, cx, d, L) ls st h = some (g, Sum.inl (np', ls', st', h'))) (hg : az_gd g = true) (hr : az_hc X h' - c0 ≤ R.cells ∧ az_hs X h' - s0 ≤ R.slots)
    (kk : az_W X p l e R s m args below meth c Q q.2.2.1 c0 s0 h' np' ls' st') : az_W X p l e R s m args below meth c Q q.2.2.1 c0 s0 h pc ls st := by
  simp only [az_step] at hs
  split at hs
  · rename_i y x t
    by_cases h8 : Nat.ble t.length 8 = true
    · simp only [h8, cond_true, az_nx, Option.some.injEq, Prod.mk.injEq, Sum.inr.injEq, Sum.inl.injEq] at hs
      obtain ⟨rfl, rfl, rfl, rfl, rfl⟩ := hs
      simp only [az_ok, Bool.and_eq_true, decide_eq_true_eq] at hok
      intro H locs lr hR hL hl hlo hso h1 h2
      have hx := hF.1
      have hb := hF.2.1
      have hts := hF.2.2.2.2.2.2.1
      have hown := hF.2.2.2.2.2.1
      obtain ⟨⟨hd, hn⟩, hm⟩ := hok
      subst hn
      obtain ⟨-, hso⟩ := List.forall_mem_cons.mp hso
      obtain ⟨-, hso⟩ := List.forall_mem_cons.mp hso
      have h8' : t.length ≤ 8 := Nat.le_of_ble_eq_true h8
      exact va_mmax hx hb (by rw [hF.2.2.1, hl.1]) hown (hts _ (az_ml _ hm)) (hts _ (az_sm _ (List.mem_map.mpr ⟨184, by decide, rfl⟩))) (hts _ (az_iz _ (List.mem_map.mpr ⟨15, by decide, rfl⟩))) (hts _ (az_cd5 _ (List.mem_map.mpr ⟨184, by decide, rfl⟩))) hfr.1 (by rw [az_sum]; omega) hr.1 hr.2 hd (kk H locs lr hR hL hl hlo (List.forall_mem_cons.mpr ⟨az_vvi _, hso⟩) h1 h2)
    · simp only [h8, cond_false] at hs
      cases hs
  · cases hs
theorem az_t48 {pc : Nat} {k : Int32} {np a b cx d : Nat} {L : List Nat} {ls : az_L ρ} {st : List (az_V ρ)} {h : α} (hLaw : az_Law X) (hF : az_Fr p s m args meth c q) (hK : az_hK X s) (hfr : 1 ≤ R.frames ∧ 30 ≤ R.locals) (hok : az_ok q.2.2.2.2.1 q.2.2.1 q.2.2.2.1 (decide (q.1.name = "<init>")) q.2.1 pc (48, k, np, a, b, cx, d, L) = true)
    {g : Option Bool} {np' : Nat} {ls' : az_L ρ} {st' : List (az_V ρ)} {h' : α} (hs : az_step (az_hO X) (48, k, np, a, b, cx, d, L) ls st h = some (g, Sum.inl (np', ls', st', h'))) (hg : az_gd g = true) (hr : az_hc X h' - c0 ≤ R.cells ∧ az_hs X h' - s0 ≤ R.slots)
    (kk : az_W X p l e R s m args below meth c Q q.2.2.1 c0 s0 h' np' ls' st') : az_W X p l e R s m args below meth c Q q.2.2.1 c0 s0 h pc ls st := by
  simp only [az_step] at hs
  split at hs
  · rename_i y x t
    by_cases h8 : Nat.ble t.length 8 = true
    · simp only [h8, cond_true, az_nx, Option.some.injEq, Prod.mk.injEq, Sum.inr.injEq, Sum.inl.injEq] at hs
      obtain ⟨rfl, rfl, rfl, rfl, rfl⟩ := hs
      simp only [az_ok, Bool.and_eq_true, decide_eq_true_eq] at hok
      intro H locs lr hR hL hl hlo hso h1 h2
      have hx := hF.1
      have hb := hF.2.1
      have hts := hF.2.2.2.2.2.2.1
      have hown := hF.2.2.2.2.2.1
      obtain ⟨⟨hd, hn⟩, hm⟩ := hok
      subst hn
      obtain ⟨-, hso⟩ := List.forall_mem_cons.mp hso
      obtain ⟨-, hso⟩ := List.forall_mem_cons.mp hso
      have h8' : t.length ≤ 8 := Nat.le_of_ble_eq_true h8
      exact va_mmin hx hb (by rw [hF.2.2.1, hl.1]) hown (hts _ (az_ml _ hm)) (hts _ (az_sm _ (List.mem_map.mpr ⟨185, by decide, rfl⟩))) (hts _ (az_iz _ (List.mem_map.mpr ⟨15, by decide, rfl⟩))) (hts _ (az_cd5 _ (List.mem_map.mpr ⟨185, by decide, rfl⟩))) hfr.1 (by rw [az_sum]; omega) hr.1 hr.2 hd (kk H locs lr hR hL hl hlo (List.forall_mem_cons.mpr ⟨az_vvi _, hso⟩) h1 h2)
    · simp only [h8, cond_false] at hs
      cases hs
  · cases hs
theorem az_t49 {pc : Nat} {k : Int32} {np a b cx d : Nat} {L : List Nat} {ls : az_L ρ} {st : List (az_V ρ)} {h : α} (hLaw : az_Law X) (hF : az_Fr p s m args meth c q) (hK : az_hK X s) (hfr : 1 ≤ R.frames ∧ 30 ≤ R.locals) (hok : az_ok q.2.2.2.2.1 q.2.2.1 q.2.2.2.1 (decide (q.1.name = "<init>")) q.2.1 pc (49, k, np, a, b, cx, d, L) = true)
    {g : Option Bool} {np' : Nat} {ls' : az_L ρ} {st' : List (az_V ρ)} {h' : α} (hs : az_step (az_hO X) (49, k, np, a, b, cx, d, L) ls st h = some (g, Sum.inl (np', ls', st', h'))) (hg : az_gd g = true) (hr : az_hc X h' - c0 ≤ R.cells ∧ az_hs X h' - s0 ≤ R.slots)
    (kk : az_W X p l e R s m args below meth c Q q.2.2.1 c0 s0 h' np' ls' st') : az_W X p l e R s m args below meth c Q q.2.2.1 c0 s0 h pc ls st := by
  simp only [az_step] at hs
  split at hs
  · rename_i r t
    by_cases h8 : Nat.ble t.length 8 = true
    · simp only [h8, cond_true, az_nx, Option.some.injEq, Prod.mk.injEq, Sum.inr.injEq, Sum.inl.injEq] at hs
      obtain ⟨rfl, rfl, rfl, rfl, rfl⟩ := hs
      simp only [az_ok, Bool.and_eq_true, decide_eq_true_eq] at hok
      intro H locs lr hR hL hl hlo hso h1 h2
      have hx := hF.1
      have hb := hF.2.1
      have hts := hF.2.2.2.2.2.2.1
      have hown := hF.2.2.2.2.2.1
      obtain ⟨⟨hd, hn⟩, hm⟩ := hok
      subst hn
      obtain ⟨-, hso⟩ := List.forall_mem_cons.mp hso
      have h8' : t.length ≤ 8 := Nat.le_of_ble_eq_true h8
      refine W.objInit hx hb hown (hts _ (az_ml _ hm)) (hts _ (az_im _ (List.mem_map.mpr ⟨186, by decide, rfl⟩))) (hts _ (az_cd5 _ (List.mem_map.mpr ⟨186, by decide, rfl⟩))) rfl (by rw [hF.2.2.1]; exact hl.1) rfl hd hfr.1 ?_ (kk H locs lr hR hL hl hlo hso h1 h2)
      show 2 * 0 + _ + 12 ≤ R.locals
      rw [az_sum]; omega
    · simp only [h8, cond_false] at hs
      cases hs
  · cases hs
end
