/-! soundness, one step: the heap -/
section
variable {ρ α : Type} {X : az_HM ρ α} {p : Program} {l : Launch} {e : Env} {R : Room} {s : State} {m : MethodId} {args : Array Value} {below : List Frame} {meth : Method} {c : Code} {Q : State → Prop} {q : az_MT} {c0 s0 : Nat}
theorem az_P1 {D : va_G} {x : Nat × va_E} {H : Heap} (h : va_at D az_cl x H) : va_P D az_cl [x] H := by
  intro k y hy
  have hk : k = 0 := by
    have := (List.getElem?_eq_some_iff.mp hy).1
    simpa using this
  subst hk
  cases hy
  exact h
theorem az_Tcl {a : Nat} {q : vw_C} (h : az_cl[a]? = some q) : az_T a = q.2.1 := by
  unfold az_T
  rw [List.getD_eq_getElem?_getD, h]
  rfl
theorem az_lc {X : az_HM ρ α} {locs : List Loc} {a i : Nat} (h : ∀ x ∈ locs, az_hB X ≤ x.base) (ha : az_hB X ≤ a) : ∀ x ∈ locs ++ [(⟨a, i⟩ : Loc)], az_hB X ≤ x.base := by
  intro x hx
  rcases List.mem_append.mp hx with hh | hh
  · exact h x hh
  · rw [List.mem_singleton.mp hh]; exact ha
theorem az_t6 {pc : Nat} {k : Int32} {np a b cx d : Nat} {L : List Nat} {ls : az_L ρ} {st : List (az_V ρ)} {h : α} (hLaw : az_Law X) (hF : az_Fr p s m args meth c q) (hK : az_hK X s) (hok : az_ok q.2.2.2.2.1 q.2.2.1 q.2.2.2.1 (decide (q.1.name = "<init>")) q.2.1 pc (6, k, np, a, b, cx, d, L) = true)
    {g : Option Bool} {np' : Nat} {ls' : az_L ρ} {st' : List (az_V ρ)} {h' : α} (hs : az_step (az_hO X) (6, k, np, a, b, cx, d, L) ls st h = some (g, Sum.inl (np', ls', st', h'))) (hg : az_gd g = true) (hr : az_hc X h' - c0 ≤ R.cells ∧ az_hs X h' - s0 ≤ R.slots)
    (kk : az_W X p l e R s m args below meth c Q q.2.2.1 c0 s0 h' np' ls' st') : az_W X p l e R s m args below meth c Q q.2.2.1 c0 s0 h pc ls st := by
  simp only [az_step] at hs
  split at hs
  · rename_i r t
    split at hs
    · rename_i v hv
      simp only [az_nx, Option.some.injEq, Prod.mk.injEq, Sum.inl.injEq] at hs
      obtain ⟨rfl, rfl, rfl, rfl, rfl⟩ := hs
      simp only [az_ok, Bool.or_eq_true, Bool.and_eq_true, Bool.not_eq_true', decide_eq_true_eq] at hok
      intro H locs lr hR hL hl hlo hso h1 h2
      have hx := hF.1
      have hb := hF.2.1
      have hts := hF.2.2.2.2.2.2.1
      have hown := hF.2.2.2.2.2.1
      obtain ⟨⟨hd, hn⟩, hl2⟩ := hok
      subst hn
      obtain ⟨hr0, hso2⟩ := List.forall_mem_cons.mp hso
      obtain ⟨hvv, fs, ⟨C, T, N⟩, hc, hk, hfs, hat⟩ := hLaw.1 h H r a b cx d v hR (hr0 r rfl) hv
      have kk := kk H locs lr hR hL hl hlo (List.forall_mem_cons.mpr ⟨hvv, hso2⟩) h1 h2
      have hcl := az_cls a _ hc
      have hT := az_Tcl hc
      rcases hl2 with hl2 | hl2
      · have hw := hts _ (az_fl _ (List.mem_map.mpr ⟨_, hl2, rfl⟩))
        simp only [az_flw, hT] at hw
        exact va_get (ci := a) hx hb hts hcl.1 hown hK.1 (az_P1 hat) 0 rfl hc b hk hw (fun _ z => z) hfs hd kk
      · have hw := va_Nw.use (A := args) rfl (hK.2.1 _ (az_nws_F _ hl2))
        simp only [az_fnw, hT] at hw
        exact va_getN (ci := a) hx hb hts hcl.1 hown hK.1 (az_P1 hat) 0 rfl hc b hk hw (fun _ z => z) hfs hd kk
    · cases hs
  · cases hs
theorem az_t7 {pc : Nat} {k : Int32} {np a b cx d : Nat} {L : List Nat} {ls : az_L ρ} {st : List (az_V ρ)} {h : α} (hLaw : az_Law X) (hF : az_Fr p s m args meth c q) (hK : az_hK X s) (hok : az_ok q.2.2.2.2.1 q.2.2.1 q.2.2.2.1 (decide (q.1.name = "<init>")) q.2.1 pc (7, k, np, a, b, cx, d, L) = true)
    {g : Option Bool} {np' : Nat} {ls' : az_L ρ} {st' : List (az_V ρ)} {h' : α} (hs : az_step (az_hO X) (7, k, np, a, b, cx, d, L) ls st h = some (g, Sum.inl (np', ls', st', h'))) (hg : az_gd g = true) (hr : az_hc X h' - c0 ≤ R.cells ∧ az_hs X h' - s0 ≤ R.slots)
    (kk : az_W X p l e R s m args below meth c Q q.2.2.1 c0 s0 h' np' ls' st') : az_W X p l e R s m args below meth c Q q.2.2.1 c0 s0 h pc ls st := by
  simp only [az_step] at hs
  split at hs
  · rename_i v r t
    split at hs
    · rename_i g1 h1v hv
      simp only [Option.some.injEq, Prod.mk.injEq, Sum.inl.injEq] at hs
      obtain ⟨rfl, rfl, rfl, rfl, rfl⟩ := hs
      simp only [az_ok, Bool.or_eq_true, Bool.and_eq_true, Bool.not_eq_true', decide_eq_true_eq] at hok
      intro H locs lr hR hL hl hlo hso h1 h2
      have hx := hF.1
      have hb := hF.2.1
      have hts := hF.2.2.2.2.2.2.1
      have hown := hF.2.2.2.2.2.1
      obtain ⟨⟨hd, hn⟩, hl2⟩ := hok
      subst hn
      obtain ⟨hv0, hso2⟩ := List.forall_mem_cons.mp hso
      obtain ⟨hr0, hso3⟩ := List.forall_mem_cons.mp hso2
      obtain ⟨hB, hc1, hc2, fs, ⟨C, T, N⟩, ty, hc, hk, hkl, hty, hnar, hfit, hat, hrep⟩ := hLaw.2.1 h H r a b cx d v _ _ hR (hr0 r rfl) hv0 hv hg
      have kk : ∀ (H1 : Heap) (i : Nat), va_at (az_hD X) az_cl (az_hA X r, .inr (a, fs.set b (az_tr (az_hA X) v))) H1 → H1.size = H.size → (∀ x, x ≠ az_hA X r → H1[x]? = H[x]?) → W p l e R s m args below meth c H1 (locs ++ [⟨az_hA X r, i⟩]) (az_hc X h - c0) (az_hs X h - s0) Q (F0 m (pc + 3) lr (t.map (az_tr (az_hA X)))) := by
        intro H1 i e1 e2 e3
        have := kk H1 (locs ++ [⟨az_hA X r, i⟩]) lr (hrep H1 e1 e2 e3) (az_lc hL hB) hl hlo hso3 (by rw [hc1]; exact h1) (by rw [hc2]; exact h2)
        rw [hc1, hc2] at this
        exact this
      have hcl := az_cls a _ hc
      have hT := az_Tcl hc
      obtain ⟨ty0, hty0⟩ := hcl.2.1
      rcases hl2 with ⟨hfin, hl2⟩ | ⟨⟨⟨hfin, hl2⟩, hini⟩, hdecl⟩
      · rw [hT] at hfin
        refine az_put (ci := a) hx hb hts hcl.1 ty0 hty0 hcl.2.2 hown hK.1 hat hc b hk (ref := (T b).1) ?_ (fun _ z => z) hfin hty hnar hfit hkl hd kk
        rcases hl2 with hl2 | hl2
        · left
          have hw := hts _ (az_fl _ (List.mem_map.mpr ⟨_, hl2, rfl⟩))
          simp only [az_flw, hT] at hw
          exact hw
        · right
          have hw := va_Nw.use (A := args) rfl (hK.2.1 _ (az_nws_F _ hl2))
          simp only [az_fnw, hT] at hw
          exact ⟨_, hw⟩
      · rw [hT] at hfin hdecl
        have hw := hts _ (az_fl _ (List.mem_map.mpr ⟨_, hl2, rfl⟩))
        simp only [az_flw, hT] at hw
        exact az_putF (ci := a) hx hb hts hcl.1 ty0 hty0 hcl.2.2 hown hK.1 hat hc b hk (ref := (T b).1) hw (fun _ z => z) hfin (hF.2.2.2.2.2.2.2 hini) hdecl hty hnar hfit hkl hd kk
    · cases hs
  · cases hs
theorem az_t8 {pc : Nat} {k : Int32} {np a b cx d : Nat} {L : List Nat} {ls : az_L ρ} {st : List (az_V ρ)} {h : α} (hLaw : az_Law X) (hF : az_Fr p s m args meth c q) (hK : az_hK X s) (hok : az_ok q.2.2.2.2.1 q.2.2.1 q.2.2.2.1 (decide (q.1.name = "<init>")) q.2.1 pc (8, k, np, a, b, cx, d, L) = true)
    {g : Option Bool} {np' : Nat} {ls' : az_L ρ} {st' : List (az_V ρ)} {h' : α} (hs : az_step (az_hO X) (8, k, np, a, b, cx, d, L) ls st h = some (g, Sum.inl (np', ls', st', h'))) (hg : az_gd g = true) (hr : az_hc X h' - c0 ≤ R.cells ∧ az_hs X h' - s0 ≤ R.slots)
    (kk : az_W X p l e R s m args below meth c Q q.2.2.1 c0 s0 h' np' ls' st') : az_W X p l e R s m args below meth c Q q.2.2.1 c0 s0 h pc ls st := by
  simp only [az_step] at hs
  split at hs
  · rename_i i r t
    split at hs
    · rename_i g1 x hv
      simp only [az_gx, Option.some.injEq, Prod.mk.injEq, Sum.inl.injEq] at hs
      obtain ⟨rfl, rfl, rfl, rfl, rfl⟩ := hs
      simp only [az_ok, Bool.or_eq_true, Bool.and_eq_true, Bool.not_eq_true', decide_eq_true_eq] at hok
      intro H locs lr hR hL hl hlo hso h1 h2
      have hx := hF.1
      have hb := hF.2.1
      have hts := hF.2.2.2.2.2.2.1
      have hown := hF.2.2.2.2.2.1
      obtain ⟨hd, hn⟩ := hok
      subst hn
      have hg : g1 = true := hg
      subst hg
      obtain ⟨-, hso2⟩ := List.forall_mem_cons.mp hso
      obtain ⟨hr0, hso3⟩ := List.forall_mem_cons.mp hso2
      obtain ⟨cell, q1, q2, q3, q4, q5⟩ := hLaw.2.2.2.1 h H 0 r i x s (by decide) hR (hr0 r rfl) hK hv
      exact W.iald hx hb q1 q2 q3 q4 q5 rfl rfl hd (kk H locs lr hR hL hl hlo (List.forall_mem_cons.mpr ⟨az_vvi _, hso3⟩) h1 h2)
    · cases hs
  · cases hs
theorem az_t10 {pc : Nat} {k : Int32} {np a b cx d : Nat} {L : List Nat} {ls : az_L ρ} {st : List (az_V ρ)} {h : α} (hLaw : az_Law X) (hF : az_Fr p s m args meth c q) (hK : az_hK X s) (hok : az_ok q.2.2.2.2.1 q.2.2.1 q.2.2.2.1 (decide (q.1.name = "<init>")) q.2.1 pc (10, k, np, a, b, cx, d, L) = true)
    {g : Option Bool} {np' : Nat} {ls' : az_L ρ} {st' : List (az_V ρ)} {h' : α} (hs : az_step (az_hO X) (10, k, np, a, b, cx, d, L) ls st h = some (g, Sum.inl (np', ls', st', h'))) (hg : az_gd g = true) (hr : az_hc X h' - c0 ≤ R.cells ∧ az_hs X h' - s0 ≤ R.slots)
    (kk : az_W X p l e R s m args below meth c Q q.2.2.1 c0 s0 h' np' ls' st') : az_W X p l e R s m args below meth c Q q.2.2.1 c0 s0 h pc ls st := by
  simp only [az_step] at hs
  split at hs
  · rename_i i r t
    split at hs
    · rename_i g1 x hv
      simp only [az_gx, Option.some.injEq, Prod.mk.injEq, Sum.inl.injEq] at hs
      obtain ⟨rfl, rfl, rfl, rfl, rfl⟩ := hs
      simp only [az_ok, Bool.or_eq_true, Bool.and_eq_true, Bool.not_eq_true', decide_eq_true_eq] at hok
      intro H locs lr hR hL hl hlo hso h1 h2
      have hx := hF.1
      have hb := hF.2.1
      have hts := hF.2.2.2.2.2.2.1
      have hown := hF.2.2.2.2.2.1
      obtain ⟨hd, hn⟩ := hok
      subst hn
      have hg : g1 = true := hg
      subst hg
      obtain ⟨-, hso2⟩ := List.forall_mem_cons.mp hso
      obtain ⟨hr0, hso3⟩ := List.forall_mem_cons.mp hso2
      obtain ⟨cell, q1, q2, q3, q4, q5⟩ := hLaw.2.2.2.1 h H 1 r i x s (by decide) hR (hr0 r rfl) hK hv
      exact W.zald hx hb q1 q2 q3 q4 q5 rfl rfl hd (kk H locs lr hR hL hl hlo (List.forall_mem_cons.mpr ⟨az_vvi _, hso3⟩) h1 h2)
    · cases hs
  · cases hs
theorem az_t9 {pc : Nat} {k : Int32} {np a b cx d : Nat} {L : List Nat} {ls : az_L ρ} {st : List (az_V ρ)} {h : α} (hLaw : az_Law X) (hF : az_Fr p s m args meth c q) (hK : az_hK X s) (hok : az_ok q.2.2.2.2.1 q.2.2.1 q.2.2.2.1 (decide (q.1.name = "<init>")) q.2.1 pc (9, k, np, a, b, cx, d, L) = true)
    {g : Option Bool} {np' : Nat} {ls' : az_L ρ} {st' : List (az_V ρ)} {h' : α} (hs : az_step (az_hO X) (9, k, np, a, b, cx, d, L) ls st h = some (g, Sum.inl (np', ls', st', h'))) (hg : az_gd g = true) (hr : az_hc X h' - c0 ≤ R.cells ∧ az_hs X h' - s0 ≤ R.slots)
    (kk : az_W X p l e R s m args below meth c Q q.2.2.1 c0 s0 h' np' ls' st') : az_W X p l e R s m args below meth c Q q.2.2.1 c0 s0 h pc ls st := by
  simp only [az_step] at hs
  split at hs
  · rename_i x i r t
    split at hs
    · rename_i g1 h1v hv
      simp only [az_gx, Option.some.injEq, Prod.mk.injEq, Sum.inl.injEq] at hs
      obtain ⟨rfl, rfl, rfl, rfl, rfl⟩ := hs
      simp only [az_ok, Bool.or_eq_true, Bool.and_eq_true, Bool.not_eq_true', decide_eq_true_eq] at hok
      intro H locs lr hR hL hl hlo hso h1 h2
      have hx := hF.1
      have hb := hF.2.1
      have hts := hF.2.2.2.2.2.2.1
      have hown := hF.2.2.2.2.2.1
      obtain ⟨hd, hn⟩ := hok
      subst hn
      have hg : g1 = true := hg
      subst hg
      obtain ⟨-, hso2⟩ := List.forall_mem_cons.mp hso
      obtain ⟨-, hso3⟩ := List.forall_mem_cons.mp hso2
      obtain ⟨hr0, hso4⟩ := List.forall_mem_cons.mp hso3
      obtain ⟨hB, hc1, hc2, hnr, cell, q1, q2, q3, q4, hrep⟩ := hLaw.2.2.2.2.1 h H 0 r i x _ s (by decide) hR (hr0 r rfl) hK hv
      refine W.iast hx hb q1 q2 q3 q4 rfl rfl hd fun H1 e1 e2 e3 => ?_
      have := kk H1 (locs ++ [⟨az_hA X r, i.toNatClampNeg⟩]) lr (hrep H1 e1 e2 e3) (az_lc hL hB) hl hlo hso4 (by rw [hc1]; exact h1) (by rw [hc2]; exact h2)
      rw [hc1, hc2] at this
      exact this
    · cases hs
  · cases hs
theorem az_t11 {pc : Nat} {k : Int32} {np a b cx d : Nat} {L : List Nat} {ls : az_L ρ} {st : List (az_V ρ)} {h : α} (hLaw : az_Law X) (hF : az_Fr p s m args meth c q) (hK : az_hK X s) (hok : az_ok q.2.2.2.2.1 q.2.2.1 q.2.2.2.1 (decide (q.1.name = "<init>")) q.2.1 pc (11, k, np, a, b, cx, d, L) = true)
    {g : Option Bool} {np' : Nat} {ls' : az_L ρ} {st' : List (az_V ρ)} {h' : α} (hs : az_step (az_hO X) (11, k, np, a, b, cx, d, L) ls st h = some (g, Sum.inl (np', ls', st', h'))) (hg : az_gd g = true) (hr : az_hc X h' - c0 ≤ R.cells ∧ az_hs X h' - s0 ≤ R.slots)
    (kk : az_W X p l e R s m args below meth c Q q.2.2.1 c0 s0 h' np' ls' st') : az_W X p l e R s m args below meth c Q q.2.2.1 c0 s0 h pc ls st := by
  simp only [az_step] at hs
  split at hs
  · rename_i x i r t
    split at hs
    · rename_i g1 h1v hv
      simp only [az_gx, Option.some.injEq, Prod.mk.injEq, Sum.inl.injEq] at hs
      obtain ⟨rfl, rfl, rfl, rfl, rfl⟩ := hs
      simp only [az_ok, Bool.or_eq_true, Bool.and_eq_true, Bool.not_eq_true', decide_eq_true_eq] at hok
      intro H locs lr hR hL hl hlo hso h1 h2
      have hx := hF.1
      have hb := hF.2.1
      have hts := hF.2.2.2.2.2.2.1
      have hown := hF.2.2.2.2.2.1
      obtain ⟨hd, hn⟩ := hok
      subst hn
      have hg : g1 = true := hg
      subst hg
      obtain ⟨-, hso2⟩ := List.forall_mem_cons.mp hso
      obtain ⟨-, hso3⟩ := List.forall_mem_cons.mp hso2
      obtain ⟨hr0, hso4⟩ := List.forall_mem_cons.mp hso3
      obtain ⟨hB, hc1, hc2, hnr, cell, q1, q2, q3, q4, hrep⟩ := hLaw.2.2.2.2.1 h H 1 r i x _ s (by decide) hR (hr0 r rfl) hK hv
      refine W.zast hx hb q1 q2 q3 q4 rfl rfl hd fun H1 e1 e2 e3 => ?_
      have hnr : narrow .boolean (.int x) = .int x := hnr
      rw [hnr] at e1
      have := kk H1 (locs ++ [⟨az_hA X r, i.toNatClampNeg⟩]) lr (hrep H1 e1 e2 e3) (az_lc hL hB) hl hlo hso4 (by rw [hc1]; exact h1) (by rw [hc2]; exact h2)
      rw [hc1, hc2] at this
      exact this
    · cases hs
  · cases hs
theorem az_t12 {pc : Nat} {k : Int32} {np a b cx d : Nat} {L : List Nat} {ls : az_L ρ} {st : List (az_V ρ)} {h : α} (hLaw : az_Law X) (hF : az_Fr p s m args meth c q) (hK : az_hK X s) (hok : az_ok q.2.2.2.2.1 q.2.2.1 q.2.2.2.1 (decide (q.1.name = "<init>")) q.2.1 pc (12, k, np, a, b, cx, d, L) = true)
    {g : Option Bool} {np' : Nat} {ls' : az_L ρ} {st' : List (az_V ρ)} {h' : α} (hs : az_step (az_hO X) (12, k, np, a, b, cx, d, L) ls st h = some (g, Sum.inl (np', ls', st', h'))) (hg : az_gd g = true) (hr : az_hc X h' - c0 ≤ R.cells ∧ az_hs X h' - s0 ≤ R.slots)
    (kk : az_W X p l e R s m args below meth c Q q.2.2.1 c0 s0 h' np' ls' st') : az_W X p l e R s m args below meth c Q q.2.2.1 c0 s0 h pc ls st := by
  simp only [az_step] at hs
  split at hs
  · rename_i i r t
    split at hs
    · rename_i g1 x hv
      simp only [az_gx, Option.some.injEq, Prod.mk.injEq, Sum.inl.injEq] at hs
      obtain ⟨rfl, rfl, rfl, rfl, rfl⟩ := hs
      simp only [az_ok, Bool.or_eq_true, Bool.and_eq_true, Bool.not_eq_true', decide_eq_true_eq] at hok
      intro H locs lr hR hL hl hlo hso h1 h2
      have hx := hF.1
      have hb := hF.2.1
      have hts := hF.2.2.2.2.2.2.1
      have hown := hF.2.2.2.2.2.1
      obtain ⟨hd, hn⟩ := hok
      subst hn
      have hg : g1 = true := hg
      subst hg
      obtain ⟨-, hso2⟩ := List.forall_mem_cons.mp hso
      obtain ⟨hr0, hso3⟩ := List.forall_mem_cons.mp hso2
      obtain ⟨hvv, cell, ty, q1, q2, qr, q3, q4, q5⟩ := hLaw.2.2.2.2.2.1 h H r i x s hR (hr0 r rfl) hK hv
      exact W.aald hx hb q1 q2 qr q3 q4 q5 rfl rfl hd (kk H locs lr hR hL hl hlo (List.forall_mem_cons.mpr ⟨hvv, hso3⟩) h1 h2)
    · cases hs
  · cases hs
theorem az_t13 {pc : Nat} {k : Int32} {np a b cx d : Nat} {L : List Nat} {ls : az_L ρ} {st : List (az_V ρ)} {h : α} (hLaw : az_Law X) (hF : az_Fr p s m args meth c q) (hK : az_hK X s) (hok : az_ok q.2.2.2.2.1 q.2.2.1 q.2.2.2.1 (decide (q.1.name = "<init>")) q.2.1 pc (13, k, np, a, b, cx, d, L) = true)
    {g : Option Bool} {np' : Nat} {ls' : az_L ρ} {st' : List (az_V ρ)} {h' : α} (hs : az_step (az_hO X) (13, k, np, a, b, cx, d, L) ls st h = some (g, Sum.inl (np', ls', st', h'))) (hg : az_gd g = true) (hr : az_hc X h' - c0 ≤ R.cells ∧ az_hs X h' - s0 ≤ R.slots)
    (kk : az_W X p l e R s m args below meth c Q q.2.2.1 c0 s0 h' np' ls' st') : az_W X p l e R s m args below meth c Q q.2.2.1 c0 s0 h pc ls st := by
  simp only [az_step] at hs
  split at hs
  · rename_i v i r t
    split at hs
    · rename_i g1 h1v hv
      simp only [az_gx, Option.some.injEq, Prod.mk.injEq, Sum.inl.injEq] at hs
      obtain ⟨rfl, rfl, rfl, rfl, rfl⟩ := hs
      simp only [az_ok, Bool.or_eq_true, Bool.and_eq_true, Bool.not_eq_true', decide_eq_true_eq] at hok
      intro H locs lr hR hL hl hlo hso h1 h2
      have hx := hF.1
      have hb := hF.2.1
      have hts := hF.2.2.2.2.2.2.1
      have hown := hF.2.2.2.2.2.1
      obtain ⟨hd, hn⟩ := hok
      subst hn
      have hg : g1 = true := hg
      subst hg
      obtain ⟨hv0, hso2⟩ := List.forall_mem_cons.mp hso
      obtain ⟨-, hso3⟩ := List.forall_mem_cons.mp hso2
      obtain ⟨hr0, hso4⟩ := List.forall_mem_cons.mp hso3
      obtain ⟨hB, hc1, hc2, r2, cell, cv, kc, kv, kcomp, comp, ty, rfl, q1, q2, q3, q4, q5, q6, q7, q8, q9, q10, q11, q12, hrep⟩ := hLaw.2.2.2.2.2.2.1 h H r i v _ s hR (hr0 r rfl) hv0 hK hv
      refine W.aast hx hb q1 q2 q3 q4 q5 q6 q7 q8 q9 q10 q11 q12 rfl rfl hd fun H1 e1 e2 e3 => ?_
      have := kk H1 (locs ++ [⟨az_hA X r, i.toNatClampNeg⟩]) lr (hrep H1 e1 e2 e3) (az_lc hL hB) hl hlo hso4 (by rw [hc1]; exact h1) (by rw [hc2]; exact h2)
      rw [hc1, hc2] at this
      exact this
    · cases hs
  · cases hs
theorem az_t14 {pc : Nat} {k : Int32} {np a b cx d : Nat} {L : List Nat} {ls : az_L ρ} {st : List (az_V ρ)} {h : α} (hLaw : az_Law X) (hF : az_Fr p s m args meth c q) (hK : az_hK X s) (hok : az_ok q.2.2.2.2.1 q.2.2.1 q.2.2.2.1 (decide (q.1.name = "<init>")) q.2.1 pc (14, k, np, a, b, cx, d, L) = true)
    {g : Option Bool} {np' : Nat} {ls' : az_L ρ} {st' : List (az_V ρ)} {h' : α} (hs : az_step (az_hO X) (14, k, np, a, b, cx, d, L) ls st h = some (g, Sum.inl (np', ls', st', h'))) (hg : az_gd g = true) (hr : az_hc X h' - c0 ≤ R.cells ∧ az_hs X h' - s0 ≤ R.slots)
    (kk : az_W X p l e R s m args below meth c Q q.2.2.1 c0 s0 h' np' ls' st') : az_W X p l e R s m args below meth c Q q.2.2.1 c0 s0 h pc ls st := by
  simp only [az_step] at hs
  split at hs
  · rename_i r t
    split at hs
    · rename_i n hv
      simp only [az_nx, Option.some.injEq, Prod.mk.injEq, Sum.inl.injEq] at hs
      obtain ⟨rfl, rfl, rfl, rfl, rfl⟩ := hs
      simp only [az_ok, Bool.or_eq_true, Bool.and_eq_true, Bool.not_eq_true', decide_eq_true_eq] at hok
      intro H locs lr hR hL hl hlo hso h1 h2
      have hx := hF.1
      have hb := hF.2.1
      have hts := hF.2.2.2.2.2.2.1
      have hown := hF.2.2.2.2.2.1
      obtain ⟨hd, hn⟩ := hok
      subst hn
      obtain ⟨hr0, hso3⟩ := List.forall_mem_cons.mp hso
      obtain ⟨cell, ty, q1, q2, q3⟩ := hLaw.2.2.1 h H r n s hR (hr0 r rfl) hK hv
      exact W.alen (n := Int32.ofNat n) hx hb q1 q2 (by rw [q3]) rfl rfl hd (kk H locs lr hR hL hl hlo (List.forall_mem_cons.mpr ⟨az_vvi _, hso3⟩) h1 h2)
    · cases hs
  · cases hs
theorem az_t15 {pc : Nat} {k : Int32} {np a b cx d : Nat} {L : List Nat} {ls : az_L ρ} {st : List (az_V ρ)} {h : α} (hLaw : az_Law X) (hF : az_Fr p s m args meth c q) (hK : az_hK X s) (hok : az_ok q.2.2.2.2.1 q.2.2.1 q.2.2.2.1 (decide (q.1.name = "<init>")) q.2.1 pc (15, k, np, a, b, cx, d, L) = true)
    {g : Option Bool} {np' : Nat} {ls' : az_L ρ} {st' : List (az_V ρ)} {h' : α} (hs : az_step (az_hO X) (15, k, np, a, b, cx, d, L) ls st h = some (g, Sum.inl (np', ls', st', h'))) (hg : az_gd g = true) (hr : az_hc X h' - c0 ≤ R.cells ∧ az_hs X h' - s0 ≤ R.slots)
    (kk : az_W X p l e R s m args below meth c Q q.2.2.1 c0 s0 h' np' ls' st') : az_W X p l e R s m args below meth c Q q.2.2.1 c0 s0 h pc ls st := by
  simp only [az_step] at hs
  split at hs
  · rename_i r h1v hv
    simp only [az_nx, Option.some.injEq, Prod.mk.injEq, Sum.inl.injEq] at hs
    obtain ⟨rfl, rfl, rfl, rfl, rfl⟩ := hs
    simp only [az_ok, Bool.and_eq_true, decide_eq_true_eq] at hok
    intro H locs lr hR hL hl hlo hso h1 h2
    have hx := hF.1
    have hb := hF.2.1
    have hts := hF.2.2.2.2.2.2.1
    have hown := hF.2.2.2.2.2.1
    obtain ⟨⟨hd, hn⟩, hck⟩ := hok
    subst hn
    obtain ⟨hV, hA, hc1, n, cC, hin, hiz, hc2, hfc, hrep⟩ := hLaw.2.2.2.2.2.2.2.1 h H a r _ s hR hK hv
    have hts0 : ∀ w ∈ lw_all, w.before #[] s = true := fun w hw => by
      rcases good_of_word (List.mem_filter.mp hw).2 with hgw | ⟨ty, rfl⟩
      · simp only [Bool.and_eq_true] at hgw
        exact va_tabs hgw.1 rfl (hts w hw)
      · exact hts _ hw
    refine W.newcK hx hb hown (hts _ (az_ck _ (List.mem_map.mpr ⟨_, hck, rfl⟩))) (hts _ (az_in _ (List.mem_map.mpr ⟨_, hin, rfl⟩))) (hts _ (az_iz _ (List.mem_map.mpr ⟨_, hiz, rfl⟩))) rfl hd (by rw [hc1] at hr; omega) (by rw [hc2] at hr; dsimp only; omega) hfc rfl fun H1 kC e0 e1 e2 e3 => ?_
    have := kk H1 locs lr (hrep H1 kC e0 e1 e2 e3 hts0) hL hl hlo (List.forall_mem_cons.mpr ⟨az_vvr hV, hso⟩) (by omega) (by omega)
    rw [hc1, hc2, show az_hc X h + 1 - c0 = az_hc X h - c0 + 1 by omega, show az_hs X h + n - s0 = az_hs X h - s0 + n by omega] at this
    simp only [List.map_cons, az_tr, hA] at this
    exact this
  · cases hs
theorem az_t16 {pc : Nat} {k : Int32} {np a b cx d : Nat} {L : List Nat} {ls : az_L ρ} {st : List (az_V ρ)} {h : α} (hLaw : az_Law X) (hF : az_Fr p s m args meth c q) (hK : az_hK X s) (hok : az_ok q.2.2.2.2.1 q.2.2.1 q.2.2.2.1 (decide (q.1.name = "<init>")) q.2.1 pc (16, k, np, a, b, cx, d, L) = true)
    {g : Option Bool} {np' : Nat} {ls' : az_L ρ} {st' : List (az_V ρ)} {h' : α} (hs : az_step (az_hO X) (16, k, np, a, b, cx, d, L) ls st h = some (g, Sum.inl (np', ls', st', h'))) (hg : az_gd g = true) (hr : az_hc X h' - c0 ≤ R.cells ∧ az_hs X h' - s0 ≤ R.slots)
    (kk : az_W X p l e R s m args below meth c Q q.2.2.1 c0 s0 h' np' ls' st') : az_W X p l e R s m args below meth c Q q.2.2.1 c0 s0 h pc ls st := by
  simp only [az_step] at hs
  split at hs
  · rename_i n t
    split at hs
    · rename_i g1 r h1v hv
      simp only [az_gx, Option.some.injEq, Prod.mk.injEq, Sum.inl.injEq] at hs
      obtain ⟨rfl, rfl, rfl, rfl, rfl⟩ := hs
      simp only [az_ok, Bool.or_eq_true, Bool.and_eq_true, Bool.not_eq_true', decide_eq_true_eq] at hok
      intro H locs lr hR hL hl hlo hso h1 h2
      have hx := hF.1
      have hb := hF.2.1
      have hts := hF.2.2.2.2.2.2.1
      have hown := hF.2.2.2.2.2.1
      obtain ⟨⟨hd, hn⟩, ha⟩ := hok
      subst hn
      have hg : g1 = true := hg
      subst hg
      obtain ⟨hV, hA, hc1, hc2, hn0, hby, hrep⟩ := hLaw.2.2.2.2.2.2.2.2.1 h H a n r _ s ha hR hK hv
      have hso2 := (List.forall_mem_cons.mp hso).2
      have e9 : newarray.typeOf (az_aty a) = az_dty a ∧ defaultValue (az_dty a) = .int 0 ∧ componentBytes (az_dty a) ≤ 8 ∧ Jvm.Cond.arrayClass (az_dty a) ∈ lw_all := by
        rcases (show a = 0 ∨ a = 1 by omega) with rfl | rfl
        · exact ⟨rfl, rfl, by decide, az_aC0⟩
        · exact ⟨rfl, rfl, by decide, az_aC1⟩
      refine va_newaK hx hb (by rw [e9.1]; exact hts _ e9.2.2.2) rfl hd rfl hn0 rfl (by rw [e9.1]; exact Nat.le_trans (Nat.mul_le_mul_left _ e9.2.2.1) hby) (by rw [hc1] at hr; omega) (by rw [hc2] at hr; omega) rfl fun H1 cA e1 e2 e3 e4 e5 => ?_
      rw [e9.1] at e1 e5
      rw [e9.2.1] at e1
      have := kk H1 locs lr (hrep H1 cA e5 e1 e2 e3) hL hl hlo (List.forall_mem_cons.mpr ⟨az_vvr hV, hso2⟩) (by omega) (by omega)
      rw [hc1, hc2, show az_hc X h + 1 - c0 = az_hc X h - c0 + 1 by omega, show az_hs X h + n.toNatClampNeg - s0 = az_hs X h - s0 + n.toNatClampNeg by omega] at this
      simp only [List.map_cons, az_tr, hA] at this
      exact this
    · cases hs
  · cases hs
theorem az_t17 {pc : Nat} {k : Int32} {np a b cx d : Nat} {L : List Nat} {ls : az_L ρ} {st : List (az_V ρ)} {h : α} (hLaw : az_Law X) (hF : az_Fr p s m args meth c q) (hK : az_hK X s) (hok : az_ok q.2.2.2.2.1 q.2.2.1 q.2.2.2.1 (decide (q.1.name = "<init>")) q.2.1 pc (17, k, np, a, b, cx, d, L) = true)
    {g : Option Bool} {np' : Nat} {ls' : az_L ρ} {st' : List (az_V ρ)} {h' : α} (hs : az_step (az_hO X) (17, k, np, a, b, cx, d, L) ls st h = some (g, Sum.inl (np', ls', st', h'))) (hg : az_gd g = true) (hr : az_hc X h' - c0 ≤ R.cells ∧ az_hs X h' - s0 ≤ R.slots)
    (kk : az_W X p l e R s m args below meth c Q q.2.2.1 c0 s0 h' np' ls' st') : az_W X p l e R s m args below meth c Q q.2.2.1 c0 s0 h pc ls st := by
  simp only [az_step] at hs
  split at hs
  · rename_i n t
    split at hs
    · rename_i g1 r h1v hv
      simp only [az_gx, Option.some.injEq, Prod.mk.injEq, Sum.inl.injEq] at hs
      obtain ⟨rfl, rfl, rfl, rfl, rfl⟩ := hs
      simp only [az_ok, Bool.or_eq_true, Bool.and_eq_true, Bool.not_eq_true', decide_eq_true_eq] at hok
      intro H locs lr hR hL hl hlo hso h1 h2
      have hx := hF.1
      have hb := hF.2.1
      have hts := hF.2.2.2.2.2.2.1
      have hown := hF.2.2.2.2.2.1
      obtain ⟨⟨⟨hd, hn⟩, hck⟩, ha⟩ := hok
      subst hn
      have hg : g1 = true := hg
      subst hg
      obtain ⟨hV, hA, hc1, hc2, hn0, hby, hrep⟩ := hLaw.2.2.2.2.2.2.2.2.2.1 h H a n r _ s ha hR hK hv
      have hso2 := (List.forall_mem_cons.mp hso).2
      refine W.anew hx hb hown (hts _ (az_ck _ (List.mem_map.mpr ⟨_, hck, rfl⟩))) (va_AO.use (hK.2.2.2.2.2.1 a ha)) rfl hd rfl hn0 hby (by rw [hc1] at hr; omega) (by rw [hc2] at hr; omega) fun cA kA comp e1 e2 e3 e4 => ?_
      have := kk _ locs lr (hrep (H.push { cls := cA, slots := Array.replicate n.toNatClampNeg .null, vm := .none }) cA e1 (by rw [← arrV_new]; simp) (by simp) (fun q hq => by
        rw [Array.getElem?_push]
        rw [if_neg (Nat.ne_of_lt hq)])) hL hl hlo (List.forall_mem_cons.mpr ⟨az_vvr hV, hso2⟩) (by omega) (by omega)
      rw [hc1, hc2, show az_hc X h + 1 - c0 = az_hc X h - c0 + 1 by omega, show az_hs X h + n.toNatClampNeg - s0 = az_hs X h - s0 + n.toNatClampNeg by omega] at this
      simp only [List.map_cons, az_tr, hA] at this
      exact this
    · cases hs
  · cases hs
end
