section
variable {ρ α : Type}
/-- a heap model: operations, Rep, valid references, addresses, cells, slots, first own address, classes, array classes, the script's cell -/
abbrev az_HM (ρ α : Type) : Type := az_O ρ α × (α → Heap → Prop) × (ρ → Prop) × (ρ → Nat) × (α → Nat) × (α → Nat) × Nat × va_G × (Nat → ClassId) × Cell
def az_hO (X : az_HM ρ α) := X.1
def az_hR (X : az_HM ρ α) := X.2.1
def az_hV (X : az_HM ρ α) := X.2.2.1
def az_hA (X : az_HM ρ α) := X.2.2.2.1
def az_hc (X : az_HM ρ α) := X.2.2.2.2.1
def az_hs (X : az_HM ρ α) := X.2.2.2.2.2.1
def az_hB (X : az_HM ρ α) := X.2.2.2.2.2.2.1
def az_hD (X : az_HM ρ α) := X.2.2.2.2.2.2.2.1
def az_hC (X : az_HM ρ α) := X.2.2.2.2.2.2.2.2.1
def az_hS (X : az_HM ρ α) := X.2.2.2.2.2.2.2.2.2
def az_hK (X : az_HM ρ α) (s : State) : Prop := az_K (az_hD X) (az_hC X) (az_hS X) s
/-- the machine, at the frame that the abstract one stands for, comes to Q -/
def az_W (X : az_HM ρ α) (p : Program) (l : Launch) (e : Env) (R : Room) (s : State) (m : MethodId) (args : Array Value) (below : List Frame) (meth : Method) (c : Code) (Q : State → Prop) (nL c0 s0 : Nat) (h : α) (pc : Nat) (ls : az_L ρ) (st : List (az_V ρ)) : Prop :=
  ∀ (H : Heap) (locs : List Loc) (lr : Array Slot), az_hR X h H → (∀ x ∈ locs, az_hB X ≤ x.base) → az_Lr (az_hA X) nL ls lr → az_lok (az_hV X) ls → az_sok (az_hV X) st → c0 ≤ az_hc X h → s0 ≤ az_hs X h →
    W p l e R s m args below meth c H locs (az_hc X h - c0) (az_hs X h - s0) Q (F0 m pc lr (st.map (az_tr (az_hA X))))
/-! the laws of a heap model -/
def az_Lgf (X : az_HM ρ α) : Prop := ∀ h H r a b c d v, az_hR X h H → az_hV X r → az_gf (az_hO X) h r a b c d = some v → az_vv (az_hV X) v ∧ ∃ (fs : List Value) (q : vw_C), az_cl[a]? = some q ∧ b < q.2.2 ∧ fs[b]? = some (az_tr (az_hA X) v) ∧ va_at (az_hD X) az_cl (az_hA X r, .inr (a, fs)) H
def az_Lpf (X : az_HM ρ α) : Prop := ∀ h H r a b c d v g h', az_hR X h H → az_hV X r → az_vv (az_hV X) v → az_pf (az_hO X) h r a b c d v = some (g, h') → az_gd g = true → az_hB X ≤ az_hA X r ∧ az_hc X h' = az_hc X h ∧ az_hs X h' = az_hs X h ∧
  ∃ (fs : List Value) (q : vw_C) (ty : FieldType), az_cl[a]? = some q ∧ b < q.2.2 ∧ b < fs.length ∧ parseFieldDescriptor (q.2.1 b).2.2.1 = some ty ∧ narrow ty (az_tr (az_hA X) v) = az_tr (az_hA X) v ∧ fits ty (az_tr (az_hA X) v) = true ∧ va_at (az_hD X) az_cl (az_hA X r, .inr (a, fs)) H ∧
    ∀ H' : Heap, va_at (az_hD X) az_cl (az_hA X r, .inr (a, fs.set b (az_tr (az_hA X) v))) H' → H'.size = H.size → (∀ x, x ≠ az_hA X r → H'[x]? = H[x]?) → az_hR X h' H'
def az_Lal (X : az_HM ρ α) : Prop := ∀ h H r n s, az_hR X h H → az_hV X r → az_hK X s → az_al (az_hO X) h r = some n → ∃ (cell : Cell) (ty : FieldType), H[az_hA X r]? = some cell ∧ s.isArrayOf cell ty ∧ cell.slots.size = n
def az_Lgi (X : az_HM ρ α) : Prop := ∀ h H t r i x s, t < 2 → az_hR X h H → az_hV X r → az_hK X s → az_gi (az_hO X) h t r i = some (true, x) → ∃ cell : Cell, H[az_hA X r]? = some cell ∧ s.isArrayOf cell (az_dty t) ∧ cell.vm ≠ .unknown ∧ ¬ (i < 0 ∨ cell.slots.size ≤ i.toNatClampNeg) ∧ cell.slots[i.toNatClampNeg]? = some (.int x)
def az_Lsi (X : az_HM ρ α) : Prop := ∀ h H t r i x h' s, t < 2 → az_hR X h H → az_hV X r → az_hK X s → az_si (az_hO X) h t r i x = some (true, h') → az_hB X ≤ az_hA X r ∧ az_hc X h' = az_hc X h ∧ az_hs X h' = az_hs X h ∧ narrow (az_dty t) (.int x) = .int x ∧
  ∃ cell : Cell, H[az_hA X r]? = some cell ∧ s.isArrayOf cell (az_dty t) ∧ cell.vm ≠ .unknown ∧ ¬ (i < 0 ∨ cell.slots.size ≤ i.toNatClampNeg) ∧ ∀ H' : Heap, H'[az_hA X r]? = some (cell.setSlot i.toNatClampNeg (.int x)) → H'.size = H.size → (∀ q, q ≠ az_hA X r → H'[q]? = H[q]?) → az_hR X h' H'
def az_Lga (X : az_HM ρ α) : Prop := ∀ h H r i v s, az_hR X h H → az_hV X r → az_hK X s → az_ga (az_hO X) h r i = some (true, v) → az_vv (az_hV X) v ∧ ∃ (cell : Cell) (ty : FieldType), H[az_hA X r]? = some cell ∧ s.isArrayOf cell ty ∧ ty.isReference = true ∧ cell.vm ≠ .unknown ∧ ¬ (i < 0 ∨ cell.slots.size ≤ i.toNatClampNeg) ∧ cell.slots[i.toNatClampNeg]? = some (az_tr (az_hA X) v)
def az_Lsa (X : az_HM ρ α) : Prop := ∀ h H r i v h' s, az_hR X h H → az_hV X r → az_vv (az_hV X) v → az_hK X s → az_sa (az_hO X) h r i v = some (true, h') → az_hB X ≤ az_hA X r ∧ az_hc X h' = az_hc X h ∧ az_hs X h' = az_hs X h ∧
  ∃ (r2 : ρ) (cell cv : Cell) (k kv kcomp : Class) (comp : ClassId) (t : FieldType), v = Sum.inr (some r2) ∧ H[az_hA X r]? = some cell ∧ (∀ q, cell.vm ≠ .statics q) ∧ cell.vm ≠ .unknown ∧ s.vm.classes[cell.cls]? = some k ∧ k.kind = .array comp t ∧ t.isReference = true ∧ s.vm.classes[comp]? = some kcomp ∧ (¬ i < 0 ∧ i.toNatClampNeg < cell.slots.size) ∧ H[az_hA X r2]? = some cv ∧ (∀ q, cv.vm ≠ .statics q) ∧ s.vm.classes[cv.cls]? = some kv ∧ s.vm.assignable cv.cls comp = true ∧
    ∀ H' : Heap, H'[az_hA X r]? = some (cell.setSlot i.toNatClampNeg (.ref (az_hA X r2))) → H'.size = H.size → (∀ q, q ≠ az_hA X r → H'[q]? = H[q]?) → az_hR X h' H'
def az_Lnw (X : az_HM ρ α) : Prop := ∀ h H a r h' s, az_hR X h H → az_hK X s → az_nw (az_hO X) h a = some (r, h') → az_hV X r ∧ az_hA X r = H.size ∧ az_hc X h' = az_hc X h + 1 ∧
  ∃ (n : Nat) (cC : ClassId), (a, n) ∈ az_IN ∧ a ∈ az_IZ ∧ az_hs X h' = az_hs X h + n ∧ s.vm.findClass (az_cn a) = some cC ∧ ∀ (H' : Heap) (kC : Class), s.vm.classes[cC]? = some kC → H'[H.size]? = some (blank cC kC) → H'.size = H.size + 1 → (∀ q, q < H.size → H'[q]? = H[q]?) → (∀ w ∈ lw_all, w.before #[] s = true) → az_hR X h' H'
def az_Lna (X : az_HM ρ α) : Prop := ∀ h H a n r h' s, a < 2 → az_hR X h H → az_hK X s → az_na (az_hO X) h 0 a n = some (true, r, h') → az_hV X r ∧ az_hA X r = H.size ∧ az_hc X h' = az_hc X h + 1 ∧ az_hs X h' = az_hs X h + n.toNatClampNeg ∧ ¬ n < 0 ∧ n.toNatClampNeg * 8 ≤ 536870912 ∧
  ∀ (H' : Heap) (cA : ClassId), s.vm.findClass ("[" ++ (az_dty a).toString) = some cA → H'[H.size]? = some (arrV cA n.toNatClampNeg (fun _ => .int 0)) → H'.size = H.size + 1 → (∀ q, q < H.size → H'[q]? = H[q]?) → az_hR X h' H'
def az_Lnr (X : az_HM ρ α) : Prop := ∀ h H a n r h' s, a ∈ [2, 7, 8, 9] → az_hR X h H → az_hK X s → az_na (az_hO X) h 1 a n = some (true, r, h') → az_hV X r ∧ az_hA X r = H.size ∧ az_hc X h' = az_hc X h + 1 ∧ az_hs X h' = az_hs X h + n.toNatClampNeg ∧ ¬ n < 0 ∧ n.toNatClampNeg * 4 ≤ 536870912 ∧
  ∀ (H' : Heap) (cA : ClassId), s.vm.findClass ("[" ++ (FieldType.object (az_cn a)).toString) = some cA → H'[H.size]? = some (arrV cA n.toNatClampNeg (fun _ => .null)) → H'.size = H.size + 1 → (∀ q, q < H.size → H'[q]? = H[q]?) → az_hR X h' H'
def az_Lcs (X : az_HM ρ α) : Prop := ∀ h H r a, az_hR X h H → az_hV X r → az_cs (az_hO X) h r = some a → a < 14 ∧ ∃ fs : List Value, va_at (az_hD X) az_cl (az_hA X r, .inr (a, fs)) H
def az_Leq (X : az_HM ρ α) : Prop := ∀ x y, az_hV X x → az_hV X y → (az_eq (az_hO X) x y = true ↔ az_hA X x = az_hA X y)
def az_Law (X : az_HM ρ α) : Prop := az_Lgf X ∧ az_Lpf X ∧ az_Lal X ∧ az_Lgi X ∧ az_Lsi X ∧ az_Lga X ∧ az_Lsa X ∧ az_Lnw X ∧ az_Lna X ∧ az_Lnr X ∧ az_Lcs X ∧ az_Leq X
variable {X : az_HM ρ α} {p : Program} {l : Launch} {e : Env} {R : Room} {s : State} {m : MethodId} {args : Array Value} {below : List Frame} {meth : Method} {c : Code} {Q : State → Prop} {q : az_MT} {c0 s0 : Nat}
theorem az_t0 {pc : Nat} {k : Int32} {np a b cx d : Nat} {L : List Nat} {ls : az_L ρ} {st : List (az_V ρ)} {h : α} (hF : az_Fr p s m args meth c q) (hK : az_hK X s) (hok : az_ok q.2.2.2.2.1 q.2.2.1 q.2.2.2.1 (decide (q.1.name = "<init>")) q.2.1 pc (0, k, np, a, b, cx, d, L) = true)
    {g : Option Bool} {np' : Nat} {ls' : az_L ρ} {st' : List (az_V ρ)} {h' : α} (hs : az_step (az_hO X) (0, k, np, a, b, cx, d, L) ls st h = some (g, Sum.inl (np', ls', st', h'))) (hg : az_gd g = true) (hr : az_hc X h' - c0 ≤ R.cells ∧ az_hs X h' - s0 ≤ R.slots)
    (kk : az_W X p l e R s m args below meth c Q q.2.2.1 c0 s0 h' np' ls' st') : az_W X p l e R s m args below meth c Q q.2.2.1 c0 s0 h pc ls st := by
  simp only [az_step, az_nx, Option.some.injEq, Prod.mk.injEq, Sum.inl.injEq] at hs
  obtain ⟨rfl, rfl, rfl, rfl, rfl⟩ := hs
  simp only [az_ok, Bool.or_eq_true, Bool.and_eq_true, decide_eq_true_eq] at hok
  intro H locs lr hR hL hl hlo hso h1 h2
  have hx := hF.1
  have hb := hF.2.1
  have kk := kk H locs lr hR hL hl hlo (List.forall_mem_cons.mpr ⟨az_vvi _, hso⟩) h1 h2
  rcases hok with ((⟨⟨hd, hk⟩, hn⟩ | ⟨⟨hd, hk⟩, hn⟩) | ⟨⟨hd, hk⟩, hn⟩) | ⟨⟨hd, hk⟩, hn⟩
  · subst hn; exact lv_iconst hx hb hd hk kk
  · subst hn; exact lv_bipush hx hb hd hk kk
  · subst hn; exact lv_sipush hx hb hd hk kk
  · subst hn
    exact lv_ldc hx hb hF.2.2.2.2.2.1 (hF.2.2.2.2.2.2.1 _ (az_co _ (List.mem_map.mpr ⟨_, hk, rfl⟩))) hd kk
theorem az_t1 {pc : Nat} {k : Int32} {np a b cx d : Nat} {L : List Nat} {ls : az_L ρ} {st : List (az_V ρ)} {h : α} (hF : az_Fr p s m args meth c q) (hK : az_hK X s) (hok : az_ok q.2.2.2.2.1 q.2.2.1 q.2.2.2.1 (decide (q.1.name = "<init>")) q.2.1 pc (1, k, np, a, b, cx, d, L) = true)
    {g : Option Bool} {np' : Nat} {ls' : az_L ρ} {st' : List (az_V ρ)} {h' : α} (hs : az_step (az_hO X) (1, k, np, a, b, cx, d, L) ls st h = some (g, Sum.inl (np', ls', st', h'))) (hg : az_gd g = true) (hr : az_hc X h' - c0 ≤ R.cells ∧ az_hs X h' - s0 ≤ R.slots)
    (kk : az_W X p l e R s m args below meth c Q q.2.2.1 c0 s0 h' np' ls' st') : az_W X p l e R s m args below meth c Q q.2.2.1 c0 s0 h pc ls st := by
  simp only [az_step] at hs
  split at hs
  · rename_i x hv
    simp only [az_nx, Option.some.injEq, Prod.mk.injEq, Sum.inl.injEq] at hs
    obtain ⟨rfl, rfl, rfl, rfl, rfl⟩ := hs
    simp only [az_ok, Bool.or_eq_true, Bool.and_eq_true, decide_eq_true_eq] at hok
    intro H locs lr hR hL hl hlo hso h1 h2
    have hx := hF.1
    have hb := hF.2.1
    have kk := kk H locs lr hR hL hl hlo (List.forall_mem_cons.mpr ⟨az_vvi _, hso⟩) h1 h2
    have hat := hl.at hv
    rcases hok with ⟨hd, hn⟩ | ⟨⟨hd, h4⟩, hn⟩
    · subst hn; exact lv_iload hx hb hd hat kk
    · subst hn; exact lv_iload_n hx hb hd (Nat.mod_eq_of_lt h4) hat kk
  · cases hs
theorem az_t2 {pc : Nat} {k : Int32} {np a b cx d : Nat} {L : List Nat} {ls : az_L ρ} {st : List (az_V ρ)} {h : α} (hF : az_Fr p s m args meth c q) (hK : az_hK X s) (hok : az_ok q.2.2.2.2.1 q.2.2.1 q.2.2.2.1 (decide (q.1.name = "<init>")) q.2.1 pc (2, k, np, a, b, cx, d, L) = true)
    {g : Option Bool} {np' : Nat} {ls' : az_L ρ} {st' : List (az_V ρ)} {h' : α} (hs : az_step (az_hO X) (2, k, np, a, b, cx, d, L) ls st h = some (g, Sum.inl (np', ls', st', h'))) (hg : az_gd g = true) (hr : az_hc X h' - c0 ≤ R.cells ∧ az_hs X h' - s0 ≤ R.slots)
    (kk : az_W X p l e R s m args below meth c Q q.2.2.1 c0 s0 h' np' ls' st') : az_W X p l e R s m args below meth c Q q.2.2.1 c0 s0 h pc ls st := by
  simp only [az_step] at hs
  split at hs
  · rename_i x hv
    simp only [az_nx, Option.some.injEq, Prod.mk.injEq, Sum.inl.injEq] at hs
    obtain ⟨rfl, rfl, rfl, rfl, rfl⟩ := hs
    simp only [az_ok, Bool.or_eq_true, Bool.and_eq_true, decide_eq_true_eq] at hok
    intro H locs lr hR hL hl hlo hso h1 h2
    have hx := hF.1
    have hb := hF.2.1
    have kk := kk H locs lr hR hL hl hlo (List.forall_mem_cons.mpr ⟨hlo.at hv, hso⟩) h1 h2
    have hat := hl.at hv
    rcases x with _ | r
    · rcases hok with ⟨hd, hn⟩ | ⟨⟨hd, h4⟩, hn⟩
      · subst hn; exact lv_aloadN hx hb hd hat kk
      · subst hn; exact lv_aload_nN hx hb hd (Nat.mod_eq_of_lt h4) hat kk
    · rcases hok with ⟨hd, hn⟩ | ⟨⟨hd, h4⟩, hn⟩
      · subst hn; exact lv_aload hx hb hd hat kk
      · subst hn; exact lv_aload_n hx hb hd (Nat.mod_eq_of_lt h4) hat kk
  · cases hs
theorem az_t3 {pc : Nat} {k : Int32} {np a b cx d : Nat} {L : List Nat} {ls : az_L ρ} {st : List (az_V ρ)} {h : α} (hF : az_Fr p s m args meth c q) (hK : az_hK X s) (hok : az_ok q.2.2.2.2.1 q.2.2.1 q.2.2.2.1 (decide (q.1.name = "<init>")) q.2.1 pc (3, k, np, a, b, cx, d, L) = true)
    {g : Option Bool} {np' : Nat} {ls' : az_L ρ} {st' : List (az_V ρ)} {h' : α} (hs : az_step (az_hO X) (3, k, np, a, b, cx, d, L) ls st h = some (g, Sum.inl (np', ls', st', h'))) (hg : az_gd g = true) (hr : az_hc X h' - c0 ≤ R.cells ∧ az_hs X h' - s0 ≤ R.slots)
    (kk : az_W X p l e R s m args below meth c Q q.2.2.1 c0 s0 h' np' ls' st') : az_W X p l e R s m args below meth c Q q.2.2.1 c0 s0 h pc ls st := by
  simp only [az_step] at hs
  split at hs
  · rename_i x t
    simp only [az_nx, Option.some.injEq, Prod.mk.injEq, Sum.inl.injEq] at hs
    obtain ⟨rfl, rfl, rfl, rfl, rfl⟩ := hs
    simp only [az_ok, Bool.or_eq_true, Bool.and_eq_true, decide_eq_true_eq] at hok
    intro H locs lr hR hL hl hlo hso h1 h2
    have hx := hF.1
    have hb := hF.2.1
    obtain ⟨ha, hok⟩ := hok
    have kk := fun (lr' : Array Slot) hh => kk H locs lr' hR hL (hl.store (v := Sum.inl x) ha _ (fun _ z => z) hh) (hlo.set a (az_vvi x)) (List.forall_mem_cons.mp hso).2 h1 h2
    rcases hok with ⟨hd, hn⟩ | ⟨⟨hd, h4⟩, hn⟩
    · subst hn; exact lv_istore hx hb hd hl.has ha rfl kk
    · subst hn; exact lv_istore_n hx hb hd (Nat.mod_eq_of_lt h4) hl.has ha rfl kk
  · cases hs
theorem az_t4 {pc : Nat} {k : Int32} {np a b cx d : Nat} {L : List Nat} {ls : az_L ρ} {st : List (az_V ρ)} {h : α} (hF : az_Fr p s m args meth c q) (hK : az_hK X s) (hok : az_ok q.2.2.2.2.1 q.2.2.1 q.2.2.2.1 (decide (q.1.name = "<init>")) q.2.1 pc (4, k, np, a, b, cx, d, L) = true)
    {g : Option Bool} {np' : Nat} {ls' : az_L ρ} {st' : List (az_V ρ)} {h' : α} (hs : az_step (az_hO X) (4, k, np, a, b, cx, d, L) ls st h = some (g, Sum.inl (np', ls', st', h'))) (hg : az_gd g = true) (hr : az_hc X h' - c0 ≤ R.cells ∧ az_hs X h' - s0 ≤ R.slots)
    (kk : az_W X p l e R s m args below meth c Q q.2.2.1 c0 s0 h' np' ls' st') : az_W X p l e R s m args below meth c Q q.2.2.1 c0 s0 h pc ls st := by
  simp only [az_step] at hs
  split at hs
  · rename_i x t
    simp only [az_nx, Option.some.injEq, Prod.mk.injEq, Sum.inl.injEq] at hs
    obtain ⟨rfl, rfl, rfl, rfl, rfl⟩ := hs
    simp only [az_ok, Bool.or_eq_true, Bool.and_eq_true, decide_eq_true_eq] at hok
    intro H locs lr hR hL hl hlo hso h1 h2
    have hx := hF.1
    have hb := hF.2.1
    obtain ⟨ha, hok⟩ := hok
    obtain ⟨hso1, hso2⟩ := List.forall_mem_cons.mp hso
    have kk := fun (lr' : Array Slot) hh => kk H locs lr' hR hL (hl.store (v := Sum.inr x) ha _ (fun _ z => z) hh) (hlo.set a hso1) hso2 h1 h2
    rcases x with _ | r
    · rcases hok with ⟨hd, hn⟩ | ⟨⟨hd, h4⟩, hn⟩
      · subst hn; exact lv_astoreN hx hb hd hl.has ha rfl kk
      · subst hn; exact lv_astore_nN hx hb hd (Nat.mod_eq_of_lt h4) hl.has ha rfl kk
    · rcases hok with ⟨hd, hn⟩ | ⟨⟨hd, h4⟩, hn⟩
      · subst hn; exact lv_astore hx hb hd hl.has ha rfl kk
      · subst hn; exact lv_astore_n hx hb hd (Nat.mod_eq_of_lt h4) hl.has ha rfl kk
  · cases hs
theorem az_t5 {pc : Nat} {k : Int32} {np a b cx d : Nat} {L : List Nat} {ls : az_L ρ} {st : List (az_V ρ)} {h : α} (hF : az_Fr p s m args meth c q) (hK : az_hK X s) (hok : az_ok q.2.2.2.2.1 q.2.2.1 q.2.2.2.1 (decide (q.1.name = "<init>")) q.2.1 pc (5, k, np, a, b, cx, d, L) = true)
    {g : Option Bool} {np' : Nat} {ls' : az_L ρ} {st' : List (az_V ρ)} {h' : α} (hs : az_step (az_hO X) (5, k, np, a, b, cx, d, L) ls st h = some (g, Sum.inl (np', ls', st', h'))) (hg : az_gd g = true) (hr : az_hc X h' - c0 ≤ R.cells ∧ az_hs X h' - s0 ≤ R.slots)
    (kk : az_W X p l e R s m args below meth c Q q.2.2.1 c0 s0 h' np' ls' st') : az_W X p l e R s m args below meth c Q q.2.2.1 c0 s0 h pc ls st := by
  simp only [az_step] at hs
  split at hs
  · rename_i x hv
    simp only [az_nx, Option.some.injEq, Prod.mk.injEq, Sum.inl.injEq] at hs
    obtain ⟨rfl, rfl, rfl, rfl, rfl⟩ := hs
    simp only [az_ok, Bool.and_eq_true, decide_eq_true_eq] at hok
    intro H locs lr hR hL hl hlo hso h1 h2
    have hx := hF.1
    have hb := hF.2.1
    obtain ⟨⟨⟨ha, hd⟩, hk⟩, hn⟩ := hok
    subst hn
    have hat := hl.at hv
    have hh : lv_has lr q.2.2.1 ((a, .int x) :: az_ll (az_hA X) ls) := ⟨hl.1, hl.2.1, List.forall_mem_cons.mpr ⟨hat, hl.has.2.2⟩⟩
    have kk := fun (lr' : Array Slot) hh => kk H locs lr' hR hL (hl.store (v := Sum.inl (x + k)) ha ((a, .int x) :: az_ll (az_hA X) ls) (fun _ z => List.mem_cons_of_mem _ z) hh) (hlo.set a (az_vvi _)) hso h1 h2
    exact lv_iinc hx hb hd hh (k := 0) rfl (by rw [hk]) ha rfl kk
  · cases hs
theorem az_t19 {pc : Nat} {k : Int32} {np a b cx d : Nat} {L : List Nat} {ls : az_L ρ} {st : List (az_V ρ)} {h : α} (hF : az_Fr p s m args meth c q) (hK : az_hK X s) (hok : az_ok q.2.2.2.2.1 q.2.2.1 q.2.2.2.1 (decide (q.1.name = "<init>")) q.2.1 pc (19, k, np, a, b, cx, d, L) = true)
    {g : Option Bool} {np' : Nat} {ls' : az_L ρ} {st' : List (az_V ρ)} {h' : α} (hs : az_step (az_hO X) (19, k, np, a, b, cx, d, L) ls st h = some (g, Sum.inl (np', ls', st', h'))) (hg : az_gd g = true) (hr : az_hc X h' - c0 ≤ R.cells ∧ az_hs X h' - s0 ≤ R.slots)
    (kk : az_W X p l e R s m args below meth c Q q.2.2.1 c0 s0 h' np' ls' st') : az_W X p l e R s m args below meth c Q q.2.2.1 c0 s0 h pc ls st := by
  simp only [az_step] at hs
  split at hs
  · rename_i y x t
    simp only [az_nx, Option.some.injEq, Prod.mk.injEq, Sum.inl.injEq] at hs
    obtain ⟨rfl, rfl, rfl, rfl, rfl⟩ := hs
    simp only [az_ok, Bool.and_eq_true, decide_eq_true_eq] at hok
    intro H locs lr hR hL hl hlo hso h1 h2
    have hx := hF.1
    have hb := hF.2.1
    obtain ⟨hd, hn⟩ := hok
    subst hn
    obtain ⟨-, hso⟩ := List.forall_mem_cons.mp hso
    obtain ⟨-, hso⟩ := List.forall_mem_cons.mp hso
    have kk := kk H locs lr hR hL hl hlo (List.forall_mem_cons.mpr ⟨az_vvi _, hso⟩) h1 h2
    exact lv_iadd hx hb hd kk
  · cases hs
theorem az_t20 {pc : Nat} {k : Int32} {np a b cx d : Nat} {L : List Nat} {ls : az_L ρ} {st : List (az_V ρ)} {h : α} (hF : az_Fr p s m args meth c q) (hK : az_hK X s) (hok : az_ok q.2.2.2.2.1 q.2.2.1 q.2.2.2.1 (decide (q.1.name = "<init>")) q.2.1 pc (20, k, np, a, b, cx, d, L) = true)
    {g : Option Bool} {np' : Nat} {ls' : az_L ρ} {st' : List (az_V ρ)} {h' : α} (hs : az_step (az_hO X) (20, k, np, a, b, cx, d, L) ls st h = some (g, Sum.inl (np', ls', st', h'))) (hg : az_gd g = true) (hr : az_hc X h' - c0 ≤ R.cells ∧ az_hs X h' - s0 ≤ R.slots)
    (kk : az_W X p l e R s m args below meth c Q q.2.2.1 c0 s0 h' np' ls' st') : az_W X p l e R s m args below meth c Q q.2.2.1 c0 s0 h pc ls st := by
  simp only [az_step] at hs
  split at hs
  · rename_i y x t
    simp only [az_nx, Option.some.injEq, Prod.mk.injEq, Sum.inl.injEq] at hs
    obtain ⟨rfl, rfl, rfl, rfl, rfl⟩ := hs
    simp only [az_ok, Bool.and_eq_true, decide_eq_true_eq] at hok
    intro H locs lr hR hL hl hlo hso h1 h2
    have hx := hF.1
    have hb := hF.2.1
    obtain ⟨hd, hn⟩ := hok
    subst hn
    obtain ⟨-, hso⟩ := List.forall_mem_cons.mp hso
    obtain ⟨-, hso⟩ := List.forall_mem_cons.mp hso
    have kk := kk H locs lr hR hL hl hlo (List.forall_mem_cons.mpr ⟨az_vvi _, hso⟩) h1 h2
    exact lv_isub hx hb hd kk
  · cases hs
theorem az_t21 {pc : Nat} {k : Int32} {np a b cx d : Nat} {L : List Nat} {ls : az_L ρ} {st : List (az_V ρ)} {h : α} (hF : az_Fr p s m args meth c q) (hK : az_hK X s) (hok : az_ok q.2.2.2.2.1 q.2.2.1 q.2.2.2.1 (decide (q.1.name = "<init>")) q.2.1 pc (21, k, np, a, b, cx, d, L) = true)
    {g : Option Bool} {np' : Nat} {ls' : az_L ρ} {st' : List (az_V ρ)} {h' : α} (hs : az_step (az_hO X) (21, k, np, a, b, cx, d, L) ls st h = some (g, Sum.inl (np', ls', st', h'))) (hg : az_gd g = true) (hr : az_hc X h' - c0 ≤ R.cells ∧ az_hs X h' - s0 ≤ R.slots)
    (kk : az_W X p l e R s m args below meth c Q q.2.2.1 c0 s0 h' np' ls' st') : az_W X p l e R s m args below meth c Q q.2.2.1 c0 s0 h pc ls st := by
  simp only [az_step] at hs
  split at hs
  · rename_i y x t
    simp only [az_nx, Option.some.injEq, Prod.mk.injEq, Sum.inl.injEq] at hs
    obtain ⟨rfl, rfl, rfl, rfl, rfl⟩ := hs
    simp only [az_ok, Bool.and_eq_true, decide_eq_true_eq] at hok
    intro H locs lr hR hL hl hlo hso h1 h2
    have hx := hF.1
    have hb := hF.2.1
    obtain ⟨hd, hn⟩ := hok
    subst hn
    obtain ⟨-, hso⟩ := List.forall_mem_cons.mp hso
    obtain ⟨-, hso⟩ := List.forall_mem_cons.mp hso
    have kk := kk H locs lr hR hL hl hlo (List.forall_mem_cons.mpr ⟨az_vvi _, hso⟩) h1 h2
    exact lv_imul hx hb hd kk
  · cases hs
theorem az_t24 {pc : Nat} {k : Int32} {np a b cx d : Nat} {L : List Nat} {ls : az_L ρ} {st : List (az_V ρ)} {h : α} (hF : az_Fr p s m args meth c q) (hK : az_hK X s) (hok : az_ok q.2.2.2.2.1 q.2.2.1 q.2.2.2.1 (decide (q.1.name = "<init>")) q.2.1 pc (24, k, np, a, b, cx, d, L) = true)
    {g : Option Bool} {np' : Nat} {ls' : az_L ρ} {st' : List (az_V ρ)} {h' : α} (hs : az_step (az_hO X) (24, k, np, a, b, cx, d, L) ls st h = some (g, Sum.inl (np', ls', st', h'))) (hg : az_gd g = true) (hr : az_hc X h' - c0 ≤ R.cells ∧ az_hs X h' - s0 ≤ R.slots)
    (kk : az_W X p l e R s m args below meth c Q q.2.2.1 c0 s0 h' np' ls' st') : az_W X p l e R s m args below meth c Q q.2.2.1 c0 s0 h pc ls st := by
  simp only [az_step] at hs
  split at hs
  · rename_i y x t
    simp only [az_nx, Option.some.injEq, Prod.mk.injEq, Sum.inl.injEq] at hs
    obtain ⟨rfl, rfl, rfl, rfl, rfl⟩ := hs
    simp only [az_ok, Bool.and_eq_true, decide_eq_true_eq] at hok
    intro H locs lr hR hL hl hlo hso h1 h2
    have hx := hF.1
    have hb := hF.2.1
    obtain ⟨hd, hn⟩ := hok
    subst hn
    obtain ⟨-, hso⟩ := List.forall_mem_cons.mp hso
    obtain ⟨-, hso⟩ := List.forall_mem_cons.mp hso
    have kk := kk H locs lr hR hL hl hlo (List.forall_mem_cons.mpr ⟨az_vvi _, hso⟩) h1 h2
    exact lv_iand hx hb hd kk
  · cases hs
theorem az_t25 {pc : Nat} {k : Int32} {np a b cx d : Nat} {L : List Nat} {ls : az_L ρ} {st : List (az_V ρ)} {h : α} (hF : az_Fr p s m args meth c q) (hK : az_hK X s) (hok : az_ok q.2.2.2.2.1 q.2.2.1 q.2.2.2.1 (decide (q.1.name = "<init>")) q.2.1 pc (25, k, np, a, b, cx, d, L) = true)
    {g : Option Bool} {np' : Nat} {ls' : az_L ρ} {st' : List (az_V ρ)} {h' : α} (hs : az_step (az_hO X) (25, k, np, a, b, cx, d, L) ls st h = some (g, Sum.inl (np', ls', st', h'))) (hg : az_gd g = true) (hr : az_hc X h' - c0 ≤ R.cells ∧ az_hs X h' - s0 ≤ R.slots)
    (kk : az_W X p l e R s m args below meth c Q q.2.2.1 c0 s0 h' np' ls' st') : az_W X p l e R s m args below meth c Q q.2.2.1 c0 s0 h pc ls st := by
  simp only [az_step] at hs
  split at hs
  · rename_i y x t
    simp only [az_nx, Option.some.injEq, Prod.mk.injEq, Sum.inl.injEq] at hs
    obtain ⟨rfl, rfl, rfl, rfl, rfl⟩ := hs
    simp only [az_ok, Bool.and_eq_true, decide_eq_true_eq] at hok
    intro H locs lr hR hL hl hlo hso h1 h2
    have hx := hF.1
    have hb := hF.2.1
    obtain ⟨hd, hn⟩ := hok
    subst hn
    obtain ⟨-, hso⟩ := List.forall_mem_cons.mp hso
    obtain ⟨-, hso⟩ := List.forall_mem_cons.mp hso
    have kk := kk H locs lr hR hL hl hlo (List.forall_mem_cons.mpr ⟨az_vvi _, hso⟩) h1 h2
    exact lv_ior hx hb hd kk
  · cases hs
theorem az_t26 {pc : Nat} {k : Int32} {np a b cx d : Nat} {L : List Nat} {ls : az_L ρ} {st : List (az_V ρ)} {h : α} (hF : az_Fr p s m args meth c q) (hK : az_hK X s) (hok : az_ok q.2.2.2.2.1 q.2.2.1 q.2.2.2.1 (decide (q.1.name = "<init>")) q.2.1 pc (26, k, np, a, b, cx, d, L) = true)
    {g : Option Bool} {np' : Nat} {ls' : az_L ρ} {st' : List (az_V ρ)} {h' : α} (hs : az_step (az_hO X) (26, k, np, a, b, cx, d, L) ls st h = some (g, Sum.inl (np', ls', st', h'))) (hg : az_gd g = true) (hr : az_hc X h' - c0 ≤ R.cells ∧ az_hs X h' - s0 ≤ R.slots)
    (kk : az_W X p l e R s m args below meth c Q q.2.2.1 c0 s0 h' np' ls' st') : az_W X p l e R s m args below meth c Q q.2.2.1 c0 s0 h pc ls st := by
  simp only [az_step] at hs
  split at hs
  · rename_i y x t
    simp only [az_nx, Option.some.injEq, Prod.mk.injEq, Sum.inl.injEq] at hs
    obtain ⟨rfl, rfl, rfl, rfl, rfl⟩ := hs
    simp only [az_ok, Bool.and_eq_true, decide_eq_true_eq] at hok
    intro H locs lr hR hL hl hlo hso h1 h2
    have hx := hF.1
    have hb := hF.2.1
    obtain ⟨hd, hn⟩ := hok
    subst hn
    obtain ⟨-, hso⟩ := List.forall_mem_cons.mp hso
    obtain ⟨-, hso⟩ := List.forall_mem_cons.mp hso
    have kk := kk H locs lr hR hL hl hlo (List.forall_mem_cons.mpr ⟨az_vvi _, hso⟩) h1 h2
    exact lv_ixor hx hb hd kk
  · cases hs
theorem az_t27 {pc : Nat} {k : Int32} {np a b cx d : Nat} {L : List Nat} {ls : az_L ρ} {st : List (az_V ρ)} {h : α} (hF : az_Fr p s m args meth c q) (hK : az_hK X s) (hok : az_ok q.2.2.2.2.1 q.2.2.1 q.2.2.2.1 (decide (q.1.name = "<init>")) q.2.1 pc (27, k, np, a, b, cx, d, L) = true)
    {g : Option Bool} {np' : Nat} {ls' : az_L ρ} {st' : List (az_V ρ)} {h' : α} (hs : az_step (az_hO X) (27, k, np, a, b, cx, d, L) ls st h = some (g, Sum.inl (np', ls', st', h'))) (hg : az_gd g = true) (hr : az_hc X h' - c0 ≤ R.cells ∧ az_hs X h' - s0 ≤ R.slots)
    (kk : az_W X p l e R s m args below meth c Q q.2.2.1 c0 s0 h' np' ls' st') : az_W X p l e R s m args below meth c Q q.2.2.1 c0 s0 h pc ls st := by
  simp only [az_step] at hs
  split at hs
  · rename_i y x t
    simp only [az_nx, Option.some.injEq, Prod.mk.injEq, Sum.inl.injEq] at hs
    obtain ⟨rfl, rfl, rfl, rfl, rfl⟩ := hs
    simp only [az_ok, Bool.and_eq_true, decide_eq_true_eq] at hok
    intro H locs lr hR hL hl hlo hso h1 h2
    have hx := hF.1
    have hb := hF.2.1
    obtain ⟨hd, hn⟩ := hok
    subst hn
    obtain ⟨-, hso⟩ := List.forall_mem_cons.mp hso
    obtain ⟨-, hso⟩ := List.forall_mem_cons.mp hso
    have kk := kk H locs lr hR hL hl hlo (List.forall_mem_cons.mpr ⟨az_vvi _, hso⟩) h1 h2
    exact lv_ishl hx hb hd kk
  · cases hs
theorem az_t28 {pc : Nat} {k : Int32} {np a b cx d : Nat} {L : List Nat} {ls : az_L ρ} {st : List (az_V ρ)} {h : α} (hF : az_Fr p s m args meth c q) (hK : az_hK X s) (hok : az_ok q.2.2.2.2.1 q.2.2.1 q.2.2.2.1 (decide (q.1.name = "<init>")) q.2.1 pc (28, k, np, a, b, cx, d, L) = true)
    {g : Option Bool} {np' : Nat} {ls' : az_L ρ} {st' : List (az_V ρ)} {h' : α} (hs : az_step (az_hO X) (28, k, np, a, b, cx, d, L) ls st h = some (g, Sum.inl (np', ls', st', h'))) (hg : az_gd g = true) (hr : az_hc X h' - c0 ≤ R.cells ∧ az_hs X h' - s0 ≤ R.slots)
    (kk : az_W X p l e R s m args below meth c Q q.2.2.1 c0 s0 h' np' ls' st') : az_W X p l e R s m args below meth c Q q.2.2.1 c0 s0 h pc ls st := by
  simp only [az_step] at hs
  split at hs
  · rename_i y x t
    simp only [az_nx, Option.some.injEq, Prod.mk.injEq, Sum.inl.injEq] at hs
    obtain ⟨rfl, rfl, rfl, rfl, rfl⟩ := hs
    simp only [az_ok, Bool.and_eq_true, decide_eq_true_eq] at hok
    intro H locs lr hR hL hl hlo hso h1 h2
    have hx := hF.1
    have hb := hF.2.1
    obtain ⟨hd, hn⟩ := hok
    subst hn
    obtain ⟨-, hso⟩ := List.forall_mem_cons.mp hso
    obtain ⟨-, hso⟩ := List.forall_mem_cons.mp hso
    have kk := kk H locs lr hR hL hl hlo (List.forall_mem_cons.mpr ⟨az_vvi _, hso⟩) h1 h2
    exact lv_ishr hx hb hd kk
  · cases hs
theorem az_t22 {pc : Nat} {k : Int32} {np a b cx d : Nat} {L : List Nat} {ls : az_L ρ} {st : List (az_V ρ)} {h : α} (hF : az_Fr p s m args meth c q) (hK : az_hK X s) (hok : az_ok q.2.2.2.2.1 q.2.2.1 q.2.2.2.1 (decide (q.1.name = "<init>")) q.2.1 pc (22, k, np, a, b, cx, d, L) = true)
    {g : Option Bool} {np' : Nat} {ls' : az_L ρ} {st' : List (az_V ρ)} {h' : α} (hs : az_step (az_hO X) (22, k, np, a, b, cx, d, L) ls st h = some (g, Sum.inl (np', ls', st', h'))) (hg : az_gd g = true) (hr : az_hc X h' - c0 ≤ R.cells ∧ az_hs X h' - s0 ≤ R.slots)
    (kk : az_W X p l e R s m args below meth c Q q.2.2.1 c0 s0 h' np' ls' st') : az_W X p l e R s m args below meth c Q q.2.2.1 c0 s0 h pc ls st := by
  simp only [az_step] at hs
  split at hs
  · rename_i y x t
    simp only [az_gx, Option.some.injEq, Prod.mk.injEq, Sum.inl.injEq] at hs
    obtain ⟨rfl, rfl, rfl, rfl, rfl⟩ := hs
    simp only [az_ok, Bool.and_eq_true, decide_eq_true_eq] at hok
    intro H locs lr hR hL hl hlo hso h1 h2
    have hx := hF.1
    have hb := hF.2.1
    obtain ⟨hd, hn⟩ := hok
    subst hn
    obtain ⟨-, hso⟩ := List.forall_mem_cons.mp hso
    obtain ⟨-, hso⟩ := List.forall_mem_cons.mp hso
    have kk := kk H locs lr hR hL hl hlo (List.forall_mem_cons.mpr ⟨az_vvi _, hso⟩) h1 h2
    exact lv_idiv hx hb hd (of_decide_eq_true hg) kk
  · cases hs
theorem az_t23 {pc : Nat} {k : Int32} {np a b cx d : Nat} {L : List Nat} {ls : az_L ρ} {st : List (az_V ρ)} {h : α} (hF : az_Fr p s m args meth c q) (hK : az_hK X s) (hok : az_ok q.2.2.2.2.1 q.2.2.1 q.2.2.2.1 (decide (q.1.name = "<init>")) q.2.1 pc (23, k, np, a, b, cx, d, L) = true)
    {g : Option Bool} {np' : Nat} {ls' : az_L ρ} {st' : List (az_V ρ)} {h' : α} (hs : az_step (az_hO X) (23, k, np, a, b, cx, d, L) ls st h = some (g, Sum.inl (np', ls', st', h'))) (hg : az_gd g = true) (hr : az_hc X h' - c0 ≤ R.cells ∧ az_hs X h' - s0 ≤ R.slots)
    (kk : az_W X p l e R s m args below meth c Q q.2.2.1 c0 s0 h' np' ls' st') : az_W X p l e R s m args below meth c Q q.2.2.1 c0 s0 h pc ls st := by
  simp only [az_step] at hs
  split at hs
  · rename_i y x t
    simp only [az_gx, Option.some.injEq, Prod.mk.injEq, Sum.inl.injEq] at hs
    obtain ⟨rfl, rfl, rfl, rfl, rfl⟩ := hs
    simp only [az_ok, Bool.and_eq_true, decide_eq_true_eq] at hok
    intro H locs lr hR hL hl hlo hso h1 h2
    have hx := hF.1
    have hb := hF.2.1
    obtain ⟨hd, hn⟩ := hok
    subst hn
    obtain ⟨-, hso⟩ := List.forall_mem_cons.mp hso
    obtain ⟨-, hso⟩ := List.forall_mem_cons.mp hso
    have kk := kk H locs lr hR hL hl hlo (List.forall_mem_cons.mpr ⟨az_vvi _, hso⟩) h1 h2
    exact lv_irem hx hb hd (of_decide_eq_true hg) kk
  · cases hs
theorem az_t29 {pc : Nat} {k : Int32} {np a b cx d : Nat} {L : List Nat} {ls : az_L ρ} {st : List (az_V ρ)} {h : α} (hF : az_Fr p s m args meth c q) (hK : az_hK X s) (hok : az_ok q.2.2.2.2.1 q.2.2.1 q.2.2.2.1 (decide (q.1.name = "<init>")) q.2.1 pc (29, k, np, a, b, cx, d, L) = true)
    {g : Option Bool} {np' : Nat} {ls' : az_L ρ} {st' : List (az_V ρ)} {h' : α} (hs : az_step (az_hO X) (29, k, np, a, b, cx, d, L) ls st h = some (g, Sum.inl (np', ls', st', h'))) (hg : az_gd g = true) (hr : az_hc X h' - c0 ≤ R.cells ∧ az_hs X h' - s0 ≤ R.slots)
    (kk : az_W X p l e R s m args below meth c Q q.2.2.1 c0 s0 h' np' ls' st') : az_W X p l e R s m args below meth c Q q.2.2.1 c0 s0 h pc ls st := by
  simp only [az_step] at hs
  split at hs
  · rename_i v t
    simp only [az_nx, Option.some.injEq, Prod.mk.injEq, Sum.inl.injEq] at hs
    obtain ⟨rfl, rfl, rfl, rfl, rfl⟩ := hs
    simp only [az_ok, Bool.and_eq_true, decide_eq_true_eq] at hok
    intro H locs lr hR hL hl hlo hso h1 h2
    have hx := hF.1
    have hb := hF.2.1
    obtain ⟨hd, hn⟩ := hok
    subst hn
    obtain ⟨ha, -⟩ := List.forall_mem_cons.mp hso
    exact lv_dup hx hb hd (az_cat _ v) (kk H locs lr hR hL hl hlo (List.forall_mem_cons.mpr ⟨ha, hso⟩) h1 h2)
  · cases hs
theorem az_t30 {pc : Nat} {k : Int32} {np a b cx d : Nat} {L : List Nat} {ls : az_L ρ} {st : List (az_V ρ)} {h : α} (hF : az_Fr p s m args meth c q) (hK : az_hK X s) (hok : az_ok q.2.2.2.2.1 q.2.2.1 q.2.2.2.1 (decide (q.1.name = "<init>")) q.2.1 pc (30, k, np, a, b, cx, d, L) = true)
    {g : Option Bool} {np' : Nat} {ls' : az_L ρ} {st' : List (az_V ρ)} {h' : α} (hs : az_step (az_hO X) (30, k, np, a, b, cx, d, L) ls st h = some (g, Sum.inl (np', ls', st', h'))) (hg : az_gd g = true) (hr : az_hc X h' - c0 ≤ R.cells ∧ az_hs X h' - s0 ≤ R.slots)
    (kk : az_W X p l e R s m args below meth c Q q.2.2.1 c0 s0 h' np' ls' st') : az_W X p l e R s m args below meth c Q q.2.2.1 c0 s0 h pc ls st := by
  simp only [az_step] at hs
  split at hs
  · rename_i v w t
    simp only [az_nx, Option.some.injEq, Prod.mk.injEq, Sum.inl.injEq] at hs
    obtain ⟨rfl, rfl, rfl, rfl, rfl⟩ := hs
    simp only [az_ok, Bool.and_eq_true, decide_eq_true_eq] at hok
    intro H locs lr hR hL hl hlo hso h1 h2
    have hx := hF.1
    have hb := hF.2.1
    obtain ⟨hd, hn⟩ := hok
    subst hn
    obtain ⟨ha, hso2⟩ := List.forall_mem_cons.mp hso
    obtain ⟨ha2, -⟩ := List.forall_mem_cons.mp hso2
    exact lv_dup2_11 hx hb hd (az_cat _ v) (az_cat _ w) (kk H locs lr hR hL hl hlo (List.forall_mem_cons.mpr ⟨ha, List.forall_mem_cons.mpr ⟨ha2, hso⟩⟩) h1 h2)
  · cases hs
theorem az_t31 {pc : Nat} {k : Int32} {np a b cx d : Nat} {L : List Nat} {ls : az_L ρ} {st : List (az_V ρ)} {h : α} (hF : az_Fr p s m args meth c q) (hK : az_hK X s) (hok : az_ok q.2.2.2.2.1 q.2.2.1 q.2.2.2.1 (decide (q.1.name = "<init>")) q.2.1 pc (31, k, np, a, b, cx, d, L) = true)
    {g : Option Bool} {np' : Nat} {ls' : az_L ρ} {st' : List (az_V ρ)} {h' : α} (hs : az_step (az_hO X) (31, k, np, a, b, cx, d, L) ls st h = some (g, Sum.inl (np', ls', st', h'))) (hg : az_gd g = true) (hr : az_hc X h' - c0 ≤ R.cells ∧ az_hs X h' - s0 ≤ R.slots)
    (kk : az_W X p l e R s m args below meth c Q q.2.2.1 c0 s0 h' np' ls' st') : az_W X p l e R s m args below meth c Q q.2.2.1 c0 s0 h pc ls st := by
  simp only [az_step] at hs
  split at hs
  · rename_i v t
    simp only [az_nx, Option.some.injEq, Prod.mk.injEq, Sum.inl.injEq] at hs
    obtain ⟨rfl, rfl, rfl, rfl, rfl⟩ := hs
    simp only [az_ok, Bool.and_eq_true, decide_eq_true_eq] at hok
    intro H locs lr hR hL hl hlo hso h1 h2
    have hx := hF.1
    have hb := hF.2.1
    obtain ⟨hd, hn⟩ := hok
    subst hn
    exact lv_pop hx hb hd (az_cat _ v) (kk H locs lr hR hL hl hlo (List.forall_mem_cons.mp hso).2 h1 h2)
  · cases hs
theorem az_t32 {pc : Nat} {k : Int32} {np a b cx d : Nat} {L : List Nat} {ls : az_L ρ} {st : List (az_V ρ)} {h : α} (hF : az_Fr p s m args meth c q) (hK : az_hK X s) (hok : az_ok q.2.2.2.2.1 q.2.2.1 q.2.2.2.1 (decide (q.1.name = "<init>")) q.2.1 pc (32, k, np, a, b, cx, d, L) = true)
    {g : Option Bool} {np' : Nat} {ls' : az_L ρ} {st' : List (az_V ρ)} {h' : α} (hs : az_step (az_hO X) (32, k, np, a, b, cx, d, L) ls st h = some (g, Sum.inl (np', ls', st', h'))) (hg : az_gd g = true) (hr : az_hc X h' - c0 ≤ R.cells ∧ az_hs X h' - s0 ≤ R.slots)
    (kk : az_W X p l e R s m args below meth c Q q.2.2.1 c0 s0 h' np' ls' st') : az_W X p l e R s m args below meth c Q q.2.2.1 c0 s0 h pc ls st := by
  simp only [az_step, az_nx, Option.some.injEq, Prod.mk.injEq, Sum.inl.injEq] at hs
  obtain ⟨rfl, rfl, rfl, rfl, rfl⟩ := hs
  simp only [az_ok, decide_eq_true_eq] at hok
  intro H locs lr hR hL hl hlo hso h1 h2
  have hx := hF.1
  have hb := hF.2.1
  exact lv_goto (tgt := a) hx hb hok (by omega) (kk H locs lr hR hL hl hlo hso h1 h2)
theorem az_t46 {pc : Nat} {k : Int32} {np a b cx d : Nat} {L : List Nat} {ls : az_L ρ} {st : List (az_V ρ)} {h : α} (hF : az_Fr p s m args meth c q) (hK : az_hK X s) (hok : az_ok q.2.2.2.2.1 q.2.2.1 q.2.2.2.1 (decide (q.1.name = "<init>")) q.2.1 pc (46, k, np, a, b, cx, d, L) = true)
    {g : Option Bool} {np' : Nat} {ls' : az_L ρ} {st' : List (az_V ρ)} {h' : α} (hs : az_step (az_hO X) (46, k, np, a, b, cx, d, L) ls st h = some (g, Sum.inl (np', ls', st', h'))) (hg : az_gd g = true) (hr : az_hc X h' - c0 ≤ R.cells ∧ az_hs X h' - s0 ≤ R.slots)
    (kk : az_W X p l e R s m args below meth c Q q.2.2.1 c0 s0 h' np' ls' st') : az_W X p l e R s m args below meth c Q q.2.2.1 c0 s0 h pc ls st := by
  simp only [az_step, az_nx, Option.some.injEq, Prod.mk.injEq, Sum.inl.injEq] at hs
  obtain ⟨rfl, rfl, rfl, rfl, rfl⟩ := hs
  simp only [az_ok, Bool.and_eq_true, decide_eq_true_eq] at hok
  intro H locs lr hR hL hl hlo hso h1 h2
  have hx := hF.1
  have hb := hF.2.1
  obtain ⟨hd, hn⟩ := hok
  subst hn
  exact lv_null hx hb hd (kk H locs lr hR hL hl hlo (List.forall_mem_cons.mpr ⟨az_vvn, hso⟩) h1 h2)
end
