/-! what a run keeps: valid references, growing counts -/
section
variable {ρ α : Type} {X : az_HM ρ α}
def az_Inv (X : az_HM ρ α) : Prop :=
  (∀ h r a b c d v, az_hV X r → az_gf (az_hO X) h r a b c d = some v → az_vv (az_hV X) v) ∧
  (∀ h r a b c d v g h', az_pf (az_hO X) h r a b c d v = some (g, h') → az_hc X h ≤ az_hc X h' ∧ az_hs X h ≤ az_hs X h') ∧
  (∀ h t r i x g h', az_si (az_hO X) h t r i x = some (g, h') → az_hc X h ≤ az_hc X h' ∧ az_hs X h ≤ az_hs X h') ∧
  (∀ h r i v, az_hV X r → az_ga (az_hO X) h r i = some (true, v) → az_vv (az_hV X) v) ∧
  (∀ h r i v g h', az_sa (az_hO X) h r i v = some (g, h') → az_hc X h ≤ az_hc X h' ∧ az_hs X h ≤ az_hs X h') ∧
  (∀ h a r h', az_nw (az_hO X) h a = some (r, h') → az_hV X r ∧ az_hc X h ≤ az_hc X h' ∧ az_hs X h ≤ az_hs X h') ∧
  (∀ h t a n g r h', az_na (az_hO X) h t a n = some (g, r, h') → az_hV X r ∧ az_hc X h ≤ az_hc X h' ∧ az_hs X h ≤ az_hs X h') ∧
  (∀ h x y g r h', az_nm (az_hO X) h x y = some (g, r, h') → az_hV X r ∧ az_hc X h ≤ az_hc X h' ∧ az_hs X h ≤ az_hs X h')
def az_Rok (X : az_HM ρ α) (h : α) (r : az_R ρ α) : Prop := match r with
  | Sum.inl (_, ls, st, h') => az_lok (az_hV X) ls ∧ az_sok (az_hV X) st ∧ az_hc X h ≤ az_hc X h' ∧ az_hs X h ≤ az_hs X h'
  | Sum.inr (Sum.inl (_, _, _, ls, st, h')) => az_lok (az_hV X) ls ∧ az_sok (az_hV X) st ∧ h' = h
  | Sum.inr (Sum.inr (Sum.inl (_, as, _, ls, st, h'))) => az_sok (az_hV X) as ∧ az_lok (az_hV X) ls ∧ az_sok (az_hV X) st ∧ h' = h
  | Sum.inr (Sum.inr (Sum.inr (Sum.inl (v, h')))) => (∀ w, v = some w → az_vv (az_hV X) w) ∧ h' = h
  | Sum.inr (Sum.inr (Sum.inr (Sum.inr (_, _, _, _, ls, st, h')))) => az_lok (az_hV X) ls ∧ az_sok (az_hV X) st ∧ h' = h
theorem az_tl {VR : ρ → Prop} {v : az_V ρ} {t : List (az_V ρ)} (h : az_sok VR (v :: t)) : az_sok VR t := (List.forall_mem_cons.mp h).2
theorem az_hdv {VR : ρ → Prop} {v : az_V ρ} {t : List (az_V ρ)} (h : az_sok VR (v :: t)) : az_vv VR v := (List.forall_mem_cons.mp h).1
theorem az_cs1 {VR : ρ → Prop} {v : az_V ρ} {t : List (az_V ρ)} (h1 : az_vv VR v) (h2 : az_sok VR t) : az_sok VR (v :: t) := List.forall_mem_cons.mpr ⟨h1, h2⟩
theorem az_rev {VR : ρ → Prop} {st : List (az_V ρ)} (b : Nat) (h : az_sok VR st) : az_sok VR (st.take b).reverse := fun v hv => h v (List.mem_of_mem_take (List.mem_reverse.mp hv))
theorem az_drp {VR : ρ → Prop} {st : List (az_V ρ)} (b : Nat) (h : az_sok VR st) : az_sok VR (st.drop b) := fun v hv => h v (List.mem_of_mem_drop hv)
theorem az_i0 {k : Int32} {np a b cx d : Nat} {L : List Nat} {ls : az_L ρ} {st : List (az_V ρ)} {h : α} {g : Option Bool} {r : az_R ρ α} (hI : az_Inv X) (hlo : az_lok (az_hV X) ls) (hso : az_sok (az_hV X) st) (hs : az_step (az_hO X) (0, k, np, a, b, cx, d, L) ls st h = some (g, r)) (hg : az_gd g = true) : az_Rok X h r := by
  simp only [az_step] at hs
  simp only [az_nx, Option.some.injEq, Prod.mk.injEq] at hs
  obtain ⟨rfl, rfl⟩ := hs
  exact ⟨hlo, az_cs1 (az_vvi _) hso, Nat.le_refl _, Nat.le_refl _⟩
theorem az_i1 {k : Int32} {np a b cx d : Nat} {L : List Nat} {ls : az_L ρ} {st : List (az_V ρ)} {h : α} {g : Option Bool} {r : az_R ρ α} (hI : az_Inv X) (hlo : az_lok (az_hV X) ls) (hso : az_sok (az_hV X) st) (hs : az_step (az_hO X) (1, k, np, a, b, cx, d, L) ls st h = some (g, r)) (hg : az_gd g = true) : az_Rok X h r := by
  simp only [az_step] at hs
  split at hs
  · rename_i x hv
    simp only [az_nx, Option.some.injEq, Prod.mk.injEq] at hs
    obtain ⟨rfl, rfl⟩ := hs
    exact ⟨hlo, az_cs1 (az_vvi _) hso, Nat.le_refl _, Nat.le_refl _⟩
  · cases hs
theorem az_i2 {k : Int32} {np a b cx d : Nat} {L : List Nat} {ls : az_L ρ} {st : List (az_V ρ)} {h : α} {g : Option Bool} {r : az_R ρ α} (hI : az_Inv X) (hlo : az_lok (az_hV X) ls) (hso : az_sok (az_hV X) st) (hs : az_step (az_hO X) (2, k, np, a, b, cx, d, L) ls st h = some (g, r)) (hg : az_gd g = true) : az_Rok X h r := by
  simp only [az_step] at hs
  split at hs
  · rename_i x hv
    simp only [az_nx, Option.some.injEq, Prod.mk.injEq] at hs
    obtain ⟨rfl, rfl⟩ := hs
    exact ⟨hlo, az_cs1 (hlo.at hv) hso, Nat.le_refl _, Nat.le_refl _⟩
  · cases hs
theorem az_i3 {k : Int32} {np a b cx d : Nat} {L : List Nat} {ls : az_L ρ} {st : List (az_V ρ)} {h : α} {g : Option Bool} {r : az_R ρ α} (hI : az_Inv X) (hlo : az_lok (az_hV X) ls) (hso : az_sok (az_hV X) st) (hs : az_step (az_hO X) (3, k, np, a, b, cx, d, L) ls st h = some (g, r)) (hg : az_gd g = true) : az_Rok X h r := by
  simp only [az_step] at hs
  split at hs
  · rename_i x t
    simp only [az_nx, Option.some.injEq, Prod.mk.injEq] at hs
    obtain ⟨rfl, rfl⟩ := hs
    exact ⟨hlo.set a (az_vvi _), az_tl hso, Nat.le_refl _, Nat.le_refl _⟩
  · cases hs
theorem az_i4 {k : Int32} {np a b cx d : Nat} {L : List Nat} {ls : az_L ρ} {st : List (az_V ρ)} {h : α} {g : Option Bool} {r : az_R ρ α} (hI : az_Inv X) (hlo : az_lok (az_hV X) ls) (hso : az_sok (az_hV X) st) (hs : az_step (az_hO X) (4, k, np, a, b, cx, d, L) ls st h = some (g, r)) (hg : az_gd g = true) : az_Rok X h r := by
  simp only [az_step] at hs
  split at hs
  · rename_i x t
    simp only [az_nx, Option.some.injEq, Prod.mk.injEq] at hs
    obtain ⟨rfl, rfl⟩ := hs
    exact ⟨hlo.set a (az_hdv hso), az_tl hso, Nat.le_refl _, Nat.le_refl _⟩
  · cases hs
theorem az_i5 {k : Int32} {np a b cx d : Nat} {L : List Nat} {ls : az_L ρ} {st : List (az_V ρ)} {h : α} {g : Option Bool} {r : az_R ρ α} (hI : az_Inv X) (hlo : az_lok (az_hV X) ls) (hso : az_sok (az_hV X) st) (hs : az_step (az_hO X) (5, k, np, a, b, cx, d, L) ls st h = some (g, r)) (hg : az_gd g = true) : az_Rok X h r := by
  simp only [az_step] at hs
  split at hs
  · rename_i x hv
    simp only [az_nx, Option.some.injEq, Prod.mk.injEq] at hs
    obtain ⟨rfl, rfl⟩ := hs
    exact ⟨hlo.set a (az_vvi _), hso, Nat.le_refl _, Nat.le_refl _⟩
  · cases hs
theorem az_i6 {k : Int32} {np a b cx d : Nat} {L : List Nat} {ls : az_L ρ} {st : List (az_V ρ)} {h : α} {g : Option Bool} {r : az_R ρ α} (hI : az_Inv X) (hlo : az_lok (az_hV X) ls) (hso : az_sok (az_hV X) st) (hs : az_step (az_hO X) (6, k, np, a, b, cx, d, L) ls st h = some (g, r)) (hg : az_gd g = true) : az_Rok X h r := by
  simp only [az_step] at hs
  split at hs
  · rename_i r1 t
    split at hs
    · rename_i v hv
      simp only [az_nx, Option.some.injEq, Prod.mk.injEq] at hs
      obtain ⟨rfl, rfl⟩ := hs
      exact ⟨hlo, az_cs1 (hI.1 h r1 a b cx d v (az_hdv hso r1 rfl) hv) (az_tl hso), Nat.le_refl _, Nat.le_refl _⟩
    · cases hs
  · cases hs
theorem az_i7 {k : Int32} {np a b cx d : Nat} {L : List Nat} {ls : az_L ρ} {st : List (az_V ρ)} {h : α} {g : Option Bool} {r : az_R ρ α} (hI : az_Inv X) (hlo : az_lok (az_hV X) ls) (hso : az_sok (az_hV X) st) (hs : az_step (az_hO X) (7, k, np, a, b, cx, d, L) ls st h = some (g, r)) (hg : az_gd g = true) : az_Rok X h r := by
  simp only [az_step] at hs
  split at hs
  · rename_i v r1 t
    split at hs
    · rename_i g1 h1 hv
      simp only [Option.some.injEq, Prod.mk.injEq] at hs
      obtain ⟨rfl, rfl⟩ := hs
      exact ⟨hlo, az_tl (az_tl hso), hI.2.1 h r1 a b cx d v _ _ hv⟩
    · cases hs
  · cases hs
theorem az_i8 {k : Int32} {np a b cx d : Nat} {L : List Nat} {ls : az_L ρ} {st : List (az_V ρ)} {h : α} {g : Option Bool} {r : az_R ρ α} (hI : az_Inv X) (hlo : az_lok (az_hV X) ls) (hso : az_sok (az_hV X) st) (hs : az_step (az_hO X) (8, k, np, a, b, cx, d, L) ls st h = some (g, r)) (hg : az_gd g = true) : az_Rok X h r := by
  simp only [az_step] at hs
  split at hs
  · rename_i i r1 t
    split at hs
    · rename_i g1 x hv
      simp only [az_gx, Option.some.injEq, Prod.mk.injEq] at hs
      obtain ⟨rfl, rfl⟩ := hs
      exact ⟨hlo, az_cs1 (az_vvi _) (az_tl (az_tl hso)), Nat.le_refl _, Nat.le_refl _⟩
    · cases hs
  · cases hs
theorem az_i10 {k : Int32} {np a b cx d : Nat} {L : List Nat} {ls : az_L ρ} {st : List (az_V ρ)} {h : α} {g : Option Bool} {r : az_R ρ α} (hI : az_Inv X) (hlo : az_lok (az_hV X) ls) (hso : az_sok (az_hV X) st) (hs : az_step (az_hO X) (10, k, np, a, b, cx, d, L) ls st h = some (g, r)) (hg : az_gd g = true) : az_Rok X h r := by
  simp only [az_step] at hs
  split at hs
  · rename_i i r1 t
    split at hs
    · rename_i g1 x hv
      simp only [az_gx, Option.some.injEq, Prod.mk.injEq] at hs
      obtain ⟨rfl, rfl⟩ := hs
      exact ⟨hlo, az_cs1 (az_vvi _) (az_tl (az_tl hso)), Nat.le_refl _, Nat.le_refl _⟩
    · cases hs
  · cases hs
theorem az_i9 {k : Int32} {np a b cx d : Nat} {L : List Nat} {ls : az_L ρ} {st : List (az_V ρ)} {h : α} {g : Option Bool} {r : az_R ρ α} (hI : az_Inv X) (hlo : az_lok (az_hV X) ls) (hso : az_sok (az_hV X) st) (hs : az_step (az_hO X) (9, k, np, a, b, cx, d, L) ls st h = some (g, r)) (hg : az_gd g = true) : az_Rok X h r := by
  simp only [az_step] at hs
  split at hs
  · rename_i x i r1 t
    split at hs
    · rename_i g1 h1 hv
      simp only [az_gx, Option.some.injEq, Prod.mk.injEq] at hs
      obtain ⟨rfl, rfl⟩ := hs
      exact ⟨hlo, az_tl (az_tl (az_tl hso)), hI.2.2.1 h _ r1 i x _ _ hv⟩
    · cases hs
  · cases hs
theorem az_i11 {k : Int32} {np a b cx d : Nat} {L : List Nat} {ls : az_L ρ} {st : List (az_V ρ)} {h : α} {g : Option Bool} {r : az_R ρ α} (hI : az_Inv X) (hlo : az_lok (az_hV X) ls) (hso : az_sok (az_hV X) st) (hs : az_step (az_hO X) (11, k, np, a, b, cx, d, L) ls st h = some (g, r)) (hg : az_gd g = true) : az_Rok X h r := by
  simp only [az_step] at hs
  split at hs
  · rename_i x i r1 t
    split at hs
    · rename_i g1 h1 hv
      simp only [az_gx, Option.some.injEq, Prod.mk.injEq] at hs
      obtain ⟨rfl, rfl⟩ := hs
      exact ⟨hlo, az_tl (az_tl (az_tl hso)), hI.2.2.1 h _ r1 i x _ _ hv⟩
    · cases hs
  · cases hs
theorem az_i12 {k : Int32} {np a b cx d : Nat} {L : List Nat} {ls : az_L ρ} {st : List (az_V ρ)} {h : α} {g : Option Bool} {r : az_R ρ α} (hI : az_Inv X) (hlo : az_lok (az_hV X) ls) (hso : az_sok (az_hV X) st) (hs : az_step (az_hO X) (12, k, np, a, b, cx, d, L) ls st h = some (g, r)) (hg : az_gd g = true) : az_Rok X h r := by
  simp only [az_step] at hs
  split at hs
  · rename_i i r1 t
    split at hs
    · rename_i g1 v hv
      simp only [az_gx, Option.some.injEq, Prod.mk.injEq] at hs
      obtain ⟨rfl, rfl⟩ := hs
      have hg : g1 = true := hg
      subst hg
      exact ⟨hlo, az_cs1 (hI.2.2.2.1 h r1 i v (az_hdv (az_tl hso) r1 rfl) hv) (az_tl (az_tl hso)), Nat.le_refl _, Nat.le_refl _⟩
    · cases hs
  · cases hs
theorem az_i13 {k : Int32} {np a b cx d : Nat} {L : List Nat} {ls : az_L ρ} {st : List (az_V ρ)} {h : α} {g : Option Bool} {r : az_R ρ α} (hI : az_Inv X) (hlo : az_lok (az_hV X) ls) (hso : az_sok (az_hV X) st) (hs : az_step (az_hO X) (13, k, np, a, b, cx, d, L) ls st h = some (g, r)) (hg : az_gd g = true) : az_Rok X h r := by
  simp only [az_step] at hs
  split at hs
  · rename_i v i r1 t
    split at hs
    · rename_i g1 h1 hv
      simp only [az_gx, Option.some.injEq, Prod.mk.injEq] at hs
      obtain ⟨rfl, rfl⟩ := hs
      exact ⟨hlo, az_tl (az_tl (az_tl hso)), hI.2.2.2.2.1 h r1 i v _ _ hv⟩
    · cases hs
  · cases hs
theorem az_i14 {k : Int32} {np a b cx d : Nat} {L : List Nat} {ls : az_L ρ} {st : List (az_V ρ)} {h : α} {g : Option Bool} {r : az_R ρ α} (hI : az_Inv X) (hlo : az_lok (az_hV X) ls) (hso : az_sok (az_hV X) st) (hs : az_step (az_hO X) (14, k, np, a, b, cx, d, L) ls st h = some (g, r)) (hg : az_gd g = true) : az_Rok X h r := by
  simp only [az_step] at hs
  split at hs
  · rename_i r1 t
    split at hs
    · rename_i n hv
      simp only [az_nx, Option.some.injEq, Prod.mk.injEq] at hs
      obtain ⟨rfl, rfl⟩ := hs
      exact ⟨hlo, az_cs1 (az_vvi _) (az_tl hso), Nat.le_refl _, Nat.le_refl _⟩
    · cases hs
  · cases hs
theorem az_i15 {k : Int32} {np a b cx d : Nat} {L : List Nat} {ls : az_L ρ} {st : List (az_V ρ)} {h : α} {g : Option Bool} {r : az_R ρ α} (hI : az_Inv X) (hlo : az_lok (az_hV X) ls) (hso : az_sok (az_hV X) st) (hs : az_step (az_hO X) (15, k, np, a, b, cx, d, L) ls st h = some (g, r)) (hg : az_gd g = true) : az_Rok X h r := by
  simp only [az_step] at hs
  split at hs
  · rename_i r1 h1 hv
    simp only [az_nx, Option.some.injEq, Prod.mk.injEq] at hs
    obtain ⟨rfl, rfl⟩ := hs
    obtain ⟨z1, z2⟩ := hI.2.2.2.2.2.1 h a r1 _ hv
    exact ⟨hlo, az_cs1 (az_vvr z1) hso, z2⟩
  · cases hs
theorem az_i16 {k : Int32} {np a b cx d : Nat} {L : List Nat} {ls : az_L ρ} {st : List (az_V ρ)} {h : α} {g : Option Bool} {r : az_R ρ α} (hI : az_Inv X) (hlo : az_lok (az_hV X) ls) (hso : az_sok (az_hV X) st) (hs : az_step (az_hO X) (16, k, np, a, b, cx, d, L) ls st h = some (g, r)) (hg : az_gd g = true) : az_Rok X h r := by
  simp only [az_step] at hs
  split at hs
  · rename_i n t
    split at hs
    · rename_i g1 r1 h1 hv
      simp only [az_gx, Option.some.injEq, Prod.mk.injEq] at hs
      obtain ⟨rfl, rfl⟩ := hs
      have z := hI.2.2.2.2.2.2.1 h _ a n _ r1 _ hv
      exact ⟨hlo, az_cs1 (az_vvr z.1) (az_tl hso), z.2⟩
    · cases hs
  · cases hs
theorem az_i17 {k : Int32} {np a b cx d : Nat} {L : List Nat} {ls : az_L ρ} {st : List (az_V ρ)} {h : α} {g : Option Bool} {r : az_R ρ α} (hI : az_Inv X) (hlo : az_lok (az_hV X) ls) (hso : az_sok (az_hV X) st) (hs : az_step (az_hO X) (17, k, np, a, b, cx, d, L) ls st h = some (g, r)) (hg : az_gd g = true) : az_Rok X h r := by
  simp only [az_step] at hs
  split at hs
  · rename_i n t
    split at hs
    · rename_i g1 r1 h1 hv
      simp only [az_gx, Option.some.injEq, Prod.mk.injEq] at hs
      obtain ⟨rfl, rfl⟩ := hs
      have z := hI.2.2.2.2.2.2.1 h _ a n _ r1 _ hv
      exact ⟨hlo, az_cs1 (az_vvr z.1) (az_tl hso), z.2⟩
    · cases hs
  · cases hs
theorem az_i18 {k : Int32} {np a b cx d : Nat} {L : List Nat} {ls : az_L ρ} {st : List (az_V ρ)} {h : α} {g : Option Bool} {r : az_R ρ α} (hI : az_Inv X) (hlo : az_lok (az_hV X) ls) (hso : az_sok (az_hV X) st) (hs : az_step (az_hO X) (18, k, np, a, b, cx, d, L) ls st h = some (g, r)) (hg : az_gd g = true) : az_Rok X h r := by
  simp only [az_step] at hs
  split at hs
  · rename_i y x t
    split at hs
    · rename_i g1 r1 h1 hv
      simp only [az_gx, Option.some.injEq, Prod.mk.injEq] at hs
      obtain ⟨rfl, rfl⟩ := hs
      have z := hI.2.2.2.2.2.2.2 h x y _ r1 _ hv
      exact ⟨hlo, az_cs1 (az_vvr z.1) (az_tl (az_tl hso)), z.2⟩
    · cases hs
  · cases hs
theorem az_i19 {k : Int32} {np a b cx d : Nat} {L : List Nat} {ls : az_L ρ} {st : List (az_V ρ)} {h : α} {g : Option Bool} {r : az_R ρ α} (hI : az_Inv X) (hlo : az_lok (az_hV X) ls) (hso : az_sok (az_hV X) st) (hs : az_step (az_hO X) (19, k, np, a, b, cx, d, L) ls st h = some (g, r)) (hg : az_gd g = true) : az_Rok X h r := by
  simp only [az_step] at hs
  split at hs
  · rename_i y x t
    simp only [az_nx, Option.some.injEq, Prod.mk.injEq] at hs
    obtain ⟨rfl, rfl⟩ := hs
    exact ⟨hlo, az_cs1 (az_vvi _) (az_tl (az_tl hso)), Nat.le_refl _, Nat.le_refl _⟩
  · cases hs
theorem az_i20 {k : Int32} {np a b cx d : Nat} {L : List Nat} {ls : az_L ρ} {st : List (az_V ρ)} {h : α} {g : Option Bool} {r : az_R ρ α} (hI : az_Inv X) (hlo : az_lok (az_hV X) ls) (hso : az_sok (az_hV X) st) (hs : az_step (az_hO X) (20, k, np, a, b, cx, d, L) ls st h = some (g, r)) (hg : az_gd g = true) : az_Rok X h r := by
  simp only [az_step] at hs
  split at hs
  · rename_i y x t
    simp only [az_nx, Option.some.injEq, Prod.mk.injEq] at hs
    obtain ⟨rfl, rfl⟩ := hs
    exact ⟨hlo, az_cs1 (az_vvi _) (az_tl (az_tl hso)), Nat.le_refl _, Nat.le_refl _⟩
  · cases hs
theorem az_i21 {k : Int32} {np a b cx d : Nat} {L : List Nat} {ls : az_L ρ} {st : List (az_V ρ)} {h : α} {g : Option Bool} {r : az_R ρ α} (hI : az_Inv X) (hlo : az_lok (az_hV X) ls) (hso : az_sok (az_hV X) st) (hs : az_step (az_hO X) (21, k, np, a, b, cx, d, L) ls st h = some (g, r)) (hg : az_gd g = true) : az_Rok X h r := by
  simp only [az_step] at hs
  split at hs
  · rename_i y x t
    simp only [az_nx, Option.some.injEq, Prod.mk.injEq] at hs
    obtain ⟨rfl, rfl⟩ := hs
    exact ⟨hlo, az_cs1 (az_vvi _) (az_tl (az_tl hso)), Nat.le_refl _, Nat.le_refl _⟩
  · cases hs
theorem az_i24 {k : Int32} {np a b cx d : Nat} {L : List Nat} {ls : az_L ρ} {st : List (az_V ρ)} {h : α} {g : Option Bool} {r : az_R ρ α} (hI : az_Inv X) (hlo : az_lok (az_hV X) ls) (hso : az_sok (az_hV X) st) (hs : az_step (az_hO X) (24, k, np, a, b, cx, d, L) ls st h = some (g, r)) (hg : az_gd g = true) : az_Rok X h r := by
  simp only [az_step] at hs
  split at hs
  · rename_i y x t
    simp only [az_nx, Option.some.injEq, Prod.mk.injEq] at hs
    obtain ⟨rfl, rfl⟩ := hs
    exact ⟨hlo, az_cs1 (az_vvi _) (az_tl (az_tl hso)), Nat.le_refl _, Nat.le_refl _⟩
  · cases hs
theorem az_i25 {k : Int32} {np a b cx d : Nat} {L : List Nat} {ls : az_L ρ} {st : List (az_V ρ)} {h : α} {g : Option Bool} {r : az_R ρ α} (hI : az_Inv X) (hlo : az_lok (az_hV X) ls) (hso : az_sok (az_hV X) st) (hs : az_step (az_hO X) (25, k, np, a, b, cx, d, L) ls st h = some (g, r)) (hg : az_gd g = true) : az_Rok X h r := by
  simp only [az_step] at hs
  split at hs
  · rename_i y x t
    simp only [az_nx, Option.some.injEq, Prod.mk.injEq] at hs
    obtain ⟨rfl, rfl⟩ := hs
    exact ⟨hlo, az_cs1 (az_vvi _) (az_tl (az_tl hso)), Nat.le_refl _, Nat.le_refl _⟩
  · cases hs
theorem az_i26 {k : Int32} {np a b cx d : Nat} {L : List Nat} {ls : az_L ρ} {st : List (az_V ρ)} {h : α} {g : Option Bool} {r : az_R ρ α} (hI : az_Inv X) (hlo : az_lok (az_hV X) ls) (hso : az_sok (az_hV X) st) (hs : az_step (az_hO X) (26, k, np, a, b, cx, d, L) ls st h = some (g, r)) (hg : az_gd g = true) : az_Rok X h r := by
  simp only [az_step] at hs
  split at hs
  · rename_i y x t
    simp only [az_nx, Option.some.injEq, Prod.mk.injEq] at hs
    obtain ⟨rfl, rfl⟩ := hs
    exact ⟨hlo, az_cs1 (az_vvi _) (az_tl (az_tl hso)), Nat.le_refl _, Nat.le_refl _⟩
  · cases hs
theorem az_i27 {k : Int32} {np a b cx d : Nat} {L : List Nat} {ls : az_L ρ} {st : List (az_V ρ)} {h : α} {g : Option Bool} {r : az_R ρ α} (hI : az_Inv X) (hlo : az_lok (az_hV X) ls) (hso : az_sok (az_hV X) st) (hs : az_step (az_hO X) (27, k, np, a, b, cx, d, L) ls st h = some (g, r)) (hg : az_gd g = true) : az_Rok X h r := by
  simp only [az_step] at hs
  split at hs
  · rename_i y x t
    simp only [az_nx, Option.some.injEq, Prod.mk.injEq] at hs
    obtain ⟨rfl, rfl⟩ := hs
    exact ⟨hlo, az_cs1 (az_vvi _) (az_tl (az_tl hso)), Nat.le_refl _, Nat.le_refl _⟩
  · cases hs
theorem az_i28 {k : Int32} {np a b cx d : Nat} {L : List Nat} {ls : az_L ρ} {st : List (az_V ρ)} {h : α} {g : Option Bool} {r : az_R ρ α} (hI : az_Inv X) (hlo : az_lok (az_hV X) ls) (hso : az_sok (az_hV X) st) (hs : az_step (az_hO X) (28, k, np, a, b, cx, d, L) ls st h = some (g, r)) (hg : az_gd g = true) : az_Rok X h r := by
  simp only [az_step] at hs
  split at hs
  · rename_i y x t
    simp only [az_nx, Option.some.injEq, Prod.mk.injEq] at hs
    obtain ⟨rfl, rfl⟩ := hs
    exact ⟨hlo, az_cs1 (az_vvi _) (az_tl (az_tl hso)), Nat.le_refl _, Nat.le_refl _⟩
  · cases hs
theorem az_i22 {k : Int32} {np a b cx d : Nat} {L : List Nat} {ls : az_L ρ} {st : List (az_V ρ)} {h : α} {g : Option Bool} {r : az_R ρ α} (hI : az_Inv X) (hlo : az_lok (az_hV X) ls) (hso : az_sok (az_hV X) st) (hs : az_step (az_hO X) (22, k, np, a, b, cx, d, L) ls st h = some (g, r)) (hg : az_gd g = true) : az_Rok X h r := by
  simp only [az_step] at hs
  split at hs
  · rename_i y x t
    simp only [az_gx, Option.some.injEq, Prod.mk.injEq] at hs
    obtain ⟨rfl, rfl⟩ := hs
    exact ⟨hlo, az_cs1 (az_vvi _) (az_tl (az_tl hso)), Nat.le_refl _, Nat.le_refl _⟩
  · cases hs
theorem az_i23 {k : Int32} {np a b cx d : Nat} {L : List Nat} {ls : az_L ρ} {st : List (az_V ρ)} {h : α} {g : Option Bool} {r : az_R ρ α} (hI : az_Inv X) (hlo : az_lok (az_hV X) ls) (hso : az_sok (az_hV X) st) (hs : az_step (az_hO X) (23, k, np, a, b, cx, d, L) ls st h = some (g, r)) (hg : az_gd g = true) : az_Rok X h r := by
  simp only [az_step] at hs
  split at hs
  · rename_i y x t
    simp only [az_gx, Option.some.injEq, Prod.mk.injEq] at hs
    obtain ⟨rfl, rfl⟩ := hs
    exact ⟨hlo, az_cs1 (az_vvi _) (az_tl (az_tl hso)), Nat.le_refl _, Nat.le_refl _⟩
  · cases hs
theorem az_i29 {k : Int32} {np a b cx d : Nat} {L : List Nat} {ls : az_L ρ} {st : List (az_V ρ)} {h : α} {g : Option Bool} {r : az_R ρ α} (hI : az_Inv X) (hlo : az_lok (az_hV X) ls) (hso : az_sok (az_hV X) st) (hs : az_step (az_hO X) (29, k, np, a, b, cx, d, L) ls st h = some (g, r)) (hg : az_gd g = true) : az_Rok X h r := by
  simp only [az_step] at hs
  split at hs
  · rename_i v t
    simp only [az_nx, Option.some.injEq, Prod.mk.injEq] at hs
    obtain ⟨rfl, rfl⟩ := hs
    exact ⟨hlo, az_cs1 (az_hdv hso) hso, Nat.le_refl _, Nat.le_refl _⟩
  · cases hs
theorem az_i30 {k : Int32} {np a b cx d : Nat} {L : List Nat} {ls : az_L ρ} {st : List (az_V ρ)} {h : α} {g : Option Bool} {r : az_R ρ α} (hI : az_Inv X) (hlo : az_lok (az_hV X) ls) (hso : az_sok (az_hV X) st) (hs : az_step (az_hO X) (30, k, np, a, b, cx, d, L) ls st h = some (g, r)) (hg : az_gd g = true) : az_Rok X h r := by
  simp only [az_step] at hs
  split at hs
  · rename_i v w t
    simp only [az_nx, Option.some.injEq, Prod.mk.injEq] at hs
    obtain ⟨rfl, rfl⟩ := hs
    exact ⟨hlo, az_cs1 (az_hdv hso) (az_cs1 (az_hdv (az_tl hso)) hso), Nat.le_refl _, Nat.le_refl _⟩
  · cases hs
theorem az_i31 {k : Int32} {np a b cx d : Nat} {L : List Nat} {ls : az_L ρ} {st : List (az_V ρ)} {h : α} {g : Option Bool} {r : az_R ρ α} (hI : az_Inv X) (hlo : az_lok (az_hV X) ls) (hso : az_sok (az_hV X) st) (hs : az_step (az_hO X) (31, k, np, a, b, cx, d, L) ls st h = some (g, r)) (hg : az_gd g = true) : az_Rok X h r := by
  simp only [az_step] at hs
  split at hs
  · rename_i v t
    simp only [az_nx, Option.some.injEq, Prod.mk.injEq] at hs
    obtain ⟨rfl, rfl⟩ := hs
    exact ⟨hlo, az_tl hso, Nat.le_refl _, Nat.le_refl _⟩
  · cases hs
theorem az_i32 {k : Int32} {np a b cx d : Nat} {L : List Nat} {ls : az_L ρ} {st : List (az_V ρ)} {h : α} {g : Option Bool} {r : az_R ρ α} (hI : az_Inv X) (hlo : az_lok (az_hV X) ls) (hso : az_sok (az_hV X) st) (hs : az_step (az_hO X) (32, k, np, a, b, cx, d, L) ls st h = some (g, r)) (hg : az_gd g = true) : az_Rok X h r := by
  simp only [az_step] at hs
  simp only [az_nx, Option.some.injEq, Prod.mk.injEq] at hs
  obtain ⟨rfl, rfl⟩ := hs
  exact ⟨hlo, hso, Nat.le_refl _, Nat.le_refl _⟩
theorem az_i33 {k : Int32} {np a b cx d : Nat} {L : List Nat} {ls : az_L ρ} {st : List (az_V ρ)} {h : α} {g : Option Bool} {r : az_R ρ α} (hI : az_Inv X) (hlo : az_lok (az_hV X) ls) (hso : az_sok (az_hV X) st) (hs : az_step (az_hO X) (33, k, np, a, b, cx, d, L) ls st h = some (g, r)) (hg : az_gd g = true) : az_Rok X h r := by
  simp only [az_step] at hs
  split at hs
  · rename_i x t
    simp only [az_br, Option.some.injEq, Prod.mk.injEq] at hs
    obtain ⟨rfl, rfl⟩ := hs
    exact ⟨hlo, az_tl hso, rfl⟩
  · cases hs
theorem az_i34 {k : Int32} {np a b cx d : Nat} {L : List Nat} {ls : az_L ρ} {st : List (az_V ρ)} {h : α} {g : Option Bool} {r : az_R ρ α} (hI : az_Inv X) (hlo : az_lok (az_hV X) ls) (hso : az_sok (az_hV X) st) (hs : az_step (az_hO X) (34, k, np, a, b, cx, d, L) ls st h = some (g, r)) (hg : az_gd g = true) : az_Rok X h r := by
  simp only [az_step] at hs
  split at hs
  · rename_i y x t
    simp only [az_br, Option.some.injEq, Prod.mk.injEq] at hs
    obtain ⟨rfl, rfl⟩ := hs
    exact ⟨hlo, az_tl (az_tl hso), rfl⟩
  · cases hs
theorem az_i35 {k : Int32} {np a b cx d : Nat} {L : List Nat} {ls : az_L ρ} {st : List (az_V ρ)} {h : α} {g : Option Bool} {r : az_R ρ α} (hI : az_Inv X) (hlo : az_lok (az_hV X) ls) (hso : az_sok (az_hV X) st) (hs : az_step (az_hO X) (35, k, np, a, b, cx, d, L) ls st h = some (g, r)) (hg : az_gd g = true) : az_Rok X h r := by
  simp only [az_step] at hs
  split at hs
  · rename_i v t
    simp only [az_br, Option.some.injEq, Prod.mk.injEq] at hs
    obtain ⟨rfl, rfl⟩ := hs
    exact ⟨hlo, az_tl hso, rfl⟩
  · cases hs
theorem az_i36 {k : Int32} {np a b cx d : Nat} {L : List Nat} {ls : az_L ρ} {st : List (az_V ρ)} {h : α} {g : Option Bool} {r : az_R ρ α} (hI : az_Inv X) (hlo : az_lok (az_hV X) ls) (hso : az_sok (az_hV X) st) (hs : az_step (az_hO X) (36, k, np, a, b, cx, d, L) ls st h = some (g, r)) (hg : az_gd g = true) : az_Rok X h r := by
  simp only [az_step] at hs
  split at hs
  · rename_i v t
    simp only [az_br, Option.some.injEq, Prod.mk.injEq] at hs
    obtain ⟨rfl, rfl⟩ := hs
    exact ⟨hlo, az_tl hso, rfl⟩
  · cases hs
theorem az_i37 {k : Int32} {np a b cx d : Nat} {L : List Nat} {ls : az_L ρ} {st : List (az_V ρ)} {h : α} {g : Option Bool} {r : az_R ρ α} (hI : az_Inv X) (hlo : az_lok (az_hV X) ls) (hso : az_sok (az_hV X) st) (hs : az_step (az_hO X) (37, k, np, a, b, cx, d, L) ls st h = some (g, r)) (hg : az_gd g = true) : az_Rok X h r := by
  simp only [az_step] at hs
  split at hs
  · rename_i y x t
    cases hb : Nat.beq b 0 with
    | true =>
      simp only [hb, cond_true, az_br, Option.some.injEq, Prod.mk.injEq] at hs
      obtain ⟨rfl, rfl⟩ := hs
      exact ⟨hlo, az_tl (az_tl hso), rfl⟩
    | false =>
      simp only [hb, cond_false, az_br, Option.some.injEq, Prod.mk.injEq] at hs
      obtain ⟨rfl, rfl⟩ := hs
      exact ⟨hlo, az_tl (az_tl hso), rfl⟩
  · cases hs
theorem az_i38 {k : Int32} {np a b cx d : Nat} {L : List Nat} {ls : az_L ρ} {st : List (az_V ρ)} {h : α} {g : Option Bool} {r : az_R ρ α} (hI : az_Inv X) (hlo : az_lok (az_hV X) ls) (hso : az_sok (az_hV X) st) (hs : az_step (az_hO X) (38, k, np, a, b, cx, d, L) ls st h = some (g, r)) (hg : az_gd g = true) : az_Rok X h r := by
  simp only [az_step] at hs
  split at hs
  · simp only [Option.some.injEq, Prod.mk.injEq] at hs
    obtain ⟨rfl, rfl⟩ := hs
    exact ⟨hlo, az_tl hso, rfl⟩
  · cases hs
theorem az_callS {m : Nat} {as : List (az_V ρ)} {np : Nat} {ls : az_L ρ} {st : List (az_V ρ)} {h : α} {g : Option Bool} {r : az_R ρ α} (hs : az_call m as np ls st h = some (g, r)) : st.length ≤ 8 ∧ g = none ∧ r = Sum.inr (Sum.inr (Sum.inl (m, as, np, ls, st, h))) := by
  unfold az_call at hs
  cases hb : Nat.ble st.length 8 with
  | true =>
    simp only [hb, cond_true, Option.some.injEq, Prod.mk.injEq] at hs
    exact ⟨Nat.le_of_ble_eq_true hb, hs.1.symm, hs.2.symm⟩
  | false => simp only [hb, cond_false] at hs; cases hs
theorem az_callgS {g0 : Bool} {m : Nat} {as : List (az_V ρ)} {np : Nat} {ls : az_L ρ} {st : List (az_V ρ)} {h : α} {g : Option Bool} {r : az_R ρ α} (hs : az_callg g0 m as np ls st h = some (g, r)) : st.length ≤ 8 ∧ g = some g0 ∧ r = Sum.inr (Sum.inr (Sum.inl (m, as, np, ls, st, h))) := by
  unfold az_callg at hs
  cases hb : Nat.ble st.length 8 with
  | true =>
    simp only [hb, cond_true, Option.some.injEq, Prod.mk.injEq] at hs
    exact ⟨Nat.le_of_ble_eq_true hb, hs.1.symm, hs.2.symm⟩
  | false => simp only [hb, cond_false] at hs; cases hs
theorem az_i39 {k : Int32} {np a b cx d : Nat} {L : List Nat} {ls : az_L ρ} {st : List (az_V ρ)} {h : α} {g : Option Bool} {r : az_R ρ α} (hI : az_Inv X) (hlo : az_lok (az_hV X) ls) (hso : az_sok (az_hV X) st) (hs : az_step (az_hO X) (39, k, np, a, b, cx, d, L) ls st h = some (g, r)) (hg : az_gd g = true) : az_Rok X h r := by
  simp only [az_step] at hs
  cases hb : Nat.ble b st.length with
  | true =>
    simp only [hb, cond_true] at hs
    obtain ⟨-, -, rfl⟩ := az_callS hs
    exact ⟨az_rev b hso, hlo, az_drp b hso, rfl⟩
  | false => simp only [hb, cond_false] at hs; cases hs
theorem az_i40 {k : Int32} {np a b cx d : Nat} {L : List Nat} {ls : az_L ρ} {st : List (az_V ρ)} {h : α} {g : Option Bool} {r : az_R ρ α} (hI : az_Inv X) (hlo : az_lok (az_hV X) ls) (hso : az_sok (az_hV X) st) (hs : az_step (az_hO X) (40, k, np, a, b, cx, d, L) ls st h = some (g, r)) (hg : az_gd g = true) : az_Rok X h r := by
  simp only [az_step] at hs
  split at hs
  · rename_i r1 t ht
    have hd := az_drp b hso
    rw [ht] at hd
    split at hs
    · rename_i q hq
      have fin : ∀ m', az_call m' (vr r1 :: (st.take b).reverse) np ls t h = some (g, r) → az_Rok X h r := by
        intro m' hs
        obtain ⟨-, -, rfl⟩ := az_callS hs
        exact ⟨az_cs1 (az_hdv hd) (az_rev b hso), hlo, az_tl hd, rfl⟩
      cases hb : Nat.beq cx 99 with
      | true =>
        simp only [hb, cond_true] at hs
        obtain ⟨-, -, rfl⟩ := az_callgS hs
        exact ⟨az_cs1 (az_hdv hd) (az_rev b hso), hlo, az_tl hd, rfl⟩
      | false =>
        simp only [hb, cond_false] at hs
        cases hb2 : Nat.beq q cx with
        | true => simp only [hb2, cond_true] at hs; exact fin _ hs
        | false => simp only [hb2, cond_false] at hs; cases hs
    · cases hs
  · cases hs
theorem az_i41 {k : Int32} {np a b cx d : Nat} {L : List Nat} {ls : az_L ρ} {st : List (az_V ρ)} {h : α} {g : Option Bool} {r : az_R ρ α} (hI : az_Inv X) (hlo : az_lok (az_hV X) ls) (hso : az_sok (az_hV X) st) (hs : az_step (az_hO X) (41, k, np, a, b, cx, d, L) ls st h = some (g, r)) (hg : az_gd g = true) : az_Rok X h r := by
  simp only [az_step] at hs
  split at hs
  · rename_i r1 t ht
    have hd := az_drp b hso
    rw [ht] at hd
    obtain ⟨-, -, rfl⟩ := az_callS hs
    exact ⟨az_cs1 (az_hdv hd) (az_rev b hso), hlo, az_tl hd, rfl⟩
  · cases hs
theorem az_i42 {k : Int32} {np a b cx d : Nat} {L : List Nat} {ls : az_L ρ} {st : List (az_V ρ)} {h : α} {g : Option Bool} {r : az_R ρ α} (hI : az_Inv X) (hlo : az_lok (az_hV X) ls) (hso : az_sok (az_hV X) st) (hs : az_step (az_hO X) (42, k, np, a, b, cx, d, L) ls st h = some (g, r)) (hg : az_gd g = true) : az_Rok X h r := by
  simp only [az_step] at hs
  split at hs
  · rename_i r1 t ht
    have hd := az_drp b hso
    rw [ht] at hd
    split at hs
    · rename_i q hq
      cases hb2 : Nat.beq q cx with
      | true =>
        simp only [hb2, cond_true] at hs
        obtain ⟨-, -, rfl⟩ := az_callS hs
        exact ⟨az_cs1 (az_hdv hd) (az_rev b hso), hlo, az_tl hd, rfl⟩
      | false => simp only [hb2, cond_false] at hs; cases hs
    · cases hs
  · cases hs
theorem az_i43 {k : Int32} {np a b cx d : Nat} {L : List Nat} {ls : az_L ρ} {st : List (az_V ρ)} {h : α} {g : Option Bool} {r : az_R ρ α} (hI : az_Inv X) (hlo : az_lok (az_hV X) ls) (hso : az_sok (az_hV X) st) (hs : az_step (az_hO X) (43, k, np, a, b, cx, d, L) ls st h = some (g, r)) (hg : az_gd g = true) : az_Rok X h r := by
  simp only [az_step] at hs
  split at hs
  · rename_i x
    simp only [az_ret, Option.some.injEq, Prod.mk.injEq] at hs
    obtain ⟨rfl, rfl⟩ := hs
    exact ⟨fun w hw => by cases hw; exact az_vvi _, rfl⟩
  · cases hs
theorem az_i44 {k : Int32} {np a b cx d : Nat} {L : List Nat} {ls : az_L ρ} {st : List (az_V ρ)} {h : α} {g : Option Bool} {r : az_R ρ α} (hI : az_Inv X) (hlo : az_lok (az_hV X) ls) (hso : az_sok (az_hV X) st) (hs : az_step (az_hO X) (44, k, np, a, b, cx, d, L) ls st h = some (g, r)) (hg : az_gd g = true) : az_Rok X h r := by
  simp only [az_step] at hs
  split at hs
  · rename_i x
    simp only [az_ret, Option.some.injEq, Prod.mk.injEq] at hs
    obtain ⟨rfl, rfl⟩ := hs
    exact ⟨fun w hw => by cases hw; exact az_hdv hso, rfl⟩
  · cases hs
theorem az_i45 {k : Int32} {np a b cx d : Nat} {L : List Nat} {ls : az_L ρ} {st : List (az_V ρ)} {h : α} {g : Option Bool} {r : az_R ρ α} (hI : az_Inv X) (hlo : az_lok (az_hV X) ls) (hso : az_sok (az_hV X) st) (hs : az_step (az_hO X) (45, k, np, a, b, cx, d, L) ls st h = some (g, r)) (hg : az_gd g = true) : az_Rok X h r := by
  simp only [az_step] at hs
  split at hs
  · simp only [az_ret, Option.some.injEq, Prod.mk.injEq] at hs
    obtain ⟨rfl, rfl⟩ := hs
    exact ⟨fun w hw => (nomatch hw), rfl⟩
  · cases hs
theorem az_i46 {k : Int32} {np a b cx d : Nat} {L : List Nat} {ls : az_L ρ} {st : List (az_V ρ)} {h : α} {g : Option Bool} {r : az_R ρ α} (hI : az_Inv X) (hlo : az_lok (az_hV X) ls) (hso : az_sok (az_hV X) st) (hs : az_step (az_hO X) (46, k, np, a, b, cx, d, L) ls st h = some (g, r)) (hg : az_gd g = true) : az_Rok X h r := by
  simp only [az_step] at hs
  simp only [az_nx, Option.some.injEq, Prod.mk.injEq] at hs
  obtain ⟨rfl, rfl⟩ := hs
  exact ⟨hlo, az_cs1 az_vvn hso, Nat.le_refl _, Nat.le_refl _⟩
theorem az_i47 {k : Int32} {np a b cx d : Nat} {L : List Nat} {ls : az_L ρ} {st : List (az_V ρ)} {h : α} {g : Option Bool} {r : az_R ρ α} (hI : az_Inv X) (hlo : az_lok (az_hV X) ls) (hso : az_sok (az_hV X) st) (hs : az_step (az_hO X) (47, k, np, a, b, cx, d, L) ls st h = some (g, r)) (hg : az_gd g = true) : az_Rok X h r := by
  simp only [az_step] at hs
  split at hs
  · rename_i y x t
    cases hb : Nat.ble t.length 8 with
    | true =>
      simp only [hb, cond_true, az_nx, Option.some.injEq, Prod.mk.injEq] at hs
      obtain ⟨rfl, rfl⟩ := hs
      exact ⟨hlo, az_cs1 (az_vvi _) (az_tl (az_tl hso)), Nat.le_refl _, Nat.le_refl _⟩
    | false => simp only [hb, cond_false] at hs; cases hs
  · cases hs
theorem az_i48 {k : Int32} {np a b cx d : Nat} {L : List Nat} {ls : az_L ρ} {st : List (az_V ρ)} {h : α} {g : Option Bool} {r : az_R ρ α} (hI : az_Inv X) (hlo : az_lok (az_hV X) ls) (hso : az_sok (az_hV X) st) (hs : az_step (az_hO X) (48, k, np, a, b, cx, d, L) ls st h = some (g, r)) (hg : az_gd g = true) : az_Rok X h r := by
  simp only [az_step] at hs
  split at hs
  · rename_i y x t
    cases hb : Nat.ble t.length 8 with
    | true =>
      simp only [hb, cond_true, az_nx, Option.some.injEq, Prod.mk.injEq] at hs
      obtain ⟨rfl, rfl⟩ := hs
      exact ⟨hlo, az_cs1 (az_vvi _) (az_tl (az_tl hso)), Nat.le_refl _, Nat.le_refl _⟩
    | false => simp only [hb, cond_false] at hs; cases hs
  · cases hs
theorem az_i49 {k : Int32} {np a b cx d : Nat} {L : List Nat} {ls : az_L ρ} {st : List (az_V ρ)} {h : α} {g : Option Bool} {r : az_R ρ α} (hI : az_Inv X) (hlo : az_lok (az_hV X) ls) (hso : az_sok (az_hV X) st) (hs : az_step (az_hO X) (49, k, np, a, b, cx, d, L) ls st h = some (g, r)) (hg : az_gd g = true) : az_Rok X h r := by
  simp only [az_step] at hs
  split at hs
  · rename_i r1 t
    cases hb : Nat.ble t.length 8 with
    | true =>
      simp only [hb, cond_true, az_nx, Option.some.injEq, Prod.mk.injEq] at hs
      obtain ⟨rfl, rfl⟩ := hs
      exact ⟨hlo, az_tl hso, Nat.le_refl _, Nat.le_refl _⟩
    | false => simp only [hb, cond_false] at hs; cases hs
  · cases hs
theorem az_step_inv {e : az_E} {ls : az_L ρ} {st : List (az_V ρ)} {h : α} {g : Option Bool} {r : az_R ρ α} (hI : az_Inv X) (hlo : az_lok (az_hV X) ls) (hso : az_sok (az_hV X) st) (hs : az_step (az_hO X) e ls st h = some (g, r)) (hg : az_gd g = true) : az_Rok X h r := by
  obtain ⟨tag, k, np, a, b, cx, d, L⟩ := e
  match tag, hs with
  | 0, hs => exact az_i0 hI hlo hso hs hg
  | 1, hs => exact az_i1 hI hlo hso hs hg
  | 2, hs => exact az_i2 hI hlo hso hs hg
  | 3, hs => exact az_i3 hI hlo hso hs hg
  | 4, hs => exact az_i4 hI hlo hso hs hg
  | 5, hs => exact az_i5 hI hlo hso hs hg
  | 6, hs => exact az_i6 hI hlo hso hs hg
  | 7, hs => exact az_i7 hI hlo hso hs hg
  | 8, hs => exact az_i8 hI hlo hso hs hg
  | 9, hs => exact az_i9 hI hlo hso hs hg
  | 10, hs => exact az_i10 hI hlo hso hs hg
  | 11, hs => exact az_i11 hI hlo hso hs hg
  | 12, hs => exact az_i12 hI hlo hso hs hg
  | 13, hs => exact az_i13 hI hlo hso hs hg
  | 14, hs => exact az_i14 hI hlo hso hs hg
  | 15, hs => exact az_i15 hI hlo hso hs hg
  | 16, hs => exact az_i16 hI hlo hso hs hg
  | 17, hs => exact az_i17 hI hlo hso hs hg
  | 18, hs => exact az_i18 hI hlo hso hs hg
  | 19, hs => exact az_i19 hI hlo hso hs hg
  | 20, hs => exact az_i20 hI hlo hso hs hg
  | 21, hs => exact az_i21 hI hlo hso hs hg
  | 22, hs => exact az_i22 hI hlo hso hs hg
  | 23, hs => exact az_i23 hI hlo hso hs hg
  | 24, hs => exact az_i24 hI hlo hso hs hg
  | 25, hs => exact az_i25 hI hlo hso hs hg
  | 26, hs => exact az_i26 hI hlo hso hs hg
  | 27, hs => exact az_i27 hI hlo hso hs hg
  | 28, hs => exact az_i28 hI hlo hso hs hg
  | 29, hs => exact az_i29 hI hlo hso hs hg
  | 30, hs => exact az_i30 hI hlo hso hs hg
  | 31, hs => exact az_i31 hI hlo hso hs hg
  | 32, hs => exact az_i32 hI hlo hso hs hg
  | 33, hs => exact az_i33 hI hlo hso hs hg
  | 34, hs => exact az_i34 hI hlo hso hs hg
  | 35, hs => exact az_i35 hI hlo hso hs hg
  | 36, hs => exact az_i36 hI hlo hso hs hg
  | 37, hs => exact az_i37 hI hlo hso hs hg
  | 38, hs => exact az_i38 hI hlo hso hs hg
  | 39, hs => exact az_i39 hI hlo hso hs hg
  | 40, hs => exact az_i40 hI hlo hso hs hg
  | 41, hs => exact az_i41 hI hlo hso hs hg
  | 42, hs => exact az_i42 hI hlo hso hs hg
  | 43, hs => exact az_i43 hI hlo hso hs hg
  | 44, hs => exact az_i44 hI hlo hso hs hg
  | 45, hs => exact az_i45 hI hlo hso hs hg
  | 46, hs => exact az_i46 hI hlo hso hs hg
  | 47, hs => exact az_i47 hI hlo hso hs hg
  | 48, hs => exact az_i48 hI hlo hso hs hg
  | 49, hs => exact az_i49 hI hlo hso hs hg
  | n + 50, hs => simp [az_step] at hs
def az_Cinv (X : az_HM ρ α) (call : Nat → List (az_V ρ) → α → Option (Option (az_V ρ) × α)) : Prop := ∀ m as h v h', az_sok (az_hV X) as → call m as h = some (v, h') → (∀ w, v = some w → az_vv (az_hV X) w) ∧ az_hc X h ≤ az_hc X h' ∧ az_hs X h ≤ az_hs X h'
theorem az_app {VR : ρ → Prop} {v : Option (az_V ρ)} {st : List (az_V ρ)} (h1 : ∀ w, v = some w → az_vv VR w) (h2 : az_sok VR st) : az_sok VR (v.toList ++ st) := by
  rcases v with _ | w
  · exact h2
  · exact az_cs1 (h1 w rfl) h2
theorem az_run_inv {call : Nat → List (az_V ρ) → α → Option (Option (az_V ρ) × α)} {cd : az_C} (hI : az_Inv X) (hC : az_Cinv X call) : ∀ (f pc : Nat) (ls : az_L ρ) (st : List (az_V ρ)) (h : α) (v : Option (az_V ρ)) (h' : α), az_lok (az_hV X) ls → az_sok (az_hV X) st → az_run (az_hO X) call cd f pc ls st h = some (v, h') → (∀ w, v = some w → az_vv (az_hV X) w) ∧ az_hc X h ≤ az_hc X h' ∧ az_hs X h ≤ az_hs X h' := by
  intro f
  induction f with
  | zero => intro pc ls st h v h' _ _ hr; simp [az_run] at hr
  | succ f ih =>
    intro pc ls st h v h' hlo hso hr
    rw [az_run] at hr
    split at hr
    · cases hr
    · rename_i e he
      split at hr
      · cases hr
      · rename_i g r hs
        cases hg : az_gd g with
        | false => simp only [hg, cond_false] at hr; cases hr
        | true =>
          simp only [hg, cond_true] at hr
          have hok := az_step_inv hI hlo hso hs hg
          split at hr
          · rename_i p' l' s' h1
            obtain ⟨a1, a2, a3, a4⟩ := hok
            obtain ⟨b1, b2, b3⟩ := ih _ _ _ _ _ _ a1 a2 hr
            exact ⟨b1, Nat.le_trans a3 b2, Nat.le_trans a4 b3⟩
          · obtain ⟨a1, a2, rfl⟩ := hok
            exact ih _ _ _ _ _ _ a1 a2 hr
          · obtain ⟨a0, a1, a2, rfl⟩ := hok
            split at hr
            · cases hr
            · rename_i v1 h2 hc
              obtain ⟨c1, c2, c3⟩ := hC _ _ _ _ _ a0 hc
              obtain ⟨b1, b2, b3⟩ := ih _ _ _ _ _ _ a1 (az_app c1 a2) hr
              exact ⟨b1, Nat.le_trans c2 b2, Nat.le_trans c3 b3⟩
          · obtain ⟨a1, rfl⟩ := hok
            cases hr
            exact ⟨a1, Nat.le_refl _, Nat.le_refl _⟩
          · obtain ⟨a1, a2, rfl⟩ := hok
            exact ih _ _ _ _ _ _ a1 a2 hr
end
