/-! soundness, one step: values, locals, the judgement az_W -/
section
variable {ρ α : Type}
def az_tr (ad : ρ → Nat) (v : az_V ρ) : Value := match v with
  | Sum.inl x => .int x
  | Sum.inr none => .null
  | Sum.inr (some r) => .ref (ad r)
theorem az_cat (ad : ρ → Nat) (v : az_V ρ) : (az_tr ad v).category = 1 := by
  rcases v with x | x | r <;> rfl
def az_vv (VR : ρ → Prop) (v : az_V ρ) : Prop := ∀ r, v = Sum.inr (some r) → VR r
theorem az_vvi {VR : ρ → Prop} (x : Int32) : az_vv VR (Sum.inl x : az_V ρ) := fun r h => by cases h
theorem az_vvn {VR : ρ → Prop} : az_vv VR (Sum.inr none : az_V ρ) := fun r h => by cases h
theorem az_vvr {VR : ρ → Prop} {r : ρ} (h : VR r) : az_vv VR (Sum.inr (some r) : az_V ρ) := fun r' e => by cases e; exact h
def az_Lr (ad : ρ → Nat) (nL : Nat) (ls : az_L ρ) (lr : Array Slot) : Prop := lr.size = nL ∧ lv_wf lr ∧ ls.length = nL ∧ ∀ (i : Nat) (v : az_V ρ), ls[i]? = some (some v) → lr[i]? = some (.val (az_tr ad v))
def az_ll (ad : ρ → Nat) (ls : az_L ρ) : List (Nat × Value) := (List.range ls.length).filterMap (fun i => match ls[i]? with
  | some (some v) => some (i, az_tr ad v)
  | _ => none)
theorem az_ll_mem {ad : ρ → Nat} {ls : az_L ρ} {q : Nat × Value} : q ∈ az_ll ad ls ↔ ∃ v, ls[q.1]? = some (some v) ∧ q.2 = az_tr ad v := by
  unfold az_ll
  rw [List.mem_filterMap]
  constructor
  · rintro ⟨i, hi, h⟩
    split at h
    · rename_i v hv
      cases h
      exact ⟨v, hv, rfl⟩
    · cases h
  · rintro ⟨v, hv, h⟩
    refine ⟨q.1, List.mem_range.mpr (List.getElem?_eq_some_iff.mp hv).1, ?_⟩
    rw [hv]
    simp [← h]
theorem az_Lr.has {ad : ρ → Nat} {nL : Nat} {ls : az_L ρ} {lr : Array Slot} (h : az_Lr ad nL ls lr) : lv_has lr nL (az_ll ad ls) :=
  ⟨h.1, h.2.1, fun q hq => by
    obtain ⟨v, h1, h2⟩ := az_ll_mem.mp hq
    rw [h2]
    exact h.2.2.2 _ _ h1⟩
theorem az_Lr.at {ad : ρ → Nat} {nL : Nat} {ls : az_L ρ} {lr : Array Slot} (h : az_Lr ad nL ls lr) {i : Nat} {v : az_V ρ} (hv : ls[i]? = some (some v)) : lr[i]? = some (.val (az_tr ad v)) := h.2.2.2 i v hv
theorem az_Lr.store {ad : ρ → Nat} {nL i : Nat} {ls : az_L ρ} {lr lr' : Array Slot} {v : az_V ρ} (h : az_Lr ad nL ls lr) (hi : i < nL) (lv : List (Nat × Value)) (hlv : ∀ q ∈ az_ll ad ls, q ∈ lv)
    (hs : lv_has lr' nL ((i, az_tr ad v) :: lv.filter (fun q => !(q.1 == i) && !(q.1 + 1 == i && q.2.category == 2)))) : az_Lr ad nL (ls.set i (some v)) lr' := by
  refine ⟨hs.1, hs.2.1, by rw [List.length_set]; exact h.2.2.1, fun j w hw => ?_⟩
  by_cases hj : j = i
  · subst hj
    rw [List.getElem?_set_self (by rw [h.2.2.1]; exact hi)] at hw
    cases hw
    exact hs.2.2 (j, az_tr ad v) List.mem_cons_self
  · rw [List.getElem?_set_ne (Ne.symm hj)] at hw
    refine hs.2.2 (j, az_tr ad w) (List.mem_cons_of_mem _ (List.mem_filter.mpr ⟨hlv _ (az_ll_mem.mpr ⟨w, hw, rfl⟩), ?_⟩))
    simp [hj, az_cat]
def az_lok (VR : ρ → Prop) (ls : az_L ρ) : Prop := ∀ v, some v ∈ ls → az_vv VR v
theorem az_lok.set {VR : ρ → Prop} {ls : az_L ρ} (h : az_lok VR ls) (i : Nat) {v : az_V ρ} (hv : az_vv VR v) : az_lok VR (ls.set i (some v)) := by
  intro w hw
  rcases List.mem_or_eq_of_mem_set hw with h1 | h1
  · exact h w h1
  · cases h1; exact hv
theorem az_lok.at {VR : ρ → Prop} {ls : az_L ρ} (h : az_lok VR ls) {i : Nat} {v : az_V ρ} (hv : ls[i]? = some (some v)) : az_vv VR v := h v (List.mem_of_getElem? hv)
def az_sok (VR : ρ → Prop) (st : List (az_V ρ)) : Prop := ∀ v ∈ st, az_vv VR v
end
/-- what a frame of the method q knows -/
def az_Fr (p : Program) (s : State) (m : MethodId) (args : Array Value) (meth : Method) (c : Code) (q : az_MT) : Prop :=
  p.tables.exec = Jvm.exec ∧ c.code = q.2.1 ∧ c.maxLocals = q.2.2.1 ∧ meth.sig.returnType = q.2.2.2.1 ∧ meth.locks = false ∧ s.vm.findClass (az_cn q.2.2.2.2.1) = some m.cls ∧ (∀ w ∈ lw_all, w.before args s = true) ∧ (q.1.name = "<init>" → meth.name = "<init>")
/-- the words that don't ride in the lists -/
def az_nws : List Jvm.Cond := az_FN.map az_fnw ++ az_MN.map (fun r => Jvm.Cond.methodLinkNest (az_cn r.1) r.2.1 (az_yn r.2.2) "LockBook")
def az_dty (i : Nat) : FieldType := match i with
  | 0 => .int
  | 1 => .boolean
  | 2 => .object "LockBook$Manner"
  | 7 => .object "LockBook$Machine"
  | 8 => .object "LockBook$Job"
  | 9 => .object "LockBook$Step"
  | _ => .array .int
/-- array classes by number: 0 int, 1 boolean, class numbers 2 7 8 9, 10 int[] -/
def az_tys (dA : Nat → ClassId) : List (ClassId × FieldType) := [0, 1, 2, 7, 8, 9, 10].map (fun i => (dA i, az_dty i))
def az_Ka (dA : Nat → ClassId) (U : State) : Prop := ∃ kA : Class, U.vm.classes[dA 10]? = some kA ∧ kA.kind = .array (dA 0) (.array .int)
theorem az_Ka.moved {dA : Nat → ClassId} {u U : State} (hvm : u.vm.Alike U.vm) (h : az_Ka dA u) : az_Ka dA U := by
  obtain ⟨kA, h1, h2⟩ := h
  obtain ⟨k', hk', he⟩ := hvm.2.2 _ _ h1
  exact ⟨k', hk', by rw [he]; exact h2⟩
def az_K (D : va_G) (dA : Nat → ClassId) (scr : Cell) (U : State) : Prop :=
  va_K D az_cl (az_tys dA) U ∧ (∀ w ∈ az_nws, va_Nw w U) ∧ va_Fw "LockBook$RunLog" az_x93 (az_yn 93) U ∧ va_Fw "LockBook$RunLog" az_x94 (az_yn 94) U ∧ U.isArrayOf scr .int ∧ (∀ i ∈ [2, 7, 8, 9], va_AO (az_cn i) U) ∧ (∀ i ∈ [3, 4, 5, 6], va_Nw (.castable (az_cn i) "LockBook$Manner") U) ∧ az_Ka dA U
theorem az_nws_F : ∀ r ∈ az_FN, az_fnw r ∈ az_nws := fun r h => List.mem_append_left _ (List.mem_map.mpr ⟨r, h, rfl⟩)
theorem az_nws_M : ∀ r ∈ az_MN, Jvm.Cond.methodLinkNest (az_cn r.1) r.2.1 (az_yn r.2.2) "LockBook" ∈ az_nws := fun r h => List.mem_append_right _ (List.mem_map.mpr ⟨r, h, rfl⟩)
theorem az_K.moved {D : va_G} {dA : Nat → ClassId} {scr : Cell} {s U : State} (hW : s.WarmedH U.vm) (h : az_K D dA scr s) : az_K D dA scr U := by
  obtain ⟨h1, h2, h3, h4, h5, h6, h7, h8⟩ := h
  refine ⟨va_K.moved hW.alike h1, fun w hw => ?_, va_Fw.moved (by decide) hW.alike h3, va_Fw.moved (by decide) hW.alike h4, State.isArrayOf_alike hW.alike h5, fun i hi => va_AO.moved hW.alike (h6 i hi), fun i hi => va_Nw.warmC hW (h7 i hi), az_Ka.moved hW.alike h8⟩
  have hn := h2 w hw
  rcases List.mem_append.mp hw with hh | hh
  · obtain ⟨r, -, rfl⟩ := List.mem_map.mp hh
    exact va_Nw.warmF hW hn
  · obtain ⟨r, -, rfl⟩ := List.mem_map.mp hh
    exact va_Nw.warmM hW hn
theorem az_K.same {D : va_G} {dA : Nat → ClassId} {scr : Cell} {s U : State} (hv : s.vm = U.vm) (h : az_K D dA scr s) : az_K D dA scr U := by
  obtain ⟨h1, h2, h3, h4, h5, h6, h7, h8⟩ := h
  have ha : s.vm.Alike U.vm := by rw [← hv]; exact Vm.Alike.refl s.vm
  refine ⟨va_K.moved ha h1, fun w hw => ?_, va_Fw.moved (by decide) ha h3, va_Fw.moved (by decide) ha h4, State.isArrayOf_alike ha h5, fun i hi => va_AO.moved ha (h6 i hi), fun i hi => va_Nw.same rfl hv (h7 i hi), az_Ka.moved ha h8⟩
  have hn := h2 w hw
  rcases List.mem_append.mp hw with hh | hh
  · obtain ⟨r, -, rfl⟩ := List.mem_map.mp hh
    exact va_Nw.same rfl hv hn
  · obtain ⟨r, -, rfl⟩ := List.mem_map.mp hh
    exact va_Nw.same rfl hv hn
