/-! the row of multianewarray for int[10][8] -/
def mz_o (c : ClassId) (a i : Nat) : Cell := arrV c 10 (fun j => if j < i then .ref (a + 1 + j) else .null)
def mz_i (c : ClassId) : Cell := arrV c 8 (fun _ => .int 0)
def mz_s (T : State) (cA comp : ClassId) : Nat → State
  | 0 => T.pushCell (mz_o cA T.heap.size 0)
  | i + 1 => ((mz_s T cA comp i).pushCell (mz_i comp)).setCell T.heap.size (mz_o cA T.heap.size (i + 1))
theorem mz_o_set (c : ClassId) (a i : Nat) : (mz_o c a i).setSlot i (.ref (a + 1 + i)) = mz_o c a (i + 1) := by
  unfold mz_o
  rw [arrV_store]
  congr 1
  funext j
  unfold updV
  by_cases e : j = i
  · subst e; rw [if_pos rfl, if_pos (by omega)]
  · rw [if_neg e]
    show (if j < i then Value.ref (a + 1 + j) else Value.null) = _
    by_cases h : j < i
    · rw [if_pos h, if_pos (by omega)]
    · rw [if_neg h, if_neg (by omega)]
theorem mz_facts (T : State) (cA comp : ClassId) (i : Nat) : (mz_s T cA comp i).heap.size = T.heap.size + 1 + i ∧ (mz_s T cA comp i).heap[T.heap.size]? = some (mz_o cA T.heap.size i) ∧ (mz_s T cA comp i).vm = T.vm ∧ (mz_s T cA comp i).slotsUsed = T.slotsUsed + 10 + i * 8 ∧
    (∀ q, q < T.heap.size → (mz_s T cA comp i).heap[q]? = T.heap[q]?) ∧ ∀ j, j < i → (mz_s T cA comp i).heap[T.heap.size + 1 + j]? = some (mz_i comp) := by
  induction i with
  | zero =>
    refine ⟨by simp [mz_s], by simp [mz_s], rfl, ?_, fun q hq => State.heap_pushCell_of_lt _ _ hq, fun j hj => absurd hj (Nat.not_lt_zero _)⟩
    have : (mz_o cA T.heap.size 0).slots.size = 10 := arrV_size _ _ _
    simp [mz_s, this]
  | succ i ih =>
    obtain ⟨a1, a2, a3, a4, a5, a6⟩ := ih
    have hlt : T.heap.size < (mz_s T cA comp i).heap.size := by omega
    have hc : ((mz_s T cA comp i).pushCell (mz_i comp)).heap[T.heap.size]? = some (mz_o cA T.heap.size i) := by rw [State.heap_pushCell_of_lt (h := hlt)]; exact a2
    refine ⟨?_, State.heap_setCell_self hc, ?_, ?_, fun q hq => ?_, fun j hj => ?_⟩
    · simp [mz_s, State.setCell, a1]; omega
    · simp [mz_s, a3]
    · have : (mz_i comp).slots.size = 8 := arrV_size _ _ _
      simp [mz_s, a4, this]; omega
    · show (((mz_s T cA comp i).pushCell (mz_i comp)).setCell T.heap.size _).heap[q]? = _
      have hl2 : q < (mz_s T cA comp i).heap.size := by omega
      rw [State.heap_setCell_other (Nat.ne_of_gt hq), State.heap_pushCell_of_lt (h := hl2)]
      exact a5 q hq
    · show (((mz_s T cA comp i).pushCell (mz_i comp)).setCell T.heap.size _).heap[T.heap.size + 1 + j]? = _
      rw [State.heap_setCell_other (show T.heap.size ≠ T.heap.size + 1 + j by omega)]
      by_cases e : j = i
      · subst e
        rw [← a1]
        exact State.heap_pushCell_size _ _
      · have hl2 : T.heap.size + 1 + j < (mz_s T cA comp i).heap.size := by omega
        rw [State.heap_pushCell_of_lt (h := hl2)]
        exact a6 j (by omega)
theorem mz_top (T : State) (f : JFrame) (cA comp : ClassId) (i : Nat) : mz_s (T.setTop f) cA comp i = (mz_s T cA comp i).setTop f := by
  induction i with
  | zero => rfl
  | succ i ih => simp only [mz_s, ih, State.heap_setTop, State.pushCell_setTop, State.setCell_setTop]
section
variable {p : Program} {l : Launch} {e : Env} {R : Room} {s : State} {m : MethodId} {args : Array Value} {below : List Frame} {meth : Method} {c : Code} {T : State} {locs : List Loc} {cells slots : Nat}
theorem mz_stand (X : Stand p l e R s m args below meth c T locs cells slots) (cA comp : ClassId) (i : Nat) : Stand p l e R s m args below meth c (mz_s T cA comp i) locs (cells + 1 + i) (slots + 10 + i * 8) := by
  have hgr : s.heap.size ≤ T.heap.size := X.heapGrown
  induction i with
  | zero =>
    have h := X.pushed (mz_o cA T.heap.size 0)
    rw [show (mz_o cA T.heap.size 0).slots.size = 10 from arrV_size _ _ _] at h
    simpa [mz_s] using h
  | succ i ih =>
    obtain ⟨a1, a2, a3, a4, a5, a6⟩ := mz_facts T cA comp i
    have hc : ((mz_s T cA comp i).pushCell (mz_i comp)).heap[T.heap.size]? = some (mz_o cA T.heap.size i) := by
      have hl2 : T.heap.size < (mz_s T cA comp i).heap.size := by omega
      rw [State.heap_pushCell_of_lt (h := hl2)]; exact a2
    have h := (ih.pushed (mz_i comp)).stored hc i (.ref (T.heap.size + 1 + i))
    rw [mz_o_set, show (mz_i comp).slots.size = 8 from arrV_size _ _ _] at h
    have h2 := Stand.dropFresh h (fun x hx => by
      rw [List.mem_singleton] at hx
      subst hx
      exact hgr)
    rw [show slots + 10 + (i + 1) * 8 = slots + 10 + i * 8 + 8 by omega]
    exact h2
end
section
variable {E : CtlPost} {e : Env} {d : Bool} {acts : List Action} {s : State}
theorem mz_new {c comp : ClassId} {k : Class} {ty : FieldType} {n : Nat} {v : Value} (hk : s.vm.classes[c]? = some k) (hkind : k.kind = .array comp ty) (hl : n ≤ e.platform.arrayLengthLimit) (hb : n * componentBytes ty ≤ e.platform.maxHeapBytes) (hfit : fits ty v = true)
    (h1 : s.heap.size < e.platform.maxCells) (h2 : s.slotsUsed + n ≤ e.platform.maxSlots) {Q : Addr → Pre} (hq : ∀ acts, Q s.heap.size d acts (s.pushCell (arrV c n (fun _ => v)))) : Sem.wp (Jvm.newArray c n v) Q E e d acts s := by
  have hf : ∀ i w, (Array.replicate n v)[i]? = some w → s.fitsSlot c .none i w = true := fun i w hw => by
    rw [Array.getElem?_replicate] at hw
    split at hw
    · cases hw
      simp [State.fitsSlot, State.slotType?, hk, hkind, hfit]
    · cases hw
  have hq2 := hq (allocActs (Array.replicate n v) s.heap.size acts)
  rw [← arrV_new] at hq2
  simp only [Jvm.newArray, Jvm.arrayFits, wp_bind', W.ask, W.ite, wp_pure', W.theClass, hk, hkind, W.alloc, W.stop, Option.some.injEq, exists_eq_left', Array.size_replicate]
  rw [if_neg (by omega), if_neg (by omega), if_neg (by omega)]
  exact ⟨h1, h2, hf, hq2⟩
theorem mz_make {cA comp cc : ClassId} {kA kC : Class} (hkA : s.vm.classes[cA]? = some kA) (hA : kA.kind = .array comp (.array .int)) (hkC : s.vm.classes[comp]? = some kC) (hC : kC.kind = .array cc .int) (hl : 10 ≤ e.platform.arrayLengthLimit) (hb : 40 ≤ e.platform.maxHeapBytes)
    (h1 : s.heap.size + 11 ≤ e.platform.maxCells) (h2 : s.slotsUsed + 90 ≤ e.platform.maxSlots) {Q : Addr → Pre} (hq : ∀ d acts, Q s.heap.size d acts (mz_s s cA comp 10)) : Sem.wp (multianewarray.make cA [10, 8]) Q E e d acts s := by
  have e10 : (10 : Int32).toNatClampNeg = 10 := by decide
  have e8 : (8 : Int32).toNatClampNeg = 8 := by decide
  rw [multianewarray.make]
  simp only [wp_bind', W.ite, show ¬ (10 : Int32) < 0 by decide, if_false, wp_pure', W.theClass, hkA, hA, Option.some.injEq, exists_eq_left', e10]
  refine mz_new hkA hA (by omega) (by show 10 * 4 ≤ _; omega) rfl (by omega) (by omega) (fun acts => ?_)
  rw [show ((10 : Int32) == 0) = false by decide]
  simp only [Bool.false_eq_true, if_false, wp_bind', wp_pure']
  rw [Std.Legacy.Range.forIn_eq_forIn_range']
  rw [show ([:10] : Std.Legacy.Range).size = 10 from rfl]
  refine wp_forIn_inv (fun rest s' => ∃ i, i ≤ 10 ∧ rest = List.range' i (10 - i) ∧ s' = mz_s s cA comp i) _ _ ⟨0, Nat.zero_le _, rfl, ?_⟩ ?_ ?_
  · show _ = s.pushCell (mz_o cA s.heap.size 0)
    unfold mz_o
    simp
  · rintro x rest s' d' acts' Q' ⟨i, hi, hl2, rfl⟩ hnext
    have hlt : i < 10 := by
      apply Classical.byContradiction
      intro hh
      rw [show 10 - i = 0 by omega] at hl2
      simp at hl2
    rw [show 10 - i = (10 - (i + 1)) + 1 by omega, List.range'_succ] at hl2
    obtain ⟨rfl, rfl⟩ := List.cons.inj hl2
    obtain ⟨a1, a2, a3, a4, a5, a6⟩ := mz_facts s cA comp x
    simp only [wp_bind']
    rw [multianewarray.make]
    simp only [wp_bind', W.ite, show ¬ (8 : Int32) < 0 by decide, if_false, wp_pure', W.theClass, a3, hkC, hC, Option.some.injEq, exists_eq_left', e8]
    refine mz_new (by rw [a3]; exact hkC) hC (by omega) (by show 8 * 4 ≤ _; omega) rfl (by omega) (by omega) (fun acts => ?_)
    simp only [wp_bind', W.writeLoc, wp_pure']
    have hl3 : s.heap.size < (mz_s s cA comp x).heap.size := by omega
    refine ⟨mz_o cA s.heap.size x, by rw [State.heap_pushCell_of_lt (h := hl3)]; exact a2, by unfold mz_o arrV; simp, by rw [show (mz_o cA s.heap.size x).slots.size = 10 from arrV_size _ _ _]; exact hlt, ?_, hnext _ _ _ ⟨x + 1, hlt, rfl, ?_⟩⟩
    · have : (mz_o cA s.heap.size x).cls = cA ∧ (mz_o cA s.heap.size x).vm = .none := ⟨rfl, rfl⟩
      rw [this.1, this.2]
      simp [State.fitsSlot, State.slotType?, a3, hkA, hA, fits]
    · rw [a1, mz_o_set]
      rfl
  · rintro s' d' acts' ⟨i, hi, hl2, rfl⟩
    have e : i = 10 := by
      apply Classical.byContradiction
      intro hh
      rw [show 10 - i = (10 - (i + 1)) + 1 by omega, List.range'_succ] at hl2
      cases hl2
    subst e
    exact hq _ _
end
section
variable {p : Program} {l : Launch} {e : Env} {R : Room} {s : State} {m : MethodId} {args : Array Value} {below : List Frame} {meth : Method} {c : Code} {H : Heap} {locs : List Loc} {cells slots : Nat} {Q : State → Prop}
theorem mz_W {cd : ByteArray} {own : String} {pc : Nat} {ls : Array Slot} {rest : List Value} {cA comp cc : ClassId} {kA kC : Class} (hexec : p.tables.exec = Jvm.exec) (hb : c.code = cd) (hown : s.vm.findClass own = some m.cls) (hcl : (Jvm.Cond.classLink own 23 "[[I").before args s = true) (hfA : s.vm.findClass "[[I" = some cA)
    (hkA : s.vm.classes[cA]? = some kA) (hA : kA.kind = .array comp (.array .int)) (hkC : s.vm.classes[comp]? = some kC) (hC : kC.kind = .array cc .int) (hdg : decode cd pc = .ok (.multianewarray 23 2, 4)) (hcells : cells + 11 ≤ R.cells) (hslots : slots + 90 ≤ R.slots)
    (kk : ∀ H' : Heap, H'.size = H.size + 11 → (∀ q, q < H.size → H'[q]? = H[q]?) → H'[H.size]? = some (mz_o cA H.size 10) → (∀ j, j < 10 → H'[H.size + 1 + j]? = some (mz_i comp)) → W p l e R s m args below meth c H' locs (cells + 11) (slots + 90) Q (F0 m (pc + 4) ls (.ref H.size :: rest))) :
    W p l e R s m args below meth c H locs cells slots Q (F0 m pc ls (.int 8 :: .int 10 :: rest)) := by
  intro T hT X
  subst hT; subst hb
  have hpl : e.platform.magicAccessors = ({} : Platform).magicAccessors := by rw [X.admits.platform]
  obtain ⟨c0, hfc0, hcl2⟩ := Cond.classLink_spec hown hcl e.platform hpl
  cases hfA.symm.trans hfc0
  obtain ⟨hg1, hw1, -⟩ := State.classEntry (e := e) X.warmed hcl2
  generalize T.vm.noted m.cls 23 (.cls cA) = vm1 at hg1 hw1
  have hal : s.vm.Alike vm1 := hw1.alike
  obtain ⟨kA1, hkA1, heA⟩ := hal.2.2 _ _ hkA
  obtain ⟨kC1, hkC1, heC⟩ := hal.2.2 _ _ hkC
  have X1 := X.noted hw1
  have XF := mz_stand X1 cA comp 10
  obtain ⟨hr1, hr2⟩ := X.roomAbove hcells hslots
  obtain ⟨a1, a2, a3, a4, a5, a6⟩ := mz_facts (T.setVm vm1) cA comp 10
  obtain ⟨t, b1, b2⟩ := kk (mz_s (T.setVm vm1) cA comp 10).heap (by rw [a1]; rfl) a5 a2 a6 _ rfl XF
  refine ⟨t, ?_, b2⟩
  jvm_step X.here [hexec, hdg]
  simp only [multianewarray.sem, wp_bind', W.resolveClassAt_links (State.method?_setTop (F0 m pc ls (.int 8 :: .int 10 :: rest)) X.here.top) hg1]
  rw [W.popN, if_neg (by decide)]
  refine ⟨_, State.topJava?_setTop' (s := T.setVm vm1) (F0 m pc ls (.int 8 :: .int 10 :: rest)) X.here.top, [.int 10, .int 8], rest, rfl, rfl, ?_⟩
  simp only [List.mapM_cons, List.mapM_nil, wp_bind', wp_pure']
  have eS : ((T.setTop (F0 m pc ls (.int 8 :: .int 10 :: rest))).setVm vm1).setTop (F0 m pc ls rest) = (T.setVm vm1).setTop (F0 m pc ls rest) := by
    show ((T.setVm vm1).setTop _).setTop _ = _
    rw [State.setTop_setTop]
  rw [eS]
  refine mz_make (kA := kA1) (kC := kC1) (comp := comp) (cc := cc) (show ((T.setVm vm1).setTop (F0 m pc ls rest)).vm.classes[cA]? = some kA1 from hkA1) (by rw [heA]; exact hA) (show ((T.setVm vm1).setTop (F0 m pc ls rest)).vm.classes[comp]? = some kC1 from hkC1) (by rw [heC]; exact hC) (by rw [Launch.admits_arrayLengthLimit X.admits]; omega) (by rw [Launch.admits_maxHeapBytes X.admits]; omega) hr1 hr2 (fun d' acts' => ?_)
  rw [mz_top]
  simp only [wp_bind', W.mark, W.pushRef, State.topJava?_setTop' _ XF.here.top, Option.some.injEq, exists_eq_left', State.setTop_setTop, State.heap_setTop]
  intro acts
  simp [jvm, XF.here.top]
  exact b1
end
