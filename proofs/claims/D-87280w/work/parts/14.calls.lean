/-! calls: contracts of the abstract machine's methods, and the row of a call -/
section
variable {ρ α : Type}
def az_rm (d mc ms : Nat) : Room := { frames := d, cells := mc, slots := ms, locals := 30 * d }
def az_Pc (X : az_HM ρ α) (as : List (az_V ρ)) (h : α) : Array Value → State → Prop := fun av U => av = (as.map (az_tr (az_hA X))).toArray ∧ az_hR X h U.heap ∧ az_hK X U
def az_Qc (X : az_HM ρ α) (v : Option (az_V ρ)) (h' : α) : Array Value → State → Outcome → State → Prop := fun _ _ oc t => oc = .returned (v.map (az_tr (az_hA X))) ∧ az_hR X h' t.heap
/-- the contract of the method number i, as it ran -/
def az_Mt (X : az_HM ρ α) (l : Launch) (d i : Nat) (as : List (az_V ρ)) (h : α) (v : Option (az_V ρ)) (h' : α) : Prop :=
  ∀ q : az_MT, az_M[i]? = some q → Met l q.1 (ws_ q.1 q.2.1 q.2.2.1 q.2.2.2.1) (az_rm d (az_hc X h' - az_hc X h) (az_hs X h' - az_hs X h)) (az_Pc X as h) (az_Qc X v h') (az_hc X h' - az_hc X h) (az_hs X h' - az_hs X h) (fun x => az_hB X ≤ x)
theorem az_blind {X : az_HM ρ α} {as : List (az_V ρ)} {h : α} : FrameBlind (az_Pc X as h) := by
  intro a U g mk hh
  obtain ⟨h1, h2, h3⟩ := hh
  exact ⟨h1, h2, az_K.same (s := U) rfl h3⟩
variable {X : az_HM ρ α} {p : Program} {l : Launch} {e : Env} {R : Room} {s : State} {m : MethodId} {args : Array Value} {below : List Frame} {meth : Method} {c : Code} {Q : State → Prop} {q : az_MT} {c0 s0 : Nat}
/-- how it goes on behind a call -/
theorem az_back {h h2 : α} {v : Option (az_V ρ)} {pc len : Nat} {ls : az_L ρ} {st' : List (az_V ρ)} {H : Heap} {locs : List Loc} {lr : Array Slot} {st0 : List Value} {a9 : Array Value}
    (hm1 : az_hc X h ≤ az_hc X h2) (hm2 : az_hs X h ≤ az_hs X h2) (hvv : ∀ w, v = some w → az_vv (az_hV X) w)
    (hrun : ∀ T : State, T.heap = H → Stand p l e R s m args below meth c T locs (az_hc X h - c0) (az_hs X h - s0) → ∃ (v1 : Option Value) (st₀ t T' : State) (L : List Loc), st₀.heap = H ∧ Stand p l e R s m args below meth c T' (locs ++ L) (az_hc X h - c0 + (az_hc X h2 - az_hc X h)) (az_hs X h - s0 + (az_hs X h2 - az_hs X h)) ∧ (∀ q ∈ L, az_hB X ≤ q.base) ∧ T'.heap = t.heap ∧ T'.vm = t.vm ∧ az_Qc X v h2 a9 st₀ (.returned v1) t ∧
      Goes p e below T (F0 m pc lr st0) T' { (F0 m pc lr st0) with pc := pc + len, stack := v1.toList ++ st'.map (az_tr (az_hA X)) })
    (hL : ∀ x ∈ locs, az_hB X ≤ x.base) (hl : az_Lr (az_hA X) q.2.2.1 ls lr) (hlo : az_lok (az_hV X) ls) (hso : az_sok (az_hV X) st') (h1 : c0 ≤ az_hc X h) (h2' : s0 ≤ az_hs X h)
    (kk : az_W X p l e R s m args below meth c Q q.2.2.1 c0 s0 h2 (pc + len) ls (v.toList ++ st')) :
    W p l e R s m args below meth c H locs (az_hc X h - c0) (az_hs X h - s0) Q (F0 m pc lr st0) := by
  intro T hT X0
  obtain ⟨v1, st₀, t, T', L, g0, X', hL', e1, e2, ⟨hq1, hq2⟩, st⟩ := hrun T hT X0
  have hL2 : ∀ x ∈ locs ++ L, az_hB X ≤ x.base := fun x hx => by
    rcases List.mem_append.mp hx with hh | hh
    · exact hL x hh
    · exact hL' x hh
  have k2 := kk t.heap (locs ++ L) lr hq2 hL2 hl hlo (az_app hvv hso) (Nat.le_trans h1 hm1) (Nat.le_trans h2' hm2)
  rw [show az_hc X h2 - c0 = az_hc X h - c0 + (az_hc X h2 - az_hc X h) by omega, show az_hs X h2 - s0 = az_hs X h - s0 + (az_hs X h2 - az_hs X h) by omega] at k2
  obtain ⟨t2, a1, b1⟩ := k2 T' e1 X'
  refine ⟨t2, st t2 ?_, b1⟩
  cases hq1
  have : (v.toList ++ st').map (az_tr (az_hA X)) = (v.map (az_tr (az_hA X))).toList ++ st'.map (az_tr (az_hA X)) := by
    rcases v with _ | w <;> simp
  rw [this] at a1
  exact a1
theorem az_mrow {i : Nat} (hi : i < 183) : ∃ q, az_M[i]? = some q ∧ az_mok q = true := by
  have hlen : i < (az_M.take 183).length := by
    have : (az_M.take 183).length = 183 := by decide +kernel
    omega
  have h1 := List.all_eq_true.mp az_moks _ (List.getElem_mem hlen)
  refine ⟨_, ?_, h1⟩
  rw [List.getElem_take]
  exact List.getElem?_eq_getElem _
theorem az_mok_spec {q : az_MT} (h : az_mok q = true) : q.1.cls = az_cn q.2.2.2.2.1 ∧ q.2.2.2.2.1 ∈ az_IZ ∧ q.1.cls ≠ "java/lang/invoke/MethodHandle" ∧ q.1.cls ≠ "java/lang/invoke/VarHandle" ∧ (parseMethodDescriptor q.1.desc).map (fun d => d.parameters.length) = some q.2.2.2.2.2 ∧ plainName q.1.cls = true ∧ q.2.2.1 ≤ 11 := by
  simp only [az_mok, Bool.and_eq_true, decide_eq_true_eq, List.contains_iff_mem] at h
  obtain ⟨⟨⟨⟨⟨⟨a1, a2⟩, a3⟩, a4⟩, a5⟩, a6⟩, a7⟩ := h
  exact ⟨a1, a2, a3, a4, a5, a6, a7⟩
theorem az_cdk {i : Nat} (hi : i < 183) : az_cdw i ∈ lw_all := by
  by_cases h0 : i < 32
  · exact az_cd0 _ (List.mem_map.mpr ⟨i, (by
      have key : ∀ j, j < 32 → 0 + j ∈ ([0, 1, 2, 3, 4, 5, 6, 7, 8, 9, 10, 11, 12, 13, 14, 15, 16, 17, 18, 19, 20, 21, 22, 23, 24, 25, 26, 27, 28, 29, 30, 31] : List Nat) := by decide
      have := key (i - 0) (by omega)
      rwa [show 0 + (i - 0) = i by omega] at this), rfl⟩)
  by_cases h1 : i < 64
  · exact az_cd1 _ (List.mem_map.mpr ⟨i, (by
      have key : ∀ j, j < 32 → 32 + j ∈ ([32, 33, 34, 35, 36, 37, 38, 39, 40, 41, 42, 43, 44, 45, 46, 47, 48, 49, 50, 51, 52, 53, 54, 55, 56, 57, 58, 59, 60, 61, 62, 63] : List Nat) := by decide
      have := key (i - 32) (by omega)
      rwa [show 32 + (i - 32) = i by omega] at this), rfl⟩)
  by_cases h2 : i < 96
  · exact az_cd2 _ (List.mem_map.mpr ⟨i, (by
      have key : ∀ j, j < 32 → 64 + j ∈ ([64, 65, 66, 67, 68, 69, 70, 71, 72, 73, 74, 75, 76, 77, 78, 79, 80, 81, 82, 83, 84, 85, 86, 87, 88, 89, 90, 91, 92, 93, 94, 95] : List Nat) := by decide
      have := key (i - 64) (by omega)
      rwa [show 64 + (i - 64) = i by omega] at this), rfl⟩)
  by_cases h3 : i < 128
  · exact az_cd3 _ (List.mem_map.mpr ⟨i, (by
      have key : ∀ j, j < 32 → 96 + j ∈ ([96, 97, 98, 99, 100, 101, 102, 103, 104, 105, 106, 107, 108, 109, 110, 111, 112, 113, 114, 115, 116, 117, 118, 119, 120, 121, 122, 123, 124, 125, 126, 127] : List Nat) := by decide
      have := key (i - 96) (by omega)
      rwa [show 96 + (i - 96) = i by omega] at this), rfl⟩)
  by_cases h4 : i < 160
  · exact az_cd4 _ (List.mem_map.mpr ⟨i, (by
      have key : ∀ j, j < 32 → 128 + j ∈ ([128, 129, 130, 131, 132, 133, 134, 135, 136, 137, 138, 139, 140, 141, 142, 143, 144, 145, 146, 147, 148, 149, 150, 151, 152, 153, 154, 155, 156, 157, 158, 159] : List Nat) := by decide
      have := key (i - 128) (by omega)
      rwa [show 128 + (i - 128) = i by omega] at this), rfl⟩)
  exact az_cd5 _ (List.mem_map.mpr ⟨i, (by
      have key : ∀ j, j < 23 → 160 + j ∈ ([160, 161, 162, 163, 164, 165, 166, 167, 168, 169, 170, 171, 172, 173, 174, 175, 176, 177, 178, 179, 180, 181, 182, 184, 185, 186] : List Nat) := by decide
      have := key (i - 160) (by omega)
      rwa [show 160 + (i - 160) = i by omega] at this), rfl⟩)
end
