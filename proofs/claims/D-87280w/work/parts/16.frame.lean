/-! soundness of a frame -/
section
variable {ρ α : Type}
def az_rk (r : az_R ρ α) : Nat := match r with
  | Sum.inl _ => 0
  | Sum.inr (Sum.inl _) => 1
  | Sum.inr (Sum.inr (Sum.inl _)) => 2
  | Sum.inr (Sum.inr (Sum.inr (Sum.inl _))) => 3
  | Sum.inr (Sum.inr (Sum.inr (Sum.inr _))) => 4
def az_kind (t : Nat) : Nat := [0, 0, 0, 0, 0, 0, 0, 0, 0, 0, 0, 0, 0, 0, 0, 0, 0, 0, 0, 0, 0, 0, 0, 0, 0, 0, 0, 0, 0, 0, 0, 0, 0, 1, 1, 1, 1, 1, 4, 2, 2, 2, 2, 3, 3, 3, 0, 0, 0, 0].getD t 0
theorem az_kd {O : az_O ρ α} {tag : Nat} {k : Int32} {np a b cx d : Nat} {L : List Nat} {ls : az_L ρ} {st : List (az_V ρ)} {h : α} {g : Option Bool} {r : az_R ρ α} (hs : az_step O (tag, k, np, a, b, cx, d, L) ls st h = some (g, r)) : az_rk r = az_kind tag := by
  match tag, hs with
  | 0, hs => simp only [az_step, az_nx] at hs; cases hs; rfl
  | 1, hs =>
    simp only [az_step] at hs
    split at hs
    · simp only [az_nx, az_gx, az_br, az_ret] at hs; cases hs; rfl
    · cases hs
  | 2, hs =>
    simp only [az_step] at hs
    split at hs
    · simp only [az_nx, az_gx, az_br, az_ret] at hs; cases hs; rfl
    · cases hs
  | 3, hs =>
    simp only [az_step] at hs
    split at hs
    · simp only [az_nx, az_gx, az_br, az_ret] at hs; cases hs; rfl
    · cases hs
  | 4, hs =>
    simp only [az_step] at hs
    split at hs
    · simp only [az_nx, az_gx, az_br, az_ret] at hs; cases hs; rfl
    · cases hs
  | 5, hs =>
    simp only [az_step] at hs
    split at hs
    · simp only [az_nx, az_gx, az_br, az_ret] at hs; cases hs; rfl
    · cases hs
  | 6, hs =>
    simp only [az_step] at hs
    split at hs
    · split at hs
      · simp only [az_nx, az_gx] at hs; cases hs; rfl
      · cases hs
    · cases hs
  | 7, hs =>
    simp only [az_step] at hs
    split at hs
    · split at hs
      · cases hs; rfl
      · cases hs
    · cases hs
  | 8, hs =>
    simp only [az_step] at hs
    split at hs
    · split at hs
      · simp only [az_nx, az_gx] at hs; cases hs; rfl
      · cases hs
    · cases hs
  | 9, hs =>
    simp only [az_step] at hs
    split at hs
    · split at hs
      · simp only [az_nx, az_gx] at hs; cases hs; rfl
      · cases hs
    · cases hs
  | 10, hs =>
    simp only [az_step] at hs
    split at hs
    · split at hs
      · simp only [az_nx, az_gx] at hs; cases hs; rfl
      · cases hs
    · cases hs
  | 11, hs =>
    simp only [az_step] at hs
    split at hs
    · split at hs
      · simp only [az_nx, az_gx] at hs; cases hs; rfl
      · cases hs
    · cases hs
  | 12, hs =>
    simp only [az_step] at hs
    split at hs
    · split at hs
      · simp only [az_nx, az_gx] at hs; cases hs; rfl
      · cases hs
    · cases hs
  | 13, hs =>
    simp only [az_step] at hs
    split at hs
    · split at hs
      · simp only [az_nx, az_gx] at hs; cases hs; rfl
      · cases hs
    · cases hs
  | 14, hs =>
    simp only [az_step] at hs
    split at hs
    · split at hs
      · simp only [az_nx, az_gx] at hs; cases hs; rfl
      · cases hs
    · cases hs
  | 15, hs =>
    simp only [az_step] at hs
    split at hs
    · simp only [az_nx, az_gx, az_br, az_ret] at hs; cases hs; rfl
    · cases hs
  | 16, hs =>
    simp only [az_step] at hs
    split at hs
    · split at hs
      · simp only [az_nx, az_gx] at hs; cases hs; rfl
      · cases hs
    · cases hs
  | 17, hs =>
    simp only [az_step] at hs
    split at hs
    · split at hs
      · simp only [az_nx, az_gx] at hs; cases hs; rfl
      · cases hs
    · cases hs
  | 18, hs =>
    simp only [az_step] at hs
    split at hs
    · split at hs
      · simp only [az_nx, az_gx] at hs; cases hs; rfl
      · cases hs
    · cases hs
  | 19, hs =>
    simp only [az_step] at hs
    split at hs
    · simp only [az_nx, az_gx, az_br, az_ret] at hs; cases hs; rfl
    · cases hs
  | 20, hs =>
    simp only [az_step] at hs
    split at hs
    · simp only [az_nx, az_gx, az_br, az_ret] at hs; cases hs; rfl
    · cases hs
  | 21, hs =>
    simp only [az_step] at hs
    split at hs
    · simp only [az_nx, az_gx, az_br, az_ret] at hs; cases hs; rfl
    · cases hs
  | 22, hs =>
    simp only [az_step] at hs
    split at hs
    · simp only [az_nx, az_gx, az_br, az_ret] at hs; cases hs; rfl
    · cases hs
  | 23, hs =>
    simp only [az_step] at hs
    split at hs
    · simp only [az_nx, az_gx, az_br, az_ret] at hs; cases hs; rfl
    · cases hs
  | 24, hs =>
    simp only [az_step] at hs
    split at hs
    · simp only [az_nx, az_gx, az_br, az_ret] at hs; cases hs; rfl
    · cases hs
  | 25, hs =>
    simp only [az_step] at hs
    split at hs
    · simp only [az_nx, az_gx, az_br, az_ret] at hs; cases hs; rfl
    · cases hs
  | 26, hs =>
    simp only [az_step] at hs
    split at hs
    · simp only [az_nx, az_gx, az_br, az_ret] at hs; cases hs; rfl
    · cases hs
  | 27, hs =>
    simp only [az_step] at hs
    split at hs
    · simp only [az_nx, az_gx, az_br, az_ret] at hs; cases hs; rfl
    · cases hs
  | 28, hs =>
    simp only [az_step] at hs
    split at hs
    · simp only [az_nx, az_gx, az_br, az_ret] at hs; cases hs; rfl
    · cases hs
  | 29, hs =>
    simp only [az_step] at hs
    split at hs
    · simp only [az_nx, az_gx, az_br, az_ret] at hs; cases hs; rfl
    · cases hs
  | 30, hs =>
    simp only [az_step] at hs
    split at hs
    · simp only [az_nx, az_gx, az_br, az_ret] at hs; cases hs; rfl
    · cases hs
  | 31, hs =>
    simp only [az_step] at hs
    split at hs
    · simp only [az_nx, az_gx, az_br, az_ret] at hs; cases hs; rfl
    · cases hs
  | 32, hs => simp only [az_step, az_nx] at hs; cases hs; rfl
  | 33, hs =>
    simp only [az_step] at hs
    split at hs
    · simp only [az_nx, az_gx, az_br, az_ret] at hs; cases hs; rfl
    · cases hs
  | 34, hs =>
    simp only [az_step] at hs
    split at hs
    · simp only [az_nx, az_gx, az_br, az_ret] at hs; cases hs; rfl
    · cases hs
  | 35, hs =>
    simp only [az_step] at hs
    split at hs
    · simp only [az_nx, az_gx, az_br, az_ret] at hs; cases hs; rfl
    · cases hs
  | 36, hs =>
    simp only [az_step] at hs
    split at hs
    · simp only [az_nx, az_gx, az_br, az_ret] at hs; cases hs; rfl
    · cases hs
  | 37, hs =>
    simp only [az_step] at hs
    split at hs
    · cases hb : Nat.beq b 0 with
      | true => simp only [hb, cond_true, az_br] at hs; cases hs; rfl
      | false => simp only [hb, cond_false, az_br] at hs; cases hs; rfl
    · cases hs
  | 38, hs =>
    simp only [az_step] at hs
    split at hs
    · cases hs; rfl
    · cases hs
  | 39, hs =>
    simp only [az_step] at hs
    cases hb : Nat.ble b st.length with
    | true => simp only [hb, cond_true] at hs; obtain ⟨-, -, rfl⟩ := az_callS hs; rfl
    | false => simp only [hb, cond_false] at hs; cases hs
  | 40, hs =>
    simp only [az_step] at hs
    split at hs
    · split at hs
      · rename_i q hq
        cases hb : Nat.beq cx 99 with
        | true => simp only [hb, cond_true] at hs; obtain ⟨-, -, rfl⟩ := az_callgS hs; rfl
        | false =>
          simp only [hb, cond_false] at hs
          cases hb2 : Nat.beq q cx with
          | true => simp only [hb2, cond_true] at hs; obtain ⟨-, -, rfl⟩ := az_callS hs; rfl
          | false => simp only [hb2, cond_false] at hs; cases hs
      · cases hs
    · cases hs
  | 41, hs =>
    simp only [az_step] at hs
    split at hs
    · obtain ⟨-, -, rfl⟩ := az_callS hs; rfl
    · cases hs
  | 42, hs =>
    simp only [az_step] at hs
    split at hs
    · split at hs
      · rename_i q hq
        cases hb2 : Nat.beq q cx with
        | true => simp only [hb2, cond_true] at hs; obtain ⟨-, -, rfl⟩ := az_callS hs; rfl
        | false => simp only [hb2, cond_false] at hs; cases hs
      · cases hs
    · cases hs
  | 43, hs =>
    simp only [az_step] at hs
    split at hs
    · simp only [az_nx, az_gx, az_br, az_ret] at hs; cases hs; rfl
    · cases hs
  | 44, hs =>
    simp only [az_step] at hs
    split at hs
    · simp only [az_nx, az_gx, az_br, az_ret] at hs; cases hs; rfl
    · cases hs
  | 45, hs =>
    simp only [az_step] at hs
    split at hs
    · simp only [az_nx, az_gx, az_br, az_ret] at hs; cases hs; rfl
    · cases hs
  | 46, hs => simp only [az_step, az_nx] at hs; cases hs; rfl
  | 47, hs =>
    simp only [az_step] at hs
    split at hs
    · rename_i t hs0
      clear hs0
      cases hb : Nat.ble t.length 8 with
      | true => simp only [hb, cond_true, az_nx] at hs; cases hs; rfl
      | false => simp only [hb, cond_false] at hs; cases hs
    · cases hs
  | 48, hs =>
    simp only [az_step] at hs
    split at hs
    · rename_i t hs0
      clear hs0
      cases hb : Nat.ble t.length 8 with
      | true => simp only [hb, cond_true, az_nx] at hs; cases hs; rfl
      | false => simp only [hb, cond_false] at hs; cases hs
    · cases hs
  | 49, hs =>
    simp only [az_step] at hs
    split at hs
    · rename_i t hs0
      clear hs0
      cases hb : Nat.ble t.length 8 with
      | true => simp only [hb, cond_true, az_nx] at hs; cases hs; rfl
      | false => simp only [hb, cond_false] at hs; cases hs
    · cases hs
  | n + 50, hs => simp [az_step] at hs
variable {X : az_HM ρ α} {p : Program} {l : Launch} {e : Env} {R : Room} {s : State} {m : MethodId} {args : Array Value} {below : List Frame} {meth : Method} {c : Code} {Q : State → Prop} {q : az_MT} {c0 s0 : Nat}
/-- the row of multianewarray, as a law of the heap model over the machine -/
def az_T18 (X : az_HM ρ α) : Prop := ∀ {p : Program} {l : Launch} {e : Env} {R : Room} {s : State} {m : MethodId} {args : Array Value} {below : List Frame} {meth : Method} {c : Code} {Q : State → Prop} {q : az_MT} {c0 s0 : Nat} {pc : Nat} {k : Int32} {np a b cx d : Nat} {L : List Nat} {ls : az_L ρ} {st : List (az_V ρ)} {h : α}, az_Fr p s m args meth c q → az_hK X s → az_ok q.2.2.2.2.1 q.2.2.1 q.2.2.2.1 (decide (q.1.name = "<init>")) q.2.1 pc (18, k, np, a, b, cx, d, L) = true →
    ∀ {g : Option Bool} {np' : Nat} {ls' : az_L ρ} {st' : List (az_V ρ)} {h' : α}, az_step (az_hO X) (18, k, np, a, b, cx, d, L) ls st h = some (g, Sum.inl (np', ls', st', h')) → az_gd g = true → (az_hc X h' - c0 ≤ R.cells ∧ az_hs X h' - s0 ≤ R.slots) →
    az_W X p l e R s m args below meth c Q q.2.2.1 c0 s0 h' np' ls' st' → az_W X p l e R s m args below meth c Q q.2.2.1 c0 s0 h pc ls st
theorem az_next {pc : Nat} {ee : az_E} {ls : az_L ρ} {st : List (az_V ρ)} {h : α} (hLaw : az_Law X) (h18 : az_T18 X) (hF : az_Fr p s m args meth c q) (hK : az_hK X s) (hfr : 1 ≤ R.frames ∧ 30 ≤ R.locals) (hok : az_ok q.2.2.2.2.1 q.2.2.1 q.2.2.2.1 (decide (q.1.name = "<init>")) q.2.1 pc ee = true)
    {g : Option Bool} {np' : Nat} {ls' : az_L ρ} {st' : List (az_V ρ)} {h' : α} (hs : az_step (az_hO X) ee ls st h = some (g, Sum.inl (np', ls', st', h'))) (hg : az_gd g = true) (hr : az_hc X h' - c0 ≤ R.cells ∧ az_hs X h' - s0 ≤ R.slots)
    (kk : az_W X p l e R s m args below meth c Q q.2.2.1 c0 s0 h' np' ls' st') : az_W X p l e R s m args below meth c Q q.2.2.1 c0 s0 h pc ls st := by
  obtain ⟨tag, k, np, a, b, cx, d, L⟩ := ee
  match tag, hok, hs with
  | 0, hok, hs => exact az_t0 hF hK hok hs hg hr kk
  | 1, hok, hs => exact az_t1 hF hK hok hs hg hr kk
  | 2, hok, hs => exact az_t2 hF hK hok hs hg hr kk
  | 3, hok, hs => exact az_t3 hF hK hok hs hg hr kk
  | 4, hok, hs => exact az_t4 hF hK hok hs hg hr kk
  | 5, hok, hs => exact az_t5 hF hK hok hs hg hr kk
  | 6, hok, hs => exact az_t6 hLaw hF hK hok hs hg hr kk
  | 7, hok, hs => exact az_t7 hLaw hF hK hok hs hg hr kk
  | 8, hok, hs => exact az_t8 hLaw hF hK hok hs hg hr kk
  | 9, hok, hs => exact az_t9 hLaw hF hK hok hs hg hr kk
  | 10, hok, hs => exact az_t10 hLaw hF hK hok hs hg hr kk
  | 11, hok, hs => exact az_t11 hLaw hF hK hok hs hg hr kk
  | 12, hok, hs => exact az_t12 hLaw hF hK hok hs hg hr kk
  | 13, hok, hs => exact az_t13 hLaw hF hK hok hs hg hr kk
  | 14, hok, hs => exact az_t14 hLaw hF hK hok hs hg hr kk
  | 15, hok, hs => exact az_t15 hLaw hF hK hok hs hg hr kk
  | 16, hok, hs => exact az_t16 hLaw hF hK hok hs hg hr kk
  | 17, hok, hs => exact az_t17 hLaw hF hK hok hs hg hr kk
  | 18, hok, hs => exact h18 hF hK hok hs hg hr kk
  | 19, hok, hs => exact az_t19 hF hK hok hs hg hr kk
  | 20, hok, hs => exact az_t20 hF hK hok hs hg hr kk
  | 21, hok, hs => exact az_t21 hF hK hok hs hg hr kk
  | 22, hok, hs => exact az_t22 hF hK hok hs hg hr kk
  | 23, hok, hs => exact az_t23 hF hK hok hs hg hr kk
  | 24, hok, hs => exact az_t24 hF hK hok hs hg hr kk
  | 25, hok, hs => exact az_t25 hF hK hok hs hg hr kk
  | 26, hok, hs => exact az_t26 hF hK hok hs hg hr kk
  | 27, hok, hs => exact az_t27 hF hK hok hs hg hr kk
  | 28, hok, hs => exact az_t28 hF hK hok hs hg hr kk
  | 29, hok, hs => exact az_t29 hF hK hok hs hg hr kk
  | 30, hok, hs => exact az_t30 hF hK hok hs hg hr kk
  | 31, hok, hs => exact az_t31 hF hK hok hs hg hr kk
  | 32, hok, hs => exact az_t32 hF hK hok hs hg hr kk
  | 46, hok, hs => exact az_t46 hF hK hok hs hg hr kk
  | 47, hok, hs => exact az_t47 hLaw hF hK hfr hok hs hg hr kk
  | 48, hok, hs => exact az_t48 hLaw hF hK hfr hok hs hg hr kk
  | 49, hok, hs => exact az_t49 hLaw hF hK hfr hok hs hg hr kk
  | 33, _, hs => exact absurd (az_kd hs) (show ¬ 0 = az_kind 33 by decide)
  | 34, _, hs => exact absurd (az_kd hs) (show ¬ 0 = az_kind 34 by decide)
  | 35, _, hs => exact absurd (az_kd hs) (show ¬ 0 = az_kind 35 by decide)
  | 36, _, hs => exact absurd (az_kd hs) (show ¬ 0 = az_kind 36 by decide)
  | 37, _, hs => exact absurd (az_kd hs) (show ¬ 0 = az_kind 37 by decide)
  | 38, _, hs => exact absurd (az_kd hs) (show ¬ 0 = az_kind 38 by decide)
  | 39, _, hs => exact absurd (az_kd hs) (show ¬ 0 = az_kind 39 by decide)
  | 40, _, hs => exact absurd (az_kd hs) (show ¬ 0 = az_kind 40 by decide)
  | 41, _, hs => exact absurd (az_kd hs) (show ¬ 0 = az_kind 41 by decide)
  | 42, _, hs => exact absurd (az_kd hs) (show ¬ 0 = az_kind 42 by decide)
  | 43, _, hs => exact absurd (az_kd hs) (show ¬ 0 = az_kind 43 by decide)
  | 44, _, hs => exact absurd (az_kd hs) (show ¬ 0 = az_kind 44 by decide)
  | 45, _, hs => exact absurd (az_kd hs) (show ¬ 0 = az_kind 45 by decide)
  | n + 50, _, hs => simp [az_step] at hs
theorem az_brn {pc : Nat} {ee : az_E} {ls : az_L ρ} {st : List (az_V ρ)} {h : α} (hLaw : az_Law X) (hF : az_Fr p s m args meth c q) (hok : az_ok q.2.2.2.2.1 q.2.2.1 q.2.2.2.1 (decide (q.1.name = "<init>")) q.2.1 pc ee = true)
    {g : Option Bool} {qb : Bool} {ta np' : Nat} {ls' : az_L ρ} {st' : List (az_V ρ)} {h' : α} (hs : az_step (az_hO X) ee ls st h = some (g, Sum.inr (Sum.inl (qb, ta, np', ls', st', h'))))
    (kk : az_W X p l e R s m args below meth c Q q.2.2.1 c0 s0 h' (cond qb ta np') ls' st') : az_W X p l e R s m args below meth c Q q.2.2.1 c0 s0 h pc ls st := by
  obtain ⟨tag, k, np, a, b, cx, d, L⟩ := ee
  have hk := az_kd hs
  match tag, hok, hs, hk with
  | 33, hok, hs, _ => exact az_t33 hLaw hF hok hs kk
  | 34, hok, hs, _ => exact az_t34 hLaw hF hok hs kk
  | 35, hok, hs, _ => exact az_t35 hLaw hF hok hs kk
  | 36, hok, hs, _ => exact az_t36 hLaw hF hok hs kk
  | 37, hok, hs, _ => exact az_t37 hLaw hF hok hs kk
  | 0, _, _, hk => exact absurd hk (show ¬ 1 = az_kind 0 by decide)
  | 1, _, _, hk => exact absurd hk (show ¬ 1 = az_kind 1 by decide)
  | 2, _, _, hk => exact absurd hk (show ¬ 1 = az_kind 2 by decide)
  | 3, _, _, hk => exact absurd hk (show ¬ 1 = az_kind 3 by decide)
  | 4, _, _, hk => exact absurd hk (show ¬ 1 = az_kind 4 by decide)
  | 5, _, _, hk => exact absurd hk (show ¬ 1 = az_kind 5 by decide)
  | 6, _, _, hk => exact absurd hk (show ¬ 1 = az_kind 6 by decide)
  | 7, _, _, hk => exact absurd hk (show ¬ 1 = az_kind 7 by decide)
  | 8, _, _, hk => exact absurd hk (show ¬ 1 = az_kind 8 by decide)
  | 9, _, _, hk => exact absurd hk (show ¬ 1 = az_kind 9 by decide)
  | 10, _, _, hk => exact absurd hk (show ¬ 1 = az_kind 10 by decide)
  | 11, _, _, hk => exact absurd hk (show ¬ 1 = az_kind 11 by decide)
  | 12, _, _, hk => exact absurd hk (show ¬ 1 = az_kind 12 by decide)
  | 13, _, _, hk => exact absurd hk (show ¬ 1 = az_kind 13 by decide)
  | 14, _, _, hk => exact absurd hk (show ¬ 1 = az_kind 14 by decide)
  | 15, _, _, hk => exact absurd hk (show ¬ 1 = az_kind 15 by decide)
  | 16, _, _, hk => exact absurd hk (show ¬ 1 = az_kind 16 by decide)
  | 17, _, _, hk => exact absurd hk (show ¬ 1 = az_kind 17 by decide)
  | 18, _, _, hk => exact absurd hk (show ¬ 1 = az_kind 18 by decide)
  | 19, _, _, hk => exact absurd hk (show ¬ 1 = az_kind 19 by decide)
  | 20, _, _, hk => exact absurd hk (show ¬ 1 = az_kind 20 by decide)
  | 21, _, _, hk => exact absurd hk (show ¬ 1 = az_kind 21 by decide)
  | 22, _, _, hk => exact absurd hk (show ¬ 1 = az_kind 22 by decide)
  | 23, _, _, hk => exact absurd hk (show ¬ 1 = az_kind 23 by decide)
  | 24, _, _, hk => exact absurd hk (show ¬ 1 = az_kind 24 by decide)
  | 25, _, _, hk => exact absurd hk (show ¬ 1 = az_kind 25 by decide)
  | 26, _, _, hk => exact absurd hk (show ¬ 1 = az_kind 26 by decide)
  | 27, _, _, hk => exact absurd hk (show ¬ 1 = az_kind 27 by decide)
  | 28, _, _, hk => exact absurd hk (show ¬ 1 = az_kind 28 by decide)
  | 29, _, _, hk => exact absurd hk (show ¬ 1 = az_kind 29 by decide)
  | 30, _, _, hk => exact absurd hk (show ¬ 1 = az_kind 30 by decide)
  | 31, _, _, hk => exact absurd hk (show ¬ 1 = az_kind 31 by decide)
  | 32, _, _, hk => exact absurd hk (show ¬ 1 = az_kind 32 by decide)
  | 38, _, _, hk => exact absurd hk (show ¬ 1 = az_kind 38 by decide)
  | 39, _, _, hk => exact absurd hk (show ¬ 1 = az_kind 39 by decide)
  | 40, _, _, hk => exact absurd hk (show ¬ 1 = az_kind 40 by decide)
  | 41, _, _, hk => exact absurd hk (show ¬ 1 = az_kind 41 by decide)
  | 42, _, _, hk => exact absurd hk (show ¬ 1 = az_kind 42 by decide)
  | 43, _, _, hk => exact absurd hk (show ¬ 1 = az_kind 43 by decide)
  | 44, _, _, hk => exact absurd hk (show ¬ 1 = az_kind 44 by decide)
  | 45, _, _, hk => exact absurd hk (show ¬ 1 = az_kind 45 by decide)
  | 46, _, _, hk => exact absurd hk (show ¬ 1 = az_kind 46 by decide)
  | 47, _, _, hk => exact absurd hk (show ¬ 1 = az_kind 47 by decide)
  | 48, _, _, hk => exact absurd hk (show ¬ 1 = az_kind 48 by decide)
  | 49, _, _, hk => exact absurd hk (show ¬ 1 = az_kind 49 by decide)
  | n + 50, _, hs, _ => simp [az_step] at hs
theorem az_swn {pc : Nat} {ee : az_E} {ls : az_L ρ} {st : List (az_V ρ)} {h : α} (hLaw : az_Law X) (hF : az_Fr p s m args meth c q) (hok : az_ok q.2.2.2.2.1 q.2.2.1 q.2.2.2.1 (decide (q.1.name = "<init>")) q.2.1 pc ee = true)
    {g : Option Bool} {x lo : Int32} {L2 : List Nat} {df : Nat} {ls' : az_L ρ} {st' : List (az_V ρ)} {h' : α} (hs : az_step (az_hO X) ee ls st h = some (g, Sum.inr (Sum.inr (Sum.inr (Sum.inr (x, lo, L2, df, ls', st', h'))))))
    (kk : az_W X p l e R s m args below meth c Q q.2.2.1 c0 s0 h' (az_sw x lo L2 df) ls' st') : az_W X p l e R s m args below meth c Q q.2.2.1 c0 s0 h pc ls st := by
  obtain ⟨tag, k, np, a, b, cx, d, L⟩ := ee
  have hk := az_kd hs
  match tag, hok, hs, hk with
  | 38, hok, hs, _ => exact az_t38 hLaw hF hok hs kk
  | 0, _, _, hk => exact absurd hk (show ¬ 4 = az_kind 0 by decide)
  | 1, _, _, hk => exact absurd hk (show ¬ 4 = az_kind 1 by decide)
  | 2, _, _, hk => exact absurd hk (show ¬ 4 = az_kind 2 by decide)
  | 3, _, _, hk => exact absurd hk (show ¬ 4 = az_kind 3 by decide)
  | 4, _, _, hk => exact absurd hk (show ¬ 4 = az_kind 4 by decide)
  | 5, _, _, hk => exact absurd hk (show ¬ 4 = az_kind 5 by decide)
  | 6, _, _, hk => exact absurd hk (show ¬ 4 = az_kind 6 by decide)
  | 7, _, _, hk => exact absurd hk (show ¬ 4 = az_kind 7 by decide)
  | 8, _, _, hk => exact absurd hk (show ¬ 4 = az_kind 8 by decide)
  | 9, _, _, hk => exact absurd hk (show ¬ 4 = az_kind 9 by decide)
  | 10, _, _, hk => exact absurd hk (show ¬ 4 = az_kind 10 by decide)
  | 11, _, _, hk => exact absurd hk (show ¬ 4 = az_kind 11 by decide)
  | 12, _, _, hk => exact absurd hk (show ¬ 4 = az_kind 12 by decide)
  | 13, _, _, hk => exact absurd hk (show ¬ 4 = az_kind 13 by decide)
  | 14, _, _, hk => exact absurd hk (show ¬ 4 = az_kind 14 by decide)
  | 15, _, _, hk => exact absurd hk (show ¬ 4 = az_kind 15 by decide)
  | 16, _, _, hk => exact absurd hk (show ¬ 4 = az_kind 16 by decide)
  | 17, _, _, hk => exact absurd hk (show ¬ 4 = az_kind 17 by decide)
  | 18, _, _, hk => exact absurd hk (show ¬ 4 = az_kind 18 by decide)
  | 19, _, _, hk => exact absurd hk (show ¬ 4 = az_kind 19 by decide)
  | 20, _, _, hk => exact absurd hk (show ¬ 4 = az_kind 20 by decide)
  | 21, _, _, hk => exact absurd hk (show ¬ 4 = az_kind 21 by decide)
  | 22, _, _, hk => exact absurd hk (show ¬ 4 = az_kind 22 by decide)
  | 23, _, _, hk => exact absurd hk (show ¬ 4 = az_kind 23 by decide)
  | 24, _, _, hk => exact absurd hk (show ¬ 4 = az_kind 24 by decide)
  | 25, _, _, hk => exact absurd hk (show ¬ 4 = az_kind 25 by decide)
  | 26, _, _, hk => exact absurd hk (show ¬ 4 = az_kind 26 by decide)
  | 27, _, _, hk => exact absurd hk (show ¬ 4 = az_kind 27 by decide)
  | 28, _, _, hk => exact absurd hk (show ¬ 4 = az_kind 28 by decide)
  | 29, _, _, hk => exact absurd hk (show ¬ 4 = az_kind 29 by decide)
  | 30, _, _, hk => exact absurd hk (show ¬ 4 = az_kind 30 by decide)
  | 31, _, _, hk => exact absurd hk (show ¬ 4 = az_kind 31 by decide)
  | 32, _, _, hk => exact absurd hk (show ¬ 4 = az_kind 32 by decide)
  | 33, _, _, hk => exact absurd hk (show ¬ 4 = az_kind 33 by decide)
  | 34, _, _, hk => exact absurd hk (show ¬ 4 = az_kind 34 by decide)
  | 35, _, _, hk => exact absurd hk (show ¬ 4 = az_kind 35 by decide)
  | 36, _, _, hk => exact absurd hk (show ¬ 4 = az_kind 36 by decide)
  | 37, _, _, hk => exact absurd hk (show ¬ 4 = az_kind 37 by decide)
  | 39, _, _, hk => exact absurd hk (show ¬ 4 = az_kind 39 by decide)
  | 40, _, _, hk => exact absurd hk (show ¬ 4 = az_kind 40 by decide)
  | 41, _, _, hk => exact absurd hk (show ¬ 4 = az_kind 41 by decide)
  | 42, _, _, hk => exact absurd hk (show ¬ 4 = az_kind 42 by decide)
  | 43, _, _, hk => exact absurd hk (show ¬ 4 = az_kind 43 by decide)
  | 44, _, _, hk => exact absurd hk (show ¬ 4 = az_kind 44 by decide)
  | 45, _, _, hk => exact absurd hk (show ¬ 4 = az_kind 45 by decide)
  | 46, _, _, hk => exact absurd hk (show ¬ 4 = az_kind 46 by decide)
  | 47, _, _, hk => exact absurd hk (show ¬ 4 = az_kind 47 by decide)
  | 48, _, _, hk => exact absurd hk (show ¬ 4 = az_kind 48 by decide)
  | 49, _, _, hk => exact absurd hk (show ¬ 4 = az_kind 49 by decide)
  | n + 50, _, hs, _ => simp [az_step] at hs
theorem az_cln {pc : Nat} {ee : az_E} {ls : az_L ρ} {st : List (az_V ρ)} {h : α} {dd : Nat} (hLaw : az_Law X) (hF : az_Fr p s m args meth c q) (hK : az_hK X s) (hfr : dd + 1 ≤ R.frames ∧ 30 * (dd + 1) ≤ R.locals) (hok : az_ok q.2.2.2.2.1 q.2.2.1 q.2.2.2.1 (decide (q.1.name = "<init>")) q.2.1 pc ee = true)
    {g : Option Bool} {mi : Nat} {as : List (az_V ρ)} {np' : Nat} {ls' : az_L ρ} {st' : List (az_V ρ)} {h' h2 : α} {v : Option (az_V ρ)} (hs : az_step (az_hO X) ee ls st h = some (g, Sum.inr (Sum.inr (Sum.inl (mi, as, np', ls', st', h'))))) (hg : az_gd g = true)
    (hM : az_Mt X l dd mi as h' v h2) (hm1 : az_hc X h ≤ az_hc X h2) (hm2 : az_hs X h ≤ az_hs X h2) (hvv : ∀ w, v = some w → az_vv (az_hV X) w) (hr : az_hc X h2 - c0 ≤ R.cells ∧ az_hs X h2 - s0 ≤ R.slots)
    (kk : az_W X p l e R s m args below meth c Q q.2.2.1 c0 s0 h2 np' ls' (v.toList ++ st')) : az_W X p l e R s m args below meth c Q q.2.2.1 c0 s0 h pc ls st := by
  obtain ⟨tag, k, np, a, b, cx, d, L⟩ := ee
  have hk := az_kd hs
  match tag, hok, hs, hk with
  | 39, hok, hs, _ => exact az_t39 hF hK hfr hok hs hM hm1 hm2 hvv hr kk
  | 40, hok, hs, _ => exact az_t40 hLaw hF hK hfr hok hs hg hM hm1 hm2 hvv hr kk
  | 41, hok, hs, _ => exact az_t41 hLaw hF hK hfr hok hs hM hm1 hm2 hvv hr kk
  | 42, hok, hs, _ => exact az_t42 hLaw hF hK hfr hok hs hM hm1 hm2 hvv hr kk
  | 0, _, _, hk => exact absurd hk (show ¬ 2 = az_kind 0 by decide)
  | 1, _, _, hk => exact absurd hk (show ¬ 2 = az_kind 1 by decide)
  | 2, _, _, hk => exact absurd hk (show ¬ 2 = az_kind 2 by decide)
  | 3, _, _, hk => exact absurd hk (show ¬ 2 = az_kind 3 by decide)
  | 4, _, _, hk => exact absurd hk (show ¬ 2 = az_kind 4 by decide)
  | 5, _, _, hk => exact absurd hk (show ¬ 2 = az_kind 5 by decide)
  | 6, _, _, hk => exact absurd hk (show ¬ 2 = az_kind 6 by decide)
  | 7, _, _, hk => exact absurd hk (show ¬ 2 = az_kind 7 by decide)
  | 8, _, _, hk => exact absurd hk (show ¬ 2 = az_kind 8 by decide)
  | 9, _, _, hk => exact absurd hk (show ¬ 2 = az_kind 9 by decide)
  | 10, _, _, hk => exact absurd hk (show ¬ 2 = az_kind 10 by decide)
  | 11, _, _, hk => exact absurd hk (show ¬ 2 = az_kind 11 by decide)
  | 12, _, _, hk => exact absurd hk (show ¬ 2 = az_kind 12 by decide)
  | 13, _, _, hk => exact absurd hk (show ¬ 2 = az_kind 13 by decide)
  | 14, _, _, hk => exact absurd hk (show ¬ 2 = az_kind 14 by decide)
  | 15, _, _, hk => exact absurd hk (show ¬ 2 = az_kind 15 by decide)
  | 16, _, _, hk => exact absurd hk (show ¬ 2 = az_kind 16 by decide)
  | 17, _, _, hk => exact absurd hk (show ¬ 2 = az_kind 17 by decide)
  | 18, _, _, hk => exact absurd hk (show ¬ 2 = az_kind 18 by decide)
  | 19, _, _, hk => exact absurd hk (show ¬ 2 = az_kind 19 by decide)
  | 20, _, _, hk => exact absurd hk (show ¬ 2 = az_kind 20 by decide)
  | 21, _, _, hk => exact absurd hk (show ¬ 2 = az_kind 21 by decide)
  | 22, _, _, hk => exact absurd hk (show ¬ 2 = az_kind 22 by decide)
  | 23, _, _, hk => exact absurd hk (show ¬ 2 = az_kind 23 by decide)
  | 24, _, _, hk => exact absurd hk (show ¬ 2 = az_kind 24 by decide)
  | 25, _, _, hk => exact absurd hk (show ¬ 2 = az_kind 25 by decide)
  | 26, _, _, hk => exact absurd hk (show ¬ 2 = az_kind 26 by decide)
  | 27, _, _, hk => exact absurd hk (show ¬ 2 = az_kind 27 by decide)
  | 28, _, _, hk => exact absurd hk (show ¬ 2 = az_kind 28 by decide)
  | 29, _, _, hk => exact absurd hk (show ¬ 2 = az_kind 29 by decide)
  | 30, _, _, hk => exact absurd hk (show ¬ 2 = az_kind 30 by decide)
  | 31, _, _, hk => exact absurd hk (show ¬ 2 = az_kind 31 by decide)
  | 32, _, _, hk => exact absurd hk (show ¬ 2 = az_kind 32 by decide)
  | 33, _, _, hk => exact absurd hk (show ¬ 2 = az_kind 33 by decide)
  | 34, _, _, hk => exact absurd hk (show ¬ 2 = az_kind 34 by decide)
  | 35, _, _, hk => exact absurd hk (show ¬ 2 = az_kind 35 by decide)
  | 36, _, _, hk => exact absurd hk (show ¬ 2 = az_kind 36 by decide)
  | 37, _, _, hk => exact absurd hk (show ¬ 2 = az_kind 37 by decide)
  | 38, _, _, hk => exact absurd hk (show ¬ 2 = az_kind 38 by decide)
  | 43, _, _, hk => exact absurd hk (show ¬ 2 = az_kind 43 by decide)
  | 44, _, _, hk => exact absurd hk (show ¬ 2 = az_kind 44 by decide)
  | 45, _, _, hk => exact absurd hk (show ¬ 2 = az_kind 45 by decide)
  | 46, _, _, hk => exact absurd hk (show ¬ 2 = az_kind 46 by decide)
  | 47, _, _, hk => exact absurd hk (show ¬ 2 = az_kind 47 by decide)
  | 48, _, _, hk => exact absurd hk (show ¬ 2 = az_kind 48 by decide)
  | 49, _, _, hk => exact absurd hk (show ¬ 2 = az_kind 49 by decide)
  | n + 50, _, hs, _ => simp [az_step] at hs
/-- the end of a method -/
theorem az_rtn {pc : Nat} {ee : az_E} {ls : az_L ρ} {st : List (az_V ρ)} {h : α} (hF : az_Fr p s m args meth c q) (hok : az_ok q.2.2.2.2.1 q.2.2.1 q.2.2.2.1 (decide (q.1.name = "<init>")) q.2.1 pc ee = true)
    {g : Option Bool} {v : Option (az_V ρ)} {h' : α} (hs : az_step (az_hO X) ee ls st h = some (g, Sum.inr (Sum.inr (Sum.inr (Sum.inl (v, h')))))) (hg : az_gd g = true) :
    az_W X p l e R s m args below meth c (MQ below (az_Qc X v h') args s (az_hc X h' - c0) (az_hs X h' - s0) (fun x => az_hB X ≤ x)) q.2.2.1 c0 s0 h pc ls st := by
  obtain ⟨tag, k, np, a, b, cx, d, L⟩ := ee
  have hk := az_kd hs
  have hlocks := hF.2.2.2.2.1
  match tag, hok, hs, hk with
  | 43, hok, hs, _ =>
    simp only [az_step] at hs
    split at hs
    · rename_i x0 x hk0
      clear hk0
      simp only [az_ret, Option.some.injEq, Prod.mk.injEq, Sum.inr.injEq, Sum.inl.injEq] at hs
      obtain ⟨rfl, rfl, rfl⟩ := hs
      simp only [az_ok, Bool.or_eq_true, Bool.and_eq_true, decide_eq_true_eq] at hok
      obtain ⟨hd, hok⟩ := hok
      intro H locs lr hR hL hl hlo hso h1 h2
      rcases hok with ⟨rfl, hrt⟩ | ⟨rfl, hrt⟩
      · exact W.iret (v := x) hF.1 hF.2.1 (by rw [hF.2.2.2.1]; exact hrt) (fun t ht hW => ⟨rfl, by rw [ht]; exact hR⟩) hL hd hlocks
      · have hb : az_b01 x = true := hg
        refine W.zret (v := x) hF.1 hF.2.1 (by rw [hF.2.2.2.1]; exact hrt) ?_ (fun t ht hW => ⟨rfl, by rw [ht]; exact hR⟩) hL hd hlocks
        simp only [az_b01, Bool.or_eq_true, beq_iff_eq] at hb
        rcases hb with rfl | rfl <;> rfl
    · cases hs
  | 44, hok, hs, _ =>
    simp only [az_step] at hs
    split at hs
    · rename_i x0 x hk0
      clear hk0
      simp only [az_ret, Option.some.injEq, Prod.mk.injEq, Sum.inr.injEq, Sum.inl.injEq] at hs
      obtain ⟨rfl, rfl, rfl⟩ := hs
      simp only [az_ok, Bool.and_eq_true, decide_eq_true_eq] at hok
      obtain ⟨hd, hrt⟩ := hok
      intro H locs lr hR hL hl hlo hso h1 h2
      have hv : az_tr (az_hA X) (Sum.inr x) = .null ∨ ∃ a, az_tr (az_hA X) (Sum.inr x) = .ref a := by
        rcases x with _ | r
        · exact Or.inl rfl
        · exact Or.inr ⟨_, rfl⟩
      rcases hrt with hrt | hrt | hrt
      · exact W.aret (v := az_tr (az_hA X) (Sum.inr x)) hF.1 hF.2.1 (by rw [hF.2.2.2.1]; exact hrt) (Or.inl ⟨_, rfl⟩) hv (fun t ht hW => ⟨rfl, by rw [ht]; exact hR⟩) hL hd hlocks
      · exact W.aret (v := az_tr (az_hA X) (Sum.inr x)) hF.1 hF.2.1 (by rw [hF.2.2.2.1]; exact hrt) (Or.inr ⟨_, rfl⟩) hv (fun t ht hW => ⟨rfl, by rw [ht]; exact hR⟩) hL hd hlocks
      · exact W.aret (v := az_tr (az_hA X) (Sum.inr x)) hF.1 hF.2.1 (by rw [hF.2.2.2.1]; exact hrt) (Or.inr ⟨_, rfl⟩) hv (fun t ht hW => ⟨rfl, by rw [ht]; exact hR⟩) hL hd hlocks
    · cases hs
  | 45, hok, hs, _ =>
    simp only [az_step] at hs
    split at hs
    · simp only [az_ret, Option.some.injEq, Prod.mk.injEq, Sum.inr.injEq, Sum.inl.injEq] at hs
      obtain ⟨rfl, rfl, rfl⟩ := hs
      simp only [az_ok, Bool.and_eq_true, decide_eq_true_eq] at hok
      obtain ⟨hd, hrt⟩ := hok
      intro H locs lr hR hL hl hlo hso h1 h2
      exact W.vret hF.1 hF.2.1 (by rw [hF.2.2.2.1]; exact hrt) (fun t ht hW => ⟨rfl, by rw [ht]; exact hR⟩) hL hd hlocks
    · cases hs
  | 0, _, _, hk => exact absurd hk (show ¬ 3 = az_kind 0 by decide)
  | 1, _, _, hk => exact absurd hk (show ¬ 3 = az_kind 1 by decide)
  | 2, _, _, hk => exact absurd hk (show ¬ 3 = az_kind 2 by decide)
  | 3, _, _, hk => exact absurd hk (show ¬ 3 = az_kind 3 by decide)
  | 4, _, _, hk => exact absurd hk (show ¬ 3 = az_kind 4 by decide)
  | 5, _, _, hk => exact absurd hk (show ¬ 3 = az_kind 5 by decide)
  | 6, _, _, hk => exact absurd hk (show ¬ 3 = az_kind 6 by decide)
  | 7, _, _, hk => exact absurd hk (show ¬ 3 = az_kind 7 by decide)
  | 8, _, _, hk => exact absurd hk (show ¬ 3 = az_kind 8 by decide)
  | 9, _, _, hk => exact absurd hk (show ¬ 3 = az_kind 9 by decide)
  | 10, _, _, hk => exact absurd hk (show ¬ 3 = az_kind 10 by decide)
  | 11, _, _, hk => exact absurd hk (show ¬ 3 = az_kind 11 by decide)
  | 12, _, _, hk => exact absurd hk (show ¬ 3 = az_kind 12 by decide)
  | 13, _, _, hk => exact absurd hk (show ¬ 3 = az_kind 13 by decide)
  | 14, _, _, hk => exact absurd hk (show ¬ 3 = az_kind 14 by decide)
  | 15, _, _, hk => exact absurd hk (show ¬ 3 = az_kind 15 by decide)
  | 16, _, _, hk => exact absurd hk (show ¬ 3 = az_kind 16 by decide)
  | 17, _, _, hk => exact absurd hk (show ¬ 3 = az_kind 17 by decide)
  | 18, _, _, hk => exact absurd hk (show ¬ 3 = az_kind 18 by decide)
  | 19, _, _, hk => exact absurd hk (show ¬ 3 = az_kind 19 by decide)
  | 20, _, _, hk => exact absurd hk (show ¬ 3 = az_kind 20 by decide)
  | 21, _, _, hk => exact absurd hk (show ¬ 3 = az_kind 21 by decide)
  | 22, _, _, hk => exact absurd hk (show ¬ 3 = az_kind 22 by decide)
  | 23, _, _, hk => exact absurd hk (show ¬ 3 = az_kind 23 by decide)
  | 24, _, _, hk => exact absurd hk (show ¬ 3 = az_kind 24 by decide)
  | 25, _, _, hk => exact absurd hk (show ¬ 3 = az_kind 25 by decide)
  | 26, _, _, hk => exact absurd hk (show ¬ 3 = az_kind 26 by decide)
  | 27, _, _, hk => exact absurd hk (show ¬ 3 = az_kind 27 by decide)
  | 28, _, _, hk => exact absurd hk (show ¬ 3 = az_kind 28 by decide)
  | 29, _, _, hk => exact absurd hk (show ¬ 3 = az_kind 29 by decide)
  | 30, _, _, hk => exact absurd hk (show ¬ 3 = az_kind 30 by decide)
  | 31, _, _, hk => exact absurd hk (show ¬ 3 = az_kind 31 by decide)
  | 32, _, _, hk => exact absurd hk (show ¬ 3 = az_kind 32 by decide)
  | 33, _, _, hk => exact absurd hk (show ¬ 3 = az_kind 33 by decide)
  | 34, _, _, hk => exact absurd hk (show ¬ 3 = az_kind 34 by decide)
  | 35, _, _, hk => exact absurd hk (show ¬ 3 = az_kind 35 by decide)
  | 36, _, _, hk => exact absurd hk (show ¬ 3 = az_kind 36 by decide)
  | 37, _, _, hk => exact absurd hk (show ¬ 3 = az_kind 37 by decide)
  | 38, _, _, hk => exact absurd hk (show ¬ 3 = az_kind 38 by decide)
  | 39, _, _, hk => exact absurd hk (show ¬ 3 = az_kind 39 by decide)
  | 40, _, _, hk => exact absurd hk (show ¬ 3 = az_kind 40 by decide)
  | 41, _, _, hk => exact absurd hk (show ¬ 3 = az_kind 41 by decide)
  | 42, _, _, hk => exact absurd hk (show ¬ 3 = az_kind 42 by decide)
  | 46, _, _, hk => exact absurd hk (show ¬ 3 = az_kind 46 by decide)
  | 47, _, _, hk => exact absurd hk (show ¬ 3 = az_kind 47 by decide)
  | 48, _, _, hk => exact absurd hk (show ¬ 3 = az_kind 48 by decide)
  | 49, _, _, hk => exact absurd hk (show ¬ 3 = az_kind 49 by decide)
  | n + 50, _, hs, _ => simp [az_step] at hs
theorem az_look_mem {cd : az_C} {pc : Nat} {ee : az_E} (h : az_look cd pc = some ee) : (pc, ee) ∈ cd := by
  induction cd with
  | nil => simp [az_look] at h
  | cons x t ih =>
    obtain ⟨k, e1⟩ := x
    rw [az_look] at h
    cases hb : Nat.beq k pc with
    | true =>
      rw [hb, cond_true] at h
      cases h
      rw [Nat.eq_of_beq_eq_true hb]
      exact List.mem_cons_self
    | false =>
      rw [hb, cond_false] at h
      exact List.mem_cons_of_mem _ (ih h)
/-- a frame of the abstract machine that comes to its end is one of the machine's -/
theorem az_frame {call : Nat → List (az_V ρ) → α → Option (Option (az_V ρ) × α)} {cd : az_C} {dd : Nat} {v : Option (az_V ρ)} {h' : α} (hLaw : az_Law X) (h18 : az_T18 X) (hI : az_Inv X) (hF : az_Fr p s m args meth c q) (hK : az_hK X s) (hfr : dd + 1 ≤ R.frames ∧ 30 * (dd + 1) ≤ R.locals)
    (hcd : ∀ r ∈ cd, az_ok q.2.2.2.2.1 q.2.2.1 q.2.2.2.1 (decide (q.1.name = "<init>")) q.2.1 r.1 r.2 = true) (hC : az_Cinv X call) (hCM : ∀ mi as h v h', az_sok (az_hV X) as → call mi as h = some (v, h') → az_Mt X l dd mi as h v h')
    (fin : ∀ (pc : Nat) (ee : az_E) (ls : az_L ρ) (st : List (az_V ρ)) (h : α) (g : Option Bool), (pc, ee) ∈ cd → az_step (az_hO X) ee ls st h = some (g, Sum.inr (Sum.inr (Sum.inr (Sum.inl (v, h'))))) → az_gd g = true → az_W X p l e R s m args below meth c Q q.2.2.1 c0 s0 h pc ls st)
    (hr : az_hc X h' - c0 ≤ R.cells ∧ az_hs X h' - s0 ≤ R.slots) : ∀ (f pc : Nat) (ls : az_L ρ) (st : List (az_V ρ)) (h : α), az_lok (az_hV X) ls → az_sok (az_hV X) st → az_run (az_hO X) call cd f pc ls st h = some (v, h') → az_W X p l e R s m args below meth c Q q.2.2.1 c0 s0 h pc ls st := by
  intro f
  induction f with
  | zero => intro pc ls st h _ _ hrun; simp [az_run] at hrun
  | succ f ih =>
    intro pc ls st h hlo hso hrun
    rw [az_run] at hrun
    split at hrun
    · cases hrun
    · rename_i ee he
      have hmem := az_look_mem he
      have hok := hcd _ hmem
      split at hrun
      · cases hrun
      · rename_i g r hs
        cases hg : az_gd g with
        | false => simp only [hg, cond_false] at hrun; cases hrun
        | true =>
          simp only [hg, cond_true] at hrun
          have hrok := az_step_inv hI hlo hso hs hg
          split at hrun
          · rename_i p' l' s' h1
            obtain ⟨a1, a2, a3, a4⟩ := hrok
            obtain ⟨-, b2, b3⟩ := az_run_inv hI hC f p' l' s' h1 v h' a1 a2 hrun
            exact az_next hLaw h18 hF hK ⟨by omega, by omega⟩ hok hs hg ⟨by omega, by omega⟩ (ih p' l' s' h1 a1 a2 hrun)
          · obtain ⟨a1, a2, rfl⟩ := hrok
            exact az_brn hLaw hF hok hs (ih _ _ _ _ a1 a2 hrun)
          · obtain ⟨a0, a1, a2, rfl⟩ := hrok
            split at hrun
            · cases hrun
            · rename_i v1 h2 hc
              obtain ⟨c1, c2, c3⟩ := hC _ _ _ _ _ a0 hc
              obtain ⟨-, b2, b3⟩ := az_run_inv hI hC f _ _ _ h2 v h' a1 (az_app c1 a2) hrun
              exact az_cln hLaw hF hK hfr hok hs hg (hCM _ _ _ _ _ a0 hc) c2 c3 c1 ⟨by omega, by omega⟩ (ih _ _ _ _ a1 (az_app c1 a2) hrun)
          · cases hrun
            exact fin pc ee ls st h g hmem hs hg
          · obtain ⟨a1, a2, rfl⟩ := hrok
            exact az_swn hLaw hF hok hs (ih _ _ _ _ a1 a2 hrun)
end
