/-! weakest preconditions of segments of code, over the named heap -/
set_option maxRecDepth 100000
def nz_rtl : List Nat := [0, 3, 3, 1, 1, 1, 1, 1, 1, 1, 1, 1, 0, 1, 0, 1, 1, 0, 1, 1, 1, 1, 1, 1, 1, 0, 1, 1, 1, 1, 1, 1, 1, 0, 0, 0, 0, 0, 0, 0, 1, 1, 1, 1, 1, 0, 0, 0, 0, 1, 1, 1, 1, 1, 1, 1, 0, 0, 1, 0, 0, 0, 1, 1, 1, 0, 0, 1, 0, 1, 1, 0, 1, 1, 0, 0, 0, 0, 2, 0, 1, 1, 1, 1, 0, 0, 0, 0, 0, 0, 0, 0, 0, 0, 0, 1, 1, 0, 1, 1, 1, 1, 1, 0, 0, 1, 1, 1, 1, 1, 1, 1, 1, 0, 1, 0, 0, 0, 1, 0, 0, 0, 0, 1, 1, 1, 0, 1, 0, 0, 1, 1, 1, 0, 1, 1, 1, 1, 0, 1, 1, 0, 0, 1, 0, 0, 1, 1, 1, 0, 1, 1, 1, 0, 1, 0, 0, 0, 1, 1, 1, 1, 1, 1, 1, 0, 1, 0, 0, 1, 1, 1, 1, 1, 1, 0, 1, 0, 1, 1, 1, 1, 1]
theorem nz_rt2 : (List.range 183).all (fun m => Nat.beq m 78 || !Nat.beq (nz_rtl.getD m 3) 2) = true := by decide +kernel
theorem wz_rt2' {m : Nat} (h : nz_rtl.getD m 3 = 2) : m = 78 := by
  by_cases hm : m < 183
  · have := List.all_eq_true.mp nz_rt2 m (List.mem_range.mpr hm)
    rw [h] at this
    simp only [Bool.or_eq_true] at this
    rcases this with h1 | h1
    · exact Nat.eq_of_beq_eq_true h1
    · cases h1
  · rw [List.getD_eq_getElem?_getD, List.getElem?_eq_none (by show 183 ≤ m; omega), Option.getD_none] at h
    cases h
abbrev nz_V : Type := az_V nz_r
def nz_RV (Q : nz_h → Prop) : Option nz_V → nz_h → Prop := fun v h => match v with
  | none => Q h
  | some _ => False
def nz_RI (Q : Int32 → nz_h → Prop) : Option nz_V → nz_h → Prop := fun v h => match v with
  | some (Sum.inl x) => Q x h
  | _ => False
/-- contracts: of a method that answers nothing, of one that answers an int -/
def ctV (P : Nat × (Nat → Int32)) (d i : Nat) (as : List nz_V) (h : nz_h) (Q : nz_h → Prop) : Prop := az_ct (nz_O P) d i as h (nz_RV Q)
def ctI (P : Nat × (Nat → Int32)) (d i : Nat) (as : List nz_V) (h : nz_h) (Q : Int32 → nz_h → Prop) : Prop := az_ct (nz_O P) d i as h (nz_RI Q)
abbrev nzW (P : Nat × (Nat → Int32)) (d : Nat) (cd : az_C) (pc : Nat) (ls : az_L nz_r) (st : List nz_V) (h : nz_h) (R : Option nz_V → nz_h → Prop) : Prop := az_wp (nz_O P) d cd pc ls st h R
theorem ctV.imp {P : Nat × (Nat → Int32)} {d d' i : Nat} {as : List nz_V} {h : nz_h} {Q Q' : nz_h → Prop} (hd : d ≤ d') (hh : ctV P d i as h Q) (hq : ∀ h', Q h' → Q' h') : ctV P d' i as h Q' := by
  refine az_ct.imp hd (fun v h' hv => ?_) hh
  rcases v with _ | v
  · exact hq _ hv
  · exact hv
theorem ctI.imp {P : Nat × (Nat → Int32)} {d d' i : Nat} {as : List nz_V} {h : nz_h} {Q Q' : Int32 → nz_h → Prop} (hd : d ≤ d') (hh : ctI P d i as h Q) (hq : ∀ x h', Q x h' → Q' x h') : ctI P d' i as h Q' := by
  refine az_ct.imp hd (fun v h' hv => ?_) hh
  rcases v with _ | x | r
  · exact hv
  · exact hq _ _ hv
  · exact hv
def wz_ad (g : Option Bool) (X : Prop) : Prop := match g with
  | none => X
  | some b => b = true ∧ X
def wz_in : List Nat → Nat → Bool
  | [], _ => false
  | x :: t, p => cond (Nat.beq x p) true (wz_in t p)
def wz_sw (x lo : Int32) (df : Nat) (F : Nat → Prop) : List Nat → Prop
  | [] => F df
  | t :: L => (x = lo → F t) ∧ (¬ x = lo → wz_sw x (lo + 1) df F L)
/-- which methods answer: 0 nothing, 1 an int, 2 the step of a job, 3 no call of the named heap -/
def wz_rt (m : Nat) : Nat := nz_rtl.getD m 3
theorem wz_rt2 {m : Nat} (h : wz_rt m = 2) : m = 78 := wz_rt2' h
def wz_nx (cut : List Nat) (K rec : Nat → az_L nz_r → List nz_V → nz_h → Prop) (p : Nat) (l : az_L nz_r) (s : List nz_V) (h : nz_h) : Prop := cond (wz_in cut p) (K p l s h) (rec p l s h)
def wz_78 (as : List nz_V) (h : nz_h) (N : nz_V → Prop) : Prop := match as with
  | [Sum.inr (some (8, o, j, k))] => nz_ib (h.2.2.2.2 8 o j k 5) 20 = true ∧ N (vr (9, o, j, nz_ix (h.2.2.2.2 8 o j k 5)))
  | _ => False
def wz_cl (P : Nat × (Nat → Int32)) (d m : Nat) (as : List nz_V) (h : nz_h) (N : List nz_V → nz_h → Prop) : Prop := match wz_rt m with
  | 0 => ctV P d m as h (fun h2 => N [] h2)
  | 1 => ctI P d m as h (fun x h2 => N [vi x] h2)
  | 2 => wz_78 as h (fun v => N [v] h)
  | _ => False
def wz_kr (P : Nat × (Nat → Int32)) (d : Nat) (cut : List Nat) (K rec : Nat → az_L nz_r → List nz_V → nz_h → Prop) (R : Option nz_V → nz_h → Prop) (r : az_R nz_r nz_h) : Prop := match r with
  | Sum.inl (p', l', s', h') => wz_nx cut K rec p' l' s' h'
  | Sum.inr (Sum.inl (q, t, np, l', s', h')) => (q = true → wz_nx cut K rec t l' s' h') ∧ (q = false → wz_nx cut K rec np l' s' h')
  | Sum.inr (Sum.inr (Sum.inl (m, as, np, l', s', h'))) => wz_cl P d m as h' (fun v h2 => wz_nx cut K rec np l' (v ++ s') h2)
  | Sum.inr (Sum.inr (Sum.inr (Sum.inl (v, h')))) => R v h'
  | Sum.inr (Sum.inr (Sum.inr (Sum.inr (x, lo, L, df, l', s', h')))) => (decide (lo = 0) && Nat.blt L.length 1000) = true ∧ wz_sw x lo df (fun t => wz_nx cut K rec t l' s' h') L
def wz (P : Nat × (Nat → Int32)) (d : Nat) (cd : az_C) (cut : List Nat) (K : Nat → az_L nz_r → List nz_V → nz_h → Prop) (R : Option nz_V → nz_h → Prop) : Nat → Nat → az_L nz_r → List nz_V → nz_h → Prop
  | 0, pc, ls, st, h => K pc ls st h
  | n + 1, pc, ls, st, h => match az_look cd pc with
    | none => False
    | some e => match az_step (nz_O P) e ls st h with
      | none => False
      | some (g, r) => wz_ad g (wz_kr P d cut K (wz P d cd cut K R n) R r)
theorem wz_sw_ok {x : Int32} {df : Nat} {F : Nat → Prop} (L : List Nat) : ∀ (lo : Int32) (k : Nat), lo.toInt = k → k + L.length < 2000 → wz_sw x lo df F L → F (az_sw x lo L df) := by
  induction L with
  | nil =>
    intro lo k _ _ h
    unfold az_sw
    split <;> exact h
  | cons t L ih =>
    intro lo k hk hl h
    rw [List.length_cons] at hl
    have h1 : (lo + 1).toInt = lo.toInt + 1 := by
      rw [Int32.toInt_add, hk]
      rw [show (1 : Int32).toInt = 1 from rfl]
      exact Int.bmod_eq_of_le (by omega) (by omega)
    by_cases e : x = lo
    · subst e
      unfold az_sw
      rw [if_neg (Int.lt_irrefl _), Int.sub_self]
      exact h.1 rfl
    · have h2 := ih (lo + 1) (k + 1) (by rw [h1, hk]; rfl) (by omega) (h.2 e)
      have hne : x.toInt ≠ lo.toInt := fun hh => e (Int32.toInt_inj.mp hh)
      unfold az_sw at h2 ⊢
      by_cases hlt : x.toInt < lo.toInt
      · rw [if_pos hlt]
        rw [if_pos (by omega)] at h2
        exact h2
      · rw [if_neg hlt]
        rw [if_neg (by omega), h1] at h2
        rw [show (x.toInt - lo.toInt).toNat = (x.toInt - (lo.toInt + 1)).toNat + 1 by omega, List.getD_cons_succ]
        exact h2
theorem nz_step78 {P : Nat × (Nat → Int32)} {d o j k : Nat} {h : nz_h} {Q : Option nz_V → nz_h → Prop} (hb : nz_ib (h.2.2.2.2 8 o j k 5) 20 = true) (hq : Q (some (vr (9, o, j, nz_ix (h.2.2.2.2 8 o j k 5)))) h) : az_ct (nz_O P) (d + 1) 78 [vr (8, o, j, k)] h Q := by
  refine az_ct_of (n := 1) (cd := az_k78) rfl rfl rfl ?_
  refine az_wp_step (g := none) rfl rfl rfl ?_
  refine az_wp_step (g := none) rfl rfl rfl ?_
  refine az_wp_step (g := none) rfl rfl rfl ?_
  refine az_wp_step (g := none) rfl rfl rfl ?_
  refine az_wp_step (g := some (nz_ib (h.2.2.2.2 8 o j k 5) 20)) rfl rfl hb ?_
  exact az_wp_step (g := none) rfl rfl rfl hq
theorem wz_ok {P : Nat × (Nat → Int32)} {d : Nat} {cd : az_C} {cut : List Nat} {R : Option nz_V → nz_h → Prop} : ∀ {n pc : Nat} {ls : az_L nz_r} {st : List nz_V} {h : nz_h},
    wz P (d + 1) cd cut (fun pc ls st h => nzW P (d + 1) cd pc ls st h R) R n pc ls st h → nzW P (d + 1) cd pc ls st h R := by
  intro n
  induction n with
  | zero => intro pc ls st h hh; exact hh
  | succ n ih =>
    intro pc ls st h hh
    have ih2 : ∀ {p' : Nat} {l' : az_L nz_r} {s' : List nz_V} {h' : nz_h}, wz_nx cut (fun pc ls st h => nzW P (d + 1) cd pc ls st h R) (wz P (d + 1) cd cut (fun pc ls st h => nzW P (d + 1) cd pc ls st h R) R n) p' l' s' h' → nzW P (d + 1) cd p' l' s' h' R := by
      intro p' l' s' h' hx
      unfold wz_nx at hx
      cases hc : wz_in cut p' with
      | true => rw [hc] at hx; exact hx
      | false => rw [hc] at hx; exact ih hx
    rw [wz] at hh
    cases he : az_look cd pc with
    | none => rw [he] at hh; exact hh.elim
    | some e =>
      rw [he] at hh
      simp only at hh
      cases hs : az_step (nz_O P) e ls st h with
      | none => rw [hs] at hh; exact hh.elim
      | some gr =>
        obtain ⟨g, r⟩ := gr
        rw [hs] at hh
        simp only at hh
        generalize (wz P (d + 1) cd cut (fun pc ls st h => nzW P (d + 1) cd pc ls st h R) R n) = rec at ih2 hh
        have key : az_gd g = true ∧ wz_kr P (d + 1) cut (fun pc ls st h => nzW P (d + 1) cd pc ls st h R) rec R r := by
          rcases g with _ | b
          · exact ⟨rfl, hh⟩
          · exact hh
        obtain ⟨hg, hk⟩ := key
        refine az_wp_step he hs hg ?_
        clear hh hs hg
        rcases r with ⟨p', l', s', h'⟩ | ⟨q, t, np, l', s', h'⟩ | ⟨m, as, np, l', s', h'⟩ | ⟨v, h'⟩ | ⟨x, lo, L, df, l', s', h'⟩
        · exact ih2 hk
        · show az_wp _ _ _ (cond q t np) _ _ _ _
          cases q with
          | true => exact ih2 (hk.1 rfl)
          | false => exact ih2 (hk.2 rfl)
        · show az_ct _ _ _ _ _ _
          have hk : wz_cl P (d + 1) m as h' (fun v h2 => wz_nx cut (fun pc ls st h => nzW P (d + 1) cd pc ls st h R) rec np l' (v ++ s') h2) := hk
          unfold wz_cl at hk
          split at hk
          · refine az_ct.imp (Nat.le_refl _) (fun v h2 hv => ?_) hk
            rcases v with _ | v
            · exact ih2 hv
            · exact hv.elim
          · refine az_ct.imp (Nat.le_refl _) (fun v h2 hv => ?_) hk
            rcases v with _ | x | r
            · exact hv.elim
            · exact ih2 hv
            · exact hv.elim
          · rename_i hm
            unfold wz_78 at hk
            split at hk
            · rename_i o j k
              have hm78 : m = 78 := wz_rt2 hm
              subst hm78
              exact nz_step78 hk.1 (ih2 hk.2)
            · exact hk.elim
          · exact hk.elim
        · exact hk
        · obtain ⟨h1, h2⟩ := hk
          simp only [Bool.and_eq_true, decide_eq_true_eq] at h1
          have hL : L.length < 1000 := Nat.le_of_ble_eq_true h1.2
          show az_wp _ _ _ (az_sw x lo L df) _ _ _ _
          exact ih2 (wz_sw_ok L lo 0 (by rw [h1.1]; rfl) (by omega) h2)
/-- a contract out of the entry's segment -/
theorem wz_ct {P : Nat × (Nat → Int32)} {d i n k : Nat} {cd : az_C} {cut : List Nat} {as : List nz_V} {h : nz_h} {R : Option nz_V → nz_h → Prop} (hcd : az_cdl[i]? = some (i, k, cd)) (hi : Nat.blt i 183 = true) (hn : Nat.ble as.length k = true)
    (hh : wz P (d + 1) cd cut (fun pc ls st h => nzW P (d + 1) cd pc ls st h R) R n 0 (az_ent k as) [] h) : az_ct (nz_O P) (d + 2) i as h R := az_ct_of hcd hi hn (wz_ok hh)
