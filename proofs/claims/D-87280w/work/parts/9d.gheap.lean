/-! heap model G: the cells in a list, newest first (for the constructors) -/
abbrev gz_c : Type := (Nat × List (az_V Nat)) ⊕ (Nat × Nat × List (Nat × az_V Nat))
abbrev gz_h : Type := List (Nat × gz_c) × Nat × Nat
def gz_lk : List (Nat × gz_c) → Nat → Option gz_c
  | [], _ => none
  | (k, c) :: t, r => cond (Nat.beq k r) (some c) (gz_lk t r)
def gz_up : List (Nat × gz_c) → Nat → gz_c → List (Nat × gz_c)
  | [], _, _ => []
  | (k, c) :: t, r, c' => cond (Nat.beq k r) ((k, c') :: t) ((k, c) :: gz_up t r c')
def gz_wl (d : az_V Nat) : List (Nat × az_V Nat) → Nat → az_V Nat
  | [], _ => d
  | (k, v) :: t, j => cond (Nat.beq k j) v (gz_wl d t j)
def gz_d (ty : Nat) : az_V Nat := cond (Nat.ble 2 ty) vn (vi 0)
def gz_b1 (m : Nat) : az_V Nat := cond (Nat.beq m 0 || Nat.beq m 5) (vi 0) vn
def gz_bl (a : Nat) : List (az_V Nat) := (nz_ft.getD a []).map (fun q => gz_b1 q.2)
def gz_gf (h : gz_h) (r a b _c _d : Nat) : Option (az_V Nat) := match gz_lk h.1 r with
  | some (Sum.inl (a', fs)) => cond (Nat.beq a' a) fs[b]? none
  | _ => none
def gz_fit (m : Nat) (v : az_V Nat) : Option (Option Bool) := match v with
  | Sum.inl x => cond (Nat.beq m 0) (some none) (cond (Nat.beq m 5) (some (some (az_b01 x))) none)
  | Sum.inr _ => cond (Nat.ble 1 m && Nat.ble m 4) (some none) none
def gz_pf (h : gz_h) (r a b _c _d : Nat) (v : az_V Nat) : Option (Option Bool × gz_h) := match gz_lk h.1 r with
  | some (Sum.inl (a', fs)) => cond (Nat.beq a' a && Nat.blt b (nz_nf a)) (match gz_fit (nz_fm a b).2 v with
    | some g => some (g, (gz_up h.1 r (Sum.inl (a, fs.set b v)), h.2))
    | none => none) none
  | _ => none
def gz_al (h : gz_h) (r : Nat) : Option Nat := match gz_lk h.1 r with
  | some (Sum.inr (_, n, _)) => some n
  | _ => none
def gz_si (h : gz_h) (t r : Nat) (i x : Int32) : Option (Bool × gz_h) := match gz_lk h.1 r with
  | some (Sum.inr (ty, n, w)) => cond (Nat.beq t 0 && Nat.beq ty 0) (some (nz_ib i n, (gz_up h.1 r (Sum.inr (ty, n, (nz_ix i, vi x) :: w)), h.2))) none
  | _ => none
def gz_ga (h : gz_h) (r : Nat) (i : Int32) : Option (Bool × az_V Nat) := match gz_lk h.1 r with
  | some (Sum.inr (ty, n, w)) => cond (Nat.ble 2 ty && Nat.ble ty 10) (some (nz_ib i n, gz_wl (gz_d ty) w (nz_ix i))) none
  | _ => none
/-- an object of the class a may lie in an array over ty -/
def gz_asn (ty a : Nat) : Bool := (Nat.beq ty a && Nat.ble 7 a && Nat.ble a 9) || (Nat.beq ty 2 && Nat.ble 3 a && Nat.ble a 6)
def gz_sa (h : gz_h) (r : Nat) (i : Int32) (v : az_V Nat) : Option (Bool × gz_h) := match v with
  | Sum.inr (some r2) => match gz_lk h.1 r with
    | some (Sum.inr (ty, n, w)) => match gz_lk h.1 r2 with
      | some (Sum.inl (a, _)) => cond (gz_asn ty a) (some (nz_ib i n, (gz_up h.1 r (Sum.inr (ty, n, (nz_ix i, vr r2) :: w)), h.2))) none
      | _ => none
    | _ => none
  | _ => none
def gz_nw (h : gz_h) (a : Nat) : Option (Nat × gz_h) := cond (Nat.blt a 14 && !Nat.beq a 2) (some (h.2.1 + 1, ((h.2.1 + 1, Sum.inl (a, gz_bl a)) :: h.1, h.2.1 + 1, h.2.2 + nz_nf a))) none
def gz_na (h : gz_h) (t a : Nat) (n : Int32) : Option (Bool × Nat × gz_h) := cond (cond (Nat.beq t 0) (Nat.blt a 2) (Nat.beq a 2 || (Nat.ble 7 a && Nat.ble a 9)))
  (some (!decide (n < 0) && Nat.ble (nz_ix n) 60000, h.2.1 + 1, ((h.2.1 + 1, Sum.inr (a, nz_ix n, [])) :: h.1, h.2.1 + 1, h.2.2 + nz_ix n))) none
def gz_nmo (k : Nat) : List (Nat × az_V Nat) := [(0, vr (k + 2)), (1, vr (k + 3)), (2, vr (k + 4)), (3, vr (k + 5)), (4, vr (k + 6)), (5, vr (k + 7)), (6, vr (k + 8)), (7, vr (k + 9)), (8, vr (k + 10)), (9, vr (k + 11))]
def gz_nmi : gz_c := Sum.inr (0, 8, [])
def gz_nml (k : Nat) (t : List (Nat × gz_c)) : List (Nat × gz_c) := (k + 11, gz_nmi) :: (k + 10, gz_nmi) :: (k + 9, gz_nmi) :: (k + 8, gz_nmi) :: (k + 7, gz_nmi) :: (k + 6, gz_nmi) :: (k + 5, gz_nmi) :: (k + 4, gz_nmi) :: (k + 3, gz_nmi) :: (k + 2, gz_nmi) :: (k + 1, Sum.inr (10, 10, gz_nmo k)) :: t
def gz_nm (h : gz_h) (x y : Int32) : Option (Bool × Nat × gz_h) := cond (decide (x = 10) && decide (y = 8)) (some (true, h.2.1 + 1, (gz_nml h.2.1 h.1, h.2.1 + 11, h.2.2 + 90))) none
def gz_cs (h : gz_h) (r : Nat) : Option Nat := match gz_lk h.1 r with
  | some (Sum.inl (a, _)) => some a
  | _ => none
def gz_O : az_O Nat gz_h := (gz_gf, gz_pf, gz_al, fun _ _ _ _ => none, gz_si, gz_ga, gz_sa, gz_nw, gz_na, gz_nm, gz_cs, Nat.beq)
set_option maxRecDepth 100000
/-! the laws of the heap model G -/
theorem gz_lk_cons (k : Nat) (c : gz_c) (t : List (Nat × gz_c)) (r : Nat) : gz_lk ((k, c) :: t) r = if r = k then some c else gz_lk t r := by
  rw [gz_lk]
  by_cases e : r = k
  · subst e; rw [if_pos rfl, Nat.beq_refl, cond_true]
  · rw [if_neg e]
    cases hb : Nat.beq k r with
    | true => exact absurd (Nat.eq_of_beq_eq_true hb).symm e
    | false => rfl
theorem gz_lk_up (l : List (Nat × gz_c)) (r : Nat) (c : gz_c) (r' : Nat) : gz_lk (gz_up l r c) r' = if r' = r then (gz_lk l r).map (fun _ => c) else gz_lk l r' := by
  induction l with
  | nil => simp [gz_up, gz_lk]
  | cons x t ih =>
    obtain ⟨k, c0⟩ := x
    by_cases e : k = r
    · subst e
      have : gz_up ((k, c0) :: t) k c = (k, c) :: t := by rw [gz_up, Nat.beq_refl, cond_true]
      rw [this]
      simp only [gz_lk_cons, if_true, Option.map_some]
      by_cases e2 : r' = k
      · rw [if_pos e2, if_pos e2]
      · rw [if_neg e2, if_neg e2, if_neg e2]
    · have : gz_up ((k, c0) :: t) r c = (k, c0) :: gz_up t r c := by
        rw [gz_up]
        cases hb : Nat.beq k r with
        | true => exact absurd (Nat.eq_of_beq_eq_true hb) e
        | false => rfl
      rw [this]
      simp only [gz_lk_cons]
      rw [if_neg (Ne.symm e), ih]
      by_cases e2 : r' = r
      · rw [if_pos e2, if_pos e2, if_neg (by rw [e2]; exact Ne.symm e)]
      · rw [if_neg e2, if_neg e2]
theorem gz_k1 : (List.range 14).all (fun a => Nat.beq (nz_ft.getD a []).length (nz_nf a) && decide ((az_cl[a]?).map (fun q => q.1) = some (az_cn (cond (Nat.beq a 2) 3 a))) && (Nat.beq a 2 || (az_IN.contains (a, nz_nf a) && az_IZ.contains a)) && (List.range (nz_nf a)).all (fun b => match parseFieldDescriptor (az_T a b).2.2.1 with
  | some ty => cond (Nat.beq (nz_fm a b).2 0) (decide (ty = .int)) (cond (Nat.beq (nz_fm a b).2 5) (decide (ty = .boolean)) (Nat.ble 1 (nz_fm a b).2 && Nat.ble (nz_fm a b).2 4 && ty.isReference))
  | none => false)) = true := by decide +kernel
def gz_ad (B sA r : Nat) : Nat := match r with
  | 0 => sA
  | k + 1 => B + k
def gz_cr (B sA : Nat) (D : va_G) (dA : Nat → ClassId) (H : Heap) (r : Nat) (c : gz_c) : Prop := match c with
  | Sum.inl (a, fs) => a < 14 ∧ fs.length = nz_nf a ∧ va_at D az_cl (gz_ad B sA r, .inr (a, fs.map (az_tr (gz_ad B sA)))) H
  | Sum.inr (ty, n, w) => ty ∈ [0, 1, 2, 7, 8, 9, 10] ∧ H[gz_ad B sA r]? = some (arrV (dA ty) n (fun j => az_tr (gz_ad B sA) (gz_wl (gz_d ty) w j)))
def gz_R (B sA : Nat) (D : va_G) (dA : Nat → ClassId) (scr : Cell) (h : gz_h) (H : Heap) : Prop := H.size = B + h.2.1 ∧ H[sA]? = some scr ∧ ∀ r c, gz_lk h.1 r = some c → 0 < r ∧ gz_cr B sA D dA H r c
def gz_X (B sA : Nat) (D : va_G) (dA : Nat → ClassId) (scr : Cell) : az_HM Nat gz_h := (gz_O, gz_R B sA D dA scr, fun _ => True, gz_ad B sA, fun h => h.2.1, fun h => h.2.2, B, D, dA, scr)
section
variable {B sA : Nat} {D : va_G} {dA : Nat → ClassId} {scr : Cell}
theorem gz_adB {r : Nat} (h : 0 < r) : B ≤ gz_ad B sA r := by
  match r, h with
  | k + 1, _ => show B ≤ B + k; omega
theorem gz_ad_inj (hsB : sA < B) {r r' : Nat} (e : gz_ad B sA r = gz_ad B sA r') : r = r' := by
  match r, r' with
  | 0, 0 => rfl
  | 0, k + 1 => have : sA = B + k := e; omega
  | k + 1, 0 => have : B + k = sA := e; omega
  | k + 1, j + 1 => have : B + k = B + j := e; omega
theorem gz_cr.kept {H H' : Heap} {r : Nat} {c : gz_c} (h : gz_cr B sA D dA H r c) (e : H'[gz_ad B sA r]? = H[gz_ad B sA r]?) : gz_cr B sA D dA H' r c := by
  rcases c with ⟨a, fs⟩ | ⟨ty, n, w⟩
  · exact ⟨h.1, h.2.1, h.2.2.kept e⟩
  · exact ⟨h.1, e.trans h.2⟩
theorem gz_cr.lt {H : Heap} {r : Nat} {c : gz_c} (h : gz_cr B sA D dA H r c) : gz_ad B sA r < H.size := by
  rcases c with ⟨a, fs⟩ | ⟨ty, n, w⟩
  · exact h.2.2.lt
  · exact (Array.getElem?_eq_some_iff.mp h.2).1
theorem gz_R_up (hsB : sA < B) {h : gz_h} {H H' : Heap} {r : Nat} {c c0 : gz_c} (hR : gz_R B sA D dA scr h H) (hl : gz_lk h.1 r = some c0) (hc : gz_cr B sA D dA H' r c) (hz : H'.size = H.size) (hk : ∀ q, q ≠ gz_ad B sA r → H'[q]? = H[q]?) : gz_R B sA D dA scr (gz_up h.1 r c, h.2) H' := by
  have h0 := (hR.2.2 r c0 hl).1
  have hB := gz_adB (B := B) (sA := sA) h0
  refine ⟨hz.trans hR.1, ?_, fun r' c' hl' => ?_⟩
  · rw [hk sA (by omega)]; exact hR.2.1
  · simp only [gz_lk_up] at hl'
    by_cases e : r' = r
    · subst e
      rw [if_pos rfl, hl] at hl'
      cases hl'
      exact ⟨h0, hc⟩
    · rw [if_neg e] at hl'
      obtain ⟨a1, a2⟩ := hR.2.2 r' c' hl'
      exact ⟨a1, a2.kept (hk _ (fun hh => e (gz_ad_inj hsB hh)))⟩
theorem gz_R_new (hsB : sA < B) {h : gz_h} {H H' : Heap} {c : gz_c} {k : Nat} (hR : gz_R B sA D dA scr h H) (hc : gz_cr B sA D dA H' (h.2.1 + 1) c) (hz : H'.size = H.size + 1) (hk : ∀ q, q < H.size → H'[q]? = H[q]?) : gz_R B sA D dA scr ((h.2.1 + 1, c) :: h.1, h.2.1 + 1, k) H' := by
  refine ⟨?_, ?_, fun r' c' hl' => ?_⟩
  · rw [hz, hR.1]; rfl
  · rw [hk sA (by have := hR.1; omega)]; exact hR.2.1
  · simp only [gz_lk_cons] at hl'
    by_cases e : r' = h.2.1 + 1
    · rw [if_pos e] at hl'
      cases hl'
      rw [e]
      exact ⟨by omega, hc⟩
    · rw [if_neg e] at hl'
      obtain ⟨a1, a2⟩ := hR.2.2 r' c' hl'
      exact ⟨a1, a2.kept (hk _ a2.lt)⟩
theorem gz_ct {ty : Nat} {s : State} (hK : az_K D dA scr s) (h : ty ∈ [0, 1, 2, 7, 8, 9, 10]) : ArrOfT s (dA ty) (az_dty ty) ∧ va_RA s (dA ty) (az_dty ty) := by
  have hm : (dA ty, az_dty ty) ∈ az_tys dA := List.mem_map.mpr ⟨_, h, rfl⟩
  obtain ⟨k, hk⟩ := List.getElem?_of_mem hm
  exact hK.1.2 k _ hk
theorem gz_row {a : Nat} (h : a < 14) : (nz_ft.getD a []).length = nz_nf a ∧ (a ≠ 2 → (a, nz_nf a) ∈ az_IN ∧ a ∈ az_IZ) ∧ ∃ q, az_cl[a]? = some q ∧ q.2.2 = nz_nf a ∧ (a ≠ 2 → q.1 = az_cn a) ∧ ∀ b, b < nz_nf a → ∃ ty, parseFieldDescriptor (q.2.1 b).2.2.1 = some ty ∧ (((nz_fm a b).2 = 0 ∧ ty = .int) ∨ ((nz_fm a b).2 = 5 ∧ ty = .boolean) ∨ (1 ≤ (nz_fm a b).2 ∧ (nz_fm a b).2 ≤ 4 ∧ ty.isReference = true)) := by
  obtain ⟨q, hq, hq2⟩ := nz_cq h
  have hT : az_T a = q.2.1 := by
    unfold az_T
    rw [List.getD_eq_getElem?_getD, hq]; rfl
  have k := List.all_eq_true.mp gz_k1 a (List.mem_range.mpr h)
  simp only [Bool.and_eq_true, hq, Option.map_some, decide_eq_true_eq, Option.some.injEq, Bool.or_eq_true, List.contains_iff_mem] at k
  obtain ⟨⟨⟨k1, k2⟩, k3⟩, k4⟩ := k
  refine ⟨Nat.eq_of_beq_eq_true k1, fun hn => ?_, q, hq, hq2, fun hn => ?_, fun b hb => ?_⟩
  · rcases k3 with k3 | k3
    · exact absurd (Nat.eq_of_beq_eq_true k3) hn
    · exact k3
  · rw [k2]
    cases hb : Nat.beq a 2 with
    | true => exact absurd (Nat.eq_of_beq_eq_true hb) hn
    | false => rfl
  · have k5 := List.all_eq_true.mp k4 b (List.mem_range.mpr hb)
    rw [hT] at k5
    split at k5
    · rename_i ty hty
      refine ⟨ty, hty, ?_⟩
      cases h0 : Nat.beq (nz_fm a b).2 0 with
      | true =>
        rw [h0, cond_true, decide_eq_true_eq] at k5
        exact Or.inl ⟨Nat.eq_of_beq_eq_true h0, k5⟩
      | false =>
        rw [h0, cond_false] at k5
        cases h5 : Nat.beq (nz_fm a b).2 5 with
        | true =>
          rw [h5, cond_true, decide_eq_true_eq] at k5
          exact Or.inr (Or.inl ⟨Nat.eq_of_beq_eq_true h5, k5⟩)
        | false =>
          rw [h5, cond_false] at k5
          simp only [Bool.and_eq_true] at k5
          exact Or.inr (Or.inr ⟨Nat.le_of_ble_eq_true k5.1.1, Nat.le_of_ble_eq_true k5.1.2, k5.2⟩)
    · cases k5
theorem gz_rf {ty : FieldType} (h : ty.isReference = true) (ad : Nat → Nat) (x : Option Nat) : narrow ty (az_tr ad (Sum.inr x)) = az_tr ad (Sum.inr x) ∧ fits ty (az_tr ad (Sum.inr x)) = true ∧ defaultValue ty = .null := by
  rcases x with _ | x <;> cases ty <;> simp [FieldType.isReference] at h <;> exact ⟨rfl, rfl, rfl⟩
theorem gz_Lgf : az_Lgf (gz_X B sA D dA scr) := by
  intro h H r a b c d v hR _ hv
  change gz_gf h r a b c d = some v at hv
  have hR : gz_R B sA D dA scr h H := hR
  unfold gz_gf at hv
  split at hv
  · rename_i a' fs hl
    cases hb : Nat.beq a' a with
    | false => rw [hb, cond_false] at hv; cases hv
    | true =>
      rw [hb, cond_true] at hv
      have e := Nat.eq_of_beq_eq_true hb
      subst e
      obtain ⟨h0, h1, h2, h3⟩ := hR.2.2 r _ hl
      obtain ⟨q, hq, hq2⟩ := nz_cq h1
      refine ⟨fun _ _ => trivial, fs.map (az_tr (gz_ad B sA)), q, hq, ?_, ?_, h3⟩
      · rw [hq2, ← h2]; exact (List.getElem?_eq_some_iff.mp hv).1
      · rw [List.getElem?_map, hv]; rfl
  · cases hv
theorem gz_Lpf (hsB : sA < B) : az_Lpf (gz_X B sA D dA scr) := by
  intro h H r a b c d v g h' hR _ _ hv hg
  change gz_pf h r a b c d v = some (g, h') at hv
  have hR : gz_R B sA D dA scr h H := hR
  unfold gz_pf at hv
  split at hv
  · rename_i a' fs hl
    cases hb : (Nat.beq a' a && Nat.blt b (nz_nf a)) with
    | false => rw [hb, cond_false] at hv; cases hv
    | true =>
      rw [hb, cond_true] at hv
      simp only [Bool.and_eq_true] at hb
      have e := Nat.eq_of_beq_eq_true hb.1
      have hb2 : b < nz_nf a := Nat.le_of_ble_eq_true hb.2
      subst e
      split at hv
      · rename_i g0 hfit
        cases hv
        obtain ⟨h0, h1, h2, h3⟩ := hR.2.2 r _ hl
        obtain ⟨-, -, q, hq, hq2, -, hty⟩ := gz_row h1
        obtain ⟨ty, t1, t2⟩ := hty b hb2
        have key : narrow ty (az_tr (gz_ad B sA) v) = az_tr (gz_ad B sA) v ∧ fits ty (az_tr (gz_ad B sA) v) = true := by
          unfold gz_fit at hfit
          rcases v with x | x
          · simp only at hfit
            rcases t2 with ⟨t2, rfl⟩ | ⟨t2, rfl⟩ | ⟨t2, t3, -⟩
            · exact ⟨rfl, rfl⟩
            · rw [t2] at hfit
              have hfit : some (some (az_b01 x)) = some g := hfit
              cases hfit
              have hx : x = 0 ∨ x = 1 := by
                have : (x == 0 || x == 1) = true := hg
                simpa using this
              rcases hx with rfl | rfl <;> exact ⟨rfl, rfl⟩
            · exfalso
              generalize (nz_fm a' b).2 = m at *
              match m, t2, t3 with
              | 1, _, _ => cases hfit
              | 2, _, _ => cases hfit
              | 3, _, _ => cases hfit
              | 4, _, _ => cases hfit
          · simp only at hfit
            rcases t2 with ⟨t2, -⟩ | ⟨t2, -⟩ | ⟨-, -, t4⟩
            · rw [t2] at hfit; cases hfit
            · rw [t2] at hfit; cases hfit
            · exact ⟨(gz_rf t4 _ x).1, (gz_rf t4 _ x).2.1⟩
        refine ⟨gz_adB h0, rfl, rfl, fs.map (az_tr (gz_ad B sA)), q, ty, hq, by rw [hq2]; exact hb2, by rw [List.length_map, h2]; exact hb2, t1, key.1, key.2, h3, fun H' a1 a2 a3 => ?_⟩
        refine gz_R_up hsB hR hl ⟨h1, by rw [List.length_set]; exact h2, ?_⟩ a2 a3
        rw [List.map_set]
        exact a1
      · cases hv
  · cases hv
theorem gz_Lal : az_Lal (gz_X B sA D dA scr) := by
  intro h H r n s hR _ hK hv
  change gz_al h r = some n at hv
  have hR : gz_R B sA D dA scr h H := hR
  unfold gz_al at hv
  split at hv
  · rename_i ty n' w hl
    cases hv
    obtain ⟨h0, h1, h2⟩ := hR.2.2 r _ hl
    exact ⟨_, az_dty ty, h2, (gz_ct hK h1).1 _ _, by rw [arrV_size]⟩
  · cases hv
theorem gz_wlu {ty n : Nat} {w : List (Nat × az_V Nat)} {i : Nat} {v : az_V Nat} {cA : ClassId} {f : az_V Nat → Value} : arrV cA n (updV (fun j => f (gz_wl (gz_d ty) w j)) i (f v)) = arrV cA n (fun j => f (gz_wl (gz_d ty) ((i, v) :: w) j)) := by
  congr 1
  funext j
  unfold updV
  rw [gz_wl]
  by_cases e : j = i
  · subst e; rw [if_pos rfl, Nat.beq_refl, cond_true]
  · rw [if_neg e]
    cases hb : Nat.beq i j with
    | true => exact absurd (Nat.eq_of_beq_eq_true hb).symm e
    | false => rfl
theorem gz_Lsi (hsB : sA < B) : az_Lsi (gz_X B sA D dA scr) := by
  intro h H t r i x h' s ht hR _ hK hv
  change gz_si h t r i x = some (true, h') at hv
  have hR : gz_R B sA D dA scr h H := hR
  unfold gz_si at hv
  split at hv
  · rename_i ty n w hl
    cases hb : (Nat.beq t 0 && Nat.beq ty 0) with
    | false => rw [hb, cond_false] at hv; cases hv
    | true =>
      rw [hb, cond_true] at hv
      simp only [Bool.and_eq_true] at hb
      have e1 := Nat.eq_of_beq_eq_true hb.1
      have e2 := Nat.eq_of_beq_eq_true hb.2
      subst e1; subst e2
      simp only [Option.some.injEq, Prod.mk.injEq] at hv
      obtain ⟨hib, rfl⟩ := hv
      have hin := nz_ib_iff.mp hib
      obtain ⟨h0, h1, h2⟩ := hR.2.2 r _ hl
      refine ⟨gz_adB h0, rfl, rfl, rfl, _, h2, (gz_ct hK h1).1 _ _, by unfold arrV; simp, by rw [arrV_size]; exact hin, fun H' b1 b2 b3 => ?_⟩
      rw [arrV_store] at b1
      refine gz_R_up hsB hR hl ⟨h1, ?_⟩ b2 b3
      exact b1.trans (congrArg some (gz_wlu (ty := 0) (w := w) (i := i.toNatClampNeg) (v := vi x) (f := az_tr (gz_ad B sA))))
  · cases hv
theorem gz_Lga : az_Lga (gz_X B sA D dA scr) := by
  intro h H r i v s hR _ hK hv
  change gz_ga h r i = some (true, v) at hv
  have hR : gz_R B sA D dA scr h H := hR
  unfold gz_ga at hv
  split at hv
  · rename_i ty n w hl
    cases hb : (Nat.ble 2 ty && Nat.ble ty 10) with
    | false => rw [hb, cond_false] at hv; cases hv
    | true =>
      rw [hb, cond_true] at hv
      simp only [Option.some.injEq, Prod.mk.injEq] at hv
      simp only [Bool.and_eq_true] at hb
      have l1 := Nat.le_of_ble_eq_true hb.1
      have l2 := Nat.le_of_ble_eq_true hb.2
      obtain ⟨hib, rfl⟩ := hv
      have hin := nz_ib_iff.mp hib
      obtain ⟨h0, h1, h2⟩ := hR.2.2 r _ hl
      refine ⟨fun _ _ => trivial, _, az_dty ty, h2, (gz_ct hK h1).1 _ _, ?_, by unfold arrV; simp, by rw [arrV_size]; exact hin, ?_⟩
      · clear h1 h2 hl
        match ty, l1, l2 with
        | 2, _, _ => rfl
        | 3, _, _ => rfl
        | 4, _, _ => rfl
        | 5, _, _ => rfl
        | 6, _, _ => rfl
        | 7, _, _ => rfl
        | 8, _, _ => rfl
        | 9, _, _ => rfl
        | 10, _, _ => rfl
      · rw [arrV_read _ _ (by omega)]; rfl
  · cases hv
theorem gz_Lsa (hsB : sA < B) : az_Lsa (gz_X B sA D dA scr) := by
  intro h H r i v h' s hR _ _ hK hv
  change gz_sa h r i v = some (true, h') at hv
  have hR : gz_R B sA D dA scr h H := hR
  unfold gz_sa at hv
  split at hv
  · rename_i r2
    split at hv
    · rename_i ty n w hl
      split at hv
      · rename_i a fs hl2
        cases hb : gz_asn ty a with
        | false => rw [hb, cond_false] at hv; cases hv
        | true =>
          rw [hb, cond_true] at hv
          simp only [Option.some.injEq, Prod.mk.injEq] at hv
          obtain ⟨hib, rfl⟩ := hv
          have hin := nz_ib_iff.mp hib
          obtain ⟨h0, h1, h2⟩ := hR.2.2 r _ hl
          obtain ⟨g0, g1, g2, g3⟩ := hR.2.2 r2 _ hl2
          obtain ⟨-, -, q, hq, hq2, hqn, -⟩ := gz_row g1
          obtain ⟨q', hq', cv, c1, c2, c3, c4⟩ := g3
          cases hq.symm.trans hq'
          have hKn := hK.1.1 a q hq
          obtain ⟨hfa, kv, hkv, -⟩ := hKn.2
          have hca := hK.2.2.2.2.2.2.1
          have hcase : (ty = a ∧ 7 ≤ a ∧ a ≤ 9) ∨ (ty = 2 ∧ 3 ≤ a ∧ a ≤ 6) := by
            unfold gz_asn at hb
            simp only [Bool.or_eq_true, Bool.and_eq_true] at hb
            rcases hb with hb | hb
            · exact Or.inl ⟨Nat.eq_of_beq_eq_true hb.1.1, Nat.le_of_ble_eq_true hb.1.2, Nat.le_of_ble_eq_true hb.2⟩
            · exact Or.inr ⟨Nat.eq_of_beq_eq_true hb.1.1, Nat.le_of_ble_eq_true hb.1.2, Nat.le_of_ble_eq_true hb.2⟩
          have hdt : az_dty ty = .object (az_cn ty) := by
            rcases hcase with ⟨rfl, l1, l2⟩ | ⟨rfl, -⟩
            · match ty, l1, l2 with
              | 7, _, _ => rfl
              | 8, _, _ => rfl
              | 9, _, _ => rfl
            · rfl
          have hct := gz_ct hK h1
          rw [hdt] at hct
          obtain ⟨kA, comp, k1, k2, k3, k4⟩ := hct.2
          have hnm : q.1 = az_cn a := hqn (by omega)
          rw [hnm] at hfa
          obtain ⟨kcomp, kc1, -⟩ := Vm.findClass_spec k3
          have hasg : s.vm.assignable (D.1 a) comp = true := by
            rcases hcase with ⟨rfl, -⟩ | ⟨rfl, l1, l2⟩
            · exact vb_asgS comp (D.1 ty) k3 hfa
            · exact vb_asgC (hca a (by
                have : a = 3 ∨ a = 4 ∨ a = 5 ∨ a = 6 := by omega
                rcases this with rfl | rfl | rfl | rfl <;> decide)) comp (D.1 a) k3 hfa
          refine ⟨gz_adB h0, rfl, rfl, r2, _, cv, kA, kv, kcomp, comp, .object (az_cn ty), rfl, h2, by unfold arrV; simp, by unfold arrV; simp, k1, k2, rfl, kc1, ⟨fun hh => hin (Or.inl hh), ?_⟩, c1, fun z => by rw [c3]; simp, by rw [c2]; exact hkv, by rw [c2]; exact hasg, fun H' b1 b2 b3 => ?_⟩
          · rw [arrV_size]
            exact Nat.lt_of_not_le fun hh => hin (Or.inr hh)
          · rw [arrV_store] at b1
            refine gz_R_up hsB hR hl ⟨h1, ?_⟩ b2 b3
            exact b1.trans (congrArg some (gz_wlu (ty := ty) (w := w) (i := i.toNatClampNeg) (v := vr r2) (f := az_tr (gz_ad B sA))))
      · cases hv
    · cases hv
  · cases hv
theorem gz_newad {h : gz_h} {H : Heap} (hR : gz_R B sA D dA scr h H) : gz_ad B sA (h.2.1 + 1) = H.size := by
  rw [hR.1]; rfl
theorem gz_Lnw (hsB : sA < B) : az_Lnw (gz_X B sA D dA scr) := by
  intro h H a r h' s hR hK hv
  change gz_nw h a = some (r, h') at hv
  have hR : gz_R B sA D dA scr h H := hR
  unfold gz_nw at hv
  cases hb : (Nat.blt a 14 && !Nat.beq a 2) with
  | false => rw [hb, cond_false] at hv; cases hv
  | true =>
    rw [hb, cond_true] at hv
    cases hv
    simp only [Bool.and_eq_true, Bool.not_eq_true'] at hb
    have ha : a < 14 := Nat.le_of_ble_eq_true hb.1
    have ha2 : a ≠ 2 := fun e => by rw [e] at hb; exact absurd hb.2 (by decide)
    obtain ⟨hlen, hin, q, hq, hq2, hqn, hty⟩ := gz_row ha
    obtain ⟨i1, i2⟩ := hin ha2
    have hKn := hK.1.1 a q hq
    have hfa := hKn.2.1
    refine ⟨trivial, gz_newad hR, rfl, nz_nf a, D.1 a, i1, i2, rfl, by rw [← hqn ha2]; exact hfa, fun H' kC e1 e2 e3 e4 hts => ?_⟩
    refine gz_R_new hsB hR ⟨ha, by unfold gz_bl; rw [List.length_map, hlen], ?_⟩ e3 e4
    refine ⟨q, hq, ?_⟩
    have hcl := az_cls a q hq
    obtain ⟨ty0, hty0⟩ := hcl.2.1
    rw [gz_newad hR]
    refine t_OB.to (u_born ty0 hts hcl.1 hKn e1 e2 hty0) (fun k hk => ?_)
    have hk2 : k < nz_nf a := by rw [← hq2]; exact hk
    obtain ⟨ty, t1, t2⟩ := hty k hk2
    have et : ty0 k = ty := Option.some.inj ((hty0 k hk).symm.trans t1)
    rw [et]
    have hfk : (nz_ft.getD a [])[k]? = some (nz_fm a k) := by
      unfold nz_fm
      rw [List.getD_eq_getElem?_getD (l := nz_ft.getD a []), List.getElem?_eq_getElem (by rw [hlen]; exact hk2)]
      rfl
    unfold vp_V gz_bl
    rw [List.getD_eq_getElem?_getD, List.getElem?_map, List.getElem?_map, hfk]
    simp only [Option.map_some, Option.getD_some]
    unfold gz_b1
    rcases t2 with ⟨t2, rfl⟩ | ⟨t2, rfl⟩ | ⟨t2, t3, t4⟩
    · rw [t2]; rfl
    · rw [t2]; rfl
    · rw [(gz_rf t4 (gz_ad B sA) none).2.2]
      generalize (nz_fm a k).2 = m at *
      match m, t2, t3 with
      | 1, _, _ => rfl
      | 2, _, _ => rfl
      | 3, _, _ => rfl
      | 4, _, _ => rfl
theorem gz_na_some {h h' : gz_h} {t a r : Nat} {n : Int32} (hv : gz_na h t a n = some (true, r, h')) : r = h.2.1 + 1 ∧ h' = ((h.2.1 + 1, Sum.inr (a, nz_ix n, [])) :: h.1, h.2.1 + 1, h.2.2 + nz_ix n) ∧ ¬ n < 0 ∧ nz_ix n ≤ 60000 := by
  unfold gz_na at hv
  cases hb : (cond (Nat.beq t 0) (Nat.blt a 2) (Nat.beq a 2 || (Nat.ble 7 a && Nat.ble a 9))) with
  | false => rw [hb, cond_false] at hv; cases hv
  | true =>
    rw [hb, cond_true] at hv
    simp only [Option.some.injEq, Prod.mk.injEq, Bool.and_eq_true, Bool.not_eq_true', decide_eq_false_iff_not] at hv
    obtain ⟨⟨h1, h2⟩, h3, h4⟩ := hv
    exact ⟨h3.symm, h4.symm, h1, Nat.le_of_ble_eq_true h2⟩
theorem gz_Lna (hsB : sA < B) : az_Lna (gz_X B sA D dA scr) := by
  intro h H a n r h' s ha hR hK hv
  have hv : gz_na h 0 a n = some (true, r, h') := hv
  have hR : gz_R B sA D dA scr h H := hR
  obtain ⟨rfl, rfl, hn, hc⟩ := gz_na_some hv
  have hc : n.toNatClampNeg ≤ 60000 := hc
  refine ⟨trivial, gz_newad hR, rfl, rfl, hn, by omega, fun H' cA e1 e2 e3 e4 => ?_⟩
  have hm : a ∈ [0, 1, 2, 7, 8, 9, 10] := by
    rcases (by omega : a = 0 ∨ a = 1) with rfl | rfl <;> decide
  have hct := (gz_ct hK hm).2
  have ec : cA = dA a := by
    rcases (by omega : a = 0 ∨ a = 1) with rfl | rfl
    · exact Option.some.inj (e1.symm.trans hct)
    · exact Option.some.inj (e1.symm.trans hct)
  subst ec
  refine gz_R_new hsB hR ⟨hm, ?_⟩ e3 e4
  rw [gz_newad hR, e2]
  rcases (by omega : a = 0 ∨ a = 1) with rfl | rfl <;> rfl
theorem gz_Lnr (hsB : sA < B) : az_Lnr (gz_X B sA D dA scr) := by
  intro h H a n r h' s ha hR hK hv
  have hv : gz_na h 1 a n = some (true, r, h') := hv
  have hR : gz_R B sA D dA scr h H := hR
  obtain ⟨rfl, rfl, hn, hc⟩ := gz_na_some hv
  have hc : n.toNatClampNeg ≤ 60000 := hc
  refine ⟨trivial, gz_newad hR, rfl, rfl, hn, by omega, fun H' cA e1 e2 e3 e4 => ?_⟩
  have ha2 : a = 2 ∨ a = 7 ∨ a = 8 ∨ a = 9 := by simpa using ha
  have hm : a ∈ [0, 1, 2, 7, 8, 9, 10] := by
    rcases ha2 with rfl | rfl | rfl | rfl <;> decide
  have hct := (gz_ct hK hm).2
  have ec : cA = dA a := by
    rcases ha2 with rfl | rfl | rfl | rfl
    · obtain ⟨-, -, -, -, -, hh⟩ := hct; exact Option.some.inj (e1.symm.trans hh)
    · obtain ⟨-, -, -, -, -, hh⟩ := hct; exact Option.some.inj (e1.symm.trans hh)
    · obtain ⟨-, -, -, -, -, hh⟩ := hct; exact Option.some.inj (e1.symm.trans hh)
    · obtain ⟨-, -, -, -, -, hh⟩ := hct; exact Option.some.inj (e1.symm.trans hh)
  subst ec
  refine gz_R_new hsB hR ⟨hm, ?_⟩ e3 e4
  rw [gz_newad hR, e2]
  rcases ha2 with rfl | rfl | rfl | rfl <;> rfl
theorem gz_Law (hsB : sA < B) : az_Law (gz_X B sA D dA scr) := by
  refine ⟨gz_Lgf, gz_Lpf hsB, gz_Lal, ?_, gz_Lsi hsB, gz_Lga, gz_Lsa hsB, gz_Lnw hsB, gz_Lna hsB, gz_Lnr hsB, ?_, ?_⟩
  · intro h H t r i x s _ _ _ _ hv; cases hv
  · intro h H r a hR _ hv
    change gz_cs h r = some a at hv
    have hR : gz_R B sA D dA scr h H := hR
    unfold gz_cs at hv
    split at hv
    · rename_i a' fs hl
      cases hv
      obtain ⟨h0, h1, h2, h3⟩ := hR.2.2 r _ hl
      exact ⟨h1, _, h3⟩
    · cases hv
  · intro x y _ _
    show Nat.beq x y = true ↔ gz_ad B sA x = gz_ad B sA y
    constructor
    · intro e; rw [Nat.eq_of_beq_eq_true e]
    · intro e; rw [gz_ad_inj hsB e]; exact Nat.beq_refl y
theorem gz_Inv : az_Inv (gz_X B sA D dA scr) := by
  refine ⟨fun h r a b c d v _ _ _ _ => trivial, ?_, ?_, fun h r i v _ _ _ _ => trivial, ?_, ?_, ?_, ?_⟩
  · intro h r a b c d v g h' hv
    change gz_pf h r a b c d v = some (g, h') at hv
    unfold gz_pf at hv
    split at hv
    · rename_i a' fs hl
      cases hb : (Nat.beq a' a && Nat.blt b (nz_nf a)) with
      | false => rw [hb, cond_false] at hv; cases hv
      | true =>
        rw [hb, cond_true] at hv
        split at hv
        · cases hv; exact ⟨Nat.le_refl _, Nat.le_refl _⟩
        · cases hv
    · cases hv
  · intro h t r i x g h' hv
    change gz_si h t r i x = some (g, h') at hv
    unfold gz_si at hv
    split at hv
    · rename_i ty n w hl
      cases hb : (Nat.beq t 0 && Nat.beq ty 0) with
      | false => rw [hb, cond_false] at hv; cases hv
      | true => rw [hb, cond_true] at hv; cases hv; exact ⟨Nat.le_refl _, Nat.le_refl _⟩
    · cases hv
  · intro h r i v g h' hv
    change gz_sa h r i v = some (g, h') at hv
    unfold gz_sa at hv
    split at hv
    · split at hv
      · rename_i ty n w hl
        split at hv
        · rename_i a fs hl2
          cases hb : gz_asn ty a with
          | false => rw [hb, cond_false] at hv; cases hv
          | true => rw [hb, cond_true] at hv; cases hv; exact ⟨Nat.le_refl _, Nat.le_refl _⟩
        · cases hv
      · cases hv
    · cases hv
  · intro h a r h' hv
    change gz_nw h a = some (r, h') at hv
    unfold gz_nw at hv
    cases hb : (Nat.blt a 14 && !Nat.beq a 2) with
    | false => rw [hb, cond_false] at hv; cases hv
    | true => rw [hb, cond_true] at hv; cases hv; exact ⟨trivial, Nat.le_succ _, Nat.le_add_right _ _⟩
  · intro h t a n g r h' hv
    change gz_na h t a n = some (g, r, h') at hv
    unfold gz_na at hv
    cases hb : (cond (Nat.beq t 0) (Nat.blt a 2) (Nat.beq a 2 || (Nat.ble 7 a && Nat.ble a 9))) with
    | false => rw [hb, cond_false] at hv; cases hv
    | true => rw [hb, cond_true] at hv; cases hv; exact ⟨trivial, Nat.le_succ _, Nat.le_add_right _ _⟩
  · intro h x y g r h' hv
    change gz_nm h x y = some (g, r, h') at hv
    unfold gz_nm at hv
    cases hb : (decide (x = 10) && decide (y = 8)) with
    | false => rw [hb, cond_false] at hv; cases hv
    | true => rw [hb, cond_true] at hv; cases hv; exact ⟨trivial, Nat.le_add_right _ _, Nat.le_add_right _ _⟩
end
