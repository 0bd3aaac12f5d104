/-! the laws of the named heap -/
set_option maxRecDepth 100000
theorem nz_cpM {kd s : Nat} (h : nz_cp kd s < 4) : (55 ≤ kd ∧ kd ≤ 96) ∨ kd = 13 := by
  unfold nz_cp at h
  cases h1 : Nat.beq kd 13 with
  | true => right; exact Nat.eq_of_beq_eq_true h1
  | false =>
    left
    rw [h1, cond_false] at h
    have ef : ∀ n, ¬ kd ≤ n → Nat.ble kd n = false := fun n hh => by
      cases hb : Nat.ble kd n with
      | true => exact absurd (Nat.le_of_ble_eq_true hb) hh
      | false => rfl
    have eb : ∀ n, ¬ kd = n → Nat.beq kd n = false := fun n hh => by
      cases hb : Nat.beq kd n with
      | true => exact absurd (Nat.eq_of_beq_eq_true hb) hh
      | false => rfl
    cases h2 : Nat.ble kd 54 with
    | true => rw [h2, cond_true] at h; omega
    | false =>
      have h2' : 55 ≤ kd := by
        have : ¬ kd ≤ 54 := fun hh => by rw [Nat.ble_eq_true_of_le hh] at h2; cases h2
        omega
      refine ⟨h2', Classical.byContradiction fun hk => ?_⟩
      rw [h2, cond_false, ef 63 (by omega), cond_false, eb 64 (by omega), cond_false, ef 89 (by omega), cond_false, ef 92 (by omega), cond_false, ef 94 (by omega), cond_false, ef 96 (by omega), cond_false] at h
      omega
theorem nz_cp1 {kd s : Nat} (h : nz_cp kd s = 1) : kd = 64 ∨ (kd = 13 ∧ s = 12) := by
  rcases nz_cpM (kd := kd) (s := s) (by omega) with hk | hk
  · left
    unfold nz_cp at h
    have eb : Nat.beq kd 13 = false := by
      cases hb : Nat.beq kd 13 with
      | true => have := Nat.eq_of_beq_eq_true hb; omega
      | false => rfl
    rw [eb, cond_false] at h
    cases h1 : Nat.ble kd 54 with
    | true => rw [h1, cond_true] at h; omega
    | false =>
      rw [h1, cond_false] at h
      cases h2 : Nat.ble kd 63 with
      | true => rw [h2, cond_true] at h; omega
      | false =>
        rw [h2, cond_false] at h
        cases h3 : Nat.beq kd 64 with
        | true => exact Nat.eq_of_beq_eq_true h3
        | false =>
          rw [h3, cond_false] at h
          cases h4 : Nat.ble kd 89 with
          | true => rw [h4, cond_true] at h; omega
          | false =>
            rw [h4, cond_false] at h
            cases h5 : Nat.ble kd 92 with
            | true => rw [h5, cond_true] at h; omega
            | false =>
              rw [h5, cond_false] at h
              cases h6 : Nat.ble kd 94 with
              | true => rw [h6, cond_true] at h; omega
              | false =>
                rw [h6, cond_false] at h
                cases h7 : Nat.ble kd 96 with
                | true => rw [h7, cond_true] at h; omega
                | false => rw [h7, cond_false] at h; omega
  · right
    subst hk
    refine ⟨rfl, ?_⟩
    unfold nz_cp at h
    rw [show Nat.beq 13 13 = true from rfl, cond_true] at h
    cases h1 : (Nat.beq s 8 || Nat.beq s 10) with
    | true => rw [h1, cond_true] at h; omega
    | false =>
      rw [h1, cond_false] at h
      cases h2 : Nat.beq s 12 with
      | true => exact Nat.eq_of_beq_eq_true h2
      | false =>
        rw [h2, cond_false] at h
        cases h3 : (Nat.beq s 48 || Nat.beq s 52 || Nat.beq s 53) with
        | true => rw [h3, cond_true] at h; omega
        | false => rw [h3, cond_false] at h; omega
theorem nz_mz {r : nz_r} (h : r ∈ nz_nms) (hk : (55 ≤ r.1 ∧ r.1 ≤ 96) ∨ r.1 = 13) : r.2.1 = 0 ∧ r.2.2.1 = 0 ∧ r.2.2.2 = 0 := by
  have := List.all_eq_true.mp nz_k3 r h
  simp only [Bool.and_eq_true] at this
  have h1 := this.1
  have e : (Nat.ble 55 r.1 && Nat.ble r.1 96 || Nat.beq r.1 13) = true := by
    rcases hk with hk | hk
    · rw [Nat.ble_eq_true_of_le hk.1, Nat.ble_eq_true_of_le hk.2]; rfl
    · rw [hk]; rfl
  rw [e, cond_true] at h1
  simp only [Bool.and_eq_true] at h1
  exact ⟨Nat.eq_of_beq_eq_true h1.1.1, Nat.eq_of_beq_eq_true h1.1.2, Nat.eq_of_beq_eq_true h1.2⟩
theorem nz_kin {r : nz_r} (h : r ∈ nz_nms) : r.1 < 14 ∨ (20 ≤ r.1 ∧ r.1 ≤ 97) := by
  have := List.all_eq_true.mp nz_k3 r h
  simp only [Bool.and_eq_true, Bool.or_eq_true] at this
  rcases this.2 with h1 | h1
  · exact Or.inl (Nat.le_of_ble_eq_true h1)
  · exact Or.inr ⟨Nat.le_of_ble_eq_true h1.1, Nat.le_of_ble_eq_true h1.2⟩
theorem nz_rw {h : nz_h} {r r' : nz_r} {s s' : Nat} {v : Int32} (hr : r ∈ nz_nms) (hr' : r' ∈ nz_nms) (hs : r.1 = 64 → s < 144) (hs' : r'.1 = 64 → s' < 144) : nz_rd (nz_wr h r s v) r' s' = if r' = r ∧ s' = s then v else nz_rd h r' s' := by
  by_cases e : r' = r ∧ s' = s
  · obtain ⟨e1, e2⟩ := e
    subst e1; subst e2
    rw [if_pos ⟨rfl, rfl⟩]
    unfold nz_rd nz_wr
    generalize nz_cp r'.1 s' = c
    match c with
    | 0 => simp [nz_uT, nz_u2]
    | 1 => cases hb : Nat.beq r'.1 64 <;> simp [nz_uS, nz_u2]
    | 2 => simp [nz_uL, nz_u2]
    | 3 => simp [nz_uZ, nz_u2]
    | n + 4 => simp [nz_uC, nz_u5]
  · rw [if_neg e]
    have key : r'.1 = r.1 → ((55 ≤ r.1 ∧ r.1 ≤ 96) ∨ r.1 = 13) → ¬ s' = s := fun ek hm es => e ⟨by
      have a := nz_mz hr hm
      have b := nz_mz hr' (by rw [ek]; exact hm)
      obtain ⟨x1, x2, x3, x4⟩ := r
      obtain ⟨y1, y2, y3, y4⟩ := r'
      simp only at a b ek
      obtain ⟨rfl, rfl, rfl⟩ := a
      obtain ⟨rfl, rfl, rfl⟩ := b
      rw [ek], es⟩
    unfold nz_rd nz_wr
    have m := nz_cpM (kd := r.1) (s := s)
    have m1 := nz_cp1 (kd := r.1) (s := s)
    have m1' := nz_cp1 (kd := r'.1) (s := s')
    generalize nz_cp r.1 s = c at m m1
    generalize nz_cp r'.1 s' = c' at m1'
    match c, c' with
    | 0, 0 =>
      simp only [nz_uT, nz_u2]
      rw [if_neg]
      rintro ⟨a, b⟩; exact key a (m (by omega)) b
    | 2, 2 =>
      simp only [nz_uL, nz_u2]
      rw [if_neg]
      rintro ⟨a, b⟩; exact key a (m (by omega)) b
    | 3, 3 =>
      simp only [nz_uZ, nz_u2]
      rw [if_neg]
      rintro ⟨a, b⟩; exact key a (m (by omega)) b
    | n + 4, k + 4 =>
      simp only [nz_uC, nz_u5]
      rw [if_neg]
      rintro ⟨a1, a2, a3, a4, a5⟩
      exact e ⟨Prod.ext a1 (Prod.ext a2 (Prod.ext a3 a4)), a5⟩
    | 1, 1 =>
      rcases m1 rfl with h1 | ⟨h1, h1s⟩ <;> rcases m1' rfl with h2 | ⟨h2, h2s⟩
      · have hk := key (h2.trans h1.symm) (m (by omega))
        rw [show Nat.beq r.1 64 = true by rw [h1]; rfl, show Nat.beq r'.1 64 = true by rw [h2]; rfl]
        simp only [cond_true, nz_uS, nz_u2]
        rw [if_neg]
        rintro ⟨a, b⟩; omega
      · have := hs h1
        rw [show Nat.beq r.1 64 = true by rw [h1]; rfl, show Nat.beq r'.1 64 = false by rw [h2]; rfl]
        simp only [cond_true, cond_false, nz_uS, nz_u2]
        rw [if_neg]
        rintro ⟨a, b⟩; omega
      · have := hs' h2
        rw [show Nat.beq r.1 64 = false by rw [h1]; rfl, show Nat.beq r'.1 64 = true by rw [h2]; rfl]
        simp only [cond_true, cond_false, nz_uS, nz_u2]
        rw [if_neg]
        rintro ⟨a, b⟩; omega
      · have hk := key (h2.trans h1.symm) (m (by omega))
        omega
    | 0, 1 => cases hb : Nat.beq r'.1 64 <;> rfl
    | 0, 2 => rfl
    | 0, 3 => rfl
    | 0, k + 4 => rfl
    | 1, 0 => cases hb : Nat.beq r.1 64 <;> rfl
    | 1, 2 => cases hb : Nat.beq r.1 64 <;> rfl
    | 1, 3 => cases hb : Nat.beq r.1 64 <;> rfl
    | 1, k + 4 => cases hb : Nat.beq r.1 64 <;> rfl
    | 2, 0 => rfl
    | 2, 1 => cases hb : Nat.beq r'.1 64 <;> rfl
    | 2, 3 => rfl
    | 2, k + 4 => rfl
    | 3, 0 => rfl
    | 3, 1 => cases hb : Nat.beq r'.1 64 <;> rfl
    | 3, 2 => rfl
    | 3, k + 4 => rfl
    | n + 4, 0 => rfl
    | n + 4, 1 => cases hb : Nat.beq r'.1 64 <;> rfl
    | n + 4, 2 => rfl
    | n + 4, 3 => rfl
def nz_ad (B sA : Nat) (r : nz_r) : Nat := cond (Nat.beq r.1 98) sA (B + nz_idx nz_nms r)
def nz_v (r : nz_r) : Prop := r ∈ nz_nms ∨ r = (98, 0, 0, 0)
def nz_fs (B sA : Nat) (h : nz_h) (r : nz_r) : List Value := (List.range (nz_nf r.1)).map (fun b => az_tr (nz_ad B sA) (nz_fv h r b))
def nz_el (B sA : Nat) (h : nz_h) (r : nz_r) (i : Nat) : Value := cond (Nat.ble 2 (nz_ty r.1)) (.ref (nz_ad B sA (nz_en r i))) (.int (nz_rd h r i))
def nz_R (B sA : Nat) (D : va_G) (dA : Nat → ClassId) (scr : Cell) (h : nz_h) (H : Heap) : Prop :=
  (∀ r ∈ nz_nms, r.1 < 14 → va_at D az_cl (nz_ad B sA r, .inr (r.1, nz_fs B sA h r)) H) ∧ (∀ r ∈ nz_nms, 20 ≤ r.1 → H[nz_ad B sA r]? = some (arrV (dA (nz_ty r.1)) (nz_len r.1) (nz_el B sA h r))) ∧ H[sA]? = some scr
def nz_X (P : Nat × (Nat → Int32)) (B sA : Nat) (D : va_G) (dA : Nat → ClassId) (scr : Cell) (C S : Nat) : az_HM nz_r nz_h := (nz_O P, nz_R B sA D dA scr, nz_v, nz_ad B sA, fun _ => C, fun _ => S, B, D, dA, scr)
def nz_sc (P : Nat × (Nat → Int32)) (scr : Cell) : Prop := scr.slots.size = P.1 ∧ scr.vm ≠ .unknown ∧ ∀ i, i < P.1 → scr.slots[i]? = some (.int (P.2 i))
section
variable {P : Nat × (Nat → Int32)} {B sA : Nat} {D : va_G} {dA : Nat → ClassId} {scr : Cell} {C S : Nat}
theorem nz_b98 {r : nz_r} (h : r ∈ nz_nms) : Nat.beq r.1 98 = false := by
  cases hb : Nat.beq r.1 98 with
  | true => have := Nat.eq_of_beq_eq_true hb; have := nz_kin h; omega
  | false => rfl
theorem nz_ad_own {r : nz_r} (h : r ∈ nz_nms) : nz_ad B sA r = B + nz_idx nz_nms r := by
  unfold nz_ad; rw [nz_b98 h, cond_false]
theorem nz_ad_inj {r r' : nz_r} (h : r ∈ nz_nms) (h' : r' ∈ nz_nms) (e : nz_ad B sA r = nz_ad B sA r') : r = r' := by
  rw [nz_ad_own h, nz_ad_own h'] at e
  exact nz_idx_inj h h' (by omega)
theorem nz_own {r : nz_r} (h : nz_v r) (hk : r.1 ≠ 98) : r ∈ nz_nms := by
  rcases h with h | h
  · exact h
  · rw [h] at hk; exact absurd rfl hk
theorem nz_cq {a : Nat} (h : a < 14) : ∃ q, az_cl[a]? = some q ∧ q.2.2 = nz_nf a := by
  have := List.all_eq_true.mp nz_k4 a (List.mem_range.mpr h)
  simp only [Bool.and_eq_true, decide_eq_true_eq, Option.map_eq_some_iff] at this
  exact this.1
theorem nz_nf0 {a b : Nat} (h : b < nz_nf a) : a < 14 := by
  apply Classical.byContradiction
  intro hn
  unfold nz_nf at h
  rw [List.getD_eq_getElem?_getD, List.getElem?_eq_none (by show 14 ≤ a; omega), Option.getD_none] at h
  omega
theorem nz_fs_at {h : nz_h} {r : nz_r} {b : Nat} (hb : b < nz_nf r.1) : (nz_fs B sA h r)[b]? = some (az_tr (nz_ad B sA) (nz_fv h r b)) := by
  unfold nz_fs
  rw [List.getElem?_map, List.getElem?_range hb]; rfl
theorem nz_fs_len {h : nz_h} {r : nz_r} : (nz_fs B sA h r).length = nz_nf r.1 := by
  unfold nz_fs; rw [List.length_map, List.length_range]
theorem nz_Lgf : az_Lgf (nz_X P B sA D dA scr C S) := by
  intro h H r a b c d v hR hr hv
  change nz_gf h r a b c d = some v at hv
  unfold nz_gf at hv
  cases hc : (Nat.beq r.1 a && Nat.blt b (nz_nf a)) with
  | false => rw [hc, cond_false] at hv; cases hv
  | true =>
    rw [hc, cond_true] at hv
    simp only [Bool.and_eq_true] at hc
    have e1 := Nat.eq_of_beq_eq_true hc.1
    have e2 : b < nz_nf a := Nat.le_of_ble_eq_true hc.2
    have e3 := nz_nf0 e2
    subst e1
    have hm := nz_own hr (by omega)
    cases hv
    obtain ⟨q, hq, hq2⟩ := nz_cq e3
    refine ⟨fun r' hr' => ?_, _, q, hq, by rw [hq2]; exact e2, nz_fs_at e2, hR.1 r hm e3⟩
    have h1 := List.all_eq_true.mp (List.all_eq_true.mp nz_k1 r hm) b (List.mem_range.mpr e2)
    unfold nz_fv at hr'
    split at hr'
    · rename_i x hx
      rw [hx] at h1
      cases hr'
      exact Or.inl (nz_has_iff.mp h1)
    · cases hr'
theorem nz_fv_wr {h : nz_h} {r r' : nz_r} {b s : Nat} {x : Int32} (hr : r ∈ nz_nms) (hr' : r' ∈ nz_nms) (hk : r'.1 < 14) (hs : r.1 = 64 → s < 144) (hf : r' = r ∧ b = s → nz_fk r b = none) : nz_fv (nz_wr h r s x) r' b = if r' = r ∧ b = s then Sum.inl x else nz_fv h r' b := by
  unfold nz_fv
  by_cases e : r' = r ∧ b = s
  · rw [if_pos e]
    have hf' := hf e
    obtain ⟨e1, e2⟩ := e
    subst e1; subst e2
    rw [hf']
    simp only
    rw [nz_rw hr hr hs hs, if_pos ⟨rfl, rfl⟩]
  · rw [if_neg e]
    cases hx : nz_fk r' b with
    | some x => rfl
    | none => simp only; rw [nz_rw hr hr' hs (fun hh => by omega), if_neg e]
theorem nz_R_wr {h : nz_h} {r : nz_r} {s : Nat} {x : Int32} {H H' : Heap} (hsB : sA < B) (hr : r ∈ nz_nms) (hs : r.1 = 64 → s < 144) (hf : r.1 < 14 → nz_fk r s = none) (hR : nz_R B sA D dA scr h H)
    (h1 : r.1 < 14 → va_at D az_cl (nz_ad B sA r, .inr (r.1, (nz_fs B sA h r).set s (.int x))) H') (h2 : 20 ≤ r.1 → Nat.ble 2 (nz_ty r.1) = false ∧ H'[nz_ad B sA r]? = some (arrV (dA (nz_ty r.1)) (nz_len r.1) (updV (nz_el B sA h r) s (.int x)))) (hk : ∀ q, q ≠ nz_ad B sA r → H'[q]? = H[q]?) (h64 : r.1 = 64 → nz_len r.1 ≤ 144) : nz_R B sA D dA scr (nz_wr h r s x) H' := by
  obtain ⟨r1, r2, r3⟩ := hR
  refine ⟨fun r' hr' hk' => ?_, fun r' hr' hk' => ?_, ?_⟩
  · by_cases e : r' = r
    · subst e
      have e2 : nz_fs B sA (nz_wr h r' s x) r' = (nz_fs B sA h r').set s (.int x) := by
        apply List.ext_getElem?
        intro b
        by_cases hb : b < nz_nf r'.1
        · rw [nz_fs_at hb, nz_fv_wr hr hr hk' hs (fun hh => by rw [hh.2]; exact hf hk')]
          by_cases eb : b = s
          · subst eb
            rw [if_pos ⟨rfl, rfl⟩, List.getElem?_set_self (by rw [nz_fs_len]; exact hb)]
            rfl
          · rw [if_neg (fun hh => eb hh.2), List.getElem?_set_ne (Ne.symm eb), nz_fs_at hb]
        · rw [List.getElem?_eq_none (by rw [nz_fs_len]; omega), List.getElem?_eq_none (by rw [List.length_set, nz_fs_len]; omega)]
      rw [e2]
      exact h1 hk'
    · have e2 : nz_fs B sA (nz_wr h r s x) r' = nz_fs B sA h r' := by
        unfold nz_fs
        apply List.map_congr_left
        intro b _
        rw [nz_fv_wr hr hr' hk' hs (fun hh => absurd hh.1 e), if_neg (fun hh => e hh.1)]
      rw [e2]
      exact (r1 r' hr' hk').kept (hk _ (fun hh => e (nz_ad_inj hr' hr hh)))
  · by_cases e : r' = r
    · subst e
      obtain ⟨ht, hh⟩ := h2 hk'
      rw [hh]
      congr 1
      have : ∀ j, j < nz_len r'.1 → updV (nz_el B sA h r') s (.int x) j = nz_el B sA (nz_wr h r' s x) r' j := by
        intro j hj
        unfold updV nz_el
        rw [ht]
        simp only [cond_false]
        rw [nz_rw hr hr hs (fun hh => Nat.lt_of_lt_of_le hj (h64 hh))]
        by_cases ej : j = s
        · subst ej; simp
        · rw [if_neg ej, if_neg (fun hh => ej hh.2)]
      unfold arrV
      congr 1
      apply Array.ext
      · simp
      · intro j hj1 hj2
        simp only [Array.getElem_ofFn]
        exact this j (by simpa using hj1)
    · rw [hk _ (fun hh => e (nz_ad_inj hr' hr hh)), r2 r' hr' hk']
      congr 1
      have : ∀ j, j < nz_len r'.1 → nz_el B sA h r' j = nz_el B sA (nz_wr h r s x) r' j := by
        intro j hj
        unfold nz_el
        cases ht : Nat.ble 2 (nz_ty r'.1) with
        | true => rfl
        | false =>
          simp only [cond_false]
          rw [nz_rw hr hr' hs (fun hh => by
            have : nz_len r'.1 = 144 := by rw [hh]; rfl
            omega), if_neg (fun hh => e hh.1)]
      unfold arrV
      congr 1
      apply Array.ext
      · simp
      · intro j hj1 hj2
        simp only [Array.getElem_ofFn]
        exact this j (by simpa using hj1)
  · rw [hk _ (fun hh => by rw [nz_ad_own hr] at hh; omega)]
    exact r3
theorem nz_Lpf (hsB : sA < B) : az_Lpf (nz_X P B sA D dA scr C S) := by
  intro h H r a b c d v g h' hR hr hvv hv hg
  change nz_pf h r a b c d v = some (g, h') at hv
  unfold nz_pf at hv
  clear hvv
  split at hv
  · rename_i x
    cases hc : (Nat.beq r.1 a && Nat.blt b (nz_nf a)) with
    | false => rw [hc, cond_false] at hv; cases hv
    | true =>
      rw [hc, cond_true] at hv
      simp only [Bool.and_eq_true] at hc
      have e1 := Nat.eq_of_beq_eq_true hc.1
      have e2 : b < nz_nf a := Nat.le_of_ble_eq_true hc.2
      have e3 := nz_nf0 e2
      subst e1
      have hm := nz_own hr (by omega)
      obtain ⟨q, hq, hq2⟩ := nz_cq e3
      have hT : az_T r.1 = q.2.1 := by
        unfold az_T
        rw [List.getD_eq_getElem?_getD, hq]; rfl
      have k4 := List.all_eq_true.mp nz_k4 r.1 (List.mem_range.mpr e3)
      simp only [Bool.and_eq_true] at k4
      have k4 := List.all_eq_true.mp k4.2 b (List.mem_range.mpr e2)
      have done : ∀ (ty : FieldType), parseFieldDescriptor (q.2.1 b).2.2.1 = some ty → narrow ty (.int x) = .int x → fits ty (.int x) = true → nz_fk r b = none → h' = nz_wr h r b x →
          az_hB (nz_X P B sA D dA scr C S) ≤ az_hA (nz_X P B sA D dA scr C S) r ∧ az_hc (nz_X P B sA D dA scr C S) h' = az_hc (nz_X P B sA D dA scr C S) h ∧ az_hs (nz_X P B sA D dA scr C S) h' = az_hs (nz_X P B sA D dA scr C S) h ∧
          ∃ (fs : List Value) (q : vw_C) (ty : FieldType), az_cl[r.1]? = some q ∧ b < q.2.2 ∧ b < fs.length ∧ parseFieldDescriptor (q.2.1 b).2.2.1 = some ty ∧ narrow ty (az_tr (az_hA (nz_X P B sA D dA scr C S)) (Sum.inl x)) = az_tr (az_hA (nz_X P B sA D dA scr C S)) (Sum.inl x) ∧ fits ty (az_tr (az_hA (nz_X P B sA D dA scr C S)) (Sum.inl x)) = true ∧ va_at (az_hD (nz_X P B sA D dA scr C S)) az_cl (az_hA (nz_X P B sA D dA scr C S) r, .inr (r.1, fs)) H ∧
            ∀ H' : Heap, va_at (az_hD (nz_X P B sA D dA scr C S)) az_cl (az_hA (nz_X P B sA D dA scr C S) r, .inr (r.1, fs.set b (az_tr (az_hA (nz_X P B sA D dA scr C S)) (Sum.inl x)))) H' → H'.size = H.size → (∀ x, x ≠ az_hA (nz_X P B sA D dA scr C S) r → H'[x]? = H[x]?) → az_hR (nz_X P B sA D dA scr C S) h' H' := by
        intro ty t1 t2 t3 t4 t5
        subst t5
        refine ⟨?_, rfl, rfl, nz_fs B sA h r, q, ty, hq, by rw [hq2]; exact e2, by rw [nz_fs_len]; exact e2, t1, t2, t3, hR.1 r hm e3, fun H' a1 a2 a3 => ?_⟩
        · show B ≤ nz_ad B sA r
          rw [nz_ad_own hm]; omega
        · exact nz_R_wr hsB hm (fun hh => by omega) (fun _ => t4) hR (fun _ => a1) (fun hh => by omega) a3 (fun hh => by omega)
      split at hv
      · rename_i hmode
        rw [hmode] at k4
        simp only [decide_eq_true_eq] at k4
        rw [hT] at k4
        cases hv
        refine done .int (by rw [k4]; rfl) rfl rfl ?_ rfl
        unfold nz_fk
        split
        rename_i c1 d1 hcd
        rw [hcd] at hmode
        simp only at hmode
        subst hmode
        rfl
      · rename_i hmode
        rw [hmode] at k4
        simp only [decide_eq_true_eq] at k4
        rw [hT] at k4
        cases hv
        have hx : x = 0 ∨ x = 1 := by
          have : (x == 0 || x == 1) = true := hg
          simpa using this
        refine done .boolean (by rw [k4]; rfl) (by rcases hx with rfl | rfl <;> rfl) (by rcases hx with rfl | rfl <;> rfl) ?_ rfl
        unfold nz_fk
        split
        rename_i c1 d1 hcd
        rw [hcd] at hmode
        simp only at hmode
        subst hmode
        rfl
      · cases hv
  · cases hv
theorem nz_arr {s : State} {h : nz_h} {H : Heap} {r : nz_r} (hR : nz_R B sA D dA scr h H) (hK : az_K D dA scr s) (hr : r ∈ nz_nms) (hk : 20 ≤ r.1) : H[nz_ad B sA r]? = some (arrV (dA (nz_ty r.1)) (nz_len r.1) (nz_el B sA h r)) ∧ s.isArrayOf (arrV (dA (nz_ty r.1)) (nz_len r.1) (nz_el B sA h r)) (az_dty (nz_ty r.1)) := by
  refine ⟨hR.2.1 r hr hk, ?_⟩
  have h97 : r.1 ≤ 97 := by have := nz_kin hr; omega
  have h5 := List.all_eq_true.mp nz_k5 r.1 (List.mem_range.mpr (by omega))
  simp only [Bool.or_eq_true, List.contains_iff_mem] at h5
  rcases h5 with h5 | h5
  · have : r.1 < 20 := Nat.le_of_ble_eq_true h5
    omega
  · have hm : (dA (nz_ty r.1), az_dty (nz_ty r.1)) ∈ az_tys dA := List.mem_map.mpr ⟨_, h5, rfl⟩
    obtain ⟨k, hk⟩ := List.getElem?_of_mem hm
    exact (hK.1.2 k _ hk).1 _ _
theorem nz_Lal (hsc : nz_sc P scr) : az_Lal (nz_X P B sA D dA scr C S) := by
  intro h H r n s hR hr hK hv
  change nz_al P h r = some n at hv
  unfold nz_al at hv
  cases hb : Nat.beq r.1 98 with
  | true =>
    rw [hb, cond_true] at hv
    cases hv
    refine ⟨scr, .int, ?_, hK.2.2.2.2.1, hsc.1⟩
    show H[nz_ad B sA r]? = some scr
    unfold nz_ad
    rw [hb, cond_true]
    exact hR.2.2
  | false =>
    rw [hb, cond_false] at hv
    cases hc : (Nat.ble 20 r.1 && Nat.ble r.1 97) with
    | false => rw [hc, cond_false] at hv; cases hv
    | true =>
      rw [hc, cond_true] at hv
      cases hv
      simp only [Bool.and_eq_true] at hc
      have h20 := Nat.le_of_ble_eq_true hc.1
      have hm := nz_own hr (by have := Nat.le_of_ble_eq_true hc.2; omega)
      obtain ⟨a1, a2⟩ := nz_arr hR hK hm h20
      exact ⟨_, _, a1, a2, arrV_size _ _ _⟩
theorem nz_ib_iff {i : Int32} {n : Nat} : nz_ib i n = true ↔ ¬ (i < 0 ∨ n ≤ i.toNatClampNeg) := by
  unfold nz_ib nz_ix
  simp only [Bool.and_eq_true, Bool.not_eq_true', decide_eq_false_iff_not, not_or, Nat.not_le]
  constructor
  · rintro ⟨a, b⟩; exact ⟨a, Nat.le_of_ble_eq_true b⟩
  · rintro ⟨a, b⟩; exact ⟨a, Nat.ble_eq_true_of_le b⟩
theorem nz_Lgi (hsc : nz_sc P scr) : az_Lgi (nz_X P B sA D dA scr C S) := by
  intro h H t r i x s ht hR hr hK hv
  change nz_gi P h t r i = some (true, x) at hv
  unfold nz_gi at hv
  cases hb : Nat.beq r.1 98 with
  | true =>
    rw [hb, cond_true] at hv
    cases ht0 : Nat.beq t 0 with
    | false => rw [ht0, cond_false] at hv; cases hv
    | true =>
      rw [ht0, cond_true] at hv
      simp only [Option.some.injEq, Prod.mk.injEq] at hv
      have hin := nz_ib_iff.mp hv.1
      have et := Nat.eq_of_beq_eq_true ht0
      subst et
      refine ⟨scr, ?_, hK.2.2.2.2.1, hsc.2.1, by rw [hsc.1]; exact hin, ?_⟩
      · show H[nz_ad B sA r]? = some scr
        unfold nz_ad
        rw [hb, cond_true]
        exact hR.2.2
      · rw [← hv.2]
        exact hsc.2.2 _ (by omega)
  | false =>
    rw [hb, cond_false] at hv
    cases hc : (Nat.ble 20 r.1 && Nat.beq (nz_ty r.1) t) with
    | false => rw [hc, cond_false] at hv; cases hv
    | true =>
      rw [hc, cond_true] at hv
      simp only [Option.some.injEq, Prod.mk.injEq] at hv
      simp only [Bool.and_eq_true] at hc
      have h20 := Nat.le_of_ble_eq_true hc.1
      have et := Nat.eq_of_beq_eq_true hc.2
      have hm := nz_own hr (by rcases hr with hh | hh
                               · have := nz_kin hh; omega
                               · rw [hh] at hb; cases hb)
      obtain ⟨a1, a2⟩ := nz_arr hR hK hm h20
      have hin := nz_ib_iff.mp hv.1
      subst et
      refine ⟨_, a1, a2, by unfold arrV; simp, by rw [arrV_size]; exact hin, ?_⟩
      rw [arrV_read _ _ (by omega)]
      unfold nz_el
      have : Nat.ble 2 (nz_ty r.1) = false := by
        cases hq : Nat.ble 2 (nz_ty r.1) with
        | true => have := Nat.le_of_ble_eq_true hq; omega
        | false => rfl
      rw [this, cond_false, ← hv.2]; rfl
theorem nz_Lsi (hsB : sA < B) : az_Lsi (nz_X P B sA D dA scr C S) := by
  intro h H t r i x h' s ht hR hr hK hv
  change nz_si h t r i x = some (true, h') at hv
  unfold nz_si at hv
  cases hc : (Nat.ble 20 r.1 && Nat.beq (nz_ty r.1) t && !Nat.beq r.1 98) with
  | false => rw [hc, cond_false] at hv; cases hv
  | true =>
    rw [hc, cond_true] at hv
    simp only [Option.some.injEq, Prod.mk.injEq] at hv
    simp only [Bool.and_eq_true, Bool.not_eq_true'] at hc
    have h20 := Nat.le_of_ble_eq_true hc.1.1
    have et := Nat.eq_of_beq_eq_true hc.1.2
    have hm := nz_own hr (by intro hh; rw [hh] at hc; exact absurd hc.2 (by decide))
    obtain ⟨a1, a2⟩ := nz_arr hR hK hm h20
    simp only [Bool.and_eq_true] at hv
    obtain ⟨⟨hib, hbo⟩, rfl⟩ := hv
    have hin := nz_ib_iff.mp hib
    subst et
    have ht2 : Nat.ble 2 (nz_ty r.1) = false := by
      cases hq : Nat.ble 2 (nz_ty r.1) with
      | true => have := Nat.le_of_ble_eq_true hq; omega
      | false => rfl
    refine ⟨?_, rfl, rfl, ?_, _, a1, a2, by unfold arrV; simp, by rw [arrV_size]; exact hin, fun H' b1 b2 b3 => ?_⟩
    · show B ≤ nz_ad B sA r
      rw [nz_ad_own hm]; omega
    · rcases (by omega : nz_ty r.1 = 0 ∨ nz_ty r.1 = 1) with e0 | e0
      · rw [e0]; rfl
      · rw [e0] at hbo ⊢
        have hx : x = 0 ∨ x = 1 := by
          have : (x == 0 || x == 1) = true := hbo
          simpa using this
        rcases hx with rfl | rfl <;> rfl
    · rw [arrV_store] at b1
      exact nz_R_wr hsB hm (fun hh => by
        have : nz_len r.1 = 144 := by rw [hh]; rfl
        have h2 := (not_or.mp hin).2
        show i.toNatClampNeg < 144
        omega) (fun hh => by omega) hR (fun hh => by omega) (fun _ => ⟨ht2, b1⟩) b3 (fun hh => by rw [hh]; exact Nat.le_refl _)
theorem nz_Lga : az_Lga (nz_X P B sA D dA scr C S) := by
  intro h H r i v s hR hr hK hv
  change nz_ga h r i = some (true, v) at hv
  unfold nz_ga at hv
  cases hc : (Nat.ble 20 r.1 && Nat.ble 2 (nz_ty r.1) && Nat.ble (nz_ty r.1) 10) with
  | false => rw [hc, cond_false] at hv; cases hv
  | true =>
    rw [hc, cond_true] at hv
    simp only [Option.some.injEq, Prod.mk.injEq] at hv
    simp only [Bool.and_eq_true] at hc
    have h20 := Nat.le_of_ble_eq_true hc.1.1
    have hm := nz_own hr (by intro hh; rw [hh] at hc; exact absurd hc.2 (by decide))
    obtain ⟨a1, a2⟩ := nz_arr hR hK hm h20
    have hin := nz_ib_iff.mp hv.1
    have hk2 := List.all_eq_true.mp nz_k2 r hm
    rw [hc.1.1, hc.1.2] at hk2
    have hk2 : ((List.range (nz_len r.1)).all (fun i => nz_has nz_nms (nz_en r i))) = true := hk2
    have hk2 := List.all_eq_true.mp hk2 i.toNatClampNeg (List.mem_range.mpr (by omega))
    refine ⟨fun r' hr' => ?_, _, _, a1, a2, ?_, by unfold arrV; simp, by rw [arrV_size]; exact hin, ?_⟩
    · rw [← hv.2] at hr'
      cases hr'
      exact Or.inl (nz_has_iff.mp hk2)
    · have h1 := Nat.le_of_ble_eq_true hc.1.2
      have h2 := Nat.le_of_ble_eq_true hc.2
      generalize nz_ty r.1 = t at h1 h2
      match t, h1, h2 with
      | 2, _, _ => rfl
      | 3, _, _ => rfl
      | 4, _, _ => rfl
      | 5, _, _ => rfl
      | 6, _, _ => rfl
      | 7, _, _ => rfl
      | 8, _, _ => rfl
      | 9, _, _ => rfl
      | 10, _, _ => rfl
    · rw [arrV_read _ _ (by omega)]
      unfold nz_el
      rw [hc.1.2, cond_true, ← hv.2]
      rfl
theorem nz_Law (hsB : sA < B) (hsc : nz_sc P scr) : az_Law (nz_X P B sA D dA scr C S) := by
  refine ⟨nz_Lgf, nz_Lpf hsB, nz_Lal hsc, nz_Lgi hsc, nz_Lsi hsB, nz_Lga, ?_, ?_, ?_, ?_, ?_, ?_⟩
  · intro h H r i v h' s _ _ _ _ hv; cases hv
  · intro h H a r h' s _ _ hv; cases hv
  · intro h H a n r h' s _ _ _ hv; cases hv
  · intro h H a n r h' s _ _ _ hv; cases hv
  · intro h H r a hR hr hv
    change nz_cs h r = some a at hv
    unfold nz_cs at hv
    cases hc : Nat.blt r.1 14 with
    | false => rw [hc, cond_false] at hv; cases hv
    | true =>
      rw [hc, cond_true] at hv
      cases hv
      have hk : r.1 < 14 := Nat.le_of_ble_eq_true hc
      exact ⟨hk, _, hR.1 r (nz_own hr (by omega)) hk⟩
  · intro x y hx hy
    show decide (x = y) = true ↔ nz_ad B sA x = nz_ad B sA y
    rw [decide_eq_true_eq]
    constructor
    · rintro rfl; rfl
    · intro e
      rcases hx with hx | hx <;> rcases hy with hy | hy
      · exact nz_ad_inj hx hy e
      · rw [nz_ad_own hx, hy] at e
        have : nz_ad B sA (98, 0, 0, 0) = sA := rfl
        omega
      · rw [nz_ad_own hy, hx] at e
        have : nz_ad B sA (98, 0, 0, 0) = sA := rfl
        omega
      · rw [hx, hy]
theorem nz_T18 : az_T18 (nz_X P B sA D dA scr C S) := by
  intro p l e R s m args below meth c Q q c0 s0 pc k np a b cx d L ls st h _ _ _ g np' ls' st' h' hs
  simp only [az_step] at hs
  split at hs
  · split at hs
    · rename_i hv; cases hv
    · cases hs
  · cases hs
theorem nz_Inv : az_Inv (nz_X P B sA D dA scr C S) := by
  refine ⟨?_, fun h r a b c d v g h' _ => ⟨Nat.le_refl _, Nat.le_refl _⟩, fun h t r i x g h' _ => ⟨Nat.le_refl _, Nat.le_refl _⟩, ?_, ?_, ?_, ?_, ?_⟩
  · intro h r a b c d v hr hv r' hr'
    change nz_gf h r a b c d = some v at hv
    unfold nz_gf at hv
    cases hc : (Nat.beq r.1 a && Nat.blt b (nz_nf a)) with
    | false => rw [hc, cond_false] at hv; cases hv
    | true =>
      rw [hc, cond_true] at hv
      simp only [Bool.and_eq_true] at hc
      have e1 := Nat.eq_of_beq_eq_true hc.1
      have e2 : b < nz_nf a := Nat.le_of_ble_eq_true hc.2
      have e3 := nz_nf0 e2
      subst e1
      have hm := nz_own hr (by omega)
      cases hv
      have h1 := List.all_eq_true.mp (List.all_eq_true.mp nz_k1 r hm) b (List.mem_range.mpr e2)
      unfold nz_fv at hr'
      split at hr'
      · rename_i x hx
        rw [hx] at h1
        cases hr'
        exact Or.inl (nz_has_iff.mp h1)
      · cases hr'
  · intro h r i v hr hv r' hr'
    change nz_ga h r i = some (true, v) at hv
    unfold nz_ga at hv
    cases hc : (Nat.ble 20 r.1 && Nat.ble 2 (nz_ty r.1) && Nat.ble (nz_ty r.1) 10) with
    | false => rw [hc, cond_false] at hv; cases hv
    | true =>
      rw [hc, cond_true] at hv
      simp only [Option.some.injEq, Prod.mk.injEq] at hv
      simp only [Bool.and_eq_true] at hc
      have hm := nz_own hr (by intro hh; rw [hh] at hc; exact absurd hc.2 (by decide))
      have hin := nz_ib_iff.mp hv.1
      have hk2 := List.all_eq_true.mp nz_k2 r hm
      rw [hc.1.1, hc.1.2] at hk2
      have hk2 : ((List.range (nz_len r.1)).all (fun i => nz_has nz_nms (nz_en r i))) = true := hk2
      have hk2 := List.all_eq_true.mp hk2 i.toNatClampNeg (List.mem_range.mpr (by omega))
      rw [← hv.2] at hr'
      cases hr'
      exact Or.inl (nz_has_iff.mp hk2)
  · intro h r i v g h' hv; cases hv
  · intro h a r h' hv; cases hv
  · intro h t a n g r h' hv; cases hv
  · intro h x y g r h' hv; cases hv
end
