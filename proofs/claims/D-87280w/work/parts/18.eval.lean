/-! methods of the abstract machine (depth, fuel); a run of it is a contract of the machine's method -/
section
variable {ρ α : Type}
def az_ent (n : Nat) (as : List (az_V ρ)) : az_L ρ := as.map some ++ List.replicate (n - as.length) none
def az_ev (O : az_O ρ α) : Nat → Nat → Nat → List (az_V ρ) → α → Option (Option (az_V ρ) × α)
  | 0, _, _, _, _ => none
  | d + 1, f, i, as, h => match az_cdl[i]? with
    | none => none
    | some (j, n, cd) => cond (Nat.beq i j && Nat.blt i 183 && Nat.ble as.length n) (az_run O (az_ev O d f) cd f 0 (az_ent n as) [] h) none
theorem az_lgl {ad : ρ → Nat} (as : List (az_V ρ)) : (lg_sl (as.map (az_tr ad))).length = as.length := by
  induction as with
  | nil => rfl
  | cons v t ih =>
    have hc := az_cat ad v
    have e : lg_sl ((v :: t).map (az_tr ad)) = [Slot.val (az_tr ad v)] ++ lg_sl (t.map (az_tr ad)) := by
      unfold lg_sl
      rw [List.map_cons, List.flatMap_cons, if_neg (by rw [hc]; decide)]
    rw [e, List.length_append, ih]
    simp only [List.length_cons, List.length_nil]
    omega
theorem az_lva {ad : ρ → Nat} (as : List (az_V ρ)) : ∀ (k i : Nat) (v : az_V ρ), as[i]? = some v → (k + i, az_tr ad v) ∈ lv_args k (as.map (az_tr ad)) := by
  induction as with
  | nil => intro k i v h; simp at h
  | cons w t ih =>
    intro k i v h
    rw [List.map_cons, lv_args, if_neg (by rw [az_cat]; decide)]
    cases i with
    | zero =>
      simp only [List.getElem?_cons_zero, Option.some.injEq] at h
      subst h
      exact List.mem_cons_self
    | succ i =>
      simp only [List.getElem?_cons_succ] at h
      have := ih (k + 1) i v h
      rw [show k + (i + 1) = k + 1 + i by omega]
      exact List.mem_cons_of_mem _ this
theorem az_ent_at {n : Nat} {as : List (az_V ρ)} {i : Nat} {v : az_V ρ} (h : (az_ent n as)[i]? = some (some v)) : as[i]? = some v := by
  unfold az_ent at h
  by_cases hi : i < as.length
  · rw [List.getElem?_append_left (by rw [List.length_map]; exact hi), List.getElem?_map] at h
    cases hv : as[i]? with
    | none => rw [hv] at h; simp at h
    | some w => rw [hv] at h; simp at h; rw [h]
  · rw [List.getElem?_append_right (by rw [List.length_map]; omega)] at h
    have := List.mem_of_getElem? h
    simp at this
theorem az_ent_ok {VR : ρ → Prop} {n : Nat} {as : List (az_V ρ)} (h : az_sok VR as) : az_lok VR (az_ent n as) := by
  intro v hv
  obtain ⟨i, hi⟩ := List.getElem?_of_mem hv
  exact h v (List.mem_of_getElem? (az_ent_at hi))
theorem az_ent_Lr {ad : ρ → Nat} {n : Nat} {as : List (az_V ρ)} (h : as.length ≤ n) : az_Lr ad n (az_ent n as) ((lg_sl (as.map (az_tr ad)) ++ List.replicate (n - (lg_sl (as.map (az_tr ad))).length) Slot.unset).toArray) := by
  have hl := lv_entry (as.map (az_tr ad)) (n := n) (by rw [az_lgl]; exact h)
  refine ⟨hl.1, hl.2.1, ?_, fun i v hv => ?_⟩
  · unfold az_ent
    rw [List.length_append, List.length_map, List.length_replicate]
    omega
  · have := az_lva (ad := ad) as 0 i v (az_ent_at hv)
    rw [Nat.zero_add] at this
    exact hl.2.2 _ this
variable {X : az_HM ρ α} {l : Launch}
theorem az_ev_inv (hI : az_Inv X) : ∀ d f, az_Cinv X (az_ev (az_hO X) d f) := by
  intro d
  induction d with
  | zero => intro f m as h v h' _ hc; simp [az_ev] at hc
  | succ d ih =>
    intro f m as h v h' has hc
    rw [az_ev] at hc
    split at hc
    · cases hc
    · rename_i j n cd hcd
      cases hb : (Nat.beq m j && Nat.blt m 183 && Nat.ble as.length n) with
      | false => rw [hb, cond_false] at hc; cases hc
      | true =>
        rw [hb, cond_true] at hc
        exact az_run_inv hI (ih f) f 0 _ [] h v h' (az_ent_ok has) (fun _ hh => by cases hh) hc
theorem az_sound (hLaw : az_Law X) (h18 : az_T18 X) (hI : az_Inv X) : ∀ d f i as h v h', az_sok (az_hV X) as → az_ev (az_hO X) d f i as h = some (v, h') → az_Mt X l d i as h v h' := by
  intro d
  induction d with
  | zero => intro f i as h v h' _ hc; simp [az_ev] at hc
  | succ d ih =>
    intro f i as h v h' has hc
    rw [az_ev] at hc
    split at hc
    · cases hc
    · rename_i j n cd hcd
      cases hb : (Nat.beq i j && Nat.blt i 183 && Nat.ble as.length n) with
      | false => rw [hb, cond_false] at hc; cases hc
      | true =>
        rw [hb, cond_true] at hc
        simp only [Bool.and_eq_true, Nat.beq_eq, Nat.ble_eq] at hb
        obtain ⟨⟨hij, hi⟩, hn⟩ := hb
        subst hij
        have hi : i < 183 := Nat.le_of_ble_eq_true hi
        intro q hq
        have hokc := az_okl _ (List.mem_of_getElem? hcd)
        have hnl := az_nll _ (List.mem_of_getElem? hcd)
        simp only [az_okc, hq, List.all_eq_true] at hokc
        simp only [hq, Option.map_some, Option.some.injEq] at hnl
        subst hnl
        obtain ⟨q', hq', hmok⟩ := az_mrow hi
        cases hq.symm.trans hq'
        obtain ⟨m1, m2, m3, m4, m5, m6, m7⟩ := az_mok_spec hmok
        refine Met.ofW (cc := q.2.1) (maxL := q.2.2.1) (ret := q.2.2.2.1) m6 rfl ?_
        intro p e s m args below meth c s₁ B hml hv
        obtain ⟨rfl, hR, hK⟩ := hv
        have hts := atoms_spec (ws := ws_ q.1 q.2.1 q.2.2.1 q.2.2.2.1) B.pre
        have hts : ∀ w ∈ lw_all, w.before _ s = true := fun w h => hts w (List.mem_cons_of_mem _ h)
        have hown : s.vm.findClass q.1.cls = some m.cls := findClass_of_methodNamed B.named
        rw [m1] at hown
        have hF : az_Fr p s m (as.map (az_tr (az_hA X))).toArray meth c q := ⟨B.exec, B.bytes, hml, B.returns, B.notSynchronized, hown, hts, fun hn => (name_of_methodNamed B.named B.method).1.trans hn⟩
        rw [lg_entry_eq]
        have hm := az_run_inv hI (az_ev_inv hI d f) f 0 _ [] h v h' (az_ent_ok has) (fun _ hh => by cases hh) hc
        have hW := az_frame (X := X) (p := p) (l := l) (e := e) (R := (headSpec (ws_ q.1 q.2.1 q.2.2.1 q.2.2.2.1) (az_rm (d + 1) (az_hc X h' - az_hc X h) (az_hs X h' - az_hs X h))).room) (s := s) (m := m) (args := (as.map (az_tr (az_hA X))).toArray) (below := below) (meth := meth) (c := c) (q := q) (c0 := az_hc X h) (s0 := az_hs X h)
          (Q := MQ below (az_Qc X v h') (as.map (az_tr (az_hA X))).toArray s (az_hc X h' - az_hc X h) (az_hs X h' - az_hs X h) (fun x => az_hB X ≤ x)) (dd := d)
          hLaw h18 hI hF hK ⟨Nat.le_refl _, Nat.le_refl _⟩ (fun r hr => hokc r hr) (az_ev_inv hI d f) (fun mi as h v h' ha hcc => ih f mi as h v h' ha hcc)
          (fun pc ee ls st h g hmem hs hg => az_rtn hF (hokc _ hmem) hs hg) ⟨Nat.le_refl _, Nat.le_refl _⟩ f 0 _ [] h (az_ent_ok has) (fun _ hh => by cases hh) hc
        have := hW s.heap [] _ hR (fun _ hh => by cases hh) (az_ent_Lr hn) (az_ent_ok has) (fun _ hh => by cases hh) (Nat.le_refl _) (Nat.le_refl _)
        rw [Nat.sub_self, Nat.sub_self] at this
        exact this
/-! contracts and frames of the abstract machine, by what they come to -/
def az_le (c1 c2 : Nat → List (az_V ρ) → α → Option (Option (az_V ρ) × α)) : Prop := ∀ m as h r, c1 m as h = some r → c2 m as h = some r
theorem az_run_mono {O : az_O ρ α} {c1 c2 : Nat → List (az_V ρ) → α → Option (Option (az_V ρ) × α)} (hc : az_le c1 c2) {cd : az_C} : ∀ f g pc ls st h r, f ≤ g → az_run O c1 cd f pc ls st h = some r → az_run O c2 cd g pc ls st h = some r := by
  intro f
  induction f with
  | zero => intro g pc ls st h r _ hr; simp [az_run] at hr
  | succ f ih =>
    intro g pc ls st h r hfg hr
    obtain ⟨g, rfl⟩ : ∃ g', g = g' + 1 := ⟨g - 1, by omega⟩
    have hfg : f ≤ g := by omega
    rw [az_run] at hr ⊢
    split at hr
    · cases hr
    · rename_i e he
      split at hr
      · cases hr
      · rename_i gd rr hs
        cases hg : az_gd gd with
        | false => rw [hg, cond_false] at hr; cases hr
        | true =>
          rw [hg, cond_true] at hr
          rw [cond_true]
          split at hr
          · exact ih _ _ _ _ _ _ hfg hr
          · exact ih _ _ _ _ _ _ hfg hr
          · rename_i m as np l' s' h'
            split at hr
            · cases hr
            · rename_i v h2 hcl
              simp only [hc _ _ _ _ hcl]
              exact ih _ _ _ _ _ _ hfg hr
          · exact hr
          · exact ih _ _ _ _ _ _ hfg hr
theorem az_ev_mono {O : az_O ρ α} : ∀ d d' f f', d ≤ d' → f ≤ f' → az_le (az_ev O d f) (az_ev O d' f') := by
  intro d
  induction d with
  | zero => intro d' f f' _ _ m as h r hr; simp [az_ev] at hr
  | succ d ih =>
    intro d' f f' hd hf m as h r hr
    obtain ⟨d', rfl⟩ : ∃ x, d' = x + 1 := ⟨d' - 1, by omega⟩
    rw [az_ev] at hr ⊢
    split at hr
    · cases hr
    · rename_i j n cd hcd
      cases hb : (Nat.beq m j && Nat.blt m 183 && Nat.ble as.length n) with
      | false => rw [hb, cond_false] at hr; cases hr
      | true =>
        rw [hb, cond_true] at hr
        rw [cond_true]
        exact az_run_mono (ih d' f f' (by omega) hf) _ _ _ _ _ _ _ hf hr
def az_ct (O : az_O ρ α) (d i : Nat) (as : List (az_V ρ)) (h : α) (Q : Option (az_V ρ) → α → Prop) : Prop := ∃ f v h', az_ev O d f i as h = some (v, h') ∧ Q v h'
def az_wp (O : az_O ρ α) (d : Nat) (cd : az_C) (pc : Nat) (ls : az_L ρ) (st : List (az_V ρ)) (h : α) (Q : Option (az_V ρ) → α → Prop) : Prop := ∃ f v h', az_run O (az_ev O d f) cd f pc ls st h = some (v, h') ∧ Q v h'
theorem az_ct.imp {O : az_O ρ α} {d d' i : Nat} {as : List (az_V ρ)} {h : α} {Q Q' : Option (az_V ρ) → α → Prop} (hd : d ≤ d') (hq : ∀ v h', Q v h' → Q' v h') (hh : az_ct O d i as h Q) : az_ct O d' i as h Q' := by
  obtain ⟨f, v, h', h1, h2⟩ := hh
  exact ⟨f, v, h', az_ev_mono d d' f f hd (Nat.le_refl _) _ _ _ _ h1, hq _ _ h2⟩
theorem az_wp.imp {O : az_O ρ α} {d : Nat} {cd : az_C} {pc : Nat} {ls : az_L ρ} {st : List (az_V ρ)} {h : α} {Q Q' : Option (az_V ρ) → α → Prop} (hq : ∀ v h', Q v h' → Q' v h') (hh : az_wp O d cd pc ls st h Q) : az_wp O d cd pc ls st h Q' := by
  obtain ⟨f, v, h', h1, h2⟩ := hh
  exact ⟨f, v, h', h1, hq _ _ h2⟩
/-- a method's contract out of its body -/
theorem az_ct_of {O : az_O ρ α} {d i n : Nat} {cd : az_C} {as : List (az_V ρ)} {h : α} {Q : Option (az_V ρ) → α → Prop} (hcd : az_cdl[i]? = some (i, n, cd)) (hi : Nat.blt i 183 = true) (hn : Nat.ble as.length n = true)
    (hw : az_wp O d cd 0 (az_ent n as) [] h Q) : az_ct O (d + 1) i as h Q := by
  obtain ⟨f, v, h', h1, h2⟩ := hw
  refine ⟨f, v, h', ?_, h2⟩
  rw [az_ev, hcd]
  simp only
  rw [hi, hn, show Nat.beq i i = true from Nat.beq_refl i]
  exact h1
/-- one step -/
def az_cont (O : az_O ρ α) (d : Nat) (cd : az_C) (Q : Option (az_V ρ) → α → Prop) (r : az_R ρ α) : Prop := match r with
  | Sum.inl (p', l', s', h') => az_wp O d cd p' l' s' h' Q
  | Sum.inr (Sum.inl (q, t, np, l', s', h')) => az_wp O d cd (cond q t np) l' s' h' Q
  | Sum.inr (Sum.inr (Sum.inl (m, as, np, l', s', h'))) => az_ct O d m as h' (fun v h2 => az_wp O d cd np l' (v.toList ++ s') h2 Q)
  | Sum.inr (Sum.inr (Sum.inr (Sum.inl (v, h')))) => Q v h'
  | Sum.inr (Sum.inr (Sum.inr (Sum.inr (x, lo, L, df, l', s', h')))) => az_wp O d cd (az_sw x lo L df) l' s' h' Q
theorem az_wp_step {O : az_O ρ α} {d : Nat} {cd : az_C} {pc : Nat} {ls : az_L ρ} {st : List (az_V ρ)} {h : α} {Q : Option (az_V ρ) → α → Prop} {e : az_E} {g : Option Bool} {r : az_R ρ α} (he : az_look cd pc = some e) (hs : az_step O e ls st h = some (g, r)) (hg : az_gd g = true)
    (hk : az_cont O d cd Q r) : az_wp O d cd pc ls st h Q := by
  rcases r with ⟨p', l', s', h'⟩ | ⟨q, t, np, l', s', h'⟩ | ⟨m, as, np, l', s', h'⟩ | ⟨v, h'⟩ | ⟨x, lo, L, df, l', s', h'⟩
  · obtain ⟨f, v, h2, h1, hq⟩ := hk
    refine ⟨f + 1, v, h2, ?_, hq⟩
    rw [az_run, he]
    simp only [hs, hg, cond_true]
    exact az_run_mono (az_ev_mono d d f (f + 1) (Nat.le_refl _) (by omega)) _ _ _ _ _ _ _ (Nat.le_refl _) h1
  · obtain ⟨f, v, h2, h1, hq⟩ := hk
    refine ⟨f + 1, v, h2, ?_, hq⟩
    rw [az_run, he]
    simp only [hs, hg, cond_true]
    exact az_run_mono (az_ev_mono d d f (f + 1) (Nat.le_refl _) (by omega)) _ _ _ _ _ _ _ (Nat.le_refl _) h1
  · obtain ⟨f1, v1, h1, e1, f, v, h2, e2, hq⟩ := hk
    refine ⟨f1 + f + 1, v, h2, ?_, hq⟩
    rw [az_run, he]
    simp only [hs, hg, cond_true]
    rw [az_ev_mono d d f1 (f1 + f + 1) (Nat.le_refl _) (by omega) _ _ _ _ e1]
    exact az_run_mono (az_ev_mono d d f (f1 + f + 1) (Nat.le_refl _) (by omega)) _ _ _ _ _ _ _ (by omega) e2
  · refine ⟨1, v, h', ?_, hk⟩
    rw [az_run, he]
    simp only [hs, hg, cond_true]
  · obtain ⟨f, v, h2, h1, hq⟩ := hk
    refine ⟨f + 1, v, h2, ?_, hq⟩
    rw [az_run, he]
    simp only [hs, hg, cond_true]
    exact az_run_mono (az_ev_mono d d f (f + 1) (Nat.le_refl _) (by omega)) _ _ _ _ _ _ _ (Nat.le_refl _) h1
end
