/-! the system's steps: lock, several, unlock, sleep, tell -/
section
variable {P : Nat × (Nat → Int32)} {d o : Nat} {t s : St} {T S L0 L Z : nz_f2} {C : nz_f5} {j m : Nat}
theorem RC.rows {s' : St} (h : ∀ k, k < 8 → s' k = s k) (hR : RC o t s C) : RC o t s' C := by
  refine ⟨hR.1, fun k hk => RJ_at (h k hk) (fun _ => rfl) (fun _ => rfl) (hR.2.1 k hk), fun m hm => ?_⟩
  obtain ⟨q, ⟨h1, h2⟩, h3, h4⟩ := hR.2.2 m hm
  refine ⟨q, ⟨fun x => ?_, ?_⟩, h3, h4⟩
  · rw [h1 x]
    constructor
    · rintro ⟨a, b, c⟩
      refine ⟨a, by rw [h x a]; exact b, ?_⟩
      unfold onS; rw [h x a]; exact c
    · rintro ⟨a, b, c⟩
      refine ⟨a, by rw [← h x a]; exact b, ?_⟩
      unfold onS at c ⊢; rw [← h x a]; exact c
  · refine List.Pairwise.imp_of_mem (fun {a b} ha hb hab => ?_) h2
    rw [h a ((h1 a).1 ha).1, h b ((h1 b).1 hb).1]; exact hab
theorem RG.rows {s' : St} (h : ∀ k, k < 8 → s' k = s k) (hG : RG o s L C) : RG o s' L C := by
  intro h0
  obtain ⟨g1, g2, g3⟩ := hG h0
  exact ⟨g1, fun k hk => by rw [h k hk]; exact g2 k hk, g3⟩
theorem up_a {a f v b g : Nat} (h : b ≠ a) : up s a f v b g = s b g := by
  unfold up; rw [if_neg (fun hh => h hh.1)]
theorem up_f {f v g : Nat} (h : g ≠ f) : up s j f v j g = s j g := by
  unfold up; rw [if_neg (fun hh => h hh.2)]
theorem up_e {f v : Nat} : up s j f v j f = v := by
  unfold up; rw [if_pos ⟨rfl, rfl⟩]
/-- one count of job j set, then on -/
theorem c_time {v : Nat} (hT : TV t) (hI : INV t s) (hR : RC o t s C) (hG : RG o s L C) (hj : j < 8) (hm : s j 1 = 0) (hp : s j 0 < t 57 j) (hm10 : m < 10) :
    FJ o j C (onC (nz_u5 C 35 o j 0 m (n32 v)) o j (n32 1)) ∧ RC o t (goesS (up s j (8 + m) v) j) (onC (nz_u5 C 35 o j 0 m (n32 v)) o j (n32 1)) ∧ RG o (goesS (up s j (8 + m) v) j) L (onC (nz_u5 C 35 o j 0 m (n32 v)) o j (n32 1)) := by
  have hF : FJ o j C (nz_u5 C 35 o j 0 m (n32 v)) := FJ.up (FJ.rfl' C) (by unfold WJ; omega)
  have hJ := hR.2.1 j hj
  refine ⟨onC_FJ hF, hR.goX hT hI hj hm hp (fun a f ha => up_a ha) (up_f (by omega)) (up_f (by omega)) (up_f (by omega)) hF ?_ (fun n hn => ?_) (u5_k (by decide)) (u5_k (by decide)), hG.goX (fun a f ha => up_a ha) (up_f (by omega)) hF (fun x _ => u5_k (by decide)) (fun kd x hk => u5_k (by omega))⟩
  · rw [u5_k (by decide), up_f (by omega)]; exact hJ.2.1
  · by_cases hnm : n = m
    · rw [hnm, u5_eq, up_e]
    · rw [u5_x hnm, up_f (by omega)]; exact hJ.2.2.1 n hn
theorem c_lock (ho : o < 2) (hT : TV t) (hI : INV t s) (hR : RC o t s C) (hG : RG o s L C) (hL : LI1 s L) (hd : 11 ≤ d) (hj : j < 8) (hm : s j 1 = 0) (hp : s j 0 < t 57 j) (hop : opS t s j = 0 ∨ opS t s j = 8) (hon : onS t s j = m) (hm10 : m < 10) {Q : nz_h → Prop}
    (hq : ∀ C', Fr (Wsh o) C C' → RC o t (doP t (s, L) j).1 C' → RG o (doP t (s, L) j).1 (doP t (s, L) j).2 C' → Q (T, S, L0, Z, C')) : ctV P d 37 [sO o, jO o j, vi (n32 m)] (T, S, L0, Z, C) Q := by
  obtain ⟨d, rfl⟩ := dge hd
  have hB := hI.B
  have hJ := hR.2.1 j hj
  have h5 := (hI.J hj).1.2.2.2
  have h4 : s j 4 = 0 := (hI.J hj).2.2.1.2.2 (Or.inl hm)
  have htb := hI.tb hj hm10
  have hdo : doP t (s, L) j = (if 0 < s j (8 + m) then (goesS (up s j (8 + m) (s j (8 + m) + 1)) j, L) else if (s j 5).testBit m = true then (goesS s j, incL L 68 j) else comesP t (s, L) j) := by
    unfold doP; simp only [hon]; rw [if_neg (by omega), if_pos hop]
  refine sm37 ?_
  simp (disch := first | omega | (refine Nat.lt_of_lt_of_le (hB _ _) ?_; omega)) only [decide_eq_true_eq, decide_eq_false_iff_not, L32, az01, b2i_01, b2i_n0, b2i_n1, Bool.and_true, true_and, and_true, Classical.not_not, Bool.not_eq_true, Bool.not_eq_false, n32_mul, n32_add, n32_ix, n32_ib, n32_lt, n32_le, n32_inj, l_hb, l_hb0, l_shl, l_wo, l_eqm1, l_m1eq, hJ.2.1, c_has, c_uses (h := (T, S, L0, Z, C)) hB hR, uC_row, hJ.2.2.1 m hm10, l_shl2, c_on]
  refine ⟨fun hb => ⟨fun hu => ?_, fun hu => ⟨hm10, hm10, ?_⟩⟩, fun hb => ?_⟩
  · have ha : askOK t j (s j) := ask_one (by omega) (by rw [hon]; unfold hasS; rw [hb, Bool.or_false, decide_eq_false_iff_not]; exact hu)
    have e : doP t (s, L) j = comesP t (s, L) j := by rw [hdo, if_neg hu, if_neg (by rw [hb]; decide)]
    rw [e] at hq
    have ea : askS t s j = 2 ^ m := by
      unfold askS onlyS; rw [hon, decide_eq_false (show ¬ opS t s j = 9 by omega)]; simp
    have eb : atlS t s j = false := by unfold atlS; rw [decide_eq_false (show ¬ opS t s j = 2 by omega), Bool.and_false]
    exact c_ask0 (b := false) ho hT hI hR hG hL (by omega) hj hm hp ha ea eb (fun C' hF h1 h2 => hq C' hF.sh h1 h2)
  · have hc := c_time (v := s j (8 + m) + 1) hT hI hR hG hj hm hp hm10
    have e : doP t (s, L) j = (goesS (up s j (8 + m) (s j (8 + m) + 1)) j, L) := by rw [hdo, if_pos hu]
    rw [e] at hq
    exact hq _ hc.1.sh hc.2.1 hc.2.2
  · have hz : ¬ 0 < s j (8 + m) := fun h => by have := (hI.J hj).2.1 m hm10 h; rw [hb] at this; cases this
    have e : doP t (s, L) j = (goesS s j, incL L 68 j) := by rw [hdo, if_neg hz, if_pos hb]
    rw [e] at hq
    exact c_illegal hT hI hR hG (by omega) hj hm hp (fun C' hF h1 h2 => hq C' hF.sh h1 h2)
theorem c_tell47 {op : Nat} {all : Bool} (ho : o < 2) (hT : TV t) (hj : j < 8) (hm10 : m < 10) (hop : op = 6 ∨ op = 7) (hall : all = decide (op = 7)) {Q : nz_h → Prop} : ∀ n s L C, INV t s → LI1 s L → RC o t s C → RG o s L C → cslp s < n → s j 1 = 0 → s j 0 < t 57 j →
    (∀ C', Fr (Wsh o) C C' → RC o t (goesS (tellP t m all n (s, L)).1 j) C' → RG o (goesS (tellP t m all n (s, L)).1 j) (tellP t m all n (s, L)).2 C' → Q (T, S, L0, Z, C')) → nzW P (d + 12) az_k47 76 [some (sO o), some (jO o j), some (vi (n32 op)), some (vi (n32 m))] [] (T, S, L0, Z, C) (nz_RV Q) := by
  intro n
  induction n with
  | zero => intro s L C _ _ _ _ h; omega
  | succ n ih =>
    intro s L C hI hL hR hG hc hm hp hq
    obtain ⟨q, hQ, q28, q97⟩ := hR.2.2 m hm10
    have hJ := hR.2.1 j hj
    have hlen := QL_len hQ
    refine sg47_76 ?_
    simp (disch := omega) only [decide_eq_true_eq, decide_eq_false_iff_not, L32, az01, b2i_01, b2i_n0, b2i_n1, Bool.and_true, true_and, and_true, Classical.not_not, Bool.not_eq_true, Bool.not_eq_false, n32_mul, n32_add, n32_ix, n32_ib, n32_lt, n32_le, n32_inj, l_hb, l_hb0, l_shl, l_wo, l_eqm1, l_m1eq, q28]
    have fin : ∀ s L C1, Fr (Wsh o) C C1 → INV t s → RC o t s C1 → RG o s L C1 → s j 1 = 0 → s j 0 < t 57 j → (∀ C', Fr (Wsh o) C C' → RC o t (goesS s j) C' → RG o (goesS s j) L C' → Q (T, S, L0, Z, C')) → ctV P (d + 12) 79 [jO o j, vi (n32 1)] (T, S, L0, Z, C1) (fun h1 => Q h1) := by
      intro s L C1 hF hI hR hG hm hp hq
      have hJ := hR.2.1 j hj
      rw [c_on (by omega)]
      have hFJ : FJ o j C1 C1 := FJ.rfl' C1
      exact hq _ (hF.trans (onC_FJ hFJ).sh) (hR.goX hT hI hj hm hp (fun _ _ _ => rfl) rfl rfl rfl hFJ hJ.2.1 hJ.2.2.1 rfl rfl) (hG.goX (fun _ _ _ => rfl) rfl hFJ (fun _ _ => rfl) (fun _ _ _ => rfl))
    cases q with
    | nil =>
      refine ⟨hm10, fun _ => ?_, fun hcc => absurd (Nat.le_refl _) hcc⟩
      rw [tellP_none (slp_nil hQ)] at hq
      exact fin s L C (Fr.rfl' C) hI hR hG hm hp hq
    | cons k q =>
      refine ⟨hm10, fun hcc => absurd hcc (by simp), fun _ => ?_⟩
      have hs := slp_cons hQ
      have hk := (hQ.1 k).1 (List.mem_cons_self ..)
      have hkj : j ≠ k := fun e => by have := hk.2.1; rw [← e] at this; omega
      have hL1 := incL_LI (k := k) hL
      refine c_wakes ho hT hI hR hG hL (by omega) hm10 hQ q28 q97 (fun C' hF hR' hG' => ?_)
      have hI' : INV t (comesP t (s, incL L 70 k) k).1 := INV_comes hT hI hk.1 (Or.inr hk.2.1)
      have hL' : LI1 (comesP t (s, incL L 70 k) k).1 (comesP t (s, incL L 70 k) k).2 := LI1.comes hI hL1 hk.1 (Or.inr hk.2.1)
      have hsj : (comesP t (s, incL L 70 k) k).1 j = s j := by
        obtain ⟨r, hr, _⟩ := comesS_ex t s k
        show comesS t s k j = s j
        rw [hr, upj_ne hkj]
      have hcs : cslp (comesP t (s, incL L 70 k) k).1 + 1 = cslp s := cslp_comes hk.1 hk.2.1
      have et : tellP t m all (n + 1) (s, L) = cond all (tellP t m all n (comesP t (s, incL L 70 k) k)) (comesP t (s, incL L 70 k) k) := by
        rw [tellP, hs]
      rw [et] at hq
      rcases hop with h6 | h7
      · subst h6
        rw [hall] at hq
        refine ⟨fun hcc => absurd rfl hcc, fun _ => ?_⟩
        exact fin _ _ C' hF hI' hR' hG' (by rw [hsj]; exact hm) (by rw [hsj]; exact hp) hq
      · subst h7
        rw [hall] at hq
        refine ⟨fun _ => ?_, fun hcc => absurd hcc (by decide)⟩
        refine ih _ _ C' hI' hL' hR' hG' (by omega) (by rw [hsj]; exact hm) (by rw [hsj]; exact hp) (fun C'' hF' h1 h2 => ?_)
        have e2 : all = true := hall
        rw [e2] at h1 h2
        exact hq C'' (hF.trans hF') h1 h2
end
