/-! the least ring of those that wait -/
section
variable {t s : St}
theorem aL_lt {f l v : Nat} (h : aL f l v = true) : v < 8 := (aL_ok.1 h).2.1
/-- a ring told from another place on it -/
theorem clo_turn {e : Nat → Nat → Bool} {a : Nat → Bool} {f k i : Nat} {w : Nat → Nat} (h : clo e a f w k) (hi : i ≤ k) (hb : ∀ x, x ≤ k → w x < 8) : clo e (fun v => decide (v < 8)) (w i) (fun x => w ((x + i) % (k + 1))) k := by
  have step : ∀ y, y < k + 1 → e (w y) (w ((y + 1) % (k + 1))) = true := fun y hy => by
    by_cases hk : y = k
    · rw [hk, Nat.mod_self, h.1.1]; exact h.2
    · rw [Nat.mod_eq_of_lt (by omega)]; exact (h.1.2 y (by omega)).1
  have nx : ∀ x, ((x + i) % (k + 1) + 1) % (k + 1) = (x + 1 + i) % (k + 1) := fun x => by
    rw [Nat.mod_add_mod, show x + i + 1 = x + 1 + i by omega]
  refine ⟨⟨?_, fun x hx => ⟨?_, ?_⟩⟩, ?_⟩
  · show w ((0 + i) % (k + 1)) = w i
    rw [Nat.zero_add, Nat.mod_eq_of_lt (by omega)]
  · show e (w ((x + i) % (k + 1))) (w ((x + 1 + i) % (k + 1))) = true
    have := step ((x + i) % (k + 1)) (Nat.mod_lt _ (by omega))
    rw [nx] at this
    exact this
  · have := hb ((x + 1 + i) % (k + 1)) (by have := Nat.mod_lt (x + 1 + i) (show 0 < k + 1 by omega); omega)
    exact decide_eq_true this
  · show e (w ((k + i) % (k + 1))) (w i) = true
    have := step ((k + i) % (k + 1)) (Nat.mod_lt _ (by omega))
    rw [nx, show k + 1 + i = i + (k + 1) by omega, Nat.add_mod_right, Nat.mod_eq_of_lt (show i < k + 1 by omega)] at this
    exact this
theorem clo_lt {a : Nat → Bool} {f k : Nat} {w : Nat → Nat} (ha : ∀ v, a v = true → v < 8) (hf : f < 8) (h : clo (eS t s) a f w k) : ∀ x, x ≤ k → w x < 8 := fun x hx => by
  by_cases h0 : x = 0
  · rw [h0, h.1.1]; exact hf
  · have := (h.1.2 (x - 1) (by omega)).2
    rw [show x - 1 + 1 = x by omega] at this
    exact ha _ this
/-- of the least of those with the shortest ring: the ring goes over greater ones -/
theorem far_up {j n : Nat} (hj : j < 8) (hn : farL t s j 8 j = n) (h : n ≠ 100) (hmin : ∀ k, k < 8 → n ≤ farL t s k 8 k) (hl : ∀ k, k < j → n < farL t s k 8 k) : clo (eS t s) (aL j (j + 1)) j (rgS t s j n) (n - 1) := by
  obtain ⟨h1, h8, hc⟩ := rg_clo hj hn h
  have hb := clo_lt (fun v hv => aL_lt hv) hj hc
  refine ⟨⟨hc.1.1, fun i hi => ⟨(hc.1.2 i hi).1, ?_⟩⟩, hc.2⟩
  have ha := aL_ok.1 (hc.1.2 i hi).2
  refine aL_ok.2 ⟨?_, ha.2⟩
  have ht := clo_turn hc (show i + 1 ≤ n - 1 by omega) hb
  have hf := clo_far (t := t) (s := s) (fun v hv => of_decide_eq_true hv) ha.2.1 (by omega) ht (n - 1) 0 (by omega)
  have h0 := ht.1.1
  simp only at h0 hf
  rw [h0] at hf
  have hne := ha.2.2
  apply Classical.byContradiction
  intro hlt
  have := hl (rgS t s j n (i + 1)) (by omega)
  omega
/-- who: the first with the shortest ring -/
def whoF (t s : St) : Nat → Option Nat
  | 0 => none
  | k + 1 => match whoF t s k with
    | none => if farL t s k 8 k < 100 then some k else none
    | some w => if farL t s k 8 k < farL t s w 8 w then some k else some w
theorem whoF_none : ∀ n, whoF t s n = none → ∀ k, k < n → 100 ≤ farL t s k 8 k := by
  intro n
  induction n with
  | zero => intro _ k hk; omega
  | succ n ih =>
    intro h k hk
    rw [whoF] at h
    cases hw : whoF t s n with
    | some w => rw [hw] at h; simp only at h; split at h <;> cases h
    | none =>
      rw [hw] at h; simp only at h
      split at h
      · cases h
      · by_cases hkn : k = n
        · rw [hkn]; omega
        · exact ih hw k (by omega)
theorem whoF_some {w : Nat} : ∀ n, whoF t s n = some w → w < n ∧ farL t s w 8 w < 100 ∧ (∀ k, k < n → farL t s w 8 w ≤ farL t s k 8 k) ∧ ∀ k, k < w → farL t s w 8 w < farL t s k 8 k := by
  intro n
  induction n generalizing w with
  | zero => intro h; cases h
  | succ n ih =>
    intro h
    rw [whoF] at h
    cases hw : whoF t s n with
    | none =>
      rw [hw] at h; simp only at h
      have hn := whoF_none n hw
      split at h
      · rename_i hlt
        cases h
        refine ⟨by omega, hlt, fun k hk => ?_, fun k hk => ?_⟩
        · by_cases hkn : k = n
          · rw [hkn]; exact Nat.le_refl _
          · have := hn k (by omega); omega
        · have := hn k hk; omega
      · cases h
    | some w0 =>
      rw [hw] at h; simp only at h
      obtain ⟨a, b, c, d⟩ := ih hw
      split at h
      · rename_i hlt
        cases h
        refine ⟨by omega, by omega, fun k hk => ?_, fun k hk => ?_⟩
        · by_cases hkn : k = n
          · rw [hkn]; exact Nat.le_refl _
          · have := c k (by omega); omega
        · have := c k hk; omega
      · rename_i hlt
        cases h
        refine ⟨by omega, b, fun k hk => ?_, d⟩
        by_cases hkn : k = n
        · rw [hkn]; omega
        · exact c k (by omega)
end
section
variable {P : Nat × (Nat → Int32)} {d : Nat} {t s : St} {T S L Z : nz_f2} {C : nz_f5}
/-- the ring of the latest run: how many, who -/
def rwN (t s : St) : Nat := match whoF t s 8 with
  | none => 0
  | some w => rgN t s w
def rwS (t s : St) : Nat → Nat := match whoF t s 8 with
  | none => fun _ => 0
  | some w => rgS t s w (rgN t s w)
def wfar (t s : St) (w : Option Nat) : Nat := match w with
  | none => 100
  | some w => farL t s w 8 w
theorem m_rings (hT : TV t) (hI : INV t s) (hd : 11 ≤ d) {Q : nz_h → Prop}
    (hq : ∀ L' Z', (∀ a b, a ≠ 80 → ¬ (a = 13 ∧ b = 32) → L' a b = L a b) → (whoF t s 8 = none → L' = L) → (whoF t s 8 ≠ none → L' 13 32 = n32 (rwN t s)) → (∀ i, i < rwN t s → L' 80 i = n32 (rwS t s i)) → Q (rowf t, rowf s, L', Z', C)) : ctV P d 157 [mO] (rowf t, rowf s, L, Z, C) Q := by
  obtain ⟨d, rfl⟩ := dge hd
  have hB := hI.B
  have hA : ∀ k, k < 8 → s k 1 = 1 → AV t s k := fun k hk h1 => hI.av hT hk (Or.inl h1)
  refine sm157 ?_
  have fl : ∀ k, farL t s k 8 k ≤ 100 := fun k => by have := farL_le t s k 8 k; omega
  have loop : ∀ n k, n + k = 8 → ∀ Z1, nzW P (d + 10) az_k157 7 [some mO, some (vi (n32 (wfar t s (whoF t s k)))), some (vi (o2i (whoF t s k))), some (vi (n32 k))] [] (rowf t, rowf s, L, Z1, C) (nz_RV Q) := by
    intro n
    induction n with
    | zero =>
      intro k hk Z1
      obtain rfl : k = 8 := by omega
      refine sg157_7 ?_
      cases hw : whoF t s 8 with
      | none =>
        simp (disch := omega) only [decide_eq_true_eq, decide_eq_false_iff_not, L32, az01, b2i_01, b2i_n0, b2i_n1, Bool.and_true, true_and, and_true, Classical.not_not, Bool.not_eq_true, Bool.not_eq_false, n32_mul, n32_add, n32_ix, n32_ib, n32_lt, n32_le, n32_inj, l_hb, l_hb0, l_shl, l_wo, l_eqm1, l_m1eq, o2i]
        refine ⟨fun _ => ⟨fun _ => hq L Z1 (fun _ _ _ _ => rfl) (fun _ => rfl) (fun h => absurd hw h) (fun i hi => ?_), fun hc => (hc trivial).elim⟩, fun hc => by omega⟩
        unfold rwN at hi; rw [hw] at hi; simp at hi
      | some w =>
        obtain ⟨w1, w2, w3, w4⟩ := whoF_some 8 hw
        simp (disch := omega) only [decide_eq_true_eq, decide_eq_false_iff_not, L32, az01, b2i_01, b2i_n0, b2i_n1, Bool.and_true, true_and, and_true, Classical.not_not, Bool.not_eq_true, Bool.not_eq_false, n32_mul, n32_add, n32_ix, n32_ib, n32_lt, n32_le, n32_inj, l_hb, l_hb0, l_shl, l_wo, l_eqm1, l_m1eq, o2i, m_ringOf80 hB hT, hA, implies_true, uL_row]
        refine ⟨fun _ => ⟨fun hc => hc.elim, fun _ => ?_⟩, fun hc => by omega⟩
        have e1 : rwN t s = rgN t s w := by unfold rwN; rw [hw]
        have e2 : rwS t s = rgS t s w (rgN t s w) := by unfold rwS; rw [hw]
        refine hq _ _ (fun a b h1 h2 => ?_) (fun h => by rw [hw] at h; cases h) (fun _ => ?_) (fun i hi => ?_)
        · unfold nz_u2; rw [if_neg h2]; unfold ringL; rw [if_neg (fun hh => h1 hh.1)]
        · rw [u2_eq, e1]
        · rw [e1] at hi
          rw [u2_ne (by decide), e2]; unfold ringL; rw [if_pos ⟨rfl, by omega, by omega⟩]; rfl
    | succ n ih =>
      intro k hk Z1
      have hk8 : k < 8 := by omega
      have h2 := ih (k + 1) (by omega)
      have e : ∀ Z, zf Z (farL t s k 8) 90 k = n32 (farL t s k 8 k) := fun Z => by unfold zf; rw [if_pos ⟨rfl, hk8⟩]
      have flk := fl k
      have hwf : wfar t s (whoF t s k) ≤ 100 := by
        unfold wfar
        cases whoF t s k with
        | none => exact Nat.le_refl _
        | some w => exact fl w
      refine sg157_7 ?_
      simp (disch := omega) only [decide_eq_true_eq, decide_eq_false_iff_not, L32, az01, b2i_01, b2i_n0, b2i_n1, Bool.and_true, true_and, and_true, Classical.not_not, Bool.not_eq_true, Bool.not_eq_false, n32_mul, n32_add, n32_ix, n32_ib, n32_lt, n32_le, n32_inj, l_hb, l_hb0, l_shl, l_wo, l_eqm1, l_m1eq, m_measures hB hT, hA, implies_true, e]
      refine ⟨fun hc => by omega, fun _ => ⟨hk8, fun hlt => ⟨hk8, ?_⟩, fun hlt => ?_⟩⟩
      · have e3 : whoF t s (k + 1) = some k := by
          rw [whoF]
          cases hw : whoF t s k with
          | none => rw [hw] at hlt; exact if_pos hlt
          | some w => rw [hw] at hlt; exact if_pos hlt
        rw [e3] at h2; exact h2 _
      · have e3 : whoF t s (k + 1) = whoF t s k := by
          rw [whoF]
          cases hw : whoF t s k with
          | none => rw [hw] at hlt; exact if_neg hlt
          | some w => rw [hw] at hlt; exact if_neg hlt
        rw [e3] at h2; exact h2 _
  exact loop 8 0 rfl Z
def Wst (kd o' x : Nat) : Prop := Wway 0 kd o' x ∨ (o' = 0 ∧ ((kd = 0 ∧ x = 10) ∨ kd = 21))
/-- what the system has of rings among the first jobs -/
def SI3 (t s : St) (C : nz_f5) (n : Nat) : Prop :=
  (C 0 0 0 0 10 = n32 0 ∧ ∀ j, j < n → ∀ w k, ¬ clo (eS t s) (aL j (j + 1)) j w k) ∨
  ∃ j w k, j < n ∧ k < 8 ∧ clo (eS t s) (aL j (j + 1)) j w k ∧ (∀ w' k', clo (eS t s) (aL j (j + 1)) j w' k' → vl w k ≤ vl w' k') ∧ C 0 0 0 0 10 = n32 (k + 1) ∧ (∀ i, i ≤ k → C 21 0 0 0 i = n32 (w i)) ∧
    (∀ j' w' k', j' < n → k' < 8 → clo (eS t s) (aL j' (j' + 1)) j' w' k' → k ≤ k') ∧ (∀ j' w' k', j' < j → k' < 8 → clo (eS t s) (aL j' (j' + 1)) j' w' k' → k < k')
theorem vl_len {w w' : Nat → Nat} {k k' : Nat} (h : vl w k ≤ vl w' k') (hw : ∀ i, 1 ≤ i → i ≤ k → w i < 8) (hw' : ∀ i, 1 ≤ i → i ≤ k' → w' i < 8) : k ≤ k' := by
  have a := vl_pow k hw
  have b := vl_pow k' hw'
  apply Classical.byContradiction
  intro hc
  have : 8 ^ (k' + 1) ≤ 8 ^ k := Nat.pow_le_pow_right (by decide) (by omega)
  rw [Nat.pow_succ] at this
  omega
theorem SI3.eq (h : SI3 t s C 8) : C 0 0 0 0 10 = n32 (rwN t s) ∧ ∀ i, i < rwN t s → C 21 0 0 0 i = n32 (rwS t s i) := by
  rcases h with ⟨h0, hno⟩ | ⟨j, w, k, hj, hk, hc, hmin, h10, h21, hle, hlt⟩
  · cases hw : whoF t s 8 with
    | none =>
      have e1 : rwN t s = 0 := by unfold rwN; rw [hw]
      rw [e1]; exact ⟨h0, fun i hi => by omega⟩
    | some v =>
      obtain ⟨w1, w2, w3, w4⟩ := whoF_some 8 hw
      exact absurd (far_up w1 rfl (by omega) w3 w4) (hno v w1 _ _)
  · have hj0 := clo_far (t := t) (s := s) (fun v hv => aL_lt hv) hj hk hc k 0 (by omega)
    rw [hc.1.1] at hj0
    cases hw : whoF t s 8 with
    | none => have := whoF_none 8 hw j hj; omega
    | some v =>
      obtain ⟨w1, w2, w3, w4⟩ := whoF_some 8 hw
      have hup := far_up w1 rfl (by omega) w3 w4
      obtain ⟨n1, n8, _⟩ := rg_clo w1 rfl (show farL t s v 8 v ≠ 100 by omega)
      have h1 := hle v _ _ w1 (by omega) hup
      have h2 := w3 j hj
      have hvj : v = j := by
        rcases Nat.lt_trichotomy v j with h | h | h
        · have := hlt v _ _ h (by omega) hup; omega
        · exact h
        · have := w4 j h; omega
      subst hvj
      have en : rgN t s v = farL t s v 8 v := by unfold rgN; rw [if_neg (by omega)]
      have e1 : rwN t s = k + 1 := by unfold rwN; rw [hw]; simp only; rw [en]; omega
      have e2 : rwS t s = rgS t s v (farL t s v 8 v) := by unfold rwS; rw [hw]; simp only; rw [en]
      have v1 := hmin _ _ hup
      have v2 := (rg_least (t := t) (s := s) (fun v hv => aL_lt hv) w1 hk hc).2
      have b1 := clo_lt (fun v hv => aL_lt hv) w1 hc
      have b2 := clo_lt (fun v hv => aL_lt hv) w1 hup
      have e3 := vl_inj k (farL t s v 8 v - 1) (fun i _ hi => b1 i hi) (fun i _ hi => b2 i hi) (Nat.le_antisymm v1 v2)
      rw [e1, e2]
      refine ⟨h10, fun i hi => ?_⟩
      rw [h21 i (by omega)]
      by_cases h0 : i = 0
      · rw [h0, hc.1.1, rgS]
      · rw [e3.2 i (by omega) (by omega)]
theorem SI3.mono {n : Nat} (h : SI3 t s C n) (hn : ∀ w k, k < 8 → clo (eS t s) (aL n (n + 1)) n w k → C 0 0 0 0 10 ≠ n32 0 ∧ ∀ k0, k0 < 8 → C 0 0 0 0 10 = n32 (k0 + 1) → k0 ≤ k) (hno : C 0 0 0 0 10 = n32 0 → ∀ w k, ¬ clo (eS t s) (aL n (n + 1)) n w k) : SI3 t s C (n + 1) := by
  rcases h with ⟨h0, h1⟩ | ⟨j, w, k, hj, hk, hc, hmin, h10, h21, hle, hlt⟩
  · refine Or.inl ⟨h0, fun j hj => ?_⟩
    by_cases hjn : j = n
    · rw [hjn]; exact hno h0
    · exact h1 j (by omega)
  · refine Or.inr ⟨j, w, k, by omega, hk, hc, hmin, h10, h21, fun j' w' k' hj' hk' hc' => ?_, hlt⟩
    by_cases hjn : j' = n
    · rw [hjn] at hc'; exact (hn w' k' hk' hc').2 k hk h10
    · exact hle j' w' k' (by omega) hk' hc'
theorem c_stuck (hT : TV t) (hI : INV t s) (hR : RC 0 t s C) (hd : 8 ≤ d) {Q : nz_h → Prop}
    (hq : ∀ C', Fr Wst C C' → C' 0 0 0 0 10 = n32 (rwN t s) → (∀ i, i < rwN t s → C' 21 0 0 0 i = n32 (rwS t s i)) → Q (T, S, L, Z, C')) : ctV P d 17 [vr (0, 0, 0, 0)] (T, S, L, Z, C) Q := by
  obtain ⟨d, rfl⟩ := dge hd
  refine sm17 ?_
  have rc : ∀ C1, Fr Wst C C1 → RC 0 t s C1 := fun C1 hf => hR.off (fun _ _ => hf _ _ _ _ _ (by unfold Wst Wway; omega)) (fun _ _ => hf _ _ _ _ _ (by unfold Wst Wway; omega)) (fun _ _ _ => hf _ _ _ _ _ (by unfold Wst Wway; omega)) (hf _ _ _ _ _ (by unfold Wst Wway; omega)) (fun _ _ => hf _ _ _ _ _ (by unfold Wst Wway; omega)) (fun _ => hf _ _ _ _ _ (by unfold Wst Wway; omega)) (fun _ _ => hf _ _ _ _ _ (by unfold Wst Wway; omega))
  have loop : ∀ n j, n + j = 8 → ∀ C1, Fr Wst C C1 → SI3 t s C1 j → ∀ l2, nzW P (d + 7) az_k17 7 [some (vr (0, 0, 0, 0)), some (vi (n32 j)), l2] [] (T, S, L, Z, C1) (nz_RV Q) := by
    intro n
    induction n with
    | zero =>
      intro j hj C1 hF hS l2
      obtain rfl : j = 8 := by omega
      refine sg17_7 ?_
      simp (disch := omega) only [decide_eq_true_eq, decide_eq_false_iff_not, L32, az01, b2i_01, b2i_n0, b2i_n1, Bool.and_true, true_and, and_true, Classical.not_not, Bool.not_eq_true, Bool.not_eq_false, n32_mul, n32_add, n32_ix, n32_ib, n32_lt, n32_le, n32_inj, l_hb, l_hb0, l_shl, l_wo, l_eqm1, l_m1eq]
      exact ⟨fun _ => hq C1 hF hS.eq.1 hS.eq.2, fun hc => by omega⟩
    | succ n ih =>
      intro j hj C1 hF hS l2
      have hj8 : j < 8 := by omega
      refine sg17_7 ?_
      simp (disch := omega) only [decide_eq_true_eq, decide_eq_false_iff_not, L32, az01, b2i_01, b2i_n0, b2i_n1, Bool.and_true, true_and, and_true, Classical.not_not, Bool.not_eq_true, Bool.not_eq_false, n32_mul, n32_add, n32_ix, n32_ib, n32_lt, n32_le, n32_inj, l_hb, l_hb0, l_shl, l_wo, l_eqm1, l_m1eq]
      refine ⟨fun hc => by omega, fun _ => ?_⟩
      refine c_way hT hI (rc C1 hF) (by omega) hj8 (by omega) (fun hno C2 hF2 h9 => ?_) (fun w k hk hcl hmin C2 hF2 h9 h32 => ?_)
      · have hS2 : SI3 t s C2 (j + 1) := by
          have e0 : C2 0 0 0 0 10 = C1 0 0 0 0 10 := hF2 _ _ _ _ _ (by unfold Wway; omega)
          have e1 : ∀ i, C2 21 0 0 0 i = C1 21 0 0 0 i := fun i => hF2 _ _ _ _ _ (by unfold Wway; omega)
          have hS' : SI3 t s C2 j := by unfold SI3 at hS ⊢; simp only [e0, e1]; exact hS
          exact hS'.mono (fun w k _ hc => absurd hc (hno w k)) (fun _ => hno)
        refine ⟨fun _ => ?_, fun hc => (hc rfl).elim⟩
        exact ih (j + 1) (by omega) C2 (hF.trans (hF2.mono (fun _ _ _ => Or.inl))) hS2 _
      · have e0 : C2 0 0 0 0 10 = C1 0 0 0 0 10 := hF2 _ _ _ _ _ (by unfold Wway; omega)
        have e1 : ∀ i, C2 21 0 0 0 i = C1 21 0 0 0 i := fun i => hF2 _ _ _ _ _ (by unfold Wway; omega)
        have hS' : SI3 t s C2 j := by unfold SI3 at hS ⊢; simp only [e0, e1]; exact hS
        have hF3 : Fr Wst C C2 := hF.trans (hF2.mono (fun _ _ _ => Or.inl))
        have b1 := clo_lt (fun v hv => aL_lt hv) hj8 hcl
        have kle : ∀ w' k', clo (eS t s) (aL j (j + 1)) j w' k' → k ≤ k' := fun w' k' hc' => vl_len (hmin w' k' hc') (fun i _ hi => b1 i hi) (fun i _ hi => clo_lt (fun v hv => aL_lt hv) hj8 hc' i hi)
        have take : (C2 0 0 0 0 10 = n32 0 ∨ ∃ k0, k0 < 8 ∧ C2 0 0 0 0 10 = n32 (k0 + 1) ∧ k < k0) → nzW P (d + 7) az_k17 64 [some (vr (0, 0, 0, 0)), some (vi (n32 j)), some (vi (n32 0))] [] (T, S, L, Z, nz_u5 C2 0 0 0 0 10 (C2 1 0 0 0 9)) (nz_RV Q) := fun hcase => by
          have copy : ∀ r i, r + i = k + 1 → ∀ C3, Fr Wst C C3 → C3 0 0 0 0 10 = n32 (k + 1) → (∀ i, i ≤ k → C3 32 0 0 0 i = n32 (w i)) → (∀ x, x < i → C3 21 0 0 0 x = n32 (w x)) → nzW P (d + 7) az_k17 64 [some (vr (0, 0, 0, 0)), some (vi (n32 j)), some (vi (n32 i))] [] (T, S, L, Z, C3) (nz_RV Q) := by
            intro r
            induction r with
            | zero =>
              intro i hi C3 hF3 g10 g32 g21
              obtain rfl : i = k + 1 := by omega
              refine sg17_64 ?_
              simp (disch := omega) only [decide_eq_true_eq, decide_eq_false_iff_not, L32, az01, b2i_01, b2i_n0, b2i_n1, Bool.and_true, true_and, and_true, Classical.not_not, Bool.not_eq_true, Bool.not_eq_false, n32_mul, n32_add, n32_ix, n32_ib, n32_lt, n32_le, n32_inj, l_hb, l_hb0, l_shl, l_wo, l_eqm1, l_m1eq, g10]
              refine ⟨fun _ => ?_, fun hc => by omega⟩
              refine ih (j + 1) (by omega) C3 hF3 (Or.inr ⟨j, w, k, by omega, hk, hcl, hmin, g10, fun x hx => g21 x (by omega), fun j' w' k' hj' hk' hc' => ?_, fun j' w' k' hj' hk' hc' => ?_⟩) _
              · by_cases hjj : j' = j
                · rw [hjj] at hc'; exact kle w' k' hc'
                · rcases hS' with ⟨z0, z1⟩ | ⟨j0, w0, k0, y1, y2, y3, y4, y5, y6, y7, y8⟩
                  · exact absurd hc' (z1 j' (by omega) w' k')
                  · have := y7 j' w' k' (by omega) hk' hc'
                    rcases hcase with hc0 | ⟨k1, x1, x2, x3⟩
                    · rw [y5, n32_inj (by omega) (by omega)] at hc0; omega
                    · rw [y5, n32_inj (by omega) (by omega)] at x2; omega
              · rcases hS' with ⟨z0, z1⟩ | ⟨j0, w0, k0, y1, y2, y3, y4, y5, y6, y7, y8⟩
                · exact absurd hc' (z1 j' (by omega) w' k')
                · have := y7 j' w' k' (by omega) hk' hc'
                  rcases hcase with hc0 | ⟨k1, x1, x2, x3⟩
                  · rw [y5, n32_inj (by omega) (by omega)] at hc0; omega
                  · rw [y5, n32_inj (by omega) (by omega)] at x2; omega
            | succ r ihr =>
              intro i hi C3 hF3 g10 g32 g21
              refine sg17_64 ?_
              simp (disch := omega) only [decide_eq_true_eq, decide_eq_false_iff_not, L32, az01, b2i_01, b2i_n0, b2i_n1, Bool.and_true, true_and, and_true, Classical.not_not, Bool.not_eq_true, Bool.not_eq_false, n32_mul, n32_add, n32_ix, n32_ib, n32_lt, n32_le, n32_inj, l_hb, l_hb0, l_shl, l_wo, l_eqm1, l_m1eq, g10, uC_row]
              refine ⟨fun hc => by omega, fun _ => ⟨by omega, by omega, ?_⟩⟩
              refine ihr (i + 1) (by omega) _ (hF3.up (by unfold Wst; omega)) (by rw [u5_k (by decide)]; exact g10) (fun x hx => by rw [u5_k (by decide)]; exact g32 x hx) (fun x hx => ?_)
              by_cases hxi : x = i
              · rw [hxi, u5_eq]; exact g32 i (by omega)
              · rw [u5_x hxi]; exact g21 x (by omega)
          refine copy (k + 1) 0 (by omega) _ (hF3.up (by unfold Wst; omega)) (by rw [u5_eq]; exact h9) (fun i hi => by rw [u5_k (by decide)]; exact h32 i hi) (fun x hx => by omega)
        have skip : ∀ k0, k0 < 8 → C2 0 0 0 0 10 = n32 (k0 + 1) → k0 ≤ k → ∀ l2, nzW P (d + 7) az_k17 7 [some (vr (0, 0, 0, 0)), some (vi (n32 (j + 1))), l2] [] (T, S, L, Z, C2) (nz_RV Q) := fun k0 h1 h2 h3 l2 => by
          refine ih (j + 1) (by omega) C2 hF3 (hS'.mono (fun w' k' hk' hc' => ⟨?_, fun k1 hk1 he => ?_⟩) (fun h0 => ?_)) _
          · rw [h2]; intro he; rw [n32_inj (by omega) (by omega)] at he; omega
          · rw [h2, n32_inj (by omega) (by omega)] at he
            have := kle w' k' hc'; omega
          · rw [h2, n32_inj (by omega) (by omega)] at h0; omega
        refine ⟨fun hc => ?_, fun _ => ?_⟩
        · simp (disch := omega) only [n32_mul, n32_add, n32_ix, n32_ib, n32_lt, n32_le, n32_inj, l_hb, l_hb0, l_shl, l_wo, l_eqm1, l_m1eq] at hc; omega
        · have hcase : C2 0 0 0 0 10 = n32 0 ∨ ∃ k0, k0 < 8 ∧ C2 0 0 0 0 10 = n32 (k0 + 1) := by
            rcases hS' with ⟨z0, _⟩ | ⟨j0, w0, k0, y1, y2, y3, y4, y5, _⟩
            · exact Or.inl z0
            · exact Or.inr ⟨k0, y2, y5⟩
          rcases hcase with h0 | ⟨k0, hk0, hk1⟩
          · have tk := take (Or.inl h0)
            simp (disch := omega) only [decide_eq_true_eq, decide_eq_false_iff_not, L32, az01, b2i_01, b2i_n0, b2i_n1, Bool.and_true, true_and, and_true, Classical.not_not, Bool.not_eq_true, Bool.not_eq_false, n32_mul, n32_add, n32_ix, n32_ib, n32_lt, n32_le, n32_inj, l_hb, l_hb0, l_shl, l_wo, l_eqm1, l_m1eq, uC_row, h0]
            exact ⟨fun _ => tk, fun hc => by omega⟩
          · simp (disch := omega) only [decide_eq_true_eq, decide_eq_false_iff_not, L32, az01, b2i_01, b2i_n0, b2i_n1, Bool.and_true, true_and, and_true, Classical.not_not, Bool.not_eq_true, Bool.not_eq_false, n32_mul, n32_add, n32_ix, n32_ib, n32_lt, n32_le, n32_inj, l_hb, l_hb0, l_shl, l_wo, l_eqm1, l_m1eq, uC_row, hk1, h9]
            refine ⟨fun hc => by omega, fun _ => ⟨fun hlt => ?_, fun hle => skip k0 hk0 hk1 (by omega) _⟩⟩
            have tk := take (Or.inr ⟨k0, hk0, hk1, by omega⟩)
            rw [h9] at tk; exact tk
  simp only [decide_eq_true_eq, decide_eq_false_iff_not, L32, az01, b2i_01, b2i_n0, b2i_n1, Bool.and_true, true_and, and_true, Classical.not_not, Bool.not_eq_true, Bool.not_eq_false, uC_row]
  refine loop 8 0 rfl _ (Fr.up (Fr.rfl' C) (by unfold Wst; omega)) (Or.inl ⟨u5_eq, fun j hj => by omega⟩) _
end
