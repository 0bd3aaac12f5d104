/-! the system's manners: who is refused -/
theorem nm1_lt {a : Nat} (h : a < 2147483648) : nm1 < n32 a := by
  rw [Int32.lt_iff_toInt_lt, n32_toInt h]
  exact Int.lt_of_lt_of_le (show nm1.toInt < 0 by decide) (Int.natCast_nonneg a)
/-- the highest rank of those that p holds of -/
def hiR (t : St) (p : Nat → Bool) (m : Nat) (x : Int32) : Prop := (x = nm1 ∧ ∀ h, h < m → p h = false) ∨ ∃ r, r < 100 ∧ x = n32 r ∧ (∃ h, h < m ∧ p h = true ∧ t 55 h = r) ∧ ∀ h, h < m → p h = true → t 55 h ≤ r
def loR (t : St) (p : Nat → Bool) (m : Nat) (x : Int32) : Prop := ∃ r, r ≤ 100 ∧ x = n32 r ∧ (r < 100 → ∃ h, h < m ∧ p h = true ∧ t 55 h = r) ∧ ∀ h, h < m → p h = true → r ≤ t 55 h
theorem hiR_F {t : St} {p : Nat → Bool} {m : Nat} {x : Int32} (h : hiR t p m x) (hp : p m = false) : hiR t p (m + 1) x := by
  rcases h with ⟨h1, h2⟩ | ⟨r, h1, h2, ⟨y, h3, h4⟩, h5⟩
  · exact Or.inl ⟨h1, fun k hk => if e : k = m then by rw [e]; exact hp else h2 k (by omega)⟩
  · exact Or.inr ⟨r, h1, h2, ⟨y, by omega, h4⟩, fun k hk hpk => if e : k = m then (by rw [e, hp] at hpk; cases hpk) else h5 k (by omega) hpk⟩
theorem hiR_T {t : St} {p : Nat → Bool} {m : Nat} {x : Int32} (ht : t 55 m < 100) (h : hiR t p m x) (hp : p m = true) : hiR t p (m + 1) (if x < n32 (t 55 m) then n32 (t 55 m) else x) := by
  rcases h with ⟨h1, h2⟩ | ⟨r, h1, h2, ⟨y, h3, h4⟩, h5⟩
  · rw [h1, if_pos (nm1_lt (by omega))]
    exact Or.inr ⟨t 55 m, ht, rfl, ⟨m, by omega, hp, rfl⟩, fun k hk hpk => if e : k = m then by rw [e]; exact Nat.le_refl _ else (by rw [h2 k (by omega)] at hpk; cases hpk)⟩
  · rw [h2]
    have hlt : (n32 r < n32 (t 55 m)) = (r < t 55 m) := n32_lt (by omega) (by omega)
    by_cases hc : r < t 55 m
    · rw [if_pos (by rw [hlt]; exact hc)]
      exact Or.inr ⟨t 55 m, ht, rfl, ⟨m, by omega, hp, rfl⟩, fun k hk hpk => if e : k = m then by rw [e]; exact Nat.le_refl _ else by have := h5 k (by omega) hpk; omega⟩
    · rw [if_neg (by rw [hlt]; exact hc)]
      exact Or.inr ⟨r, h1, rfl, ⟨y, by omega, h4⟩, fun k hk hpk => if e : k = m then by rw [e]; omega else h5 k (by omega) hpk⟩
theorem loR_F {t : St} {p : Nat → Bool} {m : Nat} {x : Int32} (h : loR t p m x) (hp : p m = false) : loR t p (m + 1) x := by
  obtain ⟨r, h1, h2, h3, h5⟩ := h
  exact ⟨r, h1, h2, fun hr => by obtain ⟨y, a, b⟩ := h3 hr; exact ⟨y, by omega, b⟩, fun k hk hpk => if e : k = m then (by rw [e, hp] at hpk; cases hpk) else h5 k (by omega) hpk⟩
theorem loR_T {t : St} {p : Nat → Bool} {m : Nat} {x : Int32} (ht : t 55 m < 100) (h : loR t p m x) (hp : p m = true) : loR t p (m + 1) (if n32 (t 55 m) < x then n32 (t 55 m) else x) := by
  obtain ⟨r, h1, h2, h3, h5⟩ := h
  rw [h2]
  have hlt : (n32 (t 55 m) < n32 r) = (t 55 m < r) := n32_lt (by omega) (by omega)
  by_cases hc : t 55 m < r
  · rw [if_pos (by rw [hlt]; exact hc)]
    exact ⟨t 55 m, by omega, rfl, fun _ => ⟨m, by omega, hp, rfl⟩, fun k hk hpk => if e : k = m then by rw [e]; exact Nat.le_refl _ else by have := h5 k (by omega) hpk; omega⟩
  · rw [if_neg (by rw [hlt]; exact hc)]
    exact ⟨r, h1, rfl, fun hr => by obtain ⟨y, a, b⟩ := h3 hr; exact ⟨y, by omega, b⟩, fun k hk hpk => if e : k = m then by rw [e]; omega else h5 k (by omega) hpk⟩
theorem rank_lt {t : St} {p q : Nat → Bool} {x y : Int32} (hp : hiR t p 10 x) (hq : loR t q 10 y) : (x < y) = (anyB 10 (fun m => q m && anyB 10 (fun h => p h && decide (t 55 m ≤ t 55 h))) = false) := by
  obtain ⟨r, h1, h2, h3, h5⟩ := hq
  apply propext
  rw [h2, ← Bool.not_eq_true, anyB_iff]
  rcases hp with ⟨g1, g2⟩ | ⟨r', g1, g2, ⟨h', g3, g4, g6⟩, g5⟩
  · rw [g1]
    refine ⟨fun _ => ?_, fun _ => nm1_lt (by omega)⟩
    rintro ⟨k, _, hk⟩
    rw [Bool.and_eq_true, anyB_iff] at hk
    obtain ⟨_, h, hh, hk⟩ := hk
    rw [g2 h hh] at hk; cases hk
  · rw [g2, n32_lt (by omega) (by omega)]
    constructor
    · rintro hlt ⟨k, hk10, hk⟩
      rw [Bool.and_eq_true, anyB_iff] at hk
      obtain ⟨hk, h, hh, hk2⟩ := hk
      rw [Bool.and_eq_true, decide_eq_true_eq] at hk2
      have a1 := h5 k hk10 hk
      have a2 := g5 h hh hk2.1
      omega
    · intro hn
      apply Classical.byContradiction
      intro hlt
      obtain ⟨k, a1, a2, a3⟩ := h3 (by omega)
      refine hn ⟨k, a1, ?_⟩
      rw [Bool.and_eq_true, anyB_iff]
      exact ⟨a2, h', g3, by rw [g4, Bool.true_and, decide_eq_true_eq]; omega⟩
section
variable {P : Nat × (Nat → Int32)} {d o : Nat} {t s : St} {T S L Z : nz_f2} {C : nz_f5} {j : Nat}
theorem RC.ask (hT : TV t) (hI : INV t s) (hR : RC o t s C) (hj : j < 8) (h1 : s j 1 = 1) : C 8 o j 0 12 = b2i (decide (0 < s j 4)) ∧ C 8 o j 0 5 = n32 (s j 0) ∧ C 9 o j (s j 0) 0 = n32 (opS t s j) ∧ C 8 o j 0 8 = n32 (askS t s j) ∧ s j 0 < 20 ∧ askS t s j < 1024 ∧ s j 0 < t 57 j := by
  obtain ⟨e6, e7, e35, e12, e5, e11, e10, e0⟩ := hR.2.1 j hj
  have hA := hI.av hT hj (Or.inl h1)
  have hp := (hI.J hj).1.2.2.1 (Or.inl h1)
  refine ⟨?_, e5 (Or.inl h1), (hR.1.2.2.1 j (s j 0) hj hp).1, (e11 h1).2.1, hA.1, askS_lt (hA.askO hT), hp⟩
  rw [(e12 (by omega)).1, decide_eq_true h1, Bool.true_and]
theorem c_ref1 {a b c : Nat} (hT : TV t) (hI : INV t s) (hR : RC o t s C) (hd : 5 ≤ d) (hj : j < 8) (h1 : s j 1 = 1) {Q : Int32 → nz_h → Prop} (hq : Q (b2i (plainS t s j && anyB 10 (rankB t s j))) (T, S, L, Z, C)) : ctI P d 67 [vr (4, a, b, c), sO o, jO o j] (T, S, L, Z, C) Q := by
  obtain ⟨d, rfl⟩ := dge hd
  have hB := hI.B
  obtain ⟨e12, e5, eop, e8, hp, hask, hp2⟩ := hR.ask hT hI hj h1
  have hop : opS t s j < 10 := hT.2.2.2.1 _
  have had := hadS_lt s j
  refine sm67 ?_
  have loop : ∀ n m, n + m = 10 → ∀ x y, hiR t (hasS s j) m x → loR t (askS t s j).testBit m y → plainS t s j = true → ∀ l0, nzW P (d + 4) az_k67 35 [l0, some (sO o), some (jO o j), some (vi x), some (vi y), some (vi (n32 (hadS s j))), some (vi (n32 m))] [] (T, S, L, Z, C) (nz_RI Q) := by
    intro n
    induction n with
    | zero =>
      intro m hm x y hx hy hpl l0
      obtain rfl : m = 10 := by omega
      refine sg67_35 ?_
      have := rank_lt hx hy
      simp (disch := omega) only [decide_eq_true_eq, decide_eq_false_iff_not, L32, az01, b2i_01, b2i_n0, b2i_n1, Bool.and_true, true_and, and_true, Classical.not_not, Bool.not_eq_true, Bool.not_eq_false, n32_mul, n32_add, n32_ix, n32_ib, n32_lt, n32_le, n32_inj, l_hb, l_hb0, l_shl, l_wo, l_eqm1, l_m1eq, this]
      refine ⟨fun _ => ⟨fun hn => ans0 hq ?_, fun hn => ans1 hq ?_⟩, fun hc => by omega⟩
      · rw [hpl, Bool.true_and]; exact hn
      · rw [hpl, Bool.true_and]; exact hn
    | succ n ih =>
      intro m hm x y hx hy hpl l0
      have hm10 : m < 10 := by omega
      have hrk := hT.1 m
      have e7 := (hR.1.1 m hm10).1
      have hbit : (hadS s j).testBit m = hasS s j m := by unfold hadS; rw [bits_bit, decide_eq_true hm10, Bool.true_and]
      refine sg67_35 ?_
      simp (disch := omega) only [decide_eq_true_eq, decide_eq_false_iff_not, L32, az01, b2i_01, b2i_n0, b2i_n1, Bool.and_true, true_and, and_true, Classical.not_not, Bool.not_eq_true, Bool.not_eq_false, n32_mul, n32_add, n32_ix, n32_ib, n32_lt, n32_le, n32_inj, l_hb, l_hb0, l_shl, l_wo, l_eqm1, l_m1eq, c_has, e8, e7, hbit]
      refine ⟨fun hc => by omega, fun _ => ⟨fun hh => ⟨fun ha => ?_, fun ha => ⟨hm10, ?_⟩⟩, fun hh => ⟨hm10, fun ha => ?_, fun ha => ⟨hm10, ?_⟩⟩⟩⟩
      · exact ih (m + 1) (by omega) _ _ (hiR_F hx hh) (loR_F hy ha) hpl _
      · exact ih (m + 1) (by omega) _ _ (hiR_F hx hh) (loR_T hrk hy ha) hpl _
      · exact ih (m + 1) (by omega) _ _ (hiR_T hrk hx hh) (loR_F hy ha) hpl _
      · exact ih (m + 1) (by omega) _ _ (hiR_T hrk hx hh) (loR_T hrk hy ha) hpl _
  simp (disch := omega) only [decide_eq_true_eq, decide_eq_false_iff_not, L32, az01, b2i_01, b2i_n0, b2i_n1, Bool.and_true, true_and, and_true, Classical.not_not, Bool.not_eq_true, Bool.not_eq_false, n32_mul, n32_add, n32_ix, n32_ib, n32_lt, n32_le, n32_inj, l_hb, l_hb0, l_shl, l_wo, l_eqm1, l_m1eq, e12, e5, eop]
  have hz : ∀ {b : Bool}, plainS t s j = false → b2i (plainS t s j && b) = n32 0 := fun h => by rw [h]; rfl
  refine ⟨fun h4 => ?_, fun h4 => ⟨hp, fun ho => ?_, fun ho => ?_⟩⟩
  · rw [hz (by unfold plainS; rw [decide_eq_false (by omega)]; rfl)] at hq; exact hq
  · rw [c_having (h := (T, S, L, Z, C)) hI hR (by omega) hj]
    refine loop 10 0 rfl _ _ (Or.inl ⟨rfl, fun h hh => by omega⟩) ⟨100, Nat.le_refl _, rfl, fun h => by omega, fun h hh => by omega⟩ ?_ _
    unfold plainS; rw [decide_eq_true (by omega), decide_eq_false ho]; rfl
  · rw [hz (by unfold plainS; rw [decide_eq_true ho, Bool.not_true, Bool.and_false])] at hq; exact hq
theorem c_ref3 {a b c : Nat} (hT : TV t) (hI : INV t s) (hR : RC o t s C) (hd : 5 ≤ d) (hj : j < 8) (h1 : s j 1 = 1) {Q : Int32 → nz_h → Prop} (hq : Q (b2i (plainS t s j && !decide (nwo (askS t s j) (t 62 j) = 0))) (T, S, L, Z, C)) : ctI P d 72 [vr (6, a, b, c), sO o, jO o j] (T, S, L, Z, C) Q := by
  obtain ⟨d, rfl⟩ := dge hd
  have hB := hI.B
  obtain ⟨e12, e5, eop, e8, hp, hask, hp2⟩ := hR.ask hT hI hj h1
  have hop : opS t s j < 10 := hT.2.2.2.1 _
  have e4 := (hR.1.2.1 j hj).2.2.2
  have hcl := hT.2.2.2.2.2.2.2.2.1 j
  have hnw := nwo_le (askS t s j) (t 62 j)
  refine sm72 ?_
  simp (disch := omega) only [decide_eq_true_eq, decide_eq_false_iff_not, L32, az01, b2i_01, b2i_n0, b2i_n1, Bool.and_true, true_and, and_true, Classical.not_not, Bool.not_eq_true, Bool.not_eq_false, n32_mul, n32_add, n32_ix, n32_ib, n32_lt, n32_le, n32_inj, l_hb, l_hb0, l_shl, l_wo, l_eqm1, l_m1eq, e12, e5, eop, e8, e4]
  refine ⟨fun h4 => ans0 hq ?_, fun h4 => ⟨hp, fun ho => ans0 hq ?_, fun ho => ⟨fun hc => ans0 hq ?_, fun hc => ans1 hq ?_⟩⟩⟩
  · unfold plainS; rw [decide_eq_false (by omega)]; rfl
  · unfold plainS; rw [decide_eq_true ho, Bool.not_true, Bool.and_false]; rfl
  · rw [decide_eq_true hc, Bool.not_true, Bool.and_false]
  · unfold plainS; rw [decide_eq_false hc, decide_eq_false ho, decide_eq_true (by omega)]; rfl
theorem c_way0 {f : Nat} (hT : TV t) (hI : INV t s) (hR : RC o t s C) (hd : 6 ≤ d) (hf : f < 8) {Q : Int32 → nz_h → Prop}
    (hq : ∀ C', Fr (Wway o) C C' → C' 1 o 0 0 9 = n32 (rgN t s f) → (∀ i, i < rgN t s f → C' 32 o 0 0 i = n32 (rgS t s f (rgN t s f) i)) → Q (b2i (decide (0 < rgN t s f))) (T, S, L, Z, C')) : ctI P d 40 [sO o, vi (n32 f), vi (n32 0)] (T, S, L, Z, C) Q := by
  refine c_way hT hI hR hd hf (by omega) (fun hno C' hF h9 => ?_) (fun w k hk hcl hmin C' hF h9 h32 => ?_)
  · have e := ring_no hf hno
    have := hq C' hF (by rw [e]; exact h9) (fun i hi => by omega)
    rw [e] at this; exact this
  · have e := ring_eq hf hk hcl hmin
    have := hq C' hF (by rw [e.1]; exact h9) (fun i hi => by rw [e.1, e.2 i (by omega)]; exact h32 i (by omega))
    rw [e.1, decide_eq_true (by omega)] at this; exact this
theorem far_lt {j : Nat} : decide (0 < rgN t s j) = decide (farL t s j 8 j < 100) := by
  unfold rgN
  have := farL_le t s j 8 j
  by_cases h : farL t s j 8 j = 100
  · rw [if_pos h, h]; rfl
  · rw [if_neg h, decide_eq_true (by omega), decide_eq_true (by omega)]
theorem c_ref2 {a b c : Nat} (hT : TV t) (hI : INV t s) (hR : RC o t s C) (hd : 7 ≤ d) (hj : j < 8) {Q : Int32 → nz_h → Prop} (hq : ∀ C', Fr (Wway o) C C' → C' 1 o 0 0 9 = n32 (rgN t s j) → (∀ i, i < rgN t s j → C' 32 o 0 0 i = n32 (rgS t s j (rgN t s j) i)) → Q (b2i (decide (farL t s j 8 j < 100))) (T, S, L, Z, C')) : ctI P d 69 [vr (5, a, b, c), sO o, jO o j] (T, S, L, Z, C) Q := by
  obtain ⟨d, rfl⟩ := dge hd
  refine sm69 ?_
  have en := (hR.1.2.1 j hj).1
  simp only [decide_eq_true_eq, decide_eq_false_iff_not, L32, az01, b2i_01, b2i_n0, b2i_n1, Bool.and_true, true_and, and_true, Classical.not_not, Bool.not_eq_true, Bool.not_eq_false, en]
  refine c_way0 hT hI hR (by omega) hj (fun C' a b c => ?_)
  rw [far_lt]
  exact ⟨b2i_01 _, hq C' a b c⟩
end
