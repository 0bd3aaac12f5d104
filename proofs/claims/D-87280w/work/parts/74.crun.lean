/-! the system's run -/
theorem u5_c {f : nz_f5} {a b c d e a' b' c' d' e' : Nat} {v : Int32} (h : c' ≠ c) : nz_u5 f a b c d e v a' b' c' d' e' = f a' b' c' d' e' := by
  unfold nz_u5; rw [if_neg (fun hh => h hh.2.2.1)]
theorem u5_o {f : nz_f5} {a b c d e a' b' c' d' e' : Nat} {v : Int32} (h : b' ≠ b) : nz_u5 f a b c d e v a' b' c' d' e' = f a' b' c' d' e' := by
  unfold nz_u5; rw [if_neg (fun hh => h hh.2.1)]
theorem u5_d {f : nz_f5} {a b c d e a' b' c' d' e' : Nat} {v : Int32} (h : d' ≠ d) : nz_u5 f a b c d e v a' b' c' d' e' = f a' b' c' d' e' := by
  unfold nz_u5; rw [if_neg (fun hh => h hh.2.2.2.1)]
/-- what is told, in the system -/
def RTold (t : St) (C : nz_f5) : Prop :=
  (∀ m, m < 10 → C 7 2 m 0 0 = n32 (t 55 m) ∧ C 7 2 m 0 1 = n32 (t 56 m)) ∧
  (∀ j, j < 8 → C 8 2 j 0 2 = n32 (t 57 j) ∧ C 8 2 j 0 3 = n32 (t 61 j) ∧ C 8 2 j 0 4 = n32 (t 62 j)) ∧
  (∀ j p, j < 8 → p < t 57 j → C 9 2 j p 0 = n32 (t 58 (20 * j + p)) ∧ C 9 2 j p 1 = n32 (mchS t (20 * j + p)) ∧ C 9 2 j p 2 = n32 (t 60 (20 * j + p))) ∧
  C 0 0 0 0 14 = n32 (t 13 8) ∧ C 0 0 0 0 6 = n32 (t 13 10) ∧ ∀ i, i < t 13 10 → C 20 0 0 0 i = n32 (t 63 i)
def Wte (o kd o' x : Nat) : Prop := o' = o ∧ (kd = 7 ∨ (kd = 8 ∧ 2 ≤ x ∧ x ≤ 4) ∨ kd = 9 ∨ (kd = 1 ∧ x = 5))
section
variable {P : Nat × (Nat → Int32)} {d o : Nat} {t s : St} {T S L0 L Z : nz_f2} {C : nz_f5}
theorem c_tells14 (ho : o < 2) (hT : TV t) (hC : RTold t C) (hN : ∀ j, j < 8 → C 8 o j 0 0 = n32 j) (hd : 2 ≤ d) {Q : nz_h → Prop}
    (hq : ∀ C', Fr (Wte o) C C' → RT o t C' → Q (T, S, L0, Z, C')) : ctV P d 14 [vr (0, 0, 0, 0), sO o] (T, S, L0, Z, C) Q := by
  obtain ⟨d, rfl⟩ := dge hd
  obtain ⟨h7, h8, h9, h14, h6, h20⟩ := hC
  refine sm14 ?_
  have k2 : ∀ C1, Fr (Wte o) C C1 → ∀ kd k l x, C1 kd 2 k l x = C kd 2 k l x := fun C1 hF kd k l x => hF _ _ _ _ _ (by unfold Wte; omega)
  have l52 : ∀ n j, n + j = 8 → ∀ C1, Fr (Wte o) C C1 → (∀ m, m < 10 → C1 7 o m 0 0 = n32 (t 55 m) ∧ C1 7 o m 0 1 = n32 (t 56 m)) → (∀ k, k < j → C1 8 o k 0 2 = n32 (t 57 k) ∧ C1 8 o k 0 3 = n32 (t 61 k) ∧ C1 8 o k 0 4 = n32 (t 62 k)) → (∀ k p, k < j → p < t 57 k → C1 9 o k p 0 = n32 (t 58 (20 * k + p)) ∧ C1 9 o k p 1 = n32 (mchS t (20 * k + p)) ∧ C1 9 o k p 2 = n32 (t 60 (20 * k + p))) → ∀ l3 l4, nzW P (d + 1) az_k14 52 [some (vr (0, 0, 0, 0)), some (sO o), some (vi (n32 j)), l3, l4] [] (T, S, L0, Z, C1) (nz_RV Q) := by
    intro n
    induction n with
    | zero =>
      intro j hj C1 hF g7 g8 g9 l3 l4
      obtain rfl : j = 8 := by omega
      refine sg14_52 ?_
      simp (disch := omega) only [decide_eq_true_eq, decide_eq_false_iff_not, L32, az01, b2i_01, b2i_n0, b2i_n1, Bool.and_true, true_and, and_true, Classical.not_not, Bool.not_eq_true, Bool.not_eq_false, n32_mul, n32_add, n32_ix, n32_ib, n32_lt, n32_le, n32_inj, l_hb, l_hb0, l_shl, l_wo, l_eqm1, l_m1eq, uC_row]
      refine ⟨fun _ => ?_, fun hc => by omega⟩
      refine hq _ (hF.up (by unfold Wte; omega)) ⟨fun m hm => ?_, fun j hj => ?_, fun j p hj hp => ?_, ?_⟩
      · rw [u5_k (by decide), u5_k (by decide)]; exact g7 m hm
      · rw [u5_k (by decide), u5_k (by decide), u5_k (by decide), u5_k (by decide)]
        exact ⟨(hF _ _ _ _ _ (by unfold Wte; omega)).trans (hN j hj), g8 j hj⟩
      · rw [u5_k (by decide), u5_k (by decide), u5_k (by decide)]; exact g9 j p hj hp
      · rw [u5_eq]; exact (hF _ _ _ _ _ (by unfold Wte; omega)).trans h14
    | succ n ih =>
      intro j hj C1 hF g7 g8 g9 l3 l4
      have hj8 : j < 8 := by omega
      have h57 := hT.2.2.1 j
      have l107 : ∀ r p, r + p = t 57 j → ∀ C2, Fr (Wte o) C C2 → (∀ m, m < 10 → C2 7 o m 0 0 = n32 (t 55 m) ∧ C2 7 o m 0 1 = n32 (t 56 m)) → (∀ k, k < j + 1 → C2 8 o k 0 2 = n32 (t 57 k) ∧ C2 8 o k 0 3 = n32 (t 61 k) ∧ C2 8 o k 0 4 = n32 (t 62 k)) → (∀ k p, k < j → p < t 57 k → C2 9 o k p 0 = n32 (t 58 (20 * k + p)) ∧ C2 9 o k p 1 = n32 (mchS t (20 * k + p)) ∧ C2 9 o k p 2 = n32 (t 60 (20 * k + p))) → (∀ y, y < p → C2 9 o j y 0 = n32 (t 58 (20 * j + y)) ∧ C2 9 o j y 1 = n32 (mchS t (20 * j + y)) ∧ C2 9 o j y 2 = n32 (t 60 (20 * j + y))) → nzW P (d + 1) az_k14 107 [some (vr (0, 0, 0, 0)), some (sO o), some (vi (n32 j)), some (jO o j), some (vi (n32 p))] [] (T, S, L0, Z, C2) (nz_RV Q) := by
        intro r
        induction r with
        | zero =>
          intro p hp C2 hF2 f7 f8 f9 fy
          have e2 := (f8 j (by omega)).1
          refine sg14_107 ?_
          simp (disch := omega) only [decide_eq_true_eq, decide_eq_false_iff_not, L32, az01, b2i_01, b2i_n0, b2i_n1, Bool.and_true, true_and, and_true, Classical.not_not, Bool.not_eq_true, Bool.not_eq_false, n32_mul, n32_add, n32_ix, n32_ib, n32_lt, n32_le, n32_inj, l_hb, l_hb0, l_shl, l_wo, l_eqm1, l_m1eq, e2]
          refine ⟨fun _ => ?_, fun hc => by omega⟩
          refine ih (j + 1) (by omega) C2 hF2 f7 f8 (fun k p' hk hp' => ?_) _ _
          by_cases hkj : k = j
          · subst hkj; exact fy p' (by omega)
          · exact f9 k p' (by omega) hp'
        | succ r ihr =>
          intro p hp C2 hF2 f7 f8 f9 fy
          have e2 := (f8 j (by omega)).1
          have p20 : p < 20 := by omega
          have v9 := h9 j p hj8 (by omega)
          refine sg14_107 ?_
          simp (disch := first | omega | decide) only [decide_eq_true_eq, decide_eq_false_iff_not, L32, az01, b2i_01, b2i_n0, b2i_n1, Bool.and_true, true_and, and_true, Classical.not_not, Bool.not_eq_true, Bool.not_eq_false, n32_mul, n32_add, n32_ix, n32_ib, n32_lt, n32_le, n32_inj, l_hb, l_hb0, l_shl, l_wo, l_eqm1, l_m1eq, e2, uC_row, u5_x, k2 C2 hF2]
          refine ⟨fun hc => by omega, fun _ => ⟨p20, hj8, p20, p20, hj8, p20, p20, hj8, p20, ?_⟩⟩
          refine ihr (p + 1) (by omega) _ ?_ (fun m hm => ?_) (fun k hk => ?_) (fun k p' hk hp' => ?_) (fun y hy => ?_)
          · refine Fr.up (Fr.up (Fr.up hF2 ?_) ?_) ?_ <;> (unfold Wte; omega)
          · rw [u5_k (by decide), u5_k (by decide), u5_k (by decide), u5_k (by decide), u5_k (by decide), u5_k (by decide)]; exact f7 m hm
          · simp (disch := decide) only [u5_k]; exact f8 k hk
          · simp (disch := omega) only [u5_c]; exact f9 k p' hk hp'
          · by_cases hyp : y = p
            · subst hyp
              simp (disch := decide) only [u5_x, u5_eq]; exact v9
            · simp (disch := omega) only [u5_d]; exact fy y (by omega)
      have v8 := h8 j hj8
      refine sg14_52 ?_
      simp (disch := first | omega | decide) only [decide_eq_true_eq, decide_eq_false_iff_not, L32, az01, b2i_01, b2i_n0, b2i_n1, Bool.and_true, true_and, and_true, Classical.not_not, Bool.not_eq_true, Bool.not_eq_false, n32_mul, n32_add, n32_ix, n32_ib, n32_lt, n32_le, n32_inj, l_hb, l_hb0, l_shl, l_wo, l_eqm1, l_m1eq, uC_row, u5_x, k2 C1 hF]
      refine ⟨fun hc => by omega, fun _ => ⟨hj8, hj8, hj8, hj8, ?_⟩⟩
      refine l107 (t 57 j) 0 (by omega) _ ?_ (fun m hm => ?_) (fun k hk => ?_) (fun k p' hk hp' => ?_) (fun y hy => by omega)
      · refine Fr.up (Fr.up (Fr.up hF ?_) ?_) ?_ <;> (unfold Wte; omega)
      · simp (disch := decide) only [u5_k]; exact g7 m hm
      · by_cases hkj : k = j
        · subst hkj
          simp (disch := decide) only [u5_x, u5_eq]; exact v8
        · simp (disch := omega) only [u5_c]; exact g8 k (by omega)
      · simp (disch := decide) only [u5_k]; exact g9 k p' hk hp'
  have l2 : ∀ n m, n + m = 10 → ∀ C1, Fr (Wte o) C C1 → (∀ y, y < m → C1 7 o y 0 0 = n32 (t 55 y) ∧ C1 7 o y 0 1 = n32 (t 56 y)) → ∀ l3 l4, nzW P (d + 1) az_k14 2 [some (vr (0, 0, 0, 0)), some (sO o), some (vi (n32 m)), l3, l4] [] (T, S, L0, Z, C1) (nz_RV Q) := by
    intro n
    induction n with
    | zero =>
      intro m hm C1 hF g7 l3 l4
      obtain rfl : m = 10 := by omega
      refine sg14_2 ?_
      simp (disch := omega) only [decide_eq_true_eq, decide_eq_false_iff_not, L32, az01, b2i_01, b2i_n0, b2i_n1, Bool.and_true, true_and, and_true, Classical.not_not, Bool.not_eq_true, Bool.not_eq_false, n32_mul, n32_add, n32_ix, n32_ib, n32_lt, n32_le, n32_inj, l_hb, l_hb0, l_shl, l_wo, l_eqm1, l_m1eq]
      exact ⟨fun _ => l52 8 0 rfl C1 hF g7 (fun k hk => by omega) (fun k p hk => by omega) _ _, fun hc => by omega⟩
    | succ n ih =>
      intro m hm C1 hF g7 l3 l4
      have hm10 : m < 10 := by omega
      refine sg14_2 ?_
      simp (disch := first | omega | decide) only [decide_eq_true_eq, decide_eq_false_iff_not, L32, az01, b2i_01, b2i_n0, b2i_n1, Bool.and_true, true_and, and_true, Classical.not_not, Bool.not_eq_true, Bool.not_eq_false, n32_mul, n32_add, n32_ix, n32_ib, n32_lt, n32_le, n32_inj, l_hb, l_hb0, l_shl, l_wo, l_eqm1, l_m1eq, uC_row, u5_x, k2 C1 hF]
      refine ⟨fun hc => by omega, fun _ => ⟨hm10, hm10, hm10, hm10, ?_⟩⟩
      refine ih (m + 1) (by omega) _ ?_ (fun y hy => ?_) _ _
      · refine Fr.up (Fr.up hF ?_) ?_ <;> (unfold Wte; omega)
      · by_cases hym : y = m
        · subst hym
          simp (disch := decide) only [u5_x, u5_eq]; exact h7 y hm10
        · simp (disch := omega) only [u5_c]; exact g7 y (by omega)
  exact l2 10 0 rfl C (Fr.rfl' C) (fun y hy => by omega) _ _
theorem RH.off {L : nz_f2} {C C' : nz_f5} (h : RH L C) (hc : ∀ kd x, (kd = 10 ∧ x = 5) ∨ (kd = 11 ∧ x = 5) ∨ (36 ≤ kd ∧ kd ≤ 40) ∨ (43 ≤ kd ∧ kd ≤ 45) → C' kd 0 0 0 x = C kd 0 0 0 x) : RH L C' := by
  obtain ⟨h1, h2, h3⟩ := h
  refine ⟨(hc 11 5 (by omega)).trans h1, fun i => ?_, h3.congr (fun _ _ _ _ => rfl) rfl (hc 10 5 (by omega)) (fun kd x a b => hc kd x (by omega))⟩
  rw [hc 43 i (by omega), hc 44 i (by omega), hc 45 i (by omega)]; exact h2 i
theorem RH.toL {L L' : nz_f2} {C : nz_f5} (h : RH L C) (hl : ∀ a x, ((72 ≤ a ∧ a ≤ 74) ∨ (81 ≤ a ∧ a ≤ 85) ∨ (a = 13 ∧ (x = 22 ∨ x = 34))) → L' a x = L a x) : RH L' C := h.congr hl (Fr.rfl' C)
/-- everything of the run's shop -/
def Wrun (kd o' x : Nat) : Prop := o' = 0 ∧ kd ≠ 20 ∧ kd ≠ 22 ∧ (kd = 0 → x = 7 ∨ x = 10)
theorem fst_anyB {p : Nat → Bool} : anyB 8 p = false ↔ fst 8 0 p = none := by
  rw [fst_none]
  constructor
  · intro h y _ hy
    cases hp : p y with
    | false => rfl
    | true => rw [anyB_of (by omega) hp] at h; cases h
  · intro h
    cases ha : anyB 8 p with
    | false => rfl
    | true =>
      obtain ⟨k, hk, hp⟩ := anyB_iff.1 ha
      rw [h k (by omega) (by omega)] at hp; cases hp
def RUNC (t s : St) (L : nz_f2) (C : nz_f5) : Prop := RC 0 t s C ∧ RG 0 s L C ∧ RH L C
theorem RUNC.safe {C C' : nz_f5} (h : RUNC t s L C) (hF : Fr (Wsafe 0) C C') : RUNC t s L C' :=
  ⟨h.1.safe hF, RG.safe hF h.2.1, h.2.2.off (fun kd x hh => hF _ _ _ _ _ (by unfold Wsafe; omega))⟩
theorem keepL_h {a x : Nat} (h : (72 ≤ a ∧ a ≤ 74) ∨ (81 ≤ a ∧ a ≤ 85) ∨ (a = 13 ∧ (x = 22 ∨ x = 34))) : keepL a x := by unfold keepL; omega
theorem c_set0 {p : Pr} (hT : TV t) (hg : GI t p) (h : RUNC t p.1 p.2 C) (hd : 15 ≤ d) {Q : nz_h → Prop} (hq : ∀ C', Fr (Wsh 0) C C' → RUNC t (setP t p).1 (setP t p).2 C' → Q (T, S, L0, Z, C')) : ctV P d 35 [sO 0] (T, S, L0, Z, C) Q := by
  refine c_settles (by omega) hT hd 6000 p C hg.1 hg.2.1 h.1 h.2.1 hg.fuel (fun C' hF h1 h2 => hq C' hF ⟨h1, h2, ?_⟩)
  exact h.2.2.congr (fun a x hh => setN_keep (keepL_h hh) 6000 p) hF
def Wru2 (kd o' x : Nat) : Prop := Wrun kd o' x ∧ kd ≠ 0
theorem c_runW (hT : TV t) (h7 : C 0 0 0 0 7 = n32 1) (h6 : C 0 0 0 0 6 = n32 (t 13 10)) (h20 : ∀ i, i < t 13 10 → C 20 0 0 0 i = n32 (t 63 i)) {Q : Int32 → nz_h → Prop} : ∀ n (p : Pr) C1, Fr Wru2 C C1 → GI t p → p.2 13 13 ≠ n32 0 → mu p.1 < n → RUNC t p.1 p.2 C1 →
    (∀ C2, Fr Wru2 C C2 → RUNC t (runN t n p).1 (runN t n p).2 C2 → ∀ l1 l2, nzW P (d + 16) az_k13 34 [some (vr (0, 0, 0, 0)), l1, l2] [] (T, S, L0, Z, C2) (nz_RI Q)) →
    ∀ l1 l2, nzW P (d + 16) az_k13 34 [some (vr (0, 0, 0, 0)), l1, l2] [] (T, S, L0, Z, C1) (nz_RI Q) := by
  intro n
  induction n with
  | zero => intro p C1 _ _ _ h; omega
  | succ n ih =>
    intro p C1 hF h h13 hn hR hq l1 l2
    obtain ⟨hI, hL, hL2, hL3⟩ := id h
    obtain ⟨g, hg, hgr⟩ := hL2.resolve_left h13
    rw [runN, hg, n32_ix (by omega)] at hq
    cases hf : fst 8 0 (mayS t p.1) with
    | none =>
      have hp : pickS t g p.1 = none := by unfold pickS; rw [hf]
      rw [hp] at hq
      exact hq C1 hF hR _ _
    | some j =>
      have hj := fst_some.1 hf
      have hj8 : j < 8 := by omega
      have h100 := hT.2.2.2.2.2.2.2.2.2.2.2.1
      have h63 := hT.2.2.2.2.2.2.2.2.2.2.1 g
      have wsafe : ∀ {A B : nz_f5}, Fr (Wsafe 0) A B → Fr Wru2 A B := fun hh => hh.mono (fun kd o' x hw => by unfold Wsafe at hw; unfold Wru2 Wrun; omega)
      have go : ∀ x C2, pickS t g p.1 = some x → Fr Wru2 C C2 → RUNC t p.1 p.2 C2 → ∀ l2, ctV P (d + 16) 57 [sO 0, jO 0 x] (T, S, L0, Z, C2) (fun h1 => ctV P (d + 16) 35 [sO 0] h1 (fun h2 => nzW P (d + 16) az_k13 34 [some (vr (0, 0, 0, 0)), some (jO 0 x), l2] [] h2 (nz_RI Q))) := fun x C2 hx hF2 hR2 l2 => by
        obtain ⟨hx8, hm⟩ := pickS_some hT hx
        obtain ⟨c1, c2⟩ := mayS_can hm
        obtain ⟨g1, g2, g3⟩ := h.grant hT hx8 c1 c2
        obtain ⟨s1, s2, s3⟩ := g1.set hT
        refine c_grant (L := p.2) (Or.inl rfl) hT hI hL hL2 hR2.1 hR2.2.1 (fun _ => hR2.2.2) (by omega) hx8 c1 c2 (fun C3 hF3 r1 r2 r3 => ?_)
        refine c_set0 (p := grantP t p x) hT g1 ⟨r1, r2, r3 rfl⟩ (by omega) (fun C4 hF4 r4 => ?_)
        rw [hx] at hq
        refine ih (setP t (grantP t p x)) C4 (hF2.trans ((hF3.mono ?_).trans (hF4.mono ?_))) s1 (by rw [s3, g3]; exact h13) (by omega) r4 hq _ _
        · intro kd o' x hw; unfold Wgr Wsh glW at hw; unfold Wru2 Wrun; omega
        · intro kd o' x hw; unfold Wsh at hw; unfold Wru2 Wrun; omega
      have pick : ∀ x k C2, k ≤ 8 → pickS t g p.1 = some x → Fr Wru2 C C2 → RUNC t p.1 p.2 C2 → nzW P (d + 16) az_k13 115 [some (vr (0, 0, 0, 0)), some (jO 0 x), some (vi (n32 k))] [] (T, S, L0, Z, C2) (nz_RI Q) := fun x k C2 hk hx hF2 hR2 => by
        refine sg13_115 ?_
        simp (disch := omega) only [decide_eq_true_eq, decide_eq_false_iff_not, L32, az01, b2i_01, b2i_n0, b2i_n1, Bool.and_true, true_and, and_true, Classical.not_not, Bool.not_eq_true, Bool.not_eq_false, n32_mul, n32_add, n32_ix, n32_ib, n32_lt, n32_le, n32_inj, l_hb, l_hb0, l_shl, l_wo, l_eqm1, l_m1eq, az_isn]
        exact ⟨fun _ => go x C2 hx hF2 hR2 _, fun _ => ⟨fun hc => (by cases hc), fun _ => go x C2 hx hF2 hR2 _⟩⟩
      have seek : pickS t g p.1 = some j → ∀ r k, r + k = 8 → (∀ y, y < k → mayS t p.1 y = false) → ∀ C2, Fr Wru2 C C2 → RUNC t p.1 p.2 C2 → nzW P (d + 16) az_k13 115 [some (vr (0, 0, 0, 0)), some vn, some (vi (n32 k))] [] (T, S, L0, Z, C2) (nz_RI Q) := by
        intro hx r
        induction r with
        | zero =>
          intro k hk hno
          have := hno j (by omega)
          rw [hj.2.2.1] at this; cases this
        | succ r ihr =>
          intro k hk hno C2 hF2 hR2
          refine sg13_115 ?_
          simp (disch := omega) only [decide_eq_true_eq, decide_eq_false_iff_not, L32, az01, b2i_01, b2i_n0, b2i_n1, Bool.and_true, true_and, and_true, Classical.not_not, Bool.not_eq_true, Bool.not_eq_false, n32_mul, n32_add, n32_ix, n32_ib, n32_lt, n32_le, n32_inj, l_hb, l_hb0, l_shl, l_wo, l_eqm1, l_m1eq, az_isn]
          refine ⟨fun hc => by omega, fun _ => ⟨fun _ => ⟨by omega, ?_⟩, fun hc => (by cases hc)⟩⟩
          refine c_may hT hI hR2.1 (by omega) (by omega) (fun C3 hF3 => ?_)
          have hR3 := hR2.safe hF3
          have hF3' := hF2.trans (wsafe hF3)
          simp (disch := omega) only [decide_eq_true_eq, decide_eq_false_iff_not, L32, az01, b2i_01, b2i_n0, b2i_n1, Bool.and_true, true_and, and_true, Classical.not_not, Bool.not_eq_true, Bool.not_eq_false, n32_mul, n32_add, n32_ix, n32_ib, n32_lt, n32_le, n32_inj, l_hb, l_hb0, l_shl, l_wo, l_eqm1, l_m1eq]
          refine ⟨fun hm => ihr (k + 1) (by omega) (fun y hy => ?_) C3 hF3' hR3, fun hm => ⟨by omega, ?_⟩⟩
          · by_cases hyk : y = k
            · rw [hyk]; exact hm
            · exact hno y (by omega)
          · have ejk : k = j := by
              rcases Nat.lt_trichotomy j k with hlt | he | hgt
              · have := hno j hlt; rw [hj.2.2.1] at this; cases this
              · exact he.symm
              · have := hj.2.2.2 k (by omega) hgt; rw [hm] at this; cases this
            subst ejk
            exact pick k (k + 1) C3 (by omega) hx hF3' hR3
      refine sg13_34 ?_
      refine c_canAny hT hI hR.1 (by omega) (fun C2 hF2 => ?_)
      have hR2 := hR.safe hF2
      have hF2' := hF.trans (wsafe hF2)
      have ha : anyB 8 (mayS t p.1) = true := anyB_of hj8 hj.2.2.1
      have e6 : C2 0 0 0 0 6 = n32 (t 13 10) := (hF2' _ _ _ _ _ (by unfold Wru2 Wrun; omega)).trans h6
      have e5 : C2 11 0 0 0 5 = n32 g := hR2.2.2.1.trans hg
      simp (disch := omega) only [decide_eq_true_eq, decide_eq_false_iff_not, L32, az01, b2i_01, b2i_n0, b2i_n1, Bool.and_true, true_and, and_true, Classical.not_not, Bool.not_eq_true, Bool.not_eq_false, n32_mul, n32_add, n32_ix, n32_ib, n32_lt, n32_le, n32_inj, l_hb, l_hb0, l_shl, l_wo, l_eqm1, l_m1eq, ha, e6, e5]
      refine ⟨fun hc => (by cases hc), fun _ => ⟨fun hle => seek (by unfold pickS; rw [hf]; simp only; rw [if_neg (by omega)]) 8 0 rfl (fun y hy => by omega) C2 hF2' hR2, fun hlt => ⟨by omega, ?_⟩⟩⟩
      have e20 : ∀ C3, Fr Wru2 C C3 → C3 20 0 0 0 g = n32 (t 63 g) := fun C3 hF3 => (hF3 _ _ _ _ _ (by unfold Wru2 Wrun; omega)).trans (h20 g (by omega))
      simp (disch := omega) only [decide_eq_true_eq, decide_eq_false_iff_not, L32, az01, b2i_01, b2i_n0, b2i_n1, Bool.and_true, true_and, and_true, Classical.not_not, Bool.not_eq_true, Bool.not_eq_false, n32_mul, n32_add, n32_ix, n32_ib, n32_lt, n32_le, n32_inj, l_hb, l_hb0, l_shl, l_wo, l_eqm1, l_m1eq, e20 C2 hF2']
      refine ⟨h63, ?_⟩
      refine c_may hT hI hR2.1 (by omega) h63 (fun C3 hF3 => ?_)
      have hR3 := hR2.safe hF3
      have hF3' := hF2'.trans (wsafe hF3)
      have e5' : C3 11 0 0 0 5 = n32 g := hR3.2.2.1.trans hg
      simp (disch := omega) only [decide_eq_true_eq, decide_eq_false_iff_not, L32, az01, b2i_01, b2i_n0, b2i_n1, Bool.and_true, true_and, and_true, Classical.not_not, Bool.not_eq_true, Bool.not_eq_false, n32_mul, n32_add, n32_ix, n32_ib, n32_lt, n32_le, n32_inj, l_hb, l_hb0, l_shl, l_wo, l_eqm1, l_m1eq, e5', e20 C3 hF3']
      refine ⟨fun hm => seek (by unfold pickS; rw [hf]; simp only; rw [if_neg (fun hh => by rw [hm] at hh; cases hh.2)]) 8 0 rfl (fun y hy => by omega) C3 hF3' hR3, fun hm => ⟨by omega, h63, ?_⟩⟩
      exact pick _ 0 C3 (by omega) (by unfold pickS; rw [hf]; simp only; rw [if_pos ⟨by omega, hm⟩]) hF3' hR3
end
