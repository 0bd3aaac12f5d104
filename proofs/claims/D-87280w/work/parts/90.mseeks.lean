/-! the reference's rings of orders -/
def RRm (n : Nat) (acc : List (Nat → Nat)) (Z : nz_f2) : Prop := acc.length ≤ 30 ∧ Z 13 53 = n32 acc.length ∧ ∀ (i : Nat) (w : Nat → Nat), acc[i]? = some w → ∀ k, k < n → Z 95 (10 * i + k) = n32 (w k)
def P85 (L : nz_f2) : Prop := ∀ i, i < 100 → L 85 i = n32 0 ∨ L 85 i = n32 1
def oL (L : nz_f2) (f g : Nat) : Bool := ordB L (10 * f + g)
theorem P85.b {L : nz_f2} (h : P85 L) {i : Nat} (hi : i < 100) : L 85 i = b2i (ordB L i) := by
  unfold ordB
  rcases h i hi with h | h
  · rw [h]; rfl
  · rw [h, decide_eq_false (by decide)]; rfl
section
variable {P : Nat × (Nat → Int32)} {d : Nat} {T S L Z : nz_f2} {C : nz_f5} {n : Nat}
theorem m_fits {a m : Nat} {w : Nat → Nat} (h85 : P85 L) (ha1 : 1 ≤ a) (ha : a ≤ 9) (hm : m < 10) (hw : ∀ k, k < a → w k < 10 ∧ Z 96 k = n32 (w k)) (hz : Z 96 a = n32 m) (hd : 2 ≤ d) (Q : Int32 → nz_h → Prop) : ctI P d 169 [mO, vi (n32 a)] (T, S, L, Z, C) Q = Q (b2i (fitB (oL L) w a m)) (T, S, L, Z, C) := by
  obtain ⟨d, rfl⟩ := dge hd
  refine ctI_det (fun Q hq => sm169 ?_) Q
  have loop : ∀ r k, r + k = a → (∀ x, x < k → w x ≠ m) → nzW P (d + 1) az_k169 8 [some mO, some (vi (n32 a)), some (vi (n32 k))] [] (T, S, L, Z, C) (nz_RI Q) := by
    intro r
    induction r with
    | zero =>
      intro k hk hno
      obtain rfl : k = a := by omega
      obtain ⟨wl, pl⟩ := hw (k - 1) (by omega)
      have ea : n32 k - n32 1 = n32 (k - 1) := n32_sub ha1
      have e85 := h85.b (i := 10 * w (k - 1) + m) (by omega)
      refine sg169_8 ?_
      simp (disch := omega) only [decide_eq_true_eq, decide_eq_false_iff_not, L32, az01, b2i_01, b2i_n0, b2i_n1, Bool.and_true, true_and, and_true, Classical.not_not, Bool.not_eq_true, Bool.not_eq_false, n32_mul, n32_add, n32_ix, n32_ib, n32_lt, n32_le, n32_inj, l_hb, l_hb0, l_shl, l_wo, l_eqm1, l_m1eq, ea, pl, hz, e85]
      refine ⟨fun _ => ⟨by omega, by omega, by omega, ?_⟩, fun hc => by omega⟩
      have e : fitB (oL L) w k m = ordB L (10 * w (k - 1) + m) := by
        unfold fitB oL
        have hz : anyB k (fun x => decide (w x = m)) = false := anyB_no (fun x hx => decide_eq_false (hno x hx))
        rw [hz, Bool.not_false, Bool.and_true]
      rw [e] at hq
      exact hq
    | succ r ih =>
      intro k hk hno
      obtain ⟨wl, pl⟩ := hw k (by omega)
      refine sg169_8 ?_
      simp (disch := omega) only [decide_eq_true_eq, decide_eq_false_iff_not, L32, az01, b2i_01, b2i_n0, b2i_n1, Bool.and_true, true_and, and_true, Classical.not_not, Bool.not_eq_true, Bool.not_eq_false, n32_mul, n32_add, n32_ix, n32_ib, n32_lt, n32_le, n32_inj, l_hb, l_hb0, l_shl, l_wo, l_eqm1, l_m1eq, pl, hz]
      refine ⟨fun hc => by omega, fun _ => ⟨by omega, by omega, fun hne => ih (k + 1) (by omega) (fun x hx => ?_), fun he => ans0 hq ?_⟩⟩
      · by_cases hxk : x = k
        · rw [hxk]; exact hne
        · exact hno x (by omega)
      · unfold fitB
        rw [anyB_of (p := fun x => decide (w x = m)) (show k < a by omega) (decide_eq_true he)]; simp
  simp (disch := omega) only [decide_eq_true_eq, decide_eq_false_iff_not, L32, az01, b2i_01, b2i_n0, b2i_n1, Bool.and_true, true_and, and_true, Classical.not_not, Bool.not_eq_true, Bool.not_eq_false, n32_mul, n32_add, n32_ix, n32_ib, n32_lt, n32_le, n32_inj, l_hb, l_hb0, l_shl, l_wo, l_eqm1, l_m1eq]
  exact ⟨fun _ => loop a 0 rfl (fun x hx => by omega), fun hc => by omega⟩
theorem m_fits0 (hd : 2 ≤ d) (Q : Int32 → nz_h → Prop) : ctI P d 169 [mO, vi (n32 0)] (T, S, L, Z, C) Q = Q (n32 1) (T, S, L, Z, C) := by
  obtain ⟨d, rfl⟩ := dge hd
  refine ctI_det (fun Q hq => sm169 ?_) Q
  simp (disch := omega) only [decide_eq_true_eq, decide_eq_false_iff_not, L32, az01, b2i_01, b2i_n0, b2i_n1, Bool.and_true, true_and, and_true, Classical.not_not, Bool.not_eq_true, Bool.not_eq_false, n32_mul, n32_add, n32_ix, n32_ib, n32_lt, n32_le, n32_inj, l_hb, l_hb0, l_shl, l_wo, l_eqm1, l_m1eq]
  exact ⟨fun hc => (hc trivial).elim, fun _ => hq⟩
/-- all choices from one on, at a depth -/
theorem m_seekL (h85 : P85 L) (hn : n ≤ 10) {Q : nz_h → Prop} : ∀ r a, 1 ≤ a → a + 1 + r = n → ∀ (w : Nat → Nat), (∀ k, k < a → w k < 10) → ∀ c, c ≤ 10 → ∀ (acc : List (Nat → Nat)) (Z : nz_f2), (∀ k, k < a → Z 96 k = n32 (w k)) → Z 96 a = n32 (10 - c) → RRm n acc Z →
    (∀ Z', (∀ k, k < a → Z' 96 k = n32 (w k)) → Z' 96 a = n32 10 → RRm n (add30 acc (Wc (Gn (oL L) r) (oL L) w a c)) Z' → ∀ l3, nzW P (d + 3) az_k168 9 [some mO, some (vi (n32 n)), some (vi (n32 a)), l3] [] (T, S, L, Z', C) (nz_RV Q)) →
    ∀ l3, nzW P (d + 3) az_k168 9 [some mO, some (vi (n32 n)), some (vi (n32 a)), l3] [] (T, S, L, Z, C) (nz_RV Q) := by
  intro r
  induction r with
  | zero =>
    intro a h1 ha w hw c
    induction c with
    | zero =>
      intro _ acc Z hz1 hz2 hR hq l3
      rw [Wc, add30_nil hR.1] at hq
      exact hq Z hz1 hz2 hR l3
    | succ c ihc =>
      intro hc acc Z hz1 hz2 hR hq l3
      have hm10 : 10 - (c + 1) = 9 - c := by omega
      have e10 : 9 - c + 1 = 10 - c := by omega
      rw [hm10] at hz2
      have nxt : ∀ (acc' : List (Nat → Nat)) (Z' : nz_f2), (∀ k, k < a → Z' 96 k = n32 (w k)) → Z' 96 a = n32 (9 - c) → RRm n acc' Z' → add30 acc' (Wc (Gn (oL L) 0) (oL L) w a c) = add30 acc (Wc (Gn (oL L) 0) (oL L) w a (c + 1)) → ∀ l3, nzW P (d + 3) az_k168 9 [some mO, some (vi (n32 n)), some (vi (n32 a)), l3] [] (T, S, L, nz_u2 Z' 96 a (n32 (9 - c + 1)), C) (nz_RV Q) := fun acc' Z' g1 g2 g3 g4 l3 => by
        refine ihc (by omega) acc' _ (fun k hk => by rw [u2_at, if_neg (by omega)]; exact g1 k hk) (by rw [u2_eq, e10]) ⟨g3.1, by rw [u2_ne (by decide)]; exact g3.2.1, fun i w' hi k hk => by rw [u2_ne (by decide)]; exact g3.2.2 i w' hi k hk⟩ (fun Z3 x1 x2 x3 => hq Z3 x1 x2 (by rw [← g4]; exact x3)) l3
      refine sg168_9 ?_
      simp (disch := omega) only [decide_eq_true_eq, decide_eq_false_iff_not, L32, az01, b2i_01, b2i_n0, b2i_n1, Bool.and_true, true_and, and_true, Classical.not_not, Bool.not_eq_true, Bool.not_eq_false, n32_mul, n32_add, n32_ix, n32_ib, n32_lt, n32_le, n32_inj, l_hb, l_hb0, l_shl, l_wo, l_eqm1, l_m1eq, hz2]
      refine ⟨fun hc => by omega, fun _ => ⟨by omega, fun _ => ?_, fun hc => by omega⟩⟩
      refine sg168_44 ?_
      rw [m_fits h85 h1 (by omega) (show 9 - c < 10 by omega) (fun k hk => ⟨hw k hk, hz1 k hk⟩) hz2 (by omega)]
      simp (disch := omega) only [decide_eq_true_eq, decide_eq_false_iff_not, L32, az01, b2i_01, b2i_n0, b2i_n1, Bool.and_true, true_and, and_true, Classical.not_not, Bool.not_eq_true, Bool.not_eq_false, n32_mul, n32_add, n32_ix, n32_ib, n32_lt, n32_le, n32_inj, l_hb, l_hb0, l_shl, l_wo, l_eqm1, l_m1eq, uZ_row, hz2]
      refine ⟨fun hf => ?_, fun hf => ⟨by omega, by omega, nxt acc Z hz1 hz2 hR (by rw [Wc, hf]; rfl) _⟩⟩
      refine sg168_65 ?_
      simp (disch := omega) only [decide_eq_true_eq, decide_eq_false_iff_not, L32, az01, b2i_01, b2i_n0, b2i_n1, Bool.and_true, true_and, and_true, Classical.not_not, Bool.not_eq_true, Bool.not_eq_false, n32_mul, n32_add, n32_ix, n32_ib, n32_lt, n32_le, n32_inj, l_hb, l_hb0, l_shl, l_wo, l_eqm1, l_m1eq]
      refine ⟨fun _ => ?_, fun hc => by omega⟩
      have s168 : ∀ (acc' : List (Nat → Nat)) (Z' : nz_f2), (∀ k, k < a → Z' 96 k = n32 (w k)) → Z' 96 a = n32 (9 - c) → RRm n acc' Z' → add30 acc' (Wc (Gn (oL L) 0) (oL L) w a c) = add30 acc (Wc (Gn (oL L) 0) (oL L) w a (c + 1)) → ∀ l3, nzW P (d + 3) az_k168 168 [some mO, some (vi (n32 n)), some (vi (n32 a)), l3] [] (T, S, L, Z', C) (nz_RV Q) := fun acc' Z' g1 g2 g3 g4 l3 => by
        refine sg168_168 ?_
        simp (disch := omega) only [decide_eq_true_eq, decide_eq_false_iff_not, L32, az01, b2i_01, b2i_n0, b2i_n1, Bool.and_true, true_and, and_true, Classical.not_not, Bool.not_eq_true, Bool.not_eq_false, n32_mul, n32_add, n32_ix, n32_ib, n32_lt, n32_le, n32_inj, l_hb, l_hb0, l_shl, l_wo, l_eqm1, l_m1eq, uZ_row, g2]
        exact ⟨by omega, by omega, nxt acc' Z' g1 g2 g3 g4 l3⟩
      have hw0 := hw 0 (by omega)
      have hz0 := hz1 0 (by omega)
      have e85 := h85.b (i := 10 * (9 - c) + w 0) (by omega)
      have eG : Gn (oL L) 0 (updN w a (9 - c)) (a + 1) = cond (ordB L (10 * (9 - c) + w 0)) [updN w a (9 - c)] [] := by
        rw [Gn, Nat.add_sub_cancel, updN_eq, updN_ne (show 0 ≠ a by omega)]; rfl
      have l30 := hR.1
      refine sg168_92 ?_
      simp (disch := omega) only [decide_eq_true_eq, decide_eq_false_iff_not, L32, az01, b2i_01, b2i_n0, b2i_n1, Bool.and_true, true_and, and_true, Classical.not_not, Bool.not_eq_true, Bool.not_eq_false, n32_mul, n32_add, n32_ix, n32_ib, n32_lt, n32_le, n32_inj, l_hb, l_hb0, l_shl, l_wo, l_eqm1, l_m1eq, hz2, hz0, e85, hR.2.1]
      refine ⟨by omega, by omega, by omega, fun ho => s168 acc Z hz1 hz2 hR ?_ _, fun ho => ⟨fun h30 => s168 acc Z hz1 hz2 hR ?_ _, fun h30 => ?_⟩⟩
      · rw [Wc, hf, cond_true, eG, ho]; rfl
      · have : acc.length = 30 := by have := hR.1; omega
        rw [add30_full this, add30_full this]
      · have hlt : acc.length < 30 := by omega
        have copy : ∀ q k, q + k = n → ∀ Z1, (∀ x, x ≤ a → Z1 96 x = Z 96 x) → Z1 13 53 = n32 acc.length → (∀ x, x < 10 * acc.length → Z1 95 x = Z 95 x) → (∀ x, x < k → Z1 95 (10 * acc.length + x) = n32 (updN w a (9 - c) x)) → nzW P (d + 3) az_k168 127 [some mO, some (vi (n32 n)), some (vi (n32 a)), some (vi (n32 k))] [] (T, S, L, Z1, C) (nz_RV Q) := by
          intro q
          induction q with
          | zero =>
            intro k hk Z1 g1 g2 g3 g4
            obtain rfl : k = n := by omega
            refine sg168_127 ?_
            simp (disch := omega) only [decide_eq_true_eq, decide_eq_false_iff_not, L32, az01, b2i_01, b2i_n0, b2i_n1, Bool.and_true, true_and, and_true, Classical.not_not, Bool.not_eq_true, Bool.not_eq_false, n32_mul, n32_add, n32_ix, n32_ib, n32_lt, n32_le, n32_inj, l_hb, l_hb0, l_shl, l_wo, l_eqm1, l_m1eq, uZ_row, g2]
            refine ⟨fun _ => ?_, fun hc => by omega⟩
            refine s168 (add30 acc [updN w a (9 - c)]) _ (fun x hx => by rw [u2_ne (by decide), g1 x (by omega)]; exact hz1 x hx) (by rw [u2_ne (by decide), g1 a (Nat.le_refl _)]; exact hz2) ?_ ?_ _
            · rw [add30_one hlt]
              refine ⟨by simp; omega, by rw [u2_eq]; simp, fun i w' hi x hx => ?_⟩
              rw [u2_ne (by decide)]
              by_cases hil : i < acc.length
              · rw [List.getElem?_append_left hil] at hi
                rw [g3 _ (by omega)]; exact hR.2.2 i w' hi x hx
              · rw [List.getElem?_append_right (by omega)] at hi
                have hi0 : i - acc.length = 0 := by
                  apply Classical.byContradiction
                  intro hne
                  rw [List.getElem?_eq_none (by simp; omega)] at hi; cases hi
                rw [hi0] at hi
                simp at hi
                subst hi
                rw [show i = acc.length by omega]; exact g4 x hx
            · rw [add30_add, Wc, hf, cond_true, eG, ho]; rfl
          | succ q ihq =>
            intro k hk Z1 g1 g2 g3 g4
            have e96 : Z1 96 k = n32 (updN w a (9 - c) k) := by
              rw [g1 k (by omega)]
              by_cases hka : k = a
              · rw [hka, updN_eq]; exact hz2
              · rw [updN_ne hka]; exact hz1 k (by omega)
            refine sg168_127 ?_
            simp (disch := omega) only [decide_eq_true_eq, decide_eq_false_iff_not, L32, az01, b2i_01, b2i_n0, b2i_n1, Bool.and_true, true_and, and_true, Classical.not_not, Bool.not_eq_true, Bool.not_eq_false, n32_mul, n32_add, n32_ix, n32_ib, n32_lt, n32_le, n32_inj, l_hb, l_hb0, l_shl, l_wo, l_eqm1, l_m1eq, uZ_row, g2, e96]
            refine ⟨fun hc => by omega, fun _ => ⟨by omega, by omega, ?_⟩⟩
            refine ihq (k + 1) (by omega) _ (fun x hx => by rw [u2_ne (by decide)]; exact g1 x hx) (by rw [u2_ne (by decide)]; exact g2) (fun x hx => by rw [u2_at, if_neg (by omega)]; exact g3 x hx) (fun x hx => ?_)
            rw [u2_at]
            by_cases hxk : x = k
            · rw [hxk, if_pos rfl]
            · rw [if_neg (by omega)]; exact g4 x (by omega)
        exact copy n 0 rfl Z (fun _ _ => rfl) hR.2.1 (fun _ _ => rfl) (fun x hx => by omega)
  | succ r ih =>
    intro a h1 ha w hw c
    induction c with
    | zero =>
      intro _ acc Z hz1 hz2 hR hq l3
      rw [Wc, add30_nil hR.1] at hq
      exact hq Z hz1 hz2 hR l3
    | succ c ihc =>
      intro hc acc Z hz1 hz2 hR hq l3
      have hm10 : 10 - (c + 1) = 9 - c := by omega
      have e10 : 9 - c + 1 = 10 - c := by omega
      rw [hm10] at hz2
      have nxt : ∀ (acc' : List (Nat → Nat)) (Z' : nz_f2), (∀ k, k < a → Z' 96 k = n32 (w k)) → Z' 96 a = n32 (9 - c) → RRm n acc' Z' → add30 acc' (Wc (Gn (oL L) (r + 1)) (oL L) w a c) = add30 acc (Wc (Gn (oL L) (r + 1)) (oL L) w a (c + 1)) → ∀ l3, nzW P (d + 3) az_k168 9 [some mO, some (vi (n32 n)), some (vi (n32 a)), l3] [] (T, S, L, nz_u2 Z' 96 a (n32 (9 - c + 1)), C) (nz_RV Q) := fun acc' Z' g1 g2 g3 g4 l3 => by
        refine ihc (by omega) acc' _ (fun k hk => by rw [u2_at, if_neg (by omega)]; exact g1 k hk) (by rw [u2_eq, e10]) ⟨g3.1, by rw [u2_ne (by decide)]; exact g3.2.1, fun i w' hi k hk => by rw [u2_ne (by decide)]; exact g3.2.2 i w' hi k hk⟩ (fun Z3 x1 x2 x3 => hq Z3 x1 x2 (by rw [← g4]; exact x3)) l3
      refine sg168_9 ?_
      simp (disch := omega) only [decide_eq_true_eq, decide_eq_false_iff_not, L32, az01, b2i_01, b2i_n0, b2i_n1, Bool.and_true, true_and, and_true, Classical.not_not, Bool.not_eq_true, Bool.not_eq_false, n32_mul, n32_add, n32_ix, n32_ib, n32_lt, n32_le, n32_inj, l_hb, l_hb0, l_shl, l_wo, l_eqm1, l_m1eq, hz2]
      refine ⟨fun hc => by omega, fun _ => ⟨by omega, fun _ => ?_, fun hc => by omega⟩⟩
      refine sg168_44 ?_
      rw [m_fits h85 h1 (by omega) (show 9 - c < 10 by omega) (fun k hk => ⟨hw k hk, hz1 k hk⟩) hz2 (by omega)]
      simp (disch := omega) only [decide_eq_true_eq, decide_eq_false_iff_not, L32, az01, b2i_01, b2i_n0, b2i_n1, Bool.and_true, true_and, and_true, Classical.not_not, Bool.not_eq_true, Bool.not_eq_false, n32_mul, n32_add, n32_ix, n32_ib, n32_lt, n32_le, n32_inj, l_hb, l_hb0, l_shl, l_wo, l_eqm1, l_m1eq, uZ_row, hz2]
      refine ⟨fun hf => ?_, fun hf => ⟨by omega, by omega, nxt acc Z hz1 hz2 hR (by rw [Wc, hf]; rfl) _⟩⟩
      refine sg168_65 ?_
      have hw0 := hw 0 (by omega)
      have hz0 := hz1 0 (by omega)
      simp (disch := omega) only [decide_eq_true_eq, decide_eq_false_iff_not, L32, az01, b2i_01, b2i_n0, b2i_n1, Bool.and_true, true_and, and_true, Classical.not_not, Bool.not_eq_true, Bool.not_eq_false, n32_mul, n32_add, n32_ix, n32_ib, n32_lt, n32_le, n32_inj, l_hb, l_hb0, l_shl, l_wo, l_eqm1, l_m1eq, uZ_row, hz0]
      refine ⟨fun hc => by omega, fun _ => ⟨by omega, by omega, ?_⟩⟩
      refine ih (a + 1) (by omega) (by omega) (updN w a (9 - c)) (fun k hk => ?_) (9 - w 0) (by omega) acc _ (fun k hk => ?_) (by rw [u2_eq]; congr 1; omega) ⟨hR.1, by rw [u2_ne (by decide)]; exact hR.2.1, fun i w' hi k hk => by rw [u2_ne (by decide)]; exact hR.2.2 i w' hi k hk⟩ (fun Z2 y1 y2 y3 l3 => ?_) _
      · by_cases hka : k = a
        · rw [hka, updN_eq]; omega
        · rw [updN_ne hka]; exact hw k (by omega)
      · rw [u2_at, if_neg (by omega)]
        by_cases hka : k = a
        · rw [hka, updN_eq]; exact hz2
        · rw [updN_ne hka]; exact hz1 k (by omega)
      · have eG : Gn (oL L) (r + 1) (updN w a (9 - c)) (a + 1) = Wc (Gn (oL L) r) (oL L) (updN w a (9 - c)) (a + 1) (9 - w 0) := by
          rw [Gn, updN_ne (show 0 ≠ a by omega)]
        refine sg168_9 ?_
        have em : n32 (a + 1) + nm1 = n32 a := by rw [l_m1 (by omega)]; rfl
        simp (disch := omega) only [decide_eq_true_eq, decide_eq_false_iff_not, L32, az01, b2i_01, b2i_n0, b2i_n1, Bool.and_true, true_and, and_true, Classical.not_not, Bool.not_eq_true, Bool.not_eq_false, n32_mul, n32_add, n32_ix, n32_ib, n32_lt, n32_le, n32_inj, l_hb, l_hb0, l_shl, l_wo, l_eqm1, l_m1eq, y2, em]
        refine ⟨fun hc => by omega, fun _ => ⟨by omega, fun hc => (hc trivial).elim, fun _ => ?_⟩⟩
        have y1a : Z2 96 a = n32 (9 - c) := by
          have := y1 a (by omega)
          rw [updN_eq] at this; exact this
        refine sg168_27 ?_
        simp (disch := omega) only [decide_eq_true_eq, decide_eq_false_iff_not, L32, az01, b2i_01, b2i_n0, b2i_n1, Bool.and_true, true_and, and_true, Classical.not_not, Bool.not_eq_true, Bool.not_eq_false, n32_mul, n32_add, n32_ix, n32_ib, n32_lt, n32_le, n32_inj, l_hb, l_hb0, l_shl, l_wo, l_eqm1, l_m1eq, uZ_row, y1a]
        refine ⟨fun hc => by omega, fun _ => ⟨by omega, by omega, ?_⟩⟩
        refine nxt _ Z2 (fun k hk => by have := y1 k (by omega); rw [updN_ne (by omega)] at this; exact this) y1a y3 ?_ _
        rw [add30_add, Wc, hf, cond_true, eG]
theorem m_seeks (h85 : P85 L) (hn2 : 2 ≤ n) (hn : n ≤ 10) (hz : Z 13 53 = n32 0) (hd : 4 ≤ d) {Q : nz_h → Prop} (hq : ∀ Z', RRm n (add30 [] (Tn (oL L) n 10)) Z' → Q (T, S, L, Z', C)) : ctV P d 168 [mO, vi (n32 n)] (T, S, L, Z, C) Q := by
  obtain ⟨d, rfl⟩ := dge hd
  refine sm168 ?_
  simp (disch := omega) only [decide_eq_true_eq, decide_eq_false_iff_not, L32, az01, b2i_01, b2i_n0, b2i_n1, Bool.and_true, true_and, and_true, Classical.not_not, Bool.not_eq_true, Bool.not_eq_false, n32_mul, n32_add, n32_ix, n32_ib, n32_lt, n32_le, n32_inj, l_hb, l_hb0, l_shl, l_wo, l_eqm1, l_m1eq, uZ_row]
  refine ⟨by omega, ?_⟩
  have loop : ∀ c, c ≤ 10 → ∀ (acc : List (Nat → Nat)) (Z1 : nz_f2), Z1 96 0 = n32 (10 - c) → RRm n acc Z1 → add30 acc (Tn (oL L) n c) = add30 [] (Tn (oL L) n 10) → ∀ l3, nzW P (d + 3) az_k168 9 [some mO, some (vi (n32 n)), some (vi (n32 0)), l3] [] (T, S, L, Z1, C) (nz_RV Q) := by
    intro c
    induction c with
    | zero =>
      intro _ acc Z1 g1 g2 g3 l3
      rw [Tn, add30_nil g2.1] at g3
      have em : n32 0 + nm1 = nm1 := by decide
      have hneg : (nm1 < n32 0) = True := by decide
      refine sg168_9 ?_
      simp (disch := omega) only [decide_eq_true_eq, decide_eq_false_iff_not, L32, az01, b2i_01, b2i_n0, b2i_n1, Bool.and_true, true_and, and_true, Classical.not_not, Bool.not_eq_true, Bool.not_eq_false, n32_mul, n32_add, n32_ix, n32_ib, n32_lt, n32_le, n32_inj, l_hb, l_hb0, l_shl, l_wo, l_eqm1, l_m1eq, g1, em]
      refine ⟨fun hc => by omega, fun _ => ⟨by omega, fun hc => absurd (by decide) hc, fun _ => ?_⟩⟩
      refine sg168_27 ?_
      simp (disch := omega) only [decide_eq_true_eq, decide_eq_false_iff_not, L32, az01, b2i_01, b2i_n0, b2i_n1, Bool.and_true, true_and, and_true, Classical.not_not, Bool.not_eq_true, Bool.not_eq_false, n32_mul, n32_add, n32_ix, n32_ib, n32_lt, n32_le, n32_inj, l_hb, l_hb0, l_shl, l_wo, l_eqm1, l_m1eq, hneg]
      refine ⟨fun _ => ?_, fun hc => (hc trivial).elim⟩
      refine sg168_9 ?_
      simp (disch := omega) only [decide_eq_true_eq, decide_eq_false_iff_not, L32, az01, b2i_01, b2i_n0, b2i_n1, Bool.and_true, true_and, and_true, Classical.not_not, Bool.not_eq_true, Bool.not_eq_false, n32_mul, n32_add, n32_ix, n32_ib, n32_lt, n32_le, n32_inj, l_hb, l_hb0, l_shl, l_wo, l_eqm1, l_m1eq, hneg]
      exact ⟨fun _ => hq Z1 (by rw [← g3]; exact g2), fun hc => (hc trivial).elim⟩
    | succ c ihc =>
      intro hc acc Z1 g1 g2 g3 l3
      have hm10 : 10 - (c + 1) = 9 - c := by omega
      have e10 : 9 - c + 1 = 10 - c := by omega
      rw [hm10] at g1
      refine sg168_9 ?_
      simp (disch := omega) only [decide_eq_true_eq, decide_eq_false_iff_not, L32, az01, b2i_01, b2i_n0, b2i_n1, Bool.and_true, true_and, and_true, Classical.not_not, Bool.not_eq_true, Bool.not_eq_false, n32_mul, n32_add, n32_ix, n32_ib, n32_lt, n32_le, n32_inj, l_hb, l_hb0, l_shl, l_wo, l_eqm1, l_m1eq, g1]
      refine ⟨fun hc => by omega, fun _ => ⟨by omega, fun _ => ?_, fun hc => by omega⟩⟩
      refine sg168_44 ?_
      rw [m_fits0 (by omega)]
      simp (disch := omega) only [decide_eq_true_eq, decide_eq_false_iff_not, L32, az01, b2i_01, b2i_n0, b2i_n1, Bool.and_true, true_and, and_true, Classical.not_not, Bool.not_eq_true, Bool.not_eq_false, n32_mul, n32_add, n32_ix, n32_ib, n32_lt, n32_le, n32_inj, l_hb, l_hb0, l_shl, l_wo, l_eqm1, l_m1eq]
      refine ⟨fun _ => ?_, fun hc => by omega⟩
      refine sg168_65 ?_
      simp (disch := omega) only [decide_eq_true_eq, decide_eq_false_iff_not, L32, az01, b2i_01, b2i_n0, b2i_n1, Bool.and_true, true_and, and_true, Classical.not_not, Bool.not_eq_true, Bool.not_eq_false, n32_mul, n32_add, n32_ix, n32_ib, n32_lt, n32_le, n32_inj, l_hb, l_hb0, l_shl, l_wo, l_eqm1, l_m1eq, uZ_row, g1]
      refine ⟨fun hc => by omega, fun _ => ⟨by omega, by omega, ?_⟩⟩
      refine m_seekL (n := n) h85 hn (n - 2) 1 (by omega) (by omega) (fun _ => 9 - c) (fun k hk => by omega) c (by omega) acc _ (fun k hk => ?_) (by rw [u2_eq]; congr 1) ⟨g2.1, by rw [u2_ne (by decide)]; exact g2.2.1, fun i w' hi k hk => by rw [u2_ne (by decide)]; exact g2.2.2 i w' hi k hk⟩ (fun Z2 y1 y2 y3 l3 => ?_) _
      · obtain rfl : k = 0 := by omega
        rw [u2_at, if_neg (by omega)]; exact g1
      · have eG : Gn (oL L) (n - 1) (fun _ => 9 - c) 1 = Wc (Gn (oL L) (n - 2)) (oL L) (fun _ => 9 - c) 1 c := by
          rw [show n - 1 = n - 2 + 1 by omega, Gn, show 9 - (9 - c) = c by omega]
        refine sg168_9 ?_
        have em : n32 1 + nm1 = n32 0 := by decide
        simp (disch := omega) only [decide_eq_true_eq, decide_eq_false_iff_not, L32, az01, b2i_01, b2i_n0, b2i_n1, Bool.and_true, true_and, and_true, Classical.not_not, Bool.not_eq_true, Bool.not_eq_false, n32_mul, n32_add, n32_ix, n32_ib, n32_lt, n32_le, n32_inj, l_hb, l_hb0, l_shl, l_wo, l_eqm1, l_m1eq, y2, em]
        refine ⟨fun hc => by omega, fun _ => ⟨by omega, fun hc => (hc trivial).elim, fun _ => ?_⟩⟩
        have y1a : Z2 96 0 = n32 (9 - c) := y1 0 (by omega)
        refine sg168_27 ?_
        simp (disch := omega) only [decide_eq_true_eq, decide_eq_false_iff_not, L32, az01, b2i_01, b2i_n0, b2i_n1, Bool.and_true, true_and, and_true, Classical.not_not, Bool.not_eq_true, Bool.not_eq_false, n32_mul, n32_add, n32_ix, n32_ib, n32_lt, n32_le, n32_inj, l_hb, l_hb0, l_shl, l_wo, l_eqm1, l_m1eq, uZ_row, y1a]
        refine ⟨fun hc => by omega, fun _ => ⟨by omega, by omega, ?_⟩⟩
        rw [Tn, eG] at g3
        exact ihc (by omega) _ _ (by rw [u2_eq, e10]) ⟨y3.1, by rw [u2_ne (by decide)]; exact y3.2.1, fun i w' hi k hk => by rw [u2_ne (by decide)]; exact y3.2.2 i w' hi k hk⟩ (by rw [add30_add]; exact g3) _
  exact loop 10 (Nat.le_refl _) [] _ u2_eq ⟨by simp, by rw [u2_ne (by decide)]; exact hz, fun i w hi => by simp at hi⟩ rfl _
theorem m_findRings (h85 : P85 L) (hd : 5 ≤ d) {Q : nz_h → Prop} (hq : ∀ Z', Z' 13 52 = n32 (fnd (oL L) 9).1 → RRm (fnd (oL L) 9).1 (fnd (oL L) 9).2 Z' → Q (T, S, L, Z', C)) : ctV P d 167 [mO] (T, S, L, Z, C) Q := by
  obtain ⟨d, rfl⟩ := dge hd
  refine sm167 ?_
  have loop : ∀ j, j ≤ 9 → fnd (oL L) j = fnd (oL L) 9 → ∀ Z1, Z1 13 53 = n32 0 → Z1 13 52 = n32 0 → nzW P (d + 4) az_k167 12 [some mO, some (vi (n32 (11 - j)))] [] (T, S, L, Z1, C) (nz_RV Q) := by
    intro j
    induction j with
    | zero =>
      intro _ he Z1 g1 g2
      refine sg167_12 ?_
      simp (disch := omega) only [decide_eq_true_eq, decide_eq_false_iff_not, L32, az01, b2i_01, b2i_n0, b2i_n1, Bool.and_true, true_and, and_true, Classical.not_not, Bool.not_eq_true, Bool.not_eq_false, n32_mul, n32_add, n32_ix, n32_ib, n32_lt, n32_le, n32_inj, l_hb, l_hb0, l_shl, l_wo, l_eqm1, l_m1eq]
      refine ⟨fun _ => ?_, fun hc => by omega⟩
      have e : fnd (oL L) 9 = (0, []) := he.symm
      rw [e] at hq
      exact hq Z1 g2 ⟨by simp, g1, fun i w hi => by simp at hi⟩
    | succ j ih =>
      intro hj he Z1 g1 g2
      have hn : 11 - (j + 1) = 10 - j := by omega
      have hn2 : 10 - j + 1 = 11 - j := by omega
      rw [hn]
      rw [fnd] at he
      refine sg167_12 ?_
      simp (disch := omega) only [decide_eq_true_eq, decide_eq_false_iff_not, L32, az01, b2i_01, b2i_n0, b2i_n1, Bool.and_true, true_and, and_true, Classical.not_not, Bool.not_eq_true, Bool.not_eq_false, n32_mul, n32_add, n32_ix, n32_ib, n32_lt, n32_le, n32_inj, l_hb, l_hb0, l_shl, l_wo, l_eqm1, l_m1eq, g1]
      refine ⟨fun hc => by omega, fun _ => ⟨fun hc => (hc trivial).elim, fun _ => ?_⟩⟩
      refine m_seeks (n := 10 - j) h85 (by omega) (by omega) g1 (by omega) (fun Z2 hR2 => ?_)
      have el : (add30 [] (Tn (oL L) (10 - j) 10)).length = min 30 (Tn (oL L) (10 - j) 10).length := by unfold add30; rw [List.nil_append, List.length_take]
      have l30 := hR2.1
      simp (disch := omega) only [decide_eq_true_eq, decide_eq_false_iff_not, L32, az01, b2i_01, b2i_n0, b2i_n1, Bool.and_true, true_and, and_true, Classical.not_not, Bool.not_eq_true, Bool.not_eq_false, n32_mul, n32_add, n32_ix, n32_ib, n32_lt, n32_le, n32_inj, l_hb, l_hb0, l_shl, l_wo, l_eqm1, l_m1eq, hR2.2.1, uZ_row]
      refine ⟨fun hz => ?_, fun hz => ?_⟩
      · have hT0 : (Tn (oL L) (10 - j) 10).length = 0 := by omega
        rw [if_pos hT0] at he
        rw [hn2]
        exact ih (by omega) he _ (by rw [u2_at, if_neg (by decide), hR2.2.1]; congr 1; omega) u2_eq
      · rw [if_neg (by omega)] at he
        rw [← he] at hq
        have fin := hq (nz_u2 Z2 13 52 (n32 (10 - j))) u2_eq ⟨hR2.1, by rw [u2_at, if_neg (by decide)]; exact hR2.2.1, fun i w' hi k hk => by rw [u2_ne (by decide)]; exact hR2.2.2 i w' hi k hk⟩
        rw [hn2]
        refine sg167_12 ?_
        have e53 : nz_u2 Z2 13 52 (n32 (10 - j)) 13 53 = n32 (add30 [] (Tn (oL L) (10 - j) 10)).length := by rw [u2_at, if_neg (by decide)]; exact hR2.2.1
        simp (disch := omega) only [decide_eq_true_eq, decide_eq_false_iff_not, L32, az01, b2i_01, b2i_n0, b2i_n1, Bool.and_true, true_and, and_true, Classical.not_not, Bool.not_eq_true, Bool.not_eq_false, n32_mul, n32_add, n32_ix, n32_ib, n32_lt, n32_le, n32_inj, l_hb, l_hb0, l_shl, l_wo, l_eqm1, l_m1eq, e53]
        exact ⟨fun _ => fin, fun _ => ⟨fun _ => fin, fun hc => by omega⟩⟩
  simp (disch := omega) only [decide_eq_true_eq, decide_eq_false_iff_not, L32, az01, b2i_01, b2i_n0, b2i_n1, Bool.and_true, true_and, and_true, Classical.not_not, Bool.not_eq_true, Bool.not_eq_false, n32_mul, n32_add, n32_ix, n32_ib, n32_lt, n32_le, n32_inj, l_hb, l_hb0, l_shl, l_wo, l_eqm1, l_m1eq, uZ_row]
  exact loop 9 (Nat.le_refl _) rfl _ (by rw [u2_at, if_neg (by decide), u2_eq]) u2_eq
end
