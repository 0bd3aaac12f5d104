/-! the reference: always -/
def alwM (t : St) (K : Nat) : Nat := if (seqA t K).1 = 401 then 400 else (seqA t K).1
def alwA (t : St) (K : Nat) : Int32 := cond (anyB (alwM t K) (fun i => stuckR t ((seqA t K).2.1 i))) (n32 0) (if (seqA t K).1 = 401 then nm1 else n32 1)
section
variable {P : Nat × (Nat → Int32)} {d : Nat} {t s : St} {L Z : nz_f2} {C : nz_f5} {j : Nat}
theorem anyB_le {p : Nat → Bool} {m n : Nat} (h : m ≤ n) : (anyB m p || anyB n p) = anyB n p := by
  cases hm : anyB m p with
  | false => rfl
  | true =>
    obtain ⟨k, hk, hp⟩ := anyB_iff.1 hm
    rw [anyB_of (show k < n by omega) hp]; rfl
theorem m_stops {i : Nat} {ρ : St} (hT : TV t) (hz : GZ s) (hi : i ≤ 401) (hr : MR ρ L i) (hK : KR t ρ) (hd : 12 ≤ d) {Q : Int32 → nz_h → Prop}
    (hq : ∀ Z', Q (b2i (stuckR t ρ)) (rowf t, rowf (tk ρ), L, Z', C)) : ctI P d 181 [mO, vi (n32 i)] (rowf t, rowf s, L, Z, C) Q := by
  obtain ⟨d, rfl⟩ := dge hd
  refine sm181 ?_
  rw [m_takes hz hi hr (by omega)]
  refine m_mayMany hT hK.1 (by omega) (fun Z2 => ?_)
  have c8 := cnt_0 (p := mayS t (tk ρ)) 8
  have cl := cnt_le 8 (mayS t (tk ρ))
  have q := hq Z2
  unfold stuckR endR at q
  simp (disch := omega) only [decide_eq_true_eq, decide_eq_false_iff_not, L32, az01, b2i_01, b2i_n0, b2i_n1, Bool.and_true, true_and, and_true, Classical.not_not, Bool.not_eq_true, Bool.not_eq_false, n32_mul, n32_add, n32_ix, n32_ib, n32_lt, n32_le, n32_inj, l_hb, l_hb0, l_shl, l_wo, l_eqm1, l_m1eq, m_allEnded (S := rowf (tk ρ)) hi hr (fun j hj => hK.B hj (by omega))]
  refine ⟨fun hc => ?_, fun hc => ⟨fun he => ?_, fun he => ?_⟩⟩
  · have : anyB 8 (mayS t (tk ρ)) = true := by
      cases ha : anyB 8 (mayS t (tk ρ)) with
      | true => rfl
      | false => exact absurd (c8.2 ha) hc
    rw [this] at q; exact q
  · rw [c8.1 hc, he] at q; exact q
  · rw [c8.1 hc, he] at q; exact q
theorem m_always (hT : TV t) (hz : GZ s) (h3 : LI3 L) (hd : 22 ≤ d) {Q : Int32 → nz_h → Prop}
    (hq : ∀ K L' Z' s', leastK (stopQ t) K → FP L L' → L' 13 13 = n32 0 → L' 13 44 = L 13 44 → (∀ i, L' 89 i = L 89 i) → GZ s' → (∀ j f, s' j f < 1000000) → Q (alwA t K) (rowf t, rowf s', L', Z', C)) : ctI P d 180 [mO] (rowf t, rowf s, L, Z, C) Q := by
  obtain ⟨d, rfl⟩ := dge hd
  refine sm180 ?_
  simp (disch := omega) only [decide_eq_true_eq, decide_eq_false_iff_not, L32, az01, b2i_01, b2i_n0, b2i_n1, Bool.and_true, true_and, and_true, Classical.not_not, Bool.not_eq_true, Bool.not_eq_false, n32_mul, n32_add, n32_ix, n32_ib, n32_lt, n32_le, n32_inj, l_hb, l_hb0, l_shl, l_wo, l_eqm1, l_m1eq, uL_row]
  have c0 : nz_u2 L 13 13 (n32 0) 13 13 = n32 0 := u2_eq
  have hfp : ∀ L', FL (nz_u2 L 13 13 (n32 0)) L' → FP L L' ∧ L' 13 13 = n32 0 ∧ L' 13 44 = L 13 44 ∧ ∀ i, L' 89 i = L 89 i := fun L' hF => by
    refine ⟨fun a b h1 h2 h3 h4 h5 => ?_, (hF 13 13 (by decide) (by decide) (by decide) (by omega)).trans c0, (hF 13 44 (by decide) (by decide) (by decide) (by omega)).trans ?_, fun i => (hF 89 i (by decide) (by decide) (by decide) (by omega)).trans (u2_ne (by decide))⟩
    · rw [hF a b h1 h2 h3 (by omega)]; unfold nz_u2; rw [if_neg (by omega)]
    · rw [u2_at, if_neg (by decide)]
  refine m_meets (e := false) (most := 400) hT hz c0 (h3.congr (fun x => by rw [u2_ne (by decide)]) (by rw [u2_at, if_neg (by decide)])) (by omega) (by omega) (by omega) (fun k L1 Z1 s1 hv hF hS h57 hz1 hb1 hx => ?_) (fun k L1 Z1 s1 hv hin hne hF hS h57 hz1 hb1 hnew hn => ?_)
  · have hx := hx.resolve_right (fun hh => by cases hh.1)
    have hn := vis_n (by omega) k hv
    have h57 := h57 rfl
    have hk : k / 8 = (seqA t k).1 := by
      have n1 := (seqA_n (t := t) k).1
      have hv1 := (hv (k - 1) (by omega)).1
      have := vis_mono hv (show k - 1 ≤ k by omega)
      omega
    have hK : leastK (stopQ t) k := ⟨Or.inr hx, fun k' hk' hp => by
      have := vis_mono hv (show k' ≤ k by omega)
      have := (hv k' hk').1
      unfold stopQ at hp
      omega⟩
    obtain ⟨fa, fb, fc, fd⟩ := hfp L1 hF
    have q := hq k L1 Z1 s1 hK fa fb fc fd hz1 hb1
    have em : alwM t k = (seqA t k).1 := by unfold alwM; rw [if_neg (by omega)]
    unfold alwA at q
    rw [em, if_neg (by omega)] at q
    rw [hk] at h57
    simp (disch := omega) only [decide_eq_true_eq, decide_eq_false_iff_not, L32, az01, b2i_01, b2i_n0, b2i_n1, Bool.and_true, true_and, and_true, Classical.not_not, Bool.not_eq_true, Bool.not_eq_false, n32_mul, n32_add, n32_ix, n32_ib, n32_lt, n32_le, n32_inj, l_hb, l_hb0, l_shl, l_wo, l_eqm1, l_m1eq, h57]
    refine ⟨fun _ => ⟨fun ha => ⟨fun _ => ?_, fun hc => (hc trivial).elim⟩, fun ha => ?_⟩, fun hc => (hc trivial).elim⟩
    · rw [ha] at q; exact q
    · rw [ha] at q; exact q
  · have h57 := h57 rfl
    have hs1 : (seqA t (k + 1)).1 = 401 ∧ ∀ i, i < 400 → (seqA t (k + 1)).2.1 i = (seqA t k).2.1 i := by
      rw [seqA]
      unfold newB at hnew
      rw [Bool.and_eq_true, Bool.not_eq_true'] at hnew
      unfold stepA
      rw [hnew.1, hnew.2]
      refine ⟨?_, fun i hi => (push_row (by omega)).1⟩
      show (seqA t k).1 + 1 = 401
      omega
    have hK : leastK (stopQ t) (k + 1) := ⟨Or.inl hs1.1, fun k' hk' hp => by
      have h1 : (seqA t k').1 ≤ 400 := by
        by_cases hkk : k' = k
        · rw [hkk]; omega
        · have := vis_mono hv (show k' ≤ k by omega); omega
      have h2 : k' / 8 < (seqA t k').1 := by
        by_cases hkk : k' = k
        · rw [hkk]; exact hin
        · exact (hv k' (by omega)).1
      unfold stopQ at hp
      omega⟩
    have em : alwM t (k + 1) = 400 := by unfold alwM; rw [if_pos hs1.1]
    have est : anyB 400 (fun i => stuckR t ((seqA t (k + 1)).2.1 i)) = anyB 400 (fun i => stuckR t ((seqA t k).2.1 i)) := anyB_congr (fun i hi => by rw [hs1.2 i hi])
    obtain ⟨m1, m2, m3, m4, m5⟩ := hS
    rw [hn] at m1 m2
    have loop : ∀ r i, r + i = 400 → ∀ L2 Z2 s2, FL L1 L2 → (∀ x y, x ≠ 13 → L2 x y = L1 x y) → L2 13 40 = n32 400 → L2 13 57 = b2i (anyB (k / 8) (fun i => stuckR t ((seqA t k).2.1 i)) || anyB i (fun i => stuckR t ((seqA t k).2.1 i))) → GZ s2 → (∀ j f, s2 j f < 1000000) → nzW P (d + 21) az_k180 20 [some mO, some (vi (n32 1)), some (vi (n32 i))] [] (rowf t, rowf s2, L2, Z2, C) (nz_RI Q) := by
      intro r
      induction r with
      | zero =>
        intro i hi L2 Z2 s2 hF2 hr2 e40 e57 hz2 hb2
        obtain rfl : i = 400 := by omega
        obtain ⟨fa, fb, fc, fd⟩ := hfp L2 (hF.trans hF2)
        have q := hq (k + 1) L2 Z2 s2 hK fa fb fc fd hz2 hb2
        unfold alwA at q
        rw [em, if_pos hs1.1, est] at q
        rw [anyB_le (by omega)] at e57
        refine sg180_20 ?_
        simp (disch := omega) only [decide_eq_true_eq, decide_eq_false_iff_not, L32, az01, b2i_01, b2i_n0, b2i_n1, Bool.and_true, true_and, and_true, Classical.not_not, Bool.not_eq_true, Bool.not_eq_false, n32_mul, n32_add, n32_ix, n32_ib, n32_lt, n32_le, n32_inj, l_hb, l_hb0, l_shl, l_wo, l_eqm1, l_m1eq, e40, e57]
        refine ⟨fun _ => ⟨fun ha => ⟨fun hc => by omega, fun _ => ?_⟩, fun ha => ?_⟩, fun hc => by omega⟩
        · rw [ha] at q; exact q
        · rw [ha] at q; exact q
      | succ r ih =>
        intro i hi L2 Z2 s2 hF2 hr2 e40 e57 hz2 hb2
        have hKi := seqA_KR (t := t) hT k i
        have nx : ∀ b : Bool, b = (anyB (k / 8) (fun i => stuckR t ((seqA t k).2.1 i)) || anyB (i + 1) (fun i => stuckR t ((seqA t k).2.1 i))) → ∀ Z3 s3, GZ s3 → (∀ j f, s3 j f < 1000000) → nzW P (d + 21) az_k180 20 [some mO, some (vi (n32 1)), some (vi (n32 (i + 1)))] [] (rowf t, rowf s3, nz_u2 L2 13 57 (b2i b), Z3, C) (nz_RI Q) := fun b hb Z3 s3 hz3 hb3 => by
          refine ih (i + 1) (by omega) _ Z3 s3 (hF2.up (by omega)) (fun x y hx => by rw [u2_ne hx]; exact hr2 x y hx) (by rw [u2_at, if_neg (by decide)]; exact e40) (by rw [u2_eq, hb]) hz3 hb3
        refine sg180_20 ?_
        simp (disch := omega) only [decide_eq_true_eq, decide_eq_false_iff_not, L32, az01, b2i_01, b2i_n0, b2i_n1, Bool.and_true, true_and, and_true, Classical.not_not, Bool.not_eq_true, Bool.not_eq_false, n32_mul, n32_add, n32_ix, n32_ib, n32_lt, n32_le, n32_inj, l_hb, l_hb0, l_shl, l_wo, l_eqm1, l_m1eq, e40, e57, uL_row]
        refine ⟨fun hc => by omega, fun _ => ⟨fun ha => nx true ?_ Z2 s2 hz2 hb2, fun ha => ?_⟩⟩
        · rw [anyB_or, ← Bool.or_assoc, ha, Bool.true_or]
        · refine m_stops hT hz2 (by omega) (fun j f hj hf => by rw [hr2 86 _ (by decide)]; exact m1 i (by omega) j f hj hf) hKi (by omega) (fun Z3 => ?_)
          simp (disch := omega) only [decide_eq_true_eq, decide_eq_false_iff_not, L32, az01, b2i_01, b2i_n0, b2i_n1, Bool.and_true, true_and, and_true, Classical.not_not, Bool.not_eq_true, Bool.not_eq_false, n32_mul, n32_add, n32_ix, n32_ib, n32_lt, n32_le, n32_inj, l_hb, l_hb0, l_shl, l_wo, l_eqm1, l_m1eq, uL_row]
          refine ⟨fun hs => nx false ?_ Z3 _ tk_GZ hKi.1.B, fun hs => nx true ?_ Z3 _ tk_GZ hKi.1.B⟩
          · rw [anyB_or, ← Bool.or_assoc, ha, hs]; rfl
          · rw [anyB_or, ← Bool.or_assoc, hs, Bool.or_true]
    simp (disch := omega) only [decide_eq_true_eq, decide_eq_false_iff_not, L32, az01, b2i_01, b2i_n0, b2i_n1, Bool.and_true, true_and, and_true, Classical.not_not, Bool.not_eq_true, Bool.not_eq_false, n32_mul, n32_add, n32_ix, n32_ib, n32_lt, n32_le, n32_inj, l_hb, l_hb0, l_shl, l_wo, l_eqm1, l_m1eq]
    refine ⟨fun hc => by omega, fun _ => loop 400 0 rfl L1 Z1 s1 (fun _ _ _ _ _ _ => rfl) (fun _ _ _ => rfl) m2 (by rw [h57]; simp [anyB]) hz1 hb1⟩
end
