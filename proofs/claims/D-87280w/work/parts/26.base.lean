/-! numbers: Int32 out of Nat; bits; answers are one -/
def n32 (k : Nat) : Int32 := Int32.ofNat k
theorem n32_add (a b : Nat) : n32 a + n32 b = n32 (a + b) := (Int32.ofNat_add a b).symm
theorem n32_mul (a b : Nat) : n32 a * n32 b = n32 (a * b) := (Int32.ofNat_mul a b).symm
theorem n32_toInt {a : Nat} (h : a < 2147483648) : (n32 a).toInt = a := Int32.toInt_ofNat_of_lt h
theorem n32_lt {a b : Nat} (ha : a < 2147483648) (hb : b < 2147483648) : (n32 a < n32 b) = (a < b) := propext (Int32.ofNat_lt_iff_lt ha hb)
theorem n32_le {a b : Nat} (ha : a < 2147483648) (hb : b < 2147483648) : (n32 a ≤ n32 b) = (a ≤ b) := propext (Int32.ofNat_le_iff_le ha hb)
theorem n32_inj {a b : Nat} (ha : a < 2147483648) (hb : b < 2147483648) : (n32 a = n32 b) = (a = b) := by
  apply propext
  constructor
  · intro h
    have := congrArg Int32.toInt h
    rw [n32_toInt ha, n32_toInt hb] at this
    exact Int.ofNat.inj this
  · rintro rfl; rfl
theorem n32_ix {a : Nat} (h : a < 2147483648) : nz_ix (n32 a) = a := Int32.toNatClampNeg_ofNat_of_lt h
theorem n32_ib {a k : Nat} (h : a < 2147483648) : nz_ib (n32 a) k = decide (a < k) := by
  have h0 : ¬ n32 a < 0 := by
    rw [show (0 : Int32) = n32 0 from rfl, n32_lt h (by omega)]
    omega
  unfold nz_ib
  rw [n32_ix h, decide_eq_false h0]
  cases hb : Nat.blt a k with
  | true => rw [decide_eq_true (show a < k from Nat.le_of_ble_eq_true hb)]; rfl
  | false =>
    rw [decide_eq_false]; · rfl
    intro hh
    rw [show Nat.blt a k = true from Nat.ble_eq_true_of_le hh] at hb; cases hb
theorem n32_sub {a b : Nat} (h : b ≤ a) : n32 a - n32 b = n32 (a - b) := by
  have : n32 a = n32 (a - b) + n32 b := by rw [n32_add, Nat.sub_add_cancel h]
  rw [this, Int32.add_sub_cancel]
theorem n32_neg1 {a : Nat} (h : a < 2147483648) : (n32 a = -1) = False := by
  apply propext
  refine ⟨fun hh => ?_, False.elim⟩
  have := congrArg Int32.toInt hh
  rw [n32_toInt h, show ((-1 : Int32)).toInt = -1 from rfl] at this
  omega
theorem n32_m1 {a : Nat} (h : 0 < a) : n32 a + (-1) = n32 (a - 1) := by
  have : n32 a = n32 (a - 1) + 1 := by
    rw [show (1 : Int32) = n32 1 from rfl, n32_add, Nat.sub_add_cancel h]
  rw [this, Int32.add_assoc, show (1 : Int32) + -1 = 0 from rfl, Int32.add_zero]
theorem hb_core : ∀ m, m < 32 → ((BitVec.ofNat 32 m) &&& 31#32).smod 32#32 = BitVec.ofNat 32 m := by decide +kernel
theorem hb_one (x : BitVec 32) : (x &&& 1#32 = 1#32) ↔ x.getLsbD 0 = true := by
  constructor
  · intro h
    have := congrArg (fun y => BitVec.getLsbD y 0) h
    simpa using this
  · intro h
    apply BitVec.eq_of_getLsbD_eq
    intro i hi
    rw [BitVec.getLsbD_and]
    by_cases h0 : i = 0
    · subst h0; simp [h]
    · have : (1#32).getLsbD i = false := by
        rw [BitVec.getLsbD_ofNat]
        have : Nat.testBit 1 i = false := by
          rw [show (1 : Nat) = 2 ^ 0 from rfl, Nat.testBit_two_pow]; simp; omega
        rw [this]; simp
      rw [this]; simp
theorem n32_hb {a m : Nat} (ha : a < 2147483648) (hm : m < 32) : (((n32 a >>> (n32 m &&& 31)) &&& 1) = 1) = (a.testBit m = true) := by
  apply propext
  rw [← Int32.toBitVec_inj]
  show ((BitVec.ofNat 32 a).sshiftRight' (((BitVec.ofNat 32 m) &&& 31#32).smod 32#32) &&& 1#32 = 1#32) ↔ _
  rw [hb_core m hm, hb_one]
  show ((BitVec.ofNat 32 a).sshiftRight (BitVec.ofNat 32 m).toNat).getLsbD 0 = true ↔ _
  rw [BitVec.getLsbD_sshiftRight, BitVec.toNat_ofNat, Nat.mod_eq_of_lt (by omega : m < 2 ^ 32), BitVec.getLsbD_ofNat]
  simp [hm]
theorem n32_hb0 {a m : Nat} (ha : a < 2147483648) (hm : m < 32) : (((n32 a >>> (n32 m &&& 31)) &&& 1) = 0) = (a.testBit m = false) := by
  have h1 := n32_hb ha hm
  apply propext
  have hc : ((n32 a >>> (n32 m &&& 31)) &&& 1) = 0 ∨ ((n32 a >>> (n32 m &&& 31)) &&& 1) = 1 := by
    rw [← Int32.toBitVec_inj, ← Int32.toBitVec_inj]
    generalize hx : (n32 a >>> (n32 m &&& 31)) = x
    show x.toBitVec &&& 1#32 = 0#32 ∨ x.toBitVec &&& 1#32 = 1#32
    rw [hb_one]
    cases hb : x.toBitVec.getLsbD 0 with
    | true => right; rfl
    | false =>
      left
      apply BitVec.eq_of_getLsbD_eq
      intro i hi
      rw [BitVec.getLsbD_and]
      by_cases h0 : i = 0
      · subst h0; rw [hb]; simp
      · have : (1#32).getLsbD i = false := by
          rw [BitVec.getLsbD_ofNat]
          have : Nat.testBit 1 i = false := by
            rw [show (1 : Nat) = 2 ^ 0 from rfl, Nat.testBit_two_pow]; simp; omega
          rw [this]; simp
        rw [this]; simp
  constructor
  · intro h0
    cases hb : a.testBit m with
    | false => rfl
    | true =>
      have := h1.mpr hb
      rw [h0] at this
      exact absurd this (by decide)
  · intro hf
    rcases hc with h | h
    · exact h
    · have := h1.mp h
      rw [hf] at this; cases this
theorem n32_shl : ∀ m, m < 32 → ((1 : Int32) <<< (n32 m &&& 31)) = n32 (2 ^ m) := by decide +kernel
theorem n32_or (a b : Nat) : n32 a ||| n32 b = n32 (a ||| b) := by
  rw [← Int32.toBitVec_inj]
  show BitVec.ofNat 32 a ||| BitVec.ofNat 32 b = BitVec.ofNat 32 (a ||| b)
  apply BitVec.eq_of_getLsbD_eq
  intro i hi
  rw [BitVec.getLsbD_or, BitVec.getLsbD_ofNat, BitVec.getLsbD_ofNat, BitVec.getLsbD_ofNat, Nat.testBit_or]
  simp [hi]
theorem n32_and (a b : Nat) : n32 a &&& n32 b = n32 (a &&& b) := by
  rw [← Int32.toBitVec_inj]
  show BitVec.ofNat 32 a &&& BitVec.ofNat 32 b = BitVec.ofNat 32 (a &&& b)
  apply BitVec.eq_of_getLsbD_eq
  intro i hi
  rw [BitVec.getLsbD_and, BitVec.getLsbD_ofNat, BitVec.getLsbD_ofNat, BitVec.getLsbD_ofNat, Nat.testBit_and]
  simp [hi]
/-- what is left without the bits of b -/
def nwo (a b : Nat) : Nat := a &&& (4294967295 - b)
theorem nwo_bit {a b i : Nat} (hb : b < 4294967296) (hi : i < 32) : (nwo a b).testBit i = (a.testBit i && !b.testBit i) := by
  unfold nwo
  rw [Nat.testBit_and, show 4294967295 - b = 2 ^ 32 - (b + 1) by omega, Nat.testBit_two_pow_sub_succ (by omega)]
  simp [hi]
theorem n32_wo {a b : Nat} (hb : b < 4294967296) : n32 a &&& (n32 b ^^^ (-1)) = n32 (nwo a b) := by
  have : n32 b ^^^ (-1) = n32 (4294967295 - b) := by
    rw [← Int32.toBitVec_inj]
    show BitVec.ofNat 32 b ^^^ BitVec.ofNat 32 4294967295 = BitVec.ofNat 32 (4294967295 - b)
    apply BitVec.eq_of_getLsbD_eq
    intro i hi
    rw [BitVec.getLsbD_xor, BitVec.getLsbD_ofNat, BitVec.getLsbD_ofNat, BitVec.getLsbD_ofNat, show 4294967295 - b = 2 ^ 32 - (b + 1) by omega, Nat.testBit_two_pow_sub_succ (by omega), show (4294967295 : Nat) = 2 ^ 32 - 1 from rfl, Nat.testBit_two_pow_sub_one]
    simp [hi]
  rw [this, n32_and]; rfl
theorem nwo_le (a b : Nat) : nwo a b ≤ a := Nat.and_le_left
/-- the set of those below n that are so, as bits -/
def bits : Nat → (Nat → Bool) → Nat
  | 0, _ => 0
  | n + 1, p => bits n p ||| cond (p n) (2 ^ n) 0
theorem bits_bit (n : Nat) (p : Nat → Bool) (k : Nat) : (bits n p).testBit k = (decide (k < n) && p k) := by
  induction n with
  | zero => simp [bits]
  | succ n ih =>
    rw [bits, Nat.testBit_or, ih]
    by_cases h : k = n
    · subst h
      cases hp : p k <;> simp
    · have : (cond (p n) (2 ^ n) 0).testBit k = false := by
        cases p n with
        | true => rw [cond_true, Nat.testBit_two_pow_of_ne (Ne.symm h)]
        | false => simp
      rw [this, Bool.or_false]
      by_cases h1 : k < n
      · rw [decide_eq_true h1, decide_eq_true (by omega : k < n + 1)]
      · rw [decide_eq_false h1, decide_eq_false (by omega : ¬ k < n + 1)]
theorem bits_lt (n : Nat) (p : Nat → Bool) : bits n p < 2 ^ n := by
  apply Nat.lt_pow_two_of_testBit
  intro i hi
  rw [bits_bit, decide_eq_false (by omega), Bool.false_and]
theorem bits_congr {n : Nat} {p q : Nat → Bool} (h : ∀ k, k < n → p k = q k) : bits n p = bits n q := by
  apply Nat.eq_of_testBit_eq
  intro i
  rw [bits_bit, bits_bit]
  by_cases hi : i < n
  · rw [h i hi]
  · rw [decide_eq_false hi, Bool.false_and, Bool.false_and]
theorem bits_zero {n : Nat} {p : Nat → Bool} : bits n p = 0 ↔ ∀ k, k < n → p k = false := by
  constructor
  · intro h k hk
    have := bits_bit n p k
    rw [h, decide_eq_true hk, Bool.true_and] at this
    rw [← this]; simp
  · intro h
    apply Nat.eq_of_testBit_eq
    intro i
    rw [bits_bit]
    by_cases hi : i < n
    · rw [h i hi]; simp
    · rw [decide_eq_false hi]; simp
/-- a method that can be shown to come to one answer comes to it -/
theorem ctI_det {P : Nat × (Nat → Int32)} {d i : Nat} {as : List nz_V} {h k : nz_h} {v : Int32} (H : ∀ Q : Int32 → nz_h → Prop, Q v k → ctI P d i as h Q) (Q : Int32 → nz_h → Prop) : ctI P d i as h Q = Q v k := by
  apply propext
  refine ⟨fun hq => ?_, H Q⟩
  obtain ⟨f1, v1, k1, e1, q1⟩ := H (fun x h' => x = v ∧ h' = k) ⟨rfl, rfl⟩
  obtain ⟨f2, v2, k2, e2, q2⟩ := hq
  have a1 := az_ev_mono d d f1 (f1 + f2) (Nat.le_refl _) (by omega) _ _ _ _ e1
  have a2 := az_ev_mono d d f2 (f1 + f2) (Nat.le_refl _) (by omega) _ _ _ _ e2
  cases a1.symm.trans a2
  rcases v1 with _ | x | r
  · exact q1.elim
  · obtain ⟨rfl, rfl⟩ := q1
    exact q2
  · exact q1.elim
theorem ctV_det {P : Nat × (Nat → Int32)} {d i : Nat} {as : List nz_V} {h k : nz_h} (H : ∀ Q : nz_h → Prop, Q k → ctV P d i as h Q) (Q : nz_h → Prop) : ctV P d i as h Q = Q k := by
  apply propext
  refine ⟨fun hq => ?_, H Q⟩
  obtain ⟨f1, v1, k1, e1, q1⟩ := H (fun h' => h' = k) rfl
  obtain ⟨f2, v2, k2, e2, q2⟩ := hq
  have a1 := az_ev_mono d d f1 (f1 + f2) (Nat.le_refl _) (by omega) _ _ _ _ e1
  have a2 := az_ev_mono d d f2 (f1 + f2) (Nat.le_refl _) (by omega) _ _ _ _ e2
  cases a1.symm.trans a2
  rcases v1 with _ | v1
  · have : k1 = k := q1
    subst this
    exact q2
  · exact q1.elim
def b2i (b : Bool) : Int32 := cond b 1 0
theorem b2i_01 (b : Bool) : az_b01 (b2i b) = true := by cases b <;> rfl
theorem b2i_0 (b : Bool) : (b2i b = 0) = (b = false) := by cases b <;> simp [b2i]
theorem b2i_1 (b : Bool) : (b2i b = 1) = (b = true) := by cases b <;> simp [b2i]
/-- depths: d at least k -/
theorem dge {d k : Nat} (h : k ≤ d) : ∃ e, d = e + k := ⟨d - k, by omega⟩
/-! literals in one form -/
def nm1 : Int32 := -1
def nm2 : Int32 := -2
theorem L32 : (0 : Int32) = n32 0 ∧ (1 : Int32) = n32 1 ∧ (2 : Int32) = n32 2 ∧ (3 : Int32) = n32 3 ∧ (4 : Int32) = n32 4 ∧ (5 : Int32) = n32 5 ∧ (6 : Int32) = n32 6 ∧ (7 : Int32) = n32 7 ∧ (8 : Int32) = n32 8 ∧ (9 : Int32) = n32 9 ∧ (10 : Int32) = n32 10 ∧ (11 : Int32) = n32 11 ∧ (12 : Int32) = n32 12 ∧ (13 : Int32) = n32 13 ∧ (14 : Int32) = n32 14 ∧ (15 : Int32) = n32 15 ∧ (16 : Int32) = n32 16 ∧ (17 : Int32) = n32 17 ∧ (18 : Int32) = n32 18 ∧ (19 : Int32) = n32 19 ∧ (20 : Int32) = n32 20 ∧ (21 : Int32) = n32 21 ∧ (22 : Int32) = n32 22 ∧ (23 : Int32) = n32 23 ∧ (30 : Int32) = n32 30 ∧ (31 : Int32) = n32 31 ∧ (90 : Int32) = n32 90 ∧ (99 : Int32) = n32 99 ∧ (100 : Int32) = n32 100 ∧ (128 : Int32) = n32 128 ∧ (138 : Int32) = n32 138 ∧ (144 : Int32) = n32 144 ∧ (160 : Int32) = n32 160 ∧ (300 : Int32) = n32 300 ∧ (400 : Int32) = n32 400 ∧ (401 : Int32) = n32 401 ∧ (402 : Int32) = n32 402 ∧ (700 : Int32) = n32 700 ∧ (1023 : Int32) = n32 1023 ∧ (1024 : Int32) = n32 1024 ∧ (55338 : Int32) = n32 55338 ∧ (57888 : Int32) = n32 57888 ∧ -(n32 1) = nm1 ∧ -(n32 2) = nm2 ∧ (∀ n, Int32.ofNat n = n32 n) := ⟨rfl, rfl, rfl, rfl, rfl, rfl, rfl, rfl, rfl, rfl, rfl, rfl, rfl, rfl, rfl, rfl, rfl, rfl, rfl, rfl, rfl, rfl, rfl, rfl, rfl, rfl, rfl, rfl, rfl, rfl, rfl, rfl, rfl, rfl, rfl, rfl, rfl, rfl, rfl, rfl, rfl, rfl, rfl, rfl, fun _ => rfl⟩
theorem az01 : az_b01 (n32 0) = true ∧ az_b01 (n32 1) = true := ⟨rfl, rfl⟩
theorem l_hb {a m : Nat} (ha : a < 2147483648) (hm : m < 32) : (((n32 a >>> (n32 m &&& n32 31)) &&& n32 1) = n32 1) = (a.testBit m = true) := n32_hb ha hm
theorem l_hb0 {a m : Nat} (ha : a < 2147483648) (hm : m < 32) : (((n32 a >>> (n32 m &&& n32 31)) &&& n32 1) = n32 0) = (a.testBit m = false) := n32_hb0 ha hm
theorem l_shl {m : Nat} (h : m < 32) : (n32 1 <<< (n32 m &&& n32 31)) = n32 (2 ^ m) := n32_shl m h
theorem l_wo {a b : Nat} (hb : b < 4294967296) : n32 a &&& (n32 b ^^^ nm1) = n32 (nwo a b) := n32_wo hb
theorem l_m1 {a : Nat} (h : 0 < a) : n32 a + nm1 = n32 (a - 1) := n32_m1 h
theorem l_eqm1 {a : Nat} (h : a < 2147483648) : (n32 a = nm1) = False := n32_neg1 h
theorem l_m1eq {a : Nat} (h : a < 2147483648) : (nm1 = n32 a) = False := by
  rw [← n32_neg1 h]; exact propext ⟨Eq.symm, Eq.symm⟩
theorem b2i_n0 (b : Bool) : (b2i b = n32 0) = (b = false) := b2i_0 b
theorem b2i_n1 (b : Bool) : (b2i b = n32 1) = (b = true) := b2i_1 b
