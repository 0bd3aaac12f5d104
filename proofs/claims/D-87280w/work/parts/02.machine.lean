/-! THE ABSTRACT MACHINE: values, entries of code, one step, runs; generic in the heap -/
abbrev az_V (ρ : Type) : Type := Int32 ⊕ Option ρ
abbrev vi {ρ : Type} (x : Int32) : az_V ρ := Sum.inl x
abbrev vr {ρ : Type} (r : ρ) : az_V ρ := Sum.inr (some r)
abbrev vn {ρ : Type} : az_V ρ := Sum.inr none
abbrev az_L (ρ : Type) : Type := List (Option (az_V ρ))
/-- an entry: tag, constant, next pc, four numbers, targets -/
abbrev az_E : Type := Nat × Int32 × Nat × Nat × Nat × Nat × Nat × List Nat
abbrev az_C : Type := List (Nat × az_E)
abbrev az_R (ρ α : Type) : Type :=
  (Nat × az_L ρ × List (az_V ρ) × α) ⊕ (Bool × Nat × Nat × az_L ρ × List (az_V ρ) × α) ⊕ (Nat × List (az_V ρ) × Nat × az_L ρ × List (az_V ρ) × α) ⊕ (Option (az_V ρ) × α) ⊕ (Int32 × Int32 × List Nat × Nat × az_L ρ × List (az_V ρ) × α)
/-- the heap's operations -/
abbrev az_O (ρ α : Type) : Type :=
  (α → ρ → Nat → Nat → Nat → Nat → Option (az_V ρ)) ×
  (α → ρ → Nat → Nat → Nat → Nat → az_V ρ → Option (Option Bool × α)) ×
  (α → ρ → Option Nat) ×
  (α → Nat → ρ → Int32 → Option (Bool × Int32)) ×
  (α → Nat → ρ → Int32 → Int32 → Option (Bool × α)) ×
  (α → ρ → Int32 → Option (Bool × az_V ρ)) ×
  (α → ρ → Int32 → az_V ρ → Option (Bool × α)) ×
  (α → Nat → Option (ρ × α)) ×
  (α → Nat → Nat → Int32 → Option (Bool × ρ × α)) ×
  (α → Int32 → Int32 → Option (Bool × ρ × α)) ×
  (α → ρ → Option Nat) × (ρ → ρ → Bool)
section
variable {ρ α : Type}
def az_gf (O : az_O ρ α) := O.1
def az_pf (O : az_O ρ α) := O.2.1
def az_al (O : az_O ρ α) := O.2.2.1
def az_gi (O : az_O ρ α) := O.2.2.2.1
def az_si (O : az_O ρ α) := O.2.2.2.2.1
def az_ga (O : az_O ρ α) := O.2.2.2.2.2.1
def az_sa (O : az_O ρ α) := O.2.2.2.2.2.2.1
def az_nw (O : az_O ρ α) := O.2.2.2.2.2.2.2.1
def az_na (O : az_O ρ α) := O.2.2.2.2.2.2.2.2.1
def az_nm (O : az_O ρ α) := O.2.2.2.2.2.2.2.2.2.1
def az_cs (O : az_O ρ α) := O.2.2.2.2.2.2.2.2.2.2.1
def az_eq (O : az_O ρ α) := O.2.2.2.2.2.2.2.2.2.2.2
def az_look : az_C → Nat → Option az_E
  | [], _ => none
  | (k, e) :: t, pc => cond (Nat.beq k pc) (some e) (az_look t pc)
def az_nx (np : Nat) (ls : az_L ρ) (st : List (az_V ρ)) (h : α) : Option (Option Bool × az_R ρ α) := some (none, Sum.inl (np, ls, st, h))
def az_gx (g : Bool) (np : Nat) (ls : az_L ρ) (st : List (az_V ρ)) (h : α) : Option (Option Bool × az_R ρ α) := some (some g, Sum.inl (np, ls, st, h))
def az_br (q : Bool) (t np : Nat) (ls : az_L ρ) (st : List (az_V ρ)) (h : α) : Option (Option Bool × az_R ρ α) := some (none, Sum.inr (Sum.inl (q, t, np, ls, st, h)))
def az_call (m : Nat) (as : List (az_V ρ)) (np : Nat) (ls : az_L ρ) (st : List (az_V ρ)) (h : α) : Option (Option Bool × az_R ρ α) := cond (Nat.ble st.length 8) (some (none, Sum.inr (Sum.inr (Sum.inl (m, as, np, ls, st, h))))) none
def az_callg (g : Bool) (m : Nat) (as : List (az_V ρ)) (np : Nat) (ls : az_L ρ) (st : List (az_V ρ)) (h : α) : Option (Option Bool × az_R ρ α) := cond (Nat.ble st.length 8) (some (some g, Sum.inr (Sum.inr (Sum.inl (m, as, np, ls, st, h))))) none
def az_ret (g : Option Bool) (v : Option (az_V ρ)) (h : α) : Option (Option Bool × az_R ρ α) := some (g, Sum.inr (Sum.inr (Sum.inr (Sum.inl (v, h)))))
def az_b01 (x : Int32) : Bool := x == 0 || x == 1
/-- comparison by its number: eq ne lt ge gt le -/
def az_cmp (o : Nat) (x y : Int32) : Bool := match o with
  | 0 => decide (x = y)
  | 1 => decide (¬ x = y)
  | 2 => decide (x < y)
  | 3 => decide (y ≤ x)
  | 4 => decide (y < x)
  | _ => decide (x ≤ y)
/-- which method a manner's class runs -/
def az_man (sel cls : Nat) : Nat := cond (Nat.beq sel 0) (cond (Nat.beq cls 3) 62 (cond (Nat.beq cls 4) 67 (cond (Nat.beq cls 5) 69 72))) (cond (Nat.beq sel 1) (cond (Nat.beq cls 6) 73 64) (cond (Nat.beq cls 5) 70 63))
def az_isn (v : Option ρ) : Bool := match v with
  | none => true
  | some _ => false
def az_eqr (O : az_O ρ α) (x y : Option ρ) : Bool := match x, y with
  | none, none => true
  | some a, some b => az_eq O a b
  | _, _ => false
def az_step (O : az_O ρ α) (e : az_E) (ls : az_L ρ) (st : List (az_V ρ)) (h : α) : Option (Option Bool × az_R ρ α) :=
  match e with
  | (tag, k, np, a, b, c, d, L) =>
  match tag with
  | 0 => az_nx np ls (vi k :: st) h
  | 1 => match ls[a]? with
    | some (some (Sum.inl x)) => az_nx np ls (vi x :: st) h
    | _ => none
  | 2 => match ls[a]? with
    | some (some (Sum.inr x)) => az_nx np ls (Sum.inr x :: st) h
    | _ => none
  | 3 => match st with
    | Sum.inl x :: t => az_nx np (ls.set a (some (vi x))) t h
    | _ => none
  | 4 => match st with
    | Sum.inr x :: t => az_nx np (ls.set a (some (Sum.inr x))) t h
    | _ => none
  | 5 => match ls[a]? with
    | some (some (Sum.inl x)) => az_nx np (ls.set a (some (vi (x + k)))) st h
    | _ => none
  | 6 => match st with
    | Sum.inr (some r) :: t => match az_gf O h r a b c d with
      | some v => az_nx np ls (v :: t) h
      | none => none
    | _ => none
  | 7 => match st with
    | v :: Sum.inr (some r) :: t => match az_pf O h r a b c d v with
      | some (g, h') => some (g, Sum.inl (np, ls, t, h'))
      | none => none
    | _ => none
  | 8 => match st with
    | Sum.inl i :: Sum.inr (some r) :: t => match az_gi O h 0 r i with
      | some (g, x) => az_gx g np ls (vi x :: t) h
      | none => none
    | _ => none
  | 9 => match st with
    | Sum.inl x :: Sum.inl i :: Sum.inr (some r) :: t => match az_si O h 0 r i x with
      | some (g, h') => az_gx g np ls t h'
      | none => none
    | _ => none
  | 10 => match st with
    | Sum.inl i :: Sum.inr (some r) :: t => match az_gi O h 1 r i with
      | some (g, x) => az_gx g np ls (vi x :: t) h
      | none => none
    | _ => none
  | 11 => match st with
    | Sum.inl x :: Sum.inl i :: Sum.inr (some r) :: t => match az_si O h 1 r i x with
      | some (g, h') => az_gx g np ls t h'
      | none => none
    | _ => none
  | 12 => match st with
    | Sum.inl i :: Sum.inr (some r) :: t => match az_ga O h r i with
      | some (g, v) => az_gx g np ls (v :: t) h
      | none => none
    | _ => none
  | 13 => match st with
    | v :: Sum.inl i :: Sum.inr (some r) :: t => match az_sa O h r i v with
      | some (g, h') => az_gx g np ls t h'
      | none => none
    | _ => none
  | 14 => match st with
    | Sum.inr (some r) :: t => match az_al O h r with
      | some n => az_nx np ls (vi (Int32.ofNat n) :: t) h
      | none => none
    | _ => none
  | 15 => match az_nw O h a with
    | some (r, h') => az_nx np ls (vr r :: st) h'
    | none => none
  | 16 => match st with
    | Sum.inl n :: t => match az_na O h 0 a n with
      | some (g, r, h') => az_gx g np ls (vr r :: t) h'
      | none => none
    | _ => none
  | 17 => match st with
    | Sum.inl n :: t => match az_na O h 1 a n with
      | some (g, r, h') => az_gx g np ls (vr r :: t) h'
      | none => none
    | _ => none
  | 18 => match st with
    | Sum.inl y :: Sum.inl x :: t => match az_nm O h x y with
      | some (g, r, h') => az_gx g np ls (vr r :: t) h'
      | none => none
    | _ => none
  | 19 => match st with
    | Sum.inl y :: Sum.inl x :: t => az_nx np ls (vi (x + y) :: t) h
    | _ => none
  | 20 => match st with
    | Sum.inl y :: Sum.inl x :: t => az_nx np ls (vi (x - y) :: t) h
    | _ => none
  | 21 => match st with
    | Sum.inl y :: Sum.inl x :: t => az_nx np ls (vi (x * y) :: t) h
    | _ => none
  | 22 => match st with
    | Sum.inl y :: Sum.inl x :: t => az_gx (decide (¬ y = 0)) np ls (vi (x / y) :: t) h
    | _ => none
  | 23 => match st with
    | Sum.inl y :: Sum.inl x :: t => az_gx (decide (¬ y = 0)) np ls (vi (x - x / y * y) :: t) h
    | _ => none
  | 24 => match st with
    | Sum.inl y :: Sum.inl x :: t => az_nx np ls (vi (x &&& y) :: t) h
    | _ => none
  | 25 => match st with
    | Sum.inl y :: Sum.inl x :: t => az_nx np ls (vi (x ||| y) :: t) h
    | _ => none
  | 26 => match st with
    | Sum.inl y :: Sum.inl x :: t => az_nx np ls (vi (x ^^^ y) :: t) h
    | _ => none
  | 27 => match st with
    | Sum.inl y :: Sum.inl x :: t => az_nx np ls (vi (x <<< (y &&& 31)) :: t) h
    | _ => none
  | 28 => match st with
    | Sum.inl y :: Sum.inl x :: t => az_nx np ls (vi (x >>> (y &&& 31)) :: t) h
    | _ => none
  | 29 => match st with
    | v :: t => az_nx np ls (v :: v :: t) h
    | _ => none
  | 30 => match st with
    | v :: w :: t => az_nx np ls (v :: w :: v :: w :: t) h
    | _ => none
  | 31 => match st with
    | _ :: t => az_nx np ls t h
    | _ => none
  | 32 => az_nx a ls st h
  | 33 => match st with
    | Sum.inl x :: t => az_br (az_cmp b x 0) a np ls t h
    | _ => none
  | 34 => match st with
    | Sum.inl y :: Sum.inl x :: t => az_br (az_cmp b x y) a np ls t h
    | _ => none
  | 35 => match st with
    | Sum.inr v :: t => az_br (az_isn v) a np ls t h
    | _ => none
  | 36 => match st with
    | Sum.inr v :: t => az_br (az_isn v) np a ls t h
    | _ => none
  | 37 => match st with
    | Sum.inr y :: Sum.inr x :: t => cond (Nat.beq b 0) (az_br (az_eqr O x y) a np ls t h) (az_br (az_eqr O x y) np a ls t h)
    | _ => none
  | 38 => match st with
    | Sum.inl x :: t => some (none, Sum.inr (Sum.inr (Sum.inr (Sum.inr (x, k, L, a, ls, t, h)))))
    | _ => none
  | 39 => cond (Nat.ble b st.length) (az_call a (st.take b).reverse np ls (st.drop b) h) none
  | 40 => match st.drop b with
    | Sum.inr (some r) :: t => match az_cs O h r with
      | some q => cond (Nat.beq c 99) (az_callg (Nat.ble 3 q && Nat.ble q 6) (az_man a q) (vr r :: (st.take b).reverse) np ls t h) (cond (Nat.beq q c) (az_call a (vr r :: (st.take b).reverse) np ls t h) none)
      | none => none
    | _ => none
  | 41 => match st.drop b with
    | Sum.inr (some r) :: t => az_call a (vr r :: (st.take b).reverse) np ls t h
    | _ => none
  | 42 => match st.drop b with
    | Sum.inr (some r) :: t => match az_cs O h r with
      | some q => cond (Nat.beq q c) (az_call a (vr r :: (st.take b).reverse) np ls t h) none
      | none => none
    | _ => none
  | 43 => match st with
    | [Sum.inl x] => az_ret (cond (Nat.beq c 0) none (some (az_b01 x))) (some (vi x)) h
    | _ => none
  | 44 => match st with
    | [Sum.inr x] => az_ret none (some (Sum.inr x)) h
    | _ => none
  | 45 => match st with
    | [] => az_ret none none h
    | _ => none
  | 46 => az_nx np ls (vn :: st) h
  | 47 => match st with
    | Sum.inl y :: Sum.inl x :: t => cond (Nat.ble t.length 8) (az_nx np ls (vi (if x < y then y else x) :: t) h) none
    | _ => none
  | 48 => match st with
    | Sum.inl y :: Sum.inl x :: t => cond (Nat.ble t.length 8) (az_nx np ls (vi (if y < x then y else x) :: t) h) none
    | _ => none
  | 49 => match st with
    | Sum.inr (some _) :: t => cond (Nat.ble t.length 8) (az_nx np ls t h) none
    | _ => none
  | _ => none
def az_sw (x lo : Int32) (L : List Nat) (df : Nat) : Nat := if x.toInt < lo.toInt then df else L.getD (x.toInt - lo.toInt).toNat df
def az_gd (g : Option Bool) : Bool := match g with
  | none => true
  | some b => b
/-- one frame: f steps at most -/
def az_run (O : az_O ρ α) (call : Nat → List (az_V ρ) → α → Option (Option (az_V ρ) × α)) (cd : az_C) : Nat → Nat → az_L ρ → List (az_V ρ) → α → Option (Option (az_V ρ) × α)
  | 0, _, _, _, _ => none
  | f + 1, pc, ls, st, h => match az_look cd pc with
    | none => none
    | some e => match az_step O e ls st h with
      | none => none
      | some (g, r) => cond (az_gd g) (match r with
        | Sum.inl (p', l', s', h') => az_run O call cd f p' l' s' h'
        | Sum.inr (Sum.inl (q, t, np, l', s', h')) => az_run O call cd f (cond q t np) l' s' h'
        | Sum.inr (Sum.inr (Sum.inl (m, as, np, l', s', h'))) => match call m as h' with
          | none => none
          | some (v, h2) => az_run O call cd f np l' (v.toList ++ s') h2
        | Sum.inr (Sum.inr (Sum.inr (Sum.inl (v, h')))) => some (v, h')
        | Sum.inr (Sum.inr (Sum.inr (Sum.inr (x, lo, L, df, l', s', h')))) => az_run O call cd f (az_sw x lo L df) l' s' h') none
end
