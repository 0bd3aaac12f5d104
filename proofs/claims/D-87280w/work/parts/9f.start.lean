/-! the numbers at the start; the law's invariant holds there -/
def gz_t0 : St := fun a b => if a = 55 then (if b < 10 then b else 0) else if a = 56 then 2 else if a = 61 then 4294967295 else 0
def gz_C0 : nz_f5 := fun a _ j _ s => if a = 7 then (if s = 0 then n32 j else n32 2) else if a = 8 then (if s = 0 then n32 j else if s = 3 then n32 4294967295 else n32 0) else n32 0
def gz_h0 : nz_h := (rowf gz_t0, rowf z0, zL, zL, gz_C0)
theorem gz_t55 {b : Nat} (h : b < 10) : gz_t0 55 b = b := by
  show (if b < 10 then b else 0) = b
  rw [if_pos h]
theorem gz_TV : TV gz_t0 := by
  refine ⟨fun m => ?_, fun m => ?_, fun j => ?_, fun i => ?_, fun i => ?_, fun i _ => ?_, fun i h => ?_, fun j => ?_, fun j => ?_, ?_, fun i => ?_, ?_, fun i h => ?_⟩
  · show (if m < 10 then m else 0) < 100
    split <;> omega
  · show 2 < 9; omega
  · show 0 ≤ 20; omega
  · show 0 < 10; omega
  · show 0 < 1024; omega
  · show 0 < 10; omega
  · exact absurd (show 0 = 8 from h) (by omega)
  · exact Or.inr rfl
  · show 0 < 1024; omega
  · show 0 < 4; omega
  · show 0 < 8; omega
  · show 0 ≤ 100; omega
  · exact absurd (show 0 = 9 from h) (by omega)
theorem gz_RT {o : Nat} : RT o gz_t0 gz_C0 := by
  refine ⟨fun m hm => ⟨?_, rfl⟩, fun j _ => ⟨rfl, rfl, rfl, rfl⟩, fun j p _ hp => ?_, rfl⟩
  · rw [gz_t55 hm]; rfl
  · exact absurd (show p < 0 from hp) (Nat.not_lt_zero _)
theorem gz_RC : RC 0 gz_t0 z0 gz_C0 := by
  refine ⟨gz_RT, fun j _ => ⟨rfl, rfl, fun m _ => rfl, fun _ => ⟨rfl, rfl⟩, fun h => ?_, fun h => ?_, fun h => ?_, fun _ => ⟨0, by omega, rfl, fun _ => rfl, fun _ => Nat.le_refl _⟩⟩, fun m _ => ⟨[], ⟨fun x => ⟨fun h => (nomatch h), fun h => ?_⟩, List.Pairwise.nil⟩, rfl, fun k x h => by simp at h⟩⟩
  · rcases h with h | h
    · exact absurd (show 0 = 1 from h) (by omega)
    · exact absurd (show 0 = 2 from h) (by omega)
  · exact absurd (show 0 = 1 from h) (by omega)
  · exact absurd (show 0 < 0 from h) (by omega)
  · exact absurd (show 0 = 2 from h.2.1) (by omega)
theorem gz_ord (i : Nat) : ordB zL i = false := by unfold ordB zL; simp
theorem gz_LI3 : LI3 zL := by
  unfold LI3
  rw [show ordB zL = fun _ => false from funext gz_ord]
  rfl
theorem gz_LAWI : LAWI gz_h0 := by
  refine ⟨gz_t0, z0, zL, zL, gz_C0, rfl, gz_TV, ⟨fun m hm => ⟨?_, rfl⟩, fun j _ => ⟨rfl, rfl, rfl⟩, fun j p _ hp => absurd (show p < 0 from hp) (Nat.not_lt_zero _), rfl, rfl, fun i hi => absurd (show i < 0 from hi) (Nat.not_lt_zero _)⟩, z0_GZ, fun _ _ => by show 0 < 1000000; omega, gz_LI3, fun _ _ => Or.inl rfl, ⟨⟨0, by omega, rfl⟩, ⟨0, by omega, rfl⟩, fun _ _ => ⟨0, by omega, rfl⟩⟩, fun _ _ _ _ => rfl,
    ⟨⟨rfl, fun _ => ⟨rfl, rfl, rfl⟩, gz_LI3, fun i _ h => ?_, rfl, fun _ => ⟨rfl, rfl, rfl, rfl⟩, fun f _ => ⟨0, by omega, rfl, fun g _ => ?_⟩⟩, rfl, fun _ _ => ⟨rfl, rfl, rfl, rfl⟩, fun _ _ => rfl⟩,
    ⟨gz_t0, z0, gz_TV, z0_INV, gz_RC, rfl, Or.inl ⟨rfl, rfl, rfl⟩⟩, ⟨0, by omega, rfl, rfl, fun i hi => absurd hi (Nat.not_lt_zero _)⟩, ⟨0, by omega, rfl, rfl, fun i hi => absurd hi (Nat.not_lt_zero _)⟩⟩
  · rw [gz_t55 hm]; rfl
  · rw [gz_ord] at h; cases h
  · rw [gz_ord]; simp
