/-! the classes: names, fields, words (printed out of the claim names) -/
set_option maxRecDepth 100000
def RX0 : String := "LockBook"
def TX0 : u_T := fun k => match k with
  | 0 => ("LockBook", "shop", "LLockBook$Shop;", true)
  | 1 => ("LockBook", "tried", "LLockBook$Shop;", true)
  | 2 => ("LockBook", "book", "LLockBook$OrderBook;", true)
  | 3 => ("LockBook", "log", "LLockBook$RunLog;", true)
  | 4 => ("LockBook", "search", "LLockBook$Search;", true)
  | 5 => ("LockBook", "list", "[I", true)
  | 6 => ("LockBook", "listed", "I", false)
  | 7 => ("LockBook", "wasRun", "Z", false)
  | 8 => ("LockBook", "ring", "[I", true)
  | 9 => ("LockBook", "plan", "[I", true)
  | 10 => ("LockBook", "ringMany", "I", false)
  | 11 => ("LockBook", "planMany", "I", false)
  | 12 => ("LockBook", "told", "[LLockBook$Machine;", true)
  | 13 => ("LockBook", "jobs", "[LLockBook$Job;", true)
  | _ => ("LockBook", "manner", "I", false)
def tyX0 : Nat → FieldType := fun k => match k with
  | 0 => .object "LockBook$Shop"
  | 1 => .object "LockBook$Shop"
  | 2 => .object "LockBook$OrderBook"
  | 3 => .object "LockBook$RunLog"
  | 4 => .object "LockBook$Search"
  | 5 => .array .int
  | 6 => .int
  | 7 => .boolean
  | 8 => .array .int
  | 9 => .array .int
  | 10 => .int
  | 11 => .int
  | 12 => .array (.object "LockBook$Machine")
  | 13 => .array (.object "LockBook$Job")
  | _ => .int
abbrev wsX00 : List Cond := u_ws RX0 TX0 15
theorem nmX0 : ∀ a, a < 15 → ∀ b, b < 15 → a ≠ b → (TX0 a).2.1 ≠ (TX0 b).2.1 := by decide +kernel
theorem tyX0_ok : ∀ k, k < 15 → parseFieldDescriptor (TX0 k).2.2.1 = some (tyX0 k) := by decide +kernel
theorem in_X0 : ∀ w ∈ wsX00, w ∈ lw_all := lw_in wsX00 [498, 500, 502, 504, 506, 508, 510, 512, 514, 516, 518, 520, 522, 524, 526] (by decide +kernel) (by decide +kernel)
def RX1 : String := "LockBook$Shop"
def TX1 : u_T := fun k => match k with
  | 0 => ("LockBook$Shop", "machines", "[LLockBook$Machine;", true)
  | 1 => ("LockBook$Shop", "jobs", "[LLockBook$Job;", true)
  | 2 => ("LockBook$Shop", "sleepers", "[[I", true)
  | 3 => ("LockBook$Shop", "sleeping", "[I", true)
  | 4 => ("LockBook$Shop", "manners", "[LLockBook$Manner;", true)
  | 5 => ("LockBook$Shop", "manner", "I", false)
  | 6 => ("LockBook$Shop", "queue", "[I", true)
  | 7 => ("LockBook$Shop", "cameFrom", "[I", true)
  | 8 => ("LockBook$Shop", "ring", "[I", true)
  | 9 => ("LockBook$Shop", "ringMany", "I", false)
  | 10 => ("LockBook$Shop", "order", "[I", true)
  | 11 => ("LockBook$Shop", "orderMany", "I", false)
  | _ => ("LockBook$Shop", "listener", "LLockBook$Listener;", false)
def tyX1 : Nat → FieldType := fun k => match k with
  | 0 => .array (.object "LockBook$Machine")
  | 1 => .array (.object "LockBook$Job")
  | 2 => .array (.array .int)
  | 3 => .array .int
  | 4 => .array (.object "LockBook$Manner")
  | 5 => .int
  | 6 => .array .int
  | 7 => .array .int
  | 8 => .array .int
  | 9 => .int
  | 10 => .array .int
  | 11 => .int
  | _ => .object "LockBook$Listener"
abbrev wsX10 : List Cond := u_ws RX1 TX1 13
theorem nmX1 : ∀ a, a < 13 → ∀ b, b < 13 → a ≠ b → (TX1 a).2.1 ≠ (TX1 b).2.1 := by decide +kernel
theorem tyX1_ok : ∀ k, k < 13 → parseFieldDescriptor (TX1 k).2.2.1 = some (tyX1 k) := by decide +kernel
theorem in_X1 : ∀ w ∈ wsX10, w ∈ lw_all := lw_in wsX10 [316, 318, 320, 322, 324, 326, 328, 330, 332, 334, 336, 338, 340] (by decide +kernel) (by decide +kernel)
def RX2 : String := "LockBook$Manner"
def TX2 : u_T := fun _ => ("", "", "", false)
def RX3 : String := "LockBook$WatchManner"
def TX3 : u_T := fun _ => ("", "", "", false)
def RX4 : String := "LockBook$RankManner"
def TX4 : u_T := fun _ => ("", "", "", false)
def RX5 : String := "LockBook$GuardManner"
def TX5 : u_T := fun _ => ("", "", "", false)
def RX6 : String := "LockBook$ClaimManner"
def TX6 : u_T := fun _ => ("", "", "", false)
def RX7 : String := "LockBook$Machine"
def TX7 : u_T := fun k => match k with
  | 0 => ("LockBook$Machine", "rank", "I", false)
  | _ => ("LockBook$Machine", "lookers", "I", false)
def tyX7 : Nat → FieldType := fun k => match k with
  | 0 => .int
  | _ => .int
abbrev wsX70 : List Cond := u_ws RX7 TX7 2
theorem nmX7 : ∀ a, a < 2 → ∀ b, b < 2 → a ≠ b → (TX7 a).2.1 ≠ (TX7 b).2.1 := by decide +kernel
theorem tyX7_ok : ∀ k, k < 2 → parseFieldDescriptor (TX7 k).2.2.1 = some (tyX7 k) := by decide +kernel
theorem in_X7 : ∀ w ∈ wsX70, w ∈ lw_all := lw_in wsX70 [154, 156] (by decide +kernel) (by decide +kernel)
def RX8 : String := "LockBook$Job"
def TX8 : u_T := fun k => match k with
  | 0 => ("LockBook$Job", "number", "I", true)
  | 1 => ("LockBook$Job", "steps", "[LLockBook$Step;", true)
  | 2 => ("LockBook$Job", "many", "I", false)
  | 3 => ("LockBook$Job", "guard", "I", false)
  | 4 => ("LockBook$Job", "claims", "I", false)
  | 5 => ("LockBook$Job", "place", "I", false)
  | 6 => ("LockBook$Job", "state", "I", false)
  | 7 => ("LockBook$Job", "looks", "I", false)
  | 8 => ("LockBook$Job", "want", "I", false)
  | 9 => ("LockBook$Job", "tried", "I", false)
  | 10 => ("LockBook$Job", "again", "I", false)
  | 11 => ("LockBook$Job", "wantsLook", "Z", false)
  | 12 => ("LockBook$Job", "isTold", "Z", false)
  | 13 => ("LockBook$Job", "wasRefused", "Z", false)
  | 14 => ("LockBook$Job", "endedRefused", "Z", false)
  | 15 => ("LockBook$Job", "times", "[I", true)
  | 16 => ("LockBook$Job", "refused", "I", false)
  | 17 => ("LockBook$Job", "illegal", "I", false)
  | 18 => ("LockBook$Job", "over", "I", false)
  | 19 => ("LockBook$Job", "told", "I", false)
  | _ => ("LockBook$Job", "granted", "I", false)
def tyX8 : Nat → FieldType := fun k => match k with
  | 0 => .int
  | 1 => .array (.object "LockBook$Step")
  | 2 => .int
  | 3 => .int
  | 4 => .int
  | 5 => .int
  | 6 => .int
  | 7 => .int
  | 8 => .int
  | 9 => .int
  | 10 => .int
  | 11 => .boolean
  | 12 => .boolean
  | 13 => .boolean
  | 14 => .boolean
  | 15 => .array .int
  | 16 => .int
  | 17 => .int
  | 18 => .int
  | 19 => .int
  | _ => .int
abbrev wsX80 : List Cond := u_ws RX8 TX8 21
theorem nmX8 : ∀ a, a < 21 → ∀ b, b < 21 → a ≠ b → (TX8 a).2.1 ≠ (TX8 b).2.1 := by decide +kernel
theorem tyX8_ok : ∀ k, k < 21 → parseFieldDescriptor (TX8 k).2.2.1 = some (tyX8 k) := by decide +kernel
theorem in_X8 : ∀ w ∈ wsX80, w ∈ lw_all := lw_in wsX80 [247, 249, 251, 253, 255, 257, 259, 261, 263, 265, 267, 269, 271, 273, 275, 277, 279, 281, 283, 285, 287] (by decide +kernel) (by decide +kernel)
def RX9 : String := "LockBook$Step"
def TX9 : u_T := fun k => match k with
  | 0 => ("LockBook$Step", "op", "I", false)
  | 1 => ("LockBook$Step", "machines", "I", false)
  | _ => ("LockBook$Step", "a", "I", false)
def tyX9 : Nat → FieldType := fun k => match k with
  | 0 => .int
  | 1 => .int
  | _ => .int
abbrev wsX90 : List Cond := u_ws RX9 TX9 3
theorem nmX9 : ∀ a, a < 3 → ∀ b, b < 3 → a ≠ b → (TX9 a).2.1 ≠ (TX9 b).2.1 := by decide +kernel
theorem tyX9_ok : ∀ k, k < 3 → parseFieldDescriptor (TX9 k).2.2.1 = some (tyX9 k) := by decide +kernel
theorem in_X9 : ∀ w ∈ wsX90, w ∈ lw_all := lw_in wsX90 [180, 182, 184] (by decide +kernel) (by decide +kernel)
def RX10 : String := "LockBook$OrderBook"
def TX10 : u_T := fun k => match k with
  | 0 => ("LockBook$OrderBook", "first", "[I", true)
  | 1 => ("LockBook$OrderBook", "second", "[I", true)
  | 2 => ("LockBook$OrderBook", "job", "[I", true)
  | 3 => ("LockBook$OrderBook", "step", "[I", true)
  | 4 => ("LockBook$OrderBook", "after", "[I", true)
  | 5 => ("LockBook$OrderBook", "many", "I", false)
  | 6 => ("LockBook$OrderBook", "rings", "[I", true)
  | 7 => ("LockBook$OrderBook", "ringMany", "I", false)
  | 8 => ("LockBook$OrderBook", "length", "I", false)
  | _ => ("LockBook$OrderBook", "path", "[I", true)
def tyX10 : Nat → FieldType := fun k => match k with
  | 0 => .array .int
  | 1 => .array .int
  | 2 => .array .int
  | 3 => .array .int
  | 4 => .array .int
  | 5 => .int
  | 6 => .array .int
  | 7 => .int
  | 8 => .int
  | _ => .array .int
abbrev wsX100 : List Cond := u_ws RX10 TX10 10
theorem nmX10 : ∀ a, a < 10 → ∀ b, b < 10 → a ≠ b → (TX10 a).2.1 ≠ (TX10 b).2.1 := by decide +kernel
theorem tyX10_ok : ∀ k, k < 10 → parseFieldDescriptor (TX10 k).2.2.1 = some (tyX10 k) := by decide +kernel
theorem in_X10 : ∀ w ∈ wsX100, w ∈ lw_all := lw_in wsX100 [367, 369, 371, 373, 375, 377, 379, 381, 383, 385] (by decide +kernel) (by decide +kernel)
def RX11 : String := "LockBook$RunLog"
def TX11 : u_T := fun k => match k with
  | 0 => ("LockBook$RunLog", "shop", "LLockBook$Shop;", true)
  | 1 => ("LockBook$RunLog", "book", "LLockBook$OrderBook;", true)
  | 2 => ("LockBook$RunLog", "grantJob", "[I", true)
  | 3 => ("LockBook$RunLog", "grantStep", "[I", true)
  | 4 => ("LockBook$RunLog", "grantGot", "[I", true)
  | 5 => ("LockBook$RunLog", "grants", "I", false)
  | 6 => ("LockBook$RunLog", "refusedJob", "[I", true)
  | 7 => ("LockBook$RunLog", "refusedStep", "[I", true)
  | 8 => ("LockBook$RunLog", "refusedMachine", "[I", true)
  | 9 => ("LockBook$RunLog", "refusedRing", "[I", true)
  | 10 => ("LockBook$RunLog", "rings", "[I", true)
  | _ => ("LockBook$RunLog", "refusals", "I", false)
def tyX11 : Nat → FieldType := fun k => match k with
  | 0 => .object "LockBook$Shop"
  | 1 => .object "LockBook$OrderBook"
  | 2 => .array .int
  | 3 => .array .int
  | 4 => .array .int
  | 5 => .int
  | 6 => .array .int
  | 7 => .array .int
  | 8 => .array .int
  | 9 => .array .int
  | 10 => .array .int
  | _ => .int
abbrev wsX110 : List Cond := u_ws RX11 TX11 12
theorem nmX11 : ∀ a, a < 12 → ∀ b, b < 12 → a ≠ b → (TX11 a).2.1 ≠ (TX11 b).2.1 := by decide +kernel
theorem tyX11_ok : ∀ k, k < 12 → parseFieldDescriptor (TX11 k).2.2.1 = some (tyX11 k) := by decide +kernel
theorem in_X11 : ∀ w ∈ wsX110, w ∈ lw_all := lw_in wsX110 [408, 410, 412, 414, 416, 418, 420, 422, 424, 426, 428, 430] (by decide +kernel) (by decide +kernel)
def RX12 : String := "LockBook$Search"
def TX12 : u_T := fun k => match k with
  | 0 => ("LockBook$Search", "shop", "LLockBook$Shop;", true)
  | 1 => ("LockBook$Search", "rows", "[I", true)
  | 2 => ("LockBook$Search", "hashes", "[I", true)
  | 3 => ("LockBook$Search", "cameFrom", "[I", true)
  | 4 => ("LockBook$Search", "by", "[I", true)
  | 5 => ("LockBook$Search", "many", "I", false)
  | _ => ("LockBook$Search", "hasStuck", "Z", false)
def tyX12 : Nat → FieldType := fun k => match k with
  | 0 => .object "LockBook$Shop"
  | 1 => .array .int
  | 2 => .array .int
  | 3 => .array .int
  | 4 => .array .int
  | 5 => .int
  | _ => .boolean
abbrev wsX120 : List Cond := u_ws RX12 TX12 7
theorem nmX12 : ∀ a, a < 7 → ∀ b, b < 7 → a ≠ b → (TX12 a).2.1 ≠ (TX12 b).2.1 := by decide +kernel
theorem tyX12_ok : ∀ k, k < 7 → parseFieldDescriptor (TX12 k).2.2.1 = some (tyX12 k) := by decide +kernel
theorem in_X12 : ∀ w ∈ wsX120, w ∈ lw_all := lw_in wsX120 [450, 452, 454, 456, 458, 460, 462] (by decide +kernel) (by decide +kernel)
def RX13 : String := "LockBookModel"
def TX13 : u_T := fun k => match k with
  | 0 => ("LockBookModel", "rank", "[I", true)
  | 1 => ("LockBookModel", "lookers", "[I", true)
  | 2 => ("LockBookModel", "stepMany", "[I", true)
  | 3 => ("LockBookModel", "op", "[I", true)
  | 4 => ("LockBookModel", "on", "[I", true)
  | 5 => ("LockBookModel", "wait", "[I", true)
  | 6 => ("LockBookModel", "guardStep", "[I", true)
  | 7 => ("LockBookModel", "claims", "[I", true)
  | 8 => ("LockBookModel", "manner", "I", false)
  | 9 => ("LockBookModel", "list", "[I", true)
  | 10 => ("LockBookModel", "listed", "I", false)
  | 11 => ("LockBookModel", "now", "[I", true)
  | 12 => ("LockBookModel", "clock", "I", false)
  | 13 => ("LockBookModel", "records", "Z", false)
  | 14 => ("LockBookModel", "hasRun", "Z", false)
  | 15 => ("LockBookModel", "behind", "[I", true)
  | 16 => ("LockBookModel", "endSteps", "[I", true)
  | 17 => ("LockBookModel", "refusals", "[I", true)
  | 18 => ("LockBookModel", "illegal", "[I", true)
  | 19 => ("LockBookModel", "over", "[I", true)
  | 20 => ("LockBookModel", "toldMany", "[I", true)
  | 21 => ("LockBookModel", "granted", "[I", true)
  | 22 => ("LockBookModel", "grants", "I", false)
  | 23 => ("LockBookModel", "grantJob", "[I", true)
  | 24 => ("LockBookModel", "grantStep", "[I", true)
  | 25 => ("LockBookModel", "grantBits", "[I", true)
  | 26 => ("LockBookModel", "refusedMany", "I", false)
  | 27 => ("LockBookModel", "refusedJob", "[I", true)
  | 28 => ("LockBookModel", "refusedStep", "[I", true)
  | 29 => ("LockBookModel", "refusedOn", "[I", true)
  | 30 => ("LockBookModel", "refusedLong", "[I", true)
  | 31 => ("LockBookModel", "refusedRing", "[I", true)
  | 32 => ("LockBookModel", "ringMany", "I", false)
  | 33 => ("LockBookModel", "ring", "[I", true)
  | 34 => ("LockBookModel", "orders", "I", false)
  | 35 => ("LockBookModel", "orderFrom", "[I", true)
  | 36 => ("LockBookModel", "orderTo", "[I", true)
  | 37 => ("LockBookModel", "orderJob", "[I", true)
  | 38 => ("LockBookModel", "orderStep", "[I", true)
  | 39 => ("LockBookModel", "isOrder", "[Z", true)
  | 40 => ("LockBookModel", "states", "I", false)
  | 41 => ("LockBookModel", "rows", "[I", true)
  | 42 => ("LockBookModel", "from", "[I", true)
  | 43 => ("LockBookModel", "by", "[I", true)
  | 44 => ("LockBookModel", "plans", "I", false)
  | 45 => ("LockBookModel", "plan", "[I", true)
  | 46 => ("LockBookModel", "far", "[I", true)
  | 47 => ("LockBookModel", "order", "[I", true)
  | 48 => ("LockBookModel", "ordered", "I", false)
  | 49 => ("LockBookModel", "aside", "[I", true)
  | 50 => ("LockBookModel", "sleeping", "[I", true)
  | 51 => ("LockBookModel", "asleep", "[I", true)
  | 52 => ("LockBookModel", "ringLong", "I", false)
  | 53 => ("LockBookModel", "ringsFound", "I", false)
  | 54 => ("LockBookModel", "rings", "[I", true)
  | 55 => ("LockBookModel", "way", "[I", true)
  | 56 => ("LockBookModel", "hasEnd", "Z", false)
  | _ => ("LockBookModel", "hasStop", "Z", false)
def tyX13 : Nat → FieldType := fun k => match k with
  | 0 => .array .int
  | 1 => .array .int
  | 2 => .array .int
  | 3 => .array .int
  | 4 => .array .int
  | 5 => .array .int
  | 6 => .array .int
  | 7 => .array .int
  | 8 => .int
  | 9 => .array .int
  | 10 => .int
  | 11 => .array .int
  | 12 => .int
  | 13 => .boolean
  | 14 => .boolean
  | 15 => .array .int
  | 16 => .array .int
  | 17 => .array .int
  | 18 => .array .int
  | 19 => .array .int
  | 20 => .array .int
  | 21 => .array .int
  | 22 => .int
  | 23 => .array .int
  | 24 => .array .int
  | 25 => .array .int
  | 26 => .int
  | 27 => .array .int
  | 28 => .array .int
  | 29 => .array .int
  | 30 => .array .int
  | 31 => .array .int
  | 32 => .int
  | 33 => .array .int
  | 34 => .int
  | 35 => .array .int
  | 36 => .array .int
  | 37 => .array .int
  | 38 => .array .int
  | 39 => .array .boolean
  | 40 => .int
  | 41 => .array .int
  | 42 => .array .int
  | 43 => .array .int
  | 44 => .int
  | 45 => .array .int
  | 46 => .array .int
  | 47 => .array .int
  | 48 => .int
  | 49 => .array .int
  | 50 => .array .int
  | 51 => .array .int
  | 52 => .int
  | 53 => .int
  | 54 => .array .int
  | 55 => .array .int
  | 56 => .boolean
  | _ => .boolean
abbrev wsX130 : List Cond := u_ws RX13 TX13 58
theorem nmX13 : ∀ a, a < 58 → ∀ b, b < 58 → a ≠ b → (TX13 a).2.1 ≠ (TX13 b).2.1 := by decide +kernel
theorem tyX13_ok : ∀ k, k < 58 → parseFieldDescriptor (TX13 k).2.2.1 = some (tyX13 k) := by decide +kernel
theorem in_X13 : ∀ w ∈ wsX130, w ∈ lw_all := lw_in wsX130 [979, 981, 983, 985, 987, 989, 991, 993, 995, 997, 999, 1001, 1003, 1005, 1007, 1009, 1011, 1013, 1015, 1017, 1019, 1021, 1023, 1025, 1027, 1029, 1031, 1033, 1035, 1037, 1039, 1041, 1043, 1045, 1047, 1049, 1051, 1053, 1055, 1057, 1059, 1061, 1063, 1065, 1067, 1069, 1071, 1073, 1075, 1077, 1079, 1081, 1083, 1085, 1087, 1089, 1091, 1093] (by decide +kernel) (by decide +kernel)
abbrev az_cl : List vw_C := [(RX0, TX0, 15), (RX1, TX1, 13), (RX3, TX3, 0), (RX3, TX3, 0), (RX4, TX4, 0), (RX5, TX5, 0), (RX6, TX6, 0), (RX7, TX7, 2), (RX8, TX8, 21), (RX9, TX9, 3), (RX10, TX10, 10), (RX11, TX11, 12), (RX12, TX12, 7), (RX13, TX13, 58)]
def az_cn : Nat → String := fun i => ["LockBook", "LockBook$Shop", "LockBook$Manner", "LockBook$WatchManner", "LockBook$RankManner", "LockBook$GuardManner", "LockBook$ClaimManner", "LockBook$Machine", "LockBook$Job", "LockBook$Step", "LockBook$OrderBook", "LockBook$RunLog", "LockBook$Search", "LockBookModel", "LockBookLaw", "java/lang/Math", "java/lang/Object"].getD i ""
/-- what the rows ask of a class -/
def az_clok (q : vw_C) : Prop := (∀ w ∈ u_ws q.1 q.2.1 q.2.2, w ∈ lw_all) ∧ (∃ ty0 : Nat → FieldType, ∀ k, k < q.2.2 → parseFieldDescriptor (q.2.1 k).2.2.1 = some (ty0 k)) ∧ ∀ a, a < q.2.2 → ∀ b, b < q.2.2 → a ≠ b → (q.2.1 a).2.1 ≠ (q.2.1 b).2.1
theorem az_clok0 {R : String} {T : u_T} : az_clok (R, T, 0) := ⟨fun w h => by simp [u_ws] at h, ⟨fun _ => .int, fun k h => absurd h (Nat.not_lt_zero _)⟩, fun a h => absurd h (Nat.not_lt_zero _)⟩
theorem az_cls : ∀ (ci : Nat) (q : vw_C), az_cl[ci]? = some q → az_clok q := by
  intro ci q h
  match ci, h with
  | 0, h => cases h; exact ⟨in_X0, ⟨tyX0, tyX0_ok⟩, nmX0⟩
  | 1, h => cases h; exact ⟨in_X1, ⟨tyX1, tyX1_ok⟩, nmX1⟩
  | 2, h => cases h; exact az_clok0
  | 3, h => cases h; exact az_clok0
  | 4, h => cases h; exact az_clok0
  | 5, h => cases h; exact az_clok0
  | 6, h => cases h; exact az_clok0
  | 7, h => cases h; exact ⟨in_X7, ⟨tyX7, tyX7_ok⟩, nmX7⟩
  | 8, h => cases h; exact ⟨in_X8, ⟨tyX8, tyX8_ok⟩, nmX8⟩
  | 9, h => cases h; exact ⟨in_X9, ⟨tyX9, tyX9_ok⟩, nmX9⟩
  | 10, h => cases h; exact ⟨in_X10, ⟨tyX10, tyX10_ok⟩, nmX10⟩
  | 11, h => cases h; exact ⟨in_X11, ⟨tyX11, tyX11_ok⟩, nmX11⟩
  | 12, h => cases h; exact ⟨in_X12, ⟨tyX12, tyX12_ok⟩, nmX12⟩
  | 13, h => cases h; exact ⟨in_X13, ⟨tyX13, tyX13_ok⟩, nmX13⟩
  | k + 14, h => simp [az_cl] at h
