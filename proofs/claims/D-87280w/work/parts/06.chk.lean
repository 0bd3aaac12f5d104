/-! an entry of a code list against the bytes -/
def az_op (b : Nat) : Jvm.ClassFile.Cond := match b with
  | 0 => .eq
  | 1 => .ne
  | 2 => .lt
  | 3 => .ge
  | 4 => .gt
  | _ => .le
def az_aty (a : Nat) : ArrayType := match a with
  | 0 => .int
  | _ => .boolean
def az_hd (L : List Nat) : Nat := L.headD 0
/-- own: the class's number; ml: locals; rz: answers a boolean; ini: a constructor -/
def az_ok (own ml : Nat) (rt : Option FieldType) (ini : Bool) (cc : ByteArray) (pc : Nat) (e : az_E) : Bool :=
  match e with
  | (tag, k, np, a, b, c, d, L) =>
  match tag with
  | 0 => (decide (decode cc pc = .ok (.iconst k.toInt, 1)) && decide (Int32.ofInt k.toInt = k) && decide (np = pc + 1)) || (decide (decode cc pc = .ok (.bipush k.toInt, 2)) && decide ((Int8.ofInt k.toInt).toInt32 = k) && decide (np = pc + 2)) || (decide (decode cc pc = .ok (.sipush k.toInt, 3)) && decide ((Int16.ofInt k.toInt).toInt32 = k) && decide (np = pc + 3)) || (decide (decode cc pc = .ok (.ldc (az_hd L), 2)) && decide ((own, az_hd L, k) ∈ az_CO) && decide (np = pc + 2))
  | 1 => (decide (decode cc pc = .ok (.iload a, 2)) && decide (np = pc + 2)) || (decide (decode cc pc = .ok (.iload_n (Fin.ofNat 4 a), 1)) && decide (a < 4) && decide (np = pc + 1))
  | 2 => (decide (decode cc pc = .ok (.aload a, 2)) && decide (np = pc + 2)) || (decide (decode cc pc = .ok (.aload_n (Fin.ofNat 4 a), 1)) && decide (a < 4) && decide (np = pc + 1))
  | 3 => decide (a < ml) && ((decide (decode cc pc = .ok (.istore a, 2)) && decide (np = pc + 2)) || (decide (decode cc pc = .ok (.istore_n (Fin.ofNat 4 a), 1)) && decide (a < 4) && decide (np = pc + 1)))
  | 4 => decide (a < ml) && ((decide (decode cc pc = .ok (.astore a, 2)) && decide (np = pc + 2)) || (decide (decode cc pc = .ok (.astore_n (Fin.ofNat 4 a), 1)) && decide (a < 4) && decide (np = pc + 1)))
  | 5 => decide (a < ml) && decide (decode cc pc = .ok (.iinc a k.toInt, 3)) && decide (Int32.ofInt k.toInt = k) && decide (np = pc + 3)
  | 6 => decide (decode cc pc = .ok (.getfield (az_hd L), 3)) && decide (np = pc + 3) && (decide ((own, az_hd L, a, b) ∈ az_FL) || decide ((own, az_hd L, a, b) ∈ az_FN))
  | 7 => decide (decode cc pc = .ok (.putfield (az_hd L), 3)) && decide (np = pc + 3) && ((!(az_T a b).2.2.2 && (decide ((own, az_hd L, a, b) ∈ az_FL) || decide ((own, az_hd L, a, b) ∈ az_FN))) || ((az_T a b).2.2.2 && decide ((own, az_hd L, a, b) ∈ az_FL) && ini && decide ((az_T a b).1 = az_cn own)))
  | 8 => decide (decode cc pc = .ok (.iaload, 1)) && decide (np = pc + 1)
  | 9 => decide (decode cc pc = .ok (.iastore, 1)) && decide (np = pc + 1)
  | 10 => decide (decode cc pc = .ok (.baload, 1)) && decide (np = pc + 1)
  | 11 => decide (decode cc pc = .ok (.bastore, 1)) && decide (np = pc + 1)
  | 12 => decide (decode cc pc = .ok (.aaload, 1)) && decide (np = pc + 1)
  | 13 => decide (decode cc pc = .ok (.aastore, 1)) && decide (np = pc + 1)
  | 14 => decide (decode cc pc = .ok (.arraylength, 1)) && decide (np = pc + 1)
  | 15 => decide (decode cc pc = .ok (.new (az_hd L), 3)) && decide (np = pc + 3) && decide ((own, az_hd L, a) ∈ az_CK)
  | 16 => decide (decode cc pc = .ok (.newarray (az_aty a), 2)) && decide (np = pc + 2) && decide (a < 2)
  | 17 => decide (decode cc pc = .ok (.anewarray (az_hd L), 3)) && decide (np = pc + 3) && decide ((own, az_hd L, a) ∈ az_CK) && decide (a ∈ [2, 7, 8, 9])
  | 18 => decide (decode cc pc = .ok (.multianewarray 23 2, 4)) && decide (np = pc + 4) && decide (own = 1)
  | 19 => decide (decode cc pc = .ok (.iadd, 1)) && decide (np = pc + 1)
  | 20 => decide (decode cc pc = .ok (.isub, 1)) && decide (np = pc + 1)
  | 21 => decide (decode cc pc = .ok (.imul, 1)) && decide (np = pc + 1)
  | 22 => decide (decode cc pc = .ok (.idiv, 1)) && decide (np = pc + 1)
  | 23 => decide (decode cc pc = .ok (.irem, 1)) && decide (np = pc + 1)
  | 24 => decide (decode cc pc = .ok (.iand, 1)) && decide (np = pc + 1)
  | 25 => decide (decode cc pc = .ok (.ior, 1)) && decide (np = pc + 1)
  | 26 => decide (decode cc pc = .ok (.ixor, 1)) && decide (np = pc + 1)
  | 27 => decide (decode cc pc = .ok (.ishl, 1)) && decide (np = pc + 1)
  | 28 => decide (decode cc pc = .ok (.ishr, 1)) && decide (np = pc + 1)
  | 29 => decide (decode cc pc = .ok (.dup, 1)) && decide (np = pc + 1)
  | 30 => decide (decode cc pc = .ok (.dup2, 1)) && decide (np = pc + 1)
  | 31 => decide (decode cc pc = .ok (.pop, 1)) && decide (np = pc + 1)
  | 32 => decide (decode cc pc = .ok (.goto ((a : Int) - (pc : Int)), 3))
  | 33 => decide (decode cc pc = .ok (.ifCond (az_op b) ((a : Int) - (pc : Int)), 3)) && decide (np = pc + 3) && decide (b < 6)
  | 34 => decide (decode cc pc = .ok (.if_icmp (az_op b) ((a : Int) - (pc : Int)), 3)) && decide (np = pc + 3) && decide (b < 6)
  | 35 => decide (decode cc pc = .ok (.ifnull ((a : Int) - (pc : Int)), 3)) && decide (np = pc + 3)
  | 36 => decide (decode cc pc = .ok (.ifnonnull ((a : Int) - (pc : Int)), 3)) && decide (np = pc + 3)
  | 37 => decide (np = pc + 3) && decide (b = 0) && decide (decode cc pc = .ok (.if_acmp .eq ((a : Int) - (pc : Int)), 3))
  | 38 => decide (decode cc pc = .ok (.tableswitch ((a : Int) - (pc : Int)) k.toInt (k.toInt + L.length - 1) (L.map (fun (t : Nat) => (t : Int) - (pc : Int))).toArray, np - pc))
  | 39 => decide (decode cc pc = .ok (.invokestatic (az_hd L), 3)) && decide (np = pc + 3) && decide (a < 183) && decide (a ∈ az_SM) && decide ((az_M[a]?).map (fun q => q.2.2.2.2.2) = some b) && (decide ((own, az_hd L, a) ∈ az_ML) || decide ((own, az_hd L, a) ∈ az_MN))
  | 40 => decide (decode cc pc = .ok (.invokevirtual (az_hd L), 3)) && decide (np = pc + 3) && ((decide (c = 99) && decide ((own, az_hd L, [62, 64, 63].getD a 0) ∈ az_ML) && decide (a < 3) && decide (b = [2, 2, 0].getD a 0)) || (decide (c < 14) && decide (a < 183) && decide (a ∈ az_IM) && decide (a ∈ az_SE) && decide ((az_M[a]?).map (fun q => q.2.2.2.2) = some (c, b)) && decide ((own, az_hd L, a) ∈ az_ML)))
  | 41 => decide (decode cc pc = .ok (.invokespecial (az_hd L), 3)) && decide (np = pc + 3) && decide (a < 183) && decide (a ∈ az_IM) && decide ((az_M[a]?).map (fun q => q.2.2.2.2.2) = some b) && decide ((az_M[a]?).map (fun q => (q.1.name, q.2.2.2.1)) = some ("<init>", none)) && (decide ((own, az_hd L, a) ∈ az_ML) || decide ((own, az_hd L, a) ∈ az_MN))
  | 42 => decide (np = pc + 5) && decide (own = 1) && decide (c = 11) && ((decide (a = 93) && decide (b = 2) && decide (decode cc pc = .ok (.invokeinterface 172 3, 5))) || (decide (a = 94) && decide (b = 3) && decide (decode cc pc = .ok (.invokeinterface 240 4, 5))))
  | 43 => decide (decode cc pc = .ok (.ireturn, 1)) && ((decide (c = 0) && decide (rt = some .int)) || (decide (c = 1) && decide (rt = some .boolean)))
  | 44 => decide (decode cc pc = .ok (.areturn, 1)) && decide (rt = some (.object "LockBook$Step") ∨ rt = some (.array (.object "LockBook$Machine")) ∨ rt = some (.array (.object "LockBook$Job")))
  | 45 => decide (decode cc pc = .ok (.return_, 1)) && decide (rt = none)
  | 46 => decide (decode cc pc = .ok (.aconst_null, 1)) && decide (np = pc + 1)
  | 47 => decide (decode cc pc = .ok (.invokestatic (az_hd L), 3)) && decide (np = pc + 3) && decide ((own, az_hd L, 184) ∈ az_ML)
  | 48 => decide (decode cc pc = .ok (.invokestatic (az_hd L), 3)) && decide (np = pc + 3) && decide ((own, az_hd L, 185) ∈ az_ML)
  | 49 => decide (decode cc pc = .ok (.invokespecial (az_hd L), 3)) && decide (np = pc + 3) && decide ((own, az_hd L, 186) ∈ az_ML)
  | _ => false
def az_okc (i : Nat) (cd : az_C) : Bool := match az_M[i]? with
  | some q => cd.all (fun r => az_ok q.2.2.2.2.1 q.2.2.1 q.2.2.2.1 (decide (q.1.name = "<init>")) q.2.1 r.1 r.2)
  | none => false
