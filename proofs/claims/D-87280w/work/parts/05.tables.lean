/-! tables: links of fields and methods, methods -/
set_option maxRecDepth 100000
def az_FL : List (Nat × Nat × Nat × Nat) := [(0, 16, 0, 0), (0, 20, 0, 1), (0, 26, 0, 2), (0, 35, 0, 3), (0, 44, 0, 4), (0, 48, 0, 5), (0, 52, 0, 8), (0, 55, 0, 9), (0, 62, 0, 12), (0, 70, 0, 13), (0, 128, 0, 14), (0, 131, 0, 6), (0, 141, 0, 7), (0, 173, 0, 10), (0, 267, 0, 11), (1, 13, 1, 0), (1, 19, 1, 1), (1, 25, 1, 2), (1, 28, 1, 3), (1, 46, 1, 4), (1, 50, 1, 6), (1, 53, 1, 7), (1, 56, 1, 8), (1, 59, 1, 10), (1, 121, 1, 5), (1, 128, 1, 9), (1, 135, 1, 11), (1, 168, 1, 12), (7, 7, 7, 1), (8, 11, 8, 1), (8, 17, 8, 3), (8, 21, 8, 15), (8, 25, 8, 0), (8, 29, 8, 5), (8, 32, 8, 6), (8, 35, 8, 7), (8, 38, 8, 8), (8, 41, 8, 9), (8, 44, 8, 10), (8, 47, 8, 11), (8, 51, 8, 12), (8, 54, 8, 13), (8, 57, 8, 14), (8, 60, 8, 16), (8, 63, 8, 17), (8, 66, 8, 18), (8, 69, 8, 19), (8, 72, 8, 20), (10, 9, 10, 0), (10, 15, 10, 1), (10, 18, 10, 2), (10, 21, 10, 3), (10, 24, 10, 4), (10, 27, 10, 6), (10, 30, 10, 9), (10, 37, 10, 5), (10, 41, 10, 7), (10, 44, 10, 8), (11, 9, 11, 2), (11, 15, 11, 3), (11, 18, 11, 4), (11, 21, 11, 6), (11, 24, 11, 7), (11, 27, 11, 8), (11, 30, 11, 9), (11, 33, 11, 10), (11, 36, 11, 0), (11, 40, 11, 1), (11, 44, 11, 5), (11, 48, 11, 11), (12, 12, 12, 1), (12, 18, 12, 2), (12, 21, 12, 3), (12, 24, 12, 4), (12, 27, 12, 0), (12, 31, 12, 5), (12, 51, 12, 6), (13, 7, 13, 0), (13, 13, 13, 1), (13, 16, 13, 2), (13, 19, 13, 3), (13, 22, 13, 4), (13, 25, 13, 5), (13, 28, 13, 6), (13, 31, 13, 7), (13, 34, 13, 9), (13, 37, 13, 11), (13, 40, 13, 15), (13, 43, 13, 16), (13, 46, 13, 17), (13, 49, 13, 18), (13, 52, 13, 19), (13, 55, 13, 20), (13, 58, 13, 21), (13, 61, 13, 23), (13, 64, 13, 24), (13, 67, 13, 25), (13, 70, 13, 27), (13, 73, 13, 28), (13, 76, 13, 29), (13, 79, 13, 30), (13, 82, 13, 31), (13, 85, 13, 33), (13, 88, 13, 35), (13, 91, 13, 36), (13, 94, 13, 37), (13, 97, 13, 38), (13, 100, 13, 39), (13, 105, 13, 41), (13, 108, 13, 42), (13, 111, 13, 43), (13, 114, 13, 45), (13, 117, 13, 46), (13, 120, 13, 47), (13, 123, 13, 49), (13, 126, 13, 50), (13, 129, 13, 51), (13, 132, 13, 54), (13, 135, 13, 55), (13, 155, 13, 8), (13, 159, 13, 10), (13, 199, 13, 13), (13, 209, 13, 26), (13, 239, 13, 12), (13, 248, 13, 34), (13, 254, 13, 22), (13, 266, 13, 48), (13, 292, 13, 14), (13, 298, 13, 32), (13, 317, 13, 53), (13, 320, 13, 52), (13, 335, 13, 40), (13, 341, 13, 56), (13, 344, 13, 57), (13, 353, 13, 44)]
def az_FN : List (Nat × Nat × Nat × Nat) := [(0, 74, 1, 12), (0, 85, 7, 0), (0, 91, 7, 1), (0, 104, 8, 2), (0, 107, 8, 1), (0, 111, 9, 0), (0, 116, 9, 1), (0, 119, 9, 2), (0, 122, 8, 3), (0, 125, 8, 4), (0, 134, 1, 0), (0, 136, 1, 1), (0, 137, 1, 5), (0, 153, 11, 5), (0, 170, 11, 11), (0, 179, 1, 9), (0, 180, 1, 8), (0, 181, 8, 6), (0, 184, 8, 14), (0, 187, 8, 5), (0, 190, 8, 16), (0, 193, 8, 17), (0, 196, 8, 18), (0, 199, 8, 19), (0, 201, 8, 20), (0, 212, 8, 15), (0, 218, 1, 3), (0, 221, 1, 2), (0, 231, 10, 5), (0, 232, 10, 0), (0, 235, 10, 1), (0, 238, 10, 2), (0, 241, 10, 3), (0, 247, 10, 7), (0, 248, 10, 8), (0, 251, 10, 6), (0, 261, 1, 11), (0, 264, 1, 10), (0, 274, 12, 3), (0, 277, 12, 4), (0, 280, 12, 6), (1, 63, 7, 0), (1, 77, 8, 0), (1, 80, 8, 7), (1, 87, 8, 6), (1, 90, 8, 8), (1, 100, 8, 11), (1, 107, 7, 1), (1, 146, 8, 4), (1, 149, 8, 15), (1, 156, 8, 9), (1, 165, 8, 16), (1, 177, 8, 13), (1, 180, 8, 3), (1, 186, 8, 5), (1, 193, 8, 17), (1, 196, 8, 2), (1, 202, 9, 0), (1, 207, 9, 1), (1, 228, 8, 10), (1, 234, 8, 19), (1, 237, 8, 12), (1, 243, 8, 20), (1, 249, 9, 2), (1, 255, 8, 18), (4, 9, 8, 12), (4, 19, 9, 0), (4, 33, 1, 0), (4, 39, 7, 0), (4, 50, 8, 8), (5, 7, 8, 0), (6, 9, 8, 12), (6, 19, 9, 0), (6, 25, 8, 8), (6, 28, 8, 4), (8, 83, 9, 0), (11, 51, 8, 0), (11, 56, 8, 5), (11, 69, 8, 8), (11, 76, 1, 8), (12, 70, 1, 1)]
def az_T (ci : Nat) : u_T := (az_cl.getD ci ("", fun _ => ("", "", "", false), 0)).2.1
def az_flw (r : Nat × Nat × Nat × Nat) : Jvm.Cond := Jvm.Cond.fieldLink (az_cn r.1) r.2.1 (az_T r.2.2.1 r.2.2.2).1 (az_T r.2.2.1 r.2.2.2).2.1 (az_T r.2.2.1 r.2.2.2).2.2.1
def az_fnw (r : Nat × Nat × Nat × Nat) : Jvm.Cond := Jvm.Cond.fieldLinkNest (az_cn r.1) r.2.1 (az_T r.2.2.1 r.2.2.2).1 (az_T r.2.2.1 r.2.2.2).2.1 (az_T r.2.2.1 r.2.2.2).2.2.1 "LockBook"
theorem az_inT (ws : List Jvm.Cond) (ps : List Nat) (hp : ws = ps.filterMap (fun i => lw_tbl[i]?)) : ∀ w ∈ ws, w ∈ lw_tbl := by
  intro w h
  rw [hp] at h
  obtain ⟨i, -, hi⟩ := List.mem_filterMap.mp h
  exact List.mem_of_getElem? hi
theorem az_fl : ∀ w ∈ az_FL.map az_flw, w ∈ lw_all := lw_in _ [483, 484, 485, 486, 487, 488, 491, 492, 495, 496, 497, 489, 490, 493, 494, 290, 293, 296, 298, 300, 303, 304, 305, 310, 301, 308, 312, 315, 151, 191, 195, 229, 187, 201, 205, 208, 210, 215, 217, 219, 223, 225, 227, 232, 235, 238, 241, 244, 349, 351, 353, 355, 357, 360, 366, 358, 362, 364, 396, 397, 398, 401, 402, 403, 404, 405, 394, 395, 399, 406, 441, 442, 443, 445, 440, 447, 448, 921, 922, 923, 924, 925, 926, 927, 928, 930, 932, 936, 937, 938, 939, 940, 941, 942, 944, 945, 946, 948, 949, 950, 951, 952, 954, 956, 957, 958, 959, 960, 962, 963, 964, 966, 967, 968, 970, 971, 972, 975, 976, 929, 931, 934, 947, 933, 955, 943, 969, 935, 953, 974, 973, 961, 977, 978, 965] (by decide +kernel) (by decide +kernel)
theorem az_fn : ∀ w ∈ az_FN.map az_fnw, w ∈ lw_tbl := az_inT _ [314, 150, 152, 193, 192, 174, 176, 178, 196, 199, 292, 295, 302, 400, 407, 309, 307, 207, 228, 204, 234, 237, 239, 242, 245, 231, 299, 297, 359, 350, 352, 354, 356, 363, 365, 361, 313, 311, 444, 446, 449, 148, 190, 209, 206, 214, 220, 153, 200, 230, 216, 233, 226, 197, 203, 236, 194, 175, 177, 218, 243, 224, 246, 179, 240, 222, 172, 291, 149, 212, 188, 221, 171, 211, 198, 173, 189, 202, 213, 306, 294] (by decide +kernel)
def az_CO : List (Nat × Nat × Int32) := [(12, 11, (55338 : Int32)), (13, 104, (57888 : Int32))]
theorem az_co : ∀ w ∈ az_CO.map (fun r => Jvm.Cond.constant (az_cn r.1) r.2.1 r.2.2), w ∈ lw_all := lw_in _ [439, 920] (by decide +kernel) (by decide +kernel)
def az_CK : List (Nat × Nat × Nat) := [(0, 13, 1), (0, 23, 10), (0, 30, 11), (0, 39, 12), (0, 86, 7), (0, 95, 8), (1, 11, 7), (1, 17, 8), (1, 32, 2), (1, 34, 3), (1, 37, 4), (1, 40, 5), (1, 43, 6), (8, 9, 9), (14, 7, 0), (14, 10, 13)]
theorem az_ck : ∀ w ∈ az_CK.map (fun r => Jvm.Cond.classLink (az_cn r.1) r.2.1 (az_cn r.2.2)), w ∈ lw_all := lw_in _ [97, 343, 388, 433, 468, 473, 103, 105, 109, 111, 122, 129, 136, 164, 89, 914] (by decide +kernel) (by decide +kernel)
theorem az_ckA : Jvm.Cond.classLink (az_cn 1) 23 "[[I" ∈ lw_all := lw_w 107 (by decide +kernel) (by decide +kernel)
def az_IN : List (Nat × Nat) := [(0, 15), (1, 13), (3, 0), (4, 0), (5, 0), (6, 0), (7, 2), (8, 21), (9, 3), (10, 10), (11, 12), (12, 7), (13, 58)]
theorem az_in : ∀ w ∈ az_IN.map (fun r => Jvm.Cond.instantiable (az_cn r.1) r.2), w ∈ lw_all := lw_in _ [90, 98, 112, 123, 130, 137, 143, 159, 166, 344, 389, 434, 915] (by decide +kernel) (by decide +kernel)
def az_IZ : List Nat := [0, 1, 2, 3, 4, 5, 6, 7, 8, 9, 10, 11, 12, 13, 14, 15]
theorem az_iz : ∀ w ∈ az_IZ.map (fun r => Jvm.Cond.initialized (az_cn r)), w ∈ lw_all := lw_in _ [74, 75, 76, 77, 78, 79, 80, 81, 82, 83, 84, 85, 86, 87, 73, 88] (by decide +kernel) (by decide +kernel)
/-- a method: name, bytes, locals, answer, class, number of arguments -/
abbrev az_MT : Type := MethodName × ByteArray × Nat × Option FieldType × Nat × Nat
def az_M : List az_MT := [
  (⟨"LockBook", "<init>", "()V"⟩, prog_1_method_4_code, 1, none, 0, 0),
  (⟨"LockBook", "tellable", "()[LLockBook$Machine;"⟩, prog_1_method_7_code, 2, some (.array (.object "LockBook$Machine")), 0, 0),
  (⟨"LockBook", "toldJobs", "()[LLockBook$Job;"⟩, prog_1_method_8_code, 2, some (.array (.object "LockBook$Job")), 0, 0),
  (⟨"LockBook", "machine", "(III)Z"⟩, prog_1_method_6_code, 4, some .boolean, 0, 3),
  (⟨"LockBook", "in", "(III)Z"⟩, prog_1_method_1_code, 3, some .boolean, 0, 3),
  (⟨"LockBook", "step", "(IIII)I"⟩, prog_1_method_9_code, 6, some .int, 0, 4),
  (⟨"LockBook", "isJob", "(I)Z"⟩, prog_1_method_5_code, 1, some .boolean, 0, 1),
  (⟨"LockBook", "clear", "(I)Z"⟩, prog_1_method_10_code, 2, some .boolean, 0, 1),
  (⟨"LockBook", "guard", "(II)Z"⟩, prog_1_method_11_code, 3, some .boolean, 0, 2),
  (⟨"LockBook", "claim", "(II)Z"⟩, prog_1_method_12_code, 3, some .boolean, 0, 2),
  (⟨"LockBook", "manner", "(I)Z"⟩, prog_1_method_13_code, 2, some .boolean, 0, 1),
  (⟨"LockBook", "grant", "(I)I"⟩, prog_1_method_14_code, 2, some .int, 0, 1),
  (⟨"LockBook", "list", "()V"⟩, prog_1_method_15_code, 1, none, 0, 0),
  (⟨"LockBook", "run", "()I"⟩, prog_1_method_17_code, 3, some .int, 0, 0),
  (⟨"LockBook", "tells", "(LLockBook$Shop;)V"⟩, prog_1_method_16_code, 5, none, 0, 1),
  (⟨"LockBook", "lowest", "(I)I"⟩, prog_1_method_3_code, 2, some .int, 0, 1),
  (⟨"LockBook", "has", "(II)Z"⟩, prog_1_method_2_code, 2, some .boolean, 0, 2),
  (⟨"LockBook", "stuck", "()V"⟩, prog_1_method_18_code, 3, none, 0, 0),
  (⟨"LockBook", "job", "(II)I"⟩, prog_1_method_19_code, 4, some .int, 0, 2),
  (⟨"LockBook", "have", "(II)I"⟩, prog_1_method_20_code, 6, some .int, 0, 2),
  (⟨"LockBook", "refused", "(II)I"⟩, prog_1_method_21_code, 3, some .int, 0, 2),
  (⟨"LockBook", "ring", "(I)I"⟩, prog_1_method_22_code, 2, some .int, 0, 1),
  (⟨"LockBook", "taken", "(II)I"⟩, prog_1_method_23_code, 3, some .int, 0, 2),
  (⟨"LockBook", "order", "(II)I"⟩, prog_1_method_24_code, 3, some .int, 0, 2),
  (⟨"LockBook", "possible", "(II)I"⟩, prog_1_method_25_code, 3, some .int, 0, 2),
  (⟨"LockBook", "forget", "()V"⟩, prog_1_method_26_code, 1, none, 0, 0),
  (⟨"LockBook", "safe", "()I"⟩, prog_1_method_28_code, 1, some .int, 0, 0),
  (⟨"LockBook", "isSafe", "()Z"⟩, prog_1_method_27_code, 2, some .boolean, 0, 0),
  (⟨"LockBook", "before", "(I)I"⟩, prog_1_method_29_code, 2, some .int, 0, 1),
  (⟨"LockBook", "plan", "()I"⟩, prog_1_method_30_code, 4, some .int, 0, 0),
  (⟨"LockBook", "planned", "(I)I"⟩, prog_1_method_31_code, 2, some .int, 0, 1),
  (⟨"LockBook", "always", "()I"⟩, prog_1_method_32_code, 2, some .int, 0, 0),
  (⟨"LockBook", "count", "(I)I"⟩, prog_1_method_33_code, 2, some .int, 0, 1),
  (⟨"LockBook$Shop", "<init>", "()V"⟩, prog_12_method_1_code, 2, none, 1, 0),
  (⟨"LockBook$Shop", "begins", "()V"⟩, prog_12_method_2_code, 5, none, 1, 0),
  (⟨"LockBook$Shop", "settles", "()V"⟩, prog_12_method_23_code, 7, none, 1, 0),
  (⟨"LockBook$Shop", "does", "(LLockBook$Job;)V"⟩, prog_12_method_16_code, 5, none, 1, 1),
  (⟨"LockBook$Shop", "takes", "(LLockBook$Job;I)V"⟩, prog_12_method_17_code, 3, none, 1, 2),
  (⟨"LockBook$Shop", "illegal", "(LLockBook$Job;)V"⟩, prog_12_method_15_code, 2, none, 1, 1),
  (⟨"LockBook$Shop", "asks", "(LLockBook$Job;IZ)V"⟩, prog_12_method_14_code, 6, none, 1, 3),
  (⟨"LockBook$Shop", "way", "(II)Z"⟩, prog_12_method_9_code, 7, some .boolean, 1, 2),
  (⟨"LockBook$Shop", "keepers", "(LLockBook$Job;)I"⟩, prog_12_method_6_code, 6, some .int, 1, 1),
  (⟨"LockBook$Shop", "user", "(I)I"⟩, prog_12_method_3_code, 6, some .int, 1, 1),
  (⟨"LockBook$Shop", "looking", "(I)I"⟩, prog_12_method_4_code, 7, some .int, 1, 1),
  (⟨"LockBook$Shop", "many", "(I)I"⟩, prog_12_method_5_code, 3, some .int, 1, 1),
  (⟨"LockBook$Shop", "tells", "(II)V"⟩, prog_12_method_10_code, 5, none, 1, 2),
  (⟨"LockBook$Shop", "several", "(LLockBook$Job;I)V"⟩, prog_12_method_18_code, 5, none, 1, 2),
  (⟨"LockBook$Shop", "used", "(LLockBook$Job;II)V"⟩, prog_12_method_19_code, 4, none, 1, 3),
  (⟨"LockBook$Shop", "wakes", "(I)V"⟩, prog_12_method_20_code, 4, none, 1, 1),
  (⟨"LockBook$Shop", "canAny", "()Z"⟩, prog_12_method_24_code, 5, some .boolean, 1, 0),
  (⟨"LockBook$Shop", "may", "(LLockBook$Job;)Z"⟩, prog_12_method_8_code, 2, some .boolean, 1, 1),
  (⟨"LockBook$Shop", "can", "(LLockBook$Job;)Z"⟩, prog_12_method_7_code, 3, some .boolean, 1, 1),
  (⟨"LockBook$Shop", "isSafeWith", "(LLockBook$Job;)Z"⟩, prog_12_method_13_code, 6, some .boolean, 1, 1),
  (⟨"LockBook$Shop", "isSafe", "()Z"⟩, prog_12_method_11_code, 6, some .boolean, 1, 0),
  (⟨"LockBook$Shop", "isFree", "(LLockBook$Job;I)Z"⟩, prog_12_method_12_code, 7, some .boolean, 1, 2),
  (⟨"LockBook$Shop", "tires", "()Z"⟩, prog_12_method_25_code, 6, some .boolean, 1, 0),
  (⟨"LockBook$Shop", "over", "(LLockBook$Job;)V"⟩, prog_12_method_22_code, 1, none, 1, 1),
  (⟨"LockBook$Shop", "grant", "(LLockBook$Job;)V"⟩, prog_12_method_21_code, 9, none, 1, 1),
  (⟨"LockBook$Shop", "areEnded", "()Z"⟩, prog_12_method_26_code, 5, some .boolean, 1, 0),
  (⟨"LockBook$Shop", "lays", "([II)V"⟩, prog_12_method_27_code, 10, none, 1, 2),
  (⟨"LockBook$Shop", "comes", "([II)V"⟩, prog_12_method_28_code, 9, none, 1, 2),
  (⟨"LockBook$Manner", "<init>", "()V"⟩, prog_7_method_1_code, 1, none, 2, 0),
  (⟨"LockBook$Manner", "refuses", "(LLockBook$Shop;LLockBook$Job;)Z"⟩, prog_7_method_2_code, 3, some .boolean, 2, 2),
  (⟨"LockBook$Manner", "hasRing", "()Z"⟩, prog_7_method_4_code, 1, some .boolean, 2, 0),
  (⟨"LockBook$Manner", "allows", "(LLockBook$Shop;LLockBook$Job;)Z"⟩, prog_7_method_3_code, 3, some .boolean, 2, 2),
  (⟨"LockBook$WatchManner", "<init>", "()V"⟩, prog_14_method_1_code, 1, none, 3, 0),
  (⟨"LockBook$RankManner", "<init>", "()V"⟩, prog_9_method_1_code, 1, none, 4, 0),
  (⟨"LockBook$RankManner", "refuses", "(LLockBook$Shop;LLockBook$Job;)Z"⟩, prog_9_method_2_code, 7, some .boolean, 4, 2),
  (⟨"LockBook$GuardManner", "<init>", "()V"⟩, prog_3_method_1_code, 1, none, 5, 0),
  (⟨"LockBook$GuardManner", "refuses", "(LLockBook$Shop;LLockBook$Job;)Z"⟩, prog_3_method_2_code, 3, some .boolean, 5, 2),
  (⟨"LockBook$GuardManner", "hasRing", "()Z"⟩, prog_3_method_3_code, 1, some .boolean, 5, 0),
  (⟨"LockBook$ClaimManner", "<init>", "()V"⟩, prog_2_method_1_code, 1, none, 6, 0),
  (⟨"LockBook$ClaimManner", "refuses", "(LLockBook$Shop;LLockBook$Job;)Z"⟩, prog_2_method_2_code, 3, some .boolean, 6, 2),
  (⟨"LockBook$ClaimManner", "allows", "(LLockBook$Shop;LLockBook$Job;)Z"⟩, prog_2_method_3_code, 3, some .boolean, 6, 2),
  (⟨"LockBook$Machine", "<init>", "()V"⟩, prog_6_method_1_code, 1, none, 7, 0),
  (⟨"LockBook$Job", "<init>", "(I)V"⟩, prog_4_method_1_code, 3, none, 8, 1),
  (⟨"LockBook$Job", "begins", "()V"⟩, prog_4_method_2_code, 2, none, 8, 0),
  (⟨"LockBook$Job", "ends", "(Z)V"⟩, prog_4_method_8_code, 3, none, 8, 1),
  (⟨"LockBook$Job", "step", "()LLockBook$Step;"⟩, prog_4_method_6_code, 1, some (.object "LockBook$Step"), 8, 0),
  (⟨"LockBook$Job", "on", "(I)V"⟩, prog_4_method_9_code, 2, none, 8, 1),
  (⟨"LockBook$Job", "uses", "(I)Z"⟩, prog_4_method_3_code, 2, some .boolean, 8, 1),
  (⟨"LockBook$Job", "having", "()I"⟩, prog_4_method_5_code, 1, some .int, 8, 0),
  (⟨"LockBook$Job", "used", "()I"⟩, prog_4_method_4_code, 3, some .int, 8, 0),
  (⟨"LockBook$Job", "tries", "()Z"⟩, prog_4_method_7_code, 1, some .boolean, 8, 0),
  (⟨"LockBook$Step", "<init>", "()V"⟩, prog_13_method_1_code, 1, none, 9, 0),
  (⟨"LockBook$OrderBook", "<init>", "()V"⟩, prog_8_method_1_code, 1, none, 10, 0),
  (⟨"LockBook$OrderBook", "learns", "(IIII)V"⟩, prog_8_method_2_code, 5, none, 10, 4),
  (⟨"LockBook$OrderBook", "finds", "()V"⟩, prog_8_method_4_code, 2, none, 10, 0),
  (⟨"LockBook$OrderBook", "goes", "(II)V"⟩, prog_8_method_5_code, 5, none, 10, 2),
  (⟨"LockBook$OrderBook", "comes", "()V"⟩, prog_8_method_6_code, 2, none, 10, 0),
  (⟨"LockBook$OrderBook", "forgets", "()V"⟩, prog_8_method_3_code, 2, none, 10, 0),
  (⟨"LockBook$RunLog", "<init>", "(LLockBook$Shop;LLockBook$OrderBook;)V"⟩, prog_10_method_1_code, 3, none, 11, 2),
  (⟨"LockBook$RunLog", "begins", "()V"⟩, prog_10_method_2_code, 1, none, 11, 0),
  (⟨"LockBook$RunLog", "refuses", "(LLockBook$Job;I)V"⟩, prog_10_method_4_code, 4, none, 11, 2),
  (⟨"LockBook$RunLog", "grants", "(LLockBook$Job;II)V"⟩, prog_10_method_3_code, 6, none, 11, 3),
  (⟨"LockBook$RunLog", "refused", "(II)I"⟩, prog_10_method_5_code, 3, some .int, 11, 2),
  (⟨"LockBook$RunLog", "taken", "(II)I"⟩, prog_10_method_6_code, 3, some .int, 11, 2),
  (⟨"LockBook$Search", "<init>", "(LLockBook$Shop;)V"⟩, prog_11_method_1_code, 2, none, 12, 1),
  (⟨"LockBook$Search", "looks", "(Z)I"⟩, prog_11_method_6_code, 5, some .int, 12, 1),
  (⟨"LockBook$Search", "meets", "(II)Z"⟩, prog_11_method_5_code, 3, some .boolean, 12, 2),
  (⟨"LockBook$Search", "isMet", "()Z"⟩, prog_11_method_3_code, 4, some .boolean, 12, 0),
  (⟨"LockBook$Search", "hashOf", "(I)I"⟩, prog_11_method_2_code, 4, some .int, 12, 1),
  (⟨"LockBook$Search", "isSame", "(II)Z"⟩, prog_11_method_4_code, 4, some .boolean, 12, 2),
  (⟨"LockBook$Search", "checks", "(I)V"⟩, prog_11_method_7_code, 3, none, 12, 1),
  (⟨"LockBookModel", "<init>", "()V"⟩, prog_16_method_1_code, 2, none, 13, 0),
  (⟨"LockBookModel", "machine", "(III)Z"⟩, prog_16_method_9_code, 4, some .boolean, 13, 3),
  (⟨"LockBookModel", "in", "(II)Z"⟩, prog_16_method_2_code, 2, some .boolean, 13, 2),
  (⟨"LockBookModel", "step", "(IIII)I"⟩, prog_16_method_10_code, 6, some .int, 13, 4),
  (⟨"LockBookModel", "clear", "(I)Z"⟩, prog_16_method_11_code, 2, some .boolean, 13, 1),
  (⟨"LockBookModel", "guard", "(II)Z"⟩, prog_16_method_12_code, 3, some .boolean, 13, 2),
  (⟨"LockBookModel", "claim", "(II)Z"⟩, prog_16_method_13_code, 3, some .boolean, 13, 2),
  (⟨"LockBookModel", "manner", "(I)Z"⟩, prog_16_method_14_code, 2, some .boolean, 13, 1),
  (⟨"LockBookModel", "grant", "(I)I"⟩, prog_16_method_15_code, 2, some .int, 13, 1),
  (⟨"LockBookModel", "list", "()V"⟩, prog_16_method_16_code, 1, none, 13, 0),
  (⟨"LockBookModel", "run", "()I"⟩, prog_16_method_53_code, 5, some .int, 13, 0),
  (⟨"LockBookModel", "begin", "()V"⟩, prog_16_method_48_code, 2, none, 13, 0),
  (⟨"LockBookModel", "toState", "()V"⟩, prog_16_method_51_code, 3, none, 13, 0),
  (⟨"LockBookModel", "goOn", "()V"⟩, prog_16_method_49_code, 3, none, 13, 0),
  (⟨"LockBookModel", "get", "(II)I"⟩, prog_16_method_3_code, 3, some .int, 13, 2),
  (⟨"LockBookModel", "does", "(I)V"⟩, prog_16_method_34_code, 3, none, 13, 1),
  (⟨"LockBookModel", "ends", "(I)V"⟩, prog_16_method_29_code, 2, none, 13, 1),
  (⟨"LockBookModel", "givesAll", "(I)V"⟩, prog_16_method_28_code, 3, none, 13, 1),
  (⟨"LockBookModel", "set", "(III)V"⟩, prog_16_method_4_code, 4, none, 13, 3),
  (⟨"LockBookModel", "onOf", "(I)I"⟩, prog_16_method_18_code, 2, some .int, 13, 1),
  (⟨"LockBookModel", "opOf", "(I)I"⟩, prog_16_method_17_code, 2, some .int, 13, 1),
  (⟨"LockBookModel", "times", "(II)I"⟩, prog_16_method_5_code, 3, some .int, 13, 2),
  (⟨"LockBookModel", "goes", "(I)V"⟩, prog_16_method_32_code, 2, none, 13, 1),
  (⟨"LockBookModel", "looks", "(II)Z"⟩, prog_16_method_6_code, 3, some .boolean, 13, 2),
  (⟨"LockBookModel", "isIllegal", "(I)V"⟩, prog_16_method_33_code, 2, none, 13, 1),
  (⟨"LockBookModel", "comes", "(I)V"⟩, prog_16_method_30_code, 3, none, 13, 1),
  (⟨"LockBookModel", "isRefused", "(I)Z"⟩, prog_16_method_26_code, 6, some .boolean, 13, 1),
  (⟨"LockBookModel", "asked", "(I)I"⟩, prog_16_method_20_code, 4, some .int, 13, 1),
  (⟨"LockBookModel", "has", "(II)Z"⟩, prog_16_method_7_code, 3, some .boolean, 13, 2),
  (⟨"LockBookModel", "measures", "(I)V"⟩, prog_16_method_24_code, 6, none, 13, 1),
  (⟨"LockBookModel", "asks", "(I)Z"⟩, prog_16_method_23_code, 2, some .boolean, 13, 1),
  (⟨"LockBookModel", "keepers", "(I)I"⟩, prog_16_method_21_code, 6, some .int, 13, 1),
  (⟨"LockBookModel", "asksToLook", "(I)Z"⟩, prog_16_method_19_code, 2, some .boolean, 13, 1),
  (⟨"LockBookModel", "had", "(I)I"⟩, prog_16_method_8_code, 4, some .int, 13, 1),
  (⟨"LockBookModel", "refuses", "(I)V"⟩, prog_16_method_31_code, 3, none, 13, 1),
  (⟨"LockBookModel", "lowest", "(I)I"⟩, prog_16_method_27_code, 2, some .int, 13, 1),
  (⟨"LockBookModel", "ringOf", "(I[II)I"⟩, prog_16_method_25_code, 11, some .int, 13, 3),
  (⟨"LockBookModel", "sleeps", "(II)V"⟩, prog_16_method_35_code, 3, none, 13, 2),
  (⟨"LockBookModel", "tells", "(IZ)V"⟩, prog_16_method_37_code, 4, none, 13, 2),
  (⟨"LockBookModel", "sleeper", "(I)I"⟩, prog_16_method_36_code, 4, some .int, 13, 1),
  (⟨"LockBookModel", "several", "(II)V"⟩, prog_16_method_38_code, 6, none, 13, 2),
  (⟨"LockBookModel", "more", "(II)V"⟩, prog_16_method_39_code, 4, none, 13, 2),
  (⟨"LockBookModel", "mayMany", "()I"⟩, prog_16_method_50_code, 3, some .int, 13, 0),
  (⟨"LockBookModel", "may", "(I)Z"⟩, prog_16_method_47_code, 4, some .boolean, 13, 1),
  (⟨"LockBookModel", "can", "(I)Z"⟩, prog_16_method_22_code, 2, some .boolean, 13, 1),
  (⟨"LockBookModel", "gets", "(I)V"⟩, prog_16_method_41_code, 5, none, 13, 1),
  (⟨"LockBookModel", "isSafe", "()Z"⟩, prog_16_method_46_code, 7, some .boolean, 13, 0),
  (⟨"LockBookModel", "isLeft", "(I)Z"⟩, prog_16_method_45_code, 2, some .boolean, 13, 1),
  (⟨"LockBookModel", "tries", "(I)Z"⟩, prog_16_method_43_code, 2, some .boolean, 13, 1),
  (⟨"LockBookModel", "passes", "(I)V"⟩, prog_16_method_44_code, 2, none, 13, 1),
  (⟨"LockBookModel", "least", "()I"⟩, prog_16_method_52_code, 2, some .int, 13, 0),
  (⟨"LockBookModel", "grants", "(I)V"⟩, prog_16_method_42_code, 3, none, 13, 1),
  (⟨"LockBookModel", "learns", "(II)V"⟩, prog_16_method_40_code, 5, none, 13, 2),
  (⟨"LockBookModel", "rings", "()V"⟩, prog_16_method_54_code, 4, none, 13, 0),
  (⟨"LockBookModel", "job", "(II)I"⟩, prog_16_method_56_code, 6, some .int, 13, 2),
  (⟨"LockBookModel", "was", "(II)I"⟩, prog_16_method_55_code, 3, some .int, 13, 2),
  (⟨"LockBookModel", "have", "(II)I"⟩, prog_16_method_57_code, 6, some .int, 13, 2),
  (⟨"LockBookModel", "refused", "(II)I"⟩, prog_16_method_58_code, 3, some .int, 13, 2),
  (⟨"LockBookModel", "ring", "(I)I"⟩, prog_16_method_59_code, 2, some .int, 13, 1),
  (⟨"LockBookModel", "taken", "(II)I"⟩, prog_16_method_60_code, 3, some .int, 13, 2),
  (⟨"LockBookModel", "order", "(II)I"⟩, prog_16_method_61_code, 3, some .int, 13, 2),
  (⟨"LockBookModel", "forget", "()V"⟩, prog_16_method_62_code, 2, none, 13, 0),
  (⟨"LockBookModel", "possible", "(II)I"⟩, prog_16_method_66_code, 3, some .int, 13, 2),
  (⟨"LockBookModel", "findRings", "()V"⟩, prog_16_method_65_code, 2, none, 13, 0),
  (⟨"LockBookModel", "seeks", "(I)V"⟩, prog_16_method_63_code, 4, none, 13, 1),
  (⟨"LockBookModel", "fits", "(I)Z"⟩, prog_16_method_64_code, 3, some .boolean, 13, 1),
  (⟨"LockBookModel", "safe", "()I"⟩, prog_16_method_68_code, 1, some .int, 13, 0),
  (⟨"LockBookModel", "safeBehind", "()Z"⟩, prog_16_method_67_code, 2, some .boolean, 13, 0),
  (⟨"LockBookModel", "before", "(I)I"⟩, prog_16_method_69_code, 2, some .int, 13, 1),
  (⟨"LockBookModel", "plan", "()I"⟩, prog_16_method_75_code, 5, some .int, 13, 0),
  (⟨"LockBookModel", "meets", "(IZ)Z"⟩, prog_16_method_74_code, 6, some .boolean, 13, 2),
  (⟨"LockBookModel", "keeps", "(I)V"⟩, prog_16_method_70_code, 6, none, 13, 1),
  (⟨"LockBookModel", "allEnded", "(I)Z"⟩, prog_16_method_73_code, 3, some .boolean, 13, 1),
  (⟨"LockBookModel", "takes", "(I)V"⟩, prog_16_method_71_code, 3, none, 13, 1),
  (⟨"LockBookModel", "isMet", "(I)Z"⟩, prog_16_method_72_code, 5, some .boolean, 13, 1),
  (⟨"LockBookModel", "planned", "(I)I"⟩, prog_16_method_76_code, 2, some .int, 13, 1),
  (⟨"LockBookModel", "always", "()I"⟩, prog_16_method_77_code, 3, some .int, 13, 0),
  (⟨"LockBookModel", "stops", "(I)Z"⟩, prog_16_method_78_code, 2, some .boolean, 13, 1),
  (⟨"LockBookModel", "count", "(I)I"⟩, prog_16_method_79_code, 2, some .int, 13, 1),
  (⟨"LockBookLaw", "law", "([I)Z"⟩, code, 4, some .boolean, 14, 1),
  (⟨"java/lang/Math", "max", "(II)I"⟩, prog_17_method_65_code, 2, some .int, 15, 2),
  (⟨"java/lang/Math", "min", "(II)I"⟩, prog_17_method_69_code, 2, some .int, 15, 2),
  (⟨"java/lang/Object", "<init>", "()V"⟩, object_method_1_code, 1, none, 16, 0)]
def az_cdm : List Nat := [0, 1, 2, 3, 4, 5, 6, 7, 8, 9, 10, 11, 12, 13, 14, 15, 16, 17, 18, 19, 20, 21, 22, 23, 24, 25, 26, 27, 28, 29, 30, 31, 32, 33, 34, 35, 36, 37, 38, 39, 40, 41, 42, 43, 44, 45, 46, 47, 48, 49, 50, 51, 52, 53, 54, 55, 56, 57, 58, 59, 60, 61, 62, 63, 64, 65, 66, 67, 68, 69, 70, 71, 72, 73, 74, 75, 76, 77, 78, 79, 80, 81, 82, 83, 84, 85, 86, 87, 88, 89, 90, 91, 92, 93, 94, 95, 96, 97, 98, 99, 100, 101, 102, 103, 104, 105, 106, 107, 108, 109, 110, 111, 112, 113, 114, 115, 116, 117, 118, 119, 120, 121, 122, 123, 124, 125, 126, 127, 128, 129, 130, 131, 132, 133, 134, 135, 136, 137, 138, 139, 140, 141, 142, 143, 144, 145, 146, 147, 148, 149, 150, 151, 152, 153, 154, 155, 156, 157, 158, 159, 160, 161, 162, 163, 164, 165, 166, 167, 168, 169, 170, 171, 172, 173, 174, 175, 176, 177, 178, 179, 180, 181, 182, 184, 185, 186]
def az_cdw (i : Nat) : Jvm.Cond := match az_M[i]? with
  | some q => Jvm.Cond.code q.1 q.2.1 q.2.2.1 q.2.2.2.1
  | none => .initialized ""
theorem az_cd0 : ∀ w ∈ ([0, 1, 2, 3, 4, 5, 6, 7, 8, 9, 10, 11, 12, 13, 14, 15, 16, 17, 18, 19, 20, 21, 22, 23, 24, 25, 26, 27, 28, 29, 30, 31] : List Nat).map az_cdw, w ∈ lw_all := lw_in _ [93, 467, 472, 532, 535, 539, 542, 546, 550, 554, 558, 562, 566, 570, 574, 597, 600, 781, 790, 795, 801, 810, 814, 822, 826, 842, 850, 854, 859, 863, 905, 909] (by rfl) (by decide +kernel)
theorem az_cd1 : ∀ w ∈ ([32, 33, 34, 35, 36, 37, 38, 39, 40, 41, 42, 43, 44, 45, 46, 47, 48, 49, 50, 51, 52, 53, 54, 55, 56, 57, 58, 59, 60, 61, 62, 63] : List Nat).map az_cdw, w ∈ lw_all := lw_in _ [913, 101, 478, 582, 586, 605, 609, 621, 635, 639, 643, 647, 650, 654, 700, 705, 709, 713, 717, 721, 731, 735, 739, 748, 756, 762, 786, 877, 894, 118, 675, 685] (by rfl) (by decide +kernel)
theorem az_cd2 : ∀ w ∈ ([64, 65, 66, 67, 68, 69, 70, 71, 72, 73, 74, 75, 76, 77, 78, 79, 80, 81, 82, 83, 84, 85, 86, 87, 88, 89, 90, 91, 92, 93, 94, 95] : List Nat).map az_cdw, w ∈ lw_all := lw_in _ [744, 115, 126, 657, 133, 631, 682, 140, 627, 727, 146, 162, 482, 590, 594, 613, 617, 662, 666, 752, 169, 347, 776, 830, 834, 838, 846, 392, 578, 695, 771, 805] (by rfl) (by decide +kernel)
theorem az_cd3 : ∀ w ∈ ([96, 97, 98, 99, 100, 101, 102, 103, 104, 105, 106, 107, 108, 109, 110, 111, 112, 113, 114, 115, 116, 117, 118, 119, 120, 121, 122, 123, 124, 125, 126, 127] : List Nat).map az_cdw, w ∈ lw_all := lw_in _ [818, 437, 867, 873, 881, 885, 889, 900, 918, 1100, 1103, 1107, 1111, 1115, 1119, 1123, 1127, 1131, 1135, 1139, 1143, 1147, 1151, 1155, 1159, 1163, 1167, 1171, 1175, 1179, 1183, 1187] (by rfl) (by decide +kernel)
theorem az_cd4 : ∀ w ∈ ([128, 129, 130, 131, 132, 133, 134, 135, 136, 137, 138, 139, 140, 141, 142, 143, 144, 145, 146, 147, 148, 149, 150, 151, 152, 153, 154, 155, 156, 157, 158, 159] : List Nat).map az_cdw, w ∈ lw_all := lw_in _ [1191, 1195, 1199, 1203, 1207, 1211, 1215, 1219, 1223, 1227, 1231, 1234, 1238, 1242, 1246, 1250, 1254, 1258, 1262, 1266, 1270, 1274, 1278, 1282, 1286, 1290, 1294, 1298, 1302, 1306, 1310, 1314] (by rfl) (by decide +kernel)
theorem az_cd5 : ∀ w ∈ ([160, 161, 162, 163, 164, 165, 166, 167, 168, 169, 170, 171, 172, 173, 174, 175, 176, 177, 178, 179, 180, 181, 182, 184, 185, 186] : List Nat).map az_cdw, w ∈ lw_all := lw_in _ [1318, 1322, 1326, 1330, 1334, 1338, 1342, 1346, 1350, 1354, 1358, 1362, 1366, 1370, 1374, 1378, 1382, 1386, 1390, 1394, 1398, 1402, 1406, 670, 673, 96] (by rfl) (by decide +kernel)
def az_yn (i : Nat) : MethodName := match az_M[i]? with
  | some q => q.1
  | none => ⟨"", "", ""⟩
def az_ML : List (Nat × Nat × Nat) := [(0, 1, 16), (0, 7, 186), (0, 15, 33), (0, 32, 91), (0, 41, 97), (0, 58, 1), (0, 66, 2), (0, 78, 34), (0, 81, 4), (0, 97, 75), (0, 100, 6), (0, 138, 14), (0, 145, 92), (0, 146, 35), (0, 149, 49), (0, 156, 50), (0, 160, 57), (0, 164, 17), (0, 167, 58), (0, 176, 40), (0, 204, 81), (0, 208, 42), (0, 215, 43), (0, 225, 95), (0, 228, 96), (0, 244, 87), (0, 254, 90), (0, 257, 53), (0, 260, 27), (0, 270, 98), (1, 5, 186), (1, 67, 75), (1, 70, 76), (1, 73, 80), (1, 93, 42), (1, 97, 43), (1, 104, 44), (1, 110, 41), (1, 117, 51), (1, 124, 64), (1, 131, 45), (1, 138, 54), (1, 142, 81), (1, 152, 53), (1, 159, 62), (1, 162, 63), (1, 183, 79), (1, 189, 77), (1, 198, 78), (1, 209, 37), (1, 212, 38), (1, 215, 39), (1, 219, 46), (1, 222, 47), (1, 226, 82), (1, 231, 48), (1, 246, 83), (1, 252, 56), (1, 257, 36), (1, 260, 49), (1, 263, 55), (1, 266, 50), (2, 1, 186), (4, 15, 78), (4, 25, 81), (4, 44, 184), (4, 53, 185), (5, 13, 40), (6, 15, 78), (6, 31, 52), (7, 1, 186), (8, 3, 186), (8, 75, 82), (8, 79, 78), (9, 1, 186), (10, 3, 186), (10, 47, 88), (10, 51, 89), (11, 3, 186), (11, 63, 86), (12, 3, 186), (12, 35, 101), (12, 39, 102), (12, 43, 59), (12, 47, 100), (12, 55, 34), (12, 58, 35), (12, 61, 99), (12, 64, 58), (12, 67, 60), (12, 74, 50), (12, 78, 57), (12, 82, 103), (12, 86, 49), (13, 1, 186), (13, 138, 118), (13, 142, 125), (13, 145, 127), (13, 149, 132), (13, 152, 106), (13, 162, 124), (13, 166, 123), (13, 169, 136), (13, 173, 131), (13, 176, 137), (13, 179, 135), (13, 182, 134), (13, 185, 133), (13, 189, 122), (13, 193, 121), (13, 196, 130), (13, 203, 138), (13, 206, 120), (13, 212, 139), (13, 215, 140), (13, 219, 126), (13, 222, 128), (13, 225, 129), (13, 228, 141), (13, 232, 142), (13, 236, 144), (13, 242, 143), (13, 245, 145), (13, 251, 156), (13, 257, 149), (13, 260, 152), (13, 263, 153), (13, 269, 151), (13, 272, 148), (13, 275, 150), (13, 279, 119), (13, 282, 147), (13, 285, 117), (13, 288, 146), (13, 295, 115), (13, 301, 116), (13, 304, 154), (13, 307, 155), (13, 309, 157), (13, 311, 159), (13, 314, 169), (13, 323, 168), (13, 326, 167), (13, 329, 171), (13, 332, 175), (13, 338, 176), (13, 347, 177), (13, 350, 178), (13, 356, 174), (13, 360, 181), (14, 9, 0), (14, 12, 104), (14, 13, 3), (14, 17, 105), (14, 18, 5), (14, 22, 107), (14, 23, 7), (14, 27, 108), (14, 28, 8), (14, 32, 109), (14, 33, 9), (14, 36, 110), (14, 37, 10), (14, 40, 111), (14, 41, 11), (14, 45, 112), (14, 46, 12), (14, 49, 113), (14, 50, 13), (14, 54, 114), (14, 55, 18), (14, 59, 158), (14, 60, 19), (14, 63, 160), (14, 64, 20), (14, 67, 161), (14, 68, 21), (14, 71, 162), (14, 72, 22), (14, 75, 163), (14, 76, 23), (14, 79, 164), (14, 80, 24), (14, 83, 166), (14, 84, 25), (14, 87, 165), (14, 88, 26), (14, 91, 170), (14, 92, 28), (14, 95, 172), (14, 96, 29), (14, 99, 173), (14, 100, 30), (14, 103, 179), (14, 104, 31), (14, 107, 180), (14, 108, 32), (14, 111, 182)]
def az_MN : List (Nat × Nat × Nat) := [(0, 25, 85), (0, 94, 74), (1, 36, 65), (1, 39, 66), (1, 42, 68), (1, 45, 71), (1, 62, 74), (1, 83, 16), (1, 114, 15), (3, 1, 61), (4, 3, 61), (4, 29, 16), (5, 1, 61), (6, 3, 61), (8, 28, 84), (10, 33, 16), (11, 59, 16), (11, 72, 15), (11, 81, 4)]
theorem az_ml1 : ∀ w ∈ (az_ML.take 99).map (fun r => Jvm.Cond.methodLink (az_cn r.1) r.2.1 (az_yn r.2.2)), w ∈ lw_all := lw_in _ [598, 94, 99, 390, 435, 465, 470, 475, 533, 474, 540, 571, 575, 579, 757, 758, 759, 778, 783, 782, 791, 796, 797, 802, 815, 827, 843, 855, 851, 864, 102, 160, 479, 614, 640, 644, 648, 636, 718, 722, 651, 736, 740, 732, 622, 676, 610, 587, 591, 602, 606, 618, 697, 702, 701, 706, 749, 754, 583, 710, 745, 714, 119, 658, 659, 668, 671, 632, 628, 728, 147, 163, 663, 753, 170, 348, 831, 835, 393, 773, 438, 882, 886, 874, 878, 868, 869, 870, 890, 891, 895, 896, 897, 901, 919, 1148, 1176, 1184, 1204] (by decide +kernel) (by decide +kernel)
theorem az_ml2 : ∀ w ∈ (az_ML.drop 99).map (fun r => Jvm.Cond.methodLink (az_cn r.1) r.2.1 (az_yn r.2.2)), w ∈ lw_all := lw_in _ [1101, 1172, 1168, 1220, 1200, 1224, 1216, 1212, 1208, 1164, 1160, 1196, 1228, 1156, 1232, 1235, 1180, 1188, 1192, 1239, 1243, 1251, 1247, 1255, 1299, 1271, 1283, 1287, 1279, 1267, 1275, 1152, 1263, 1144, 1259, 1136, 1140, 1291, 1295, 1303, 1311, 1351, 1347, 1343, 1359, 1375, 1379, 1383, 1387, 1371, 1399, 91, 916, 529, 1097, 536, 1104, 543, 1108, 547, 1112, 551, 1116, 555, 1120, 559, 1124, 563, 1128, 567, 1132, 787, 1307, 792, 1315, 798, 1319, 807, 1323, 811, 1327, 819, 1331, 823, 1339, 839, 1335, 847, 1355, 856, 1363, 860, 1367, 902, 1391, 906, 1395, 910, 1403] (by decide +kernel) (by decide +kernel)
theorem az_mn : ∀ w ∈ az_MN.map (fun r => Jvm.Cond.methodLinkNest (az_cn r.1) r.2.1 (az_yn r.2.2) "LockBook"), w ∈ lw_tbl := az_inT _ [345, 469, 113, 124, 131, 138, 144, 601, 595, 116, 127, 667, 134, 141, 167, 777, 772, 696, 806] (by decide +kernel)
theorem az_ml : ∀ r ∈ az_ML, Jvm.Cond.methodLink (az_cn r.1) r.2.1 (az_yn r.2.2) ∈ lw_all := by
  intro r h
  rw [← List.take_append_drop 99 az_ML] at h
  rcases List.mem_append.mp h with h | h
  · exact az_ml1 _ (List.mem_map.mpr ⟨r, h, rfl⟩)
  · exact az_ml2 _ (List.mem_map.mpr ⟨r, h, rfl⟩)
def az_SM : List Nat := [1, 2, 4, 6, 15, 16, 44, 56, 106, 139, 184, 185]
theorem az_sm : ∀ w ∈ az_SM.map (fun i => Jvm.Cond.static (az_yn i)), w ∈ lw_all := lw_in _ [466, 471, 534, 541, 596, 599, 649, 755, 1102, 1233, 669, 672] (by decide +kernel) (by decide +kernel)
def az_IM : List Nat := [0, 3, 5, 7, 8, 9, 10, 11, 12, 13, 14, 17, 18, 19, 20, 21, 22, 23, 24, 25, 26, 27, 28, 29, 30, 31, 32, 33, 34, 35, 36, 37, 38, 39, 40, 41, 42, 43, 45, 46, 47, 48, 49, 50, 51, 52, 53, 54, 55, 57, 58, 59, 60, 61, 62, 63, 64, 65, 66, 67, 68, 69, 70, 71, 72, 73, 74, 75, 76, 77, 78, 79, 80, 81, 82, 83, 84, 85, 86, 87, 88, 89, 90, 91, 92, 93, 94, 95, 96, 97, 98, 99, 100, 101, 102, 103, 104, 105, 107, 108, 109, 110, 111, 112, 113, 114, 115, 116, 117, 118, 119, 120, 121, 122, 123, 124, 125, 126, 127, 128, 129, 130, 131, 132, 133, 134, 135, 136, 137, 138, 140, 141, 142, 143, 144, 145, 146, 147, 148, 149, 150, 151, 152, 153, 154, 155, 156, 157, 158, 159, 160, 161, 162, 163, 164, 165, 166, 167, 168, 169, 170, 171, 172, 173, 174, 175, 176, 177, 178, 179, 180, 181, 182, 186]
theorem az_im : ∀ w ∈ az_IM.map (fun i => Jvm.Cond.instanceMethod (az_yn i)), w ∈ lw_all := lw_in _ [92, 530, 537, 544, 548, 552, 556, 560, 564, 568, 573, 780, 788, 793, 799, 808, 812, 820, 824, 840, 848, 853, 857, 861, 903, 907, 911, 100, 476, 580, 585, 604, 608, 620, 633, 637, 641, 645, 653, 699, 704, 708, 711, 715, 719, 729, 733, 738, 747, 760, 784, 875, 892, 117, 623, 677, 723, 114, 125, 656, 132, 630, 681, 139, 626, 726, 145, 161, 480, 588, 592, 611, 615, 660, 664, 750, 168, 346, 774, 828, 833, 837, 844, 391, 576, 693, 769, 803, 816, 436, 865, 872, 880, 884, 888, 899, 917, 1098, 1105, 1109, 1113, 1117, 1121, 1125, 1129, 1133, 1138, 1142, 1146, 1150, 1154, 1158, 1162, 1166, 1170, 1174, 1178, 1182, 1186, 1190, 1194, 1198, 1202, 1206, 1210, 1214, 1218, 1222, 1226, 1230, 1237, 1241, 1245, 1249, 1253, 1257, 1261, 1265, 1269, 1273, 1277, 1281, 1285, 1289, 1293, 1297, 1301, 1305, 1308, 1313, 1316, 1320, 1324, 1328, 1332, 1336, 1340, 1345, 1349, 1353, 1356, 1361, 1364, 1368, 1373, 1377, 1381, 1385, 1389, 1392, 1396, 1401, 1404, 95] (by decide +kernel) (by decide +kernel)
def az_SE : List Nat := [3, 5, 7, 8, 9, 10, 11, 12, 13, 14, 17, 18, 19, 20, 21, 22, 23, 24, 25, 26, 27, 28, 29, 30, 31, 32, 34, 35, 36, 37, 38, 39, 40, 41, 42, 43, 45, 46, 47, 48, 49, 50, 51, 52, 53, 54, 55, 57, 58, 59, 60, 76, 77, 78, 79, 80, 81, 82, 83, 86, 87, 88, 89, 90, 92, 95, 96, 98, 99, 100, 101, 102, 103, 105, 107, 108, 109, 110, 111, 112, 113, 114, 115, 116, 117, 118, 119, 120, 121, 122, 123, 124, 125, 126, 127, 128, 129, 130, 131, 132, 133, 134, 135, 136, 137, 138, 140, 141, 142, 143, 144, 145, 146, 147, 148, 149, 150, 151, 152, 153, 154, 155, 156, 157, 158, 159, 160, 161, 162, 163, 164, 165, 166, 167, 168, 169, 170, 171, 172, 173, 174, 175, 176, 177, 178, 179, 180, 181, 182]
theorem az_se : ∀ w ∈ az_SE.map (fun i => Jvm.Cond.selects (az_yn i).cls (az_yn i) (az_yn i)), w ∈ lw_all := lw_in _ [531, 538, 545, 549, 553, 557, 561, 565, 569, 0, 11, 789, 794, 800, 809, 813, 821, 825, 841, 849, 14, 858, 862, 904, 908, 912, 477, 581, 1, 2, 3, 4, 634, 638, 642, 646, 5, 6, 7, 8, 712, 716, 720, 730, 734, 9, 10, 761, 785, 876, 893, 481, 589, 593, 612, 616, 661, 665, 751, 775, 829, 12, 13, 845, 577, 804, 817, 866, 15, 16, 17, 18, 19, 1099, 1106, 1110, 1114, 1118, 1122, 1126, 1130, 1134, 20, 21, 22, 23, 24, 25, 26, 27, 28, 29, 30, 31, 32, 33, 34, 35, 36, 37, 38, 39, 40, 41, 42, 43, 44, 45, 46, 47, 48, 49, 50, 51, 52, 53, 54, 55, 56, 57, 58, 59, 60, 61, 1309, 62, 1317, 1321, 1325, 1329, 1333, 1337, 1341, 63, 64, 65, 1357, 66, 1365, 1369, 67, 68, 69, 70, 71, 1393, 1397, 72, 1405] (by decide +kernel) (by decide +kernel)
def az_MD : List (Nat × Nat × Nat) := [(3, 62, 62), (4, 62, 67), (5, 62, 69), (6, 62, 72), (3, 64, 64), (4, 64, 64), (5, 64, 64), (6, 64, 73), (3, 63, 63), (4, 63, 63), (5, 63, 70), (6, 63, 63)]
theorem az_md : ∀ w ∈ az_MD.map (fun r => Jvm.Cond.selects (az_cn r.1) (az_yn r.2.1) (az_yn r.2.2)), w ∈ lw_all := lw_in _ [674, 655, 629, 625, 743, 742, 741, 725, 684, 683, 680, 679] (by decide +kernel) (by decide +kernel)
theorem az_sam : ∀ w ∈ [62, 64, 63].map (fun i => Jvm.Cond.sameMethod (az_yn i).cls "LockBook$Manner" (az_yn i).name (az_yn i).desc), w ∈ lw_all := lw_in _ [624, 724, 678] (by decide +kernel) (by decide +kernel)
def az_x93 : MethodName := ⟨"LockBook$Listener", "refuses", "(LLockBook$Job;I)V"⟩
def az_x94 : MethodName := ⟨"LockBook$Listener", "grants", "(LLockBook$Job;II)V"⟩
theorem az_if93 : ∀ w ∈ [Jvm.Cond.methodLink "LockBook$Shop" 172 az_x93, Jvm.Cond.selects "LockBook$RunLog" az_x93 (az_yn 93)], w ∈ lw_all := lw_in _ [687, 691] (by decide +kernel) (by decide +kernel)
theorem az_ix93 : ∀ w ∈ [Jvm.Cond.declares az_x93, Jvm.Cond.interfaceMethod az_x93.cls az_x93.cls az_x93.name az_x93.desc, Jvm.Cond.publicMethod (az_yn 93), Jvm.Cond.unhidden "LockBook$RunLog" az_x93.name az_x93.desc, Jvm.Cond.castable "LockBook$RunLog" az_x93.cls], w ∈ lw_tbl := az_inT _ [689, 688, 694, 692, 690] (by decide +kernel)
theorem az_if94 : ∀ w ∈ [Jvm.Cond.methodLink "LockBook$Shop" 240 az_x94, Jvm.Cond.selects "LockBook$RunLog" az_x94 (az_yn 94)], w ∈ lw_all := lw_in _ [764, 767] (by decide +kernel) (by decide +kernel)
theorem az_ix94 : ∀ w ∈ [Jvm.Cond.declares az_x94, Jvm.Cond.interfaceMethod az_x94.cls az_x94.cls az_x94.name az_x94.desc, Jvm.Cond.publicMethod (az_yn 94), Jvm.Cond.unhidden "LockBook$RunLog" az_x94.name az_x94.desc, Jvm.Cond.castable "LockBook$RunLog" az_x94.cls], w ∈ lw_tbl := az_inT _ [766, 765, 770, 768, 690] (by decide +kernel)
theorem az_aC0 : Jvm.Cond.arrayClass .int ∈ lw_all := lw_w 121 (by decide +kernel) (by decide +kernel)
theorem az_aC1 : Jvm.Cond.arrayClass .boolean ∈ lw_all := lw_w 1096 (by decide +kernel) (by decide +kernel)
theorem az_aO : ∀ w ∈ [Jvm.Cond.arrayOver (.object "LockBook$Machine"), Jvm.Cond.arrayOver (.object "LockBook$Job"), Jvm.Cond.arrayOver (.object "LockBook$Manner"), Jvm.Cond.arrayOver (.object "LockBook$Step"), Jvm.Cond.arrayOver (.array .int)], w ∈ lw_tbl := az_inT _ [104, 106, 110, 165, 108] (by decide +kernel)
theorem az_ca : ∀ w ∈ [3, 4, 5, 6].map (fun i => Jvm.Cond.castable (az_cn i) "LockBook$Manner"), w ∈ lw_tbl := az_inT _ [1407, 1408, 1409, 1410] (by decide +kernel)
/-- what every row of the methods says -/
def az_mok (q : az_MT) : Bool := decide (q.1.cls = az_cn q.2.2.2.2.1) && az_IZ.contains q.2.2.2.2.1 && decide (q.1.cls ≠ "java/lang/invoke/MethodHandle") && decide (q.1.cls ≠ "java/lang/invoke/VarHandle") && decide ((parseMethodDescriptor q.1.desc).map (fun d => d.parameters.length) = some q.2.2.2.2.2) && plainName q.1.cls && decide (q.2.2.1 ≤ 11)
theorem az_moks : (az_M.take 183).all az_mok = true := by decide +kernel
