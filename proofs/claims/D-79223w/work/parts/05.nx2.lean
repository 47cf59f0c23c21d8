/-! IncidentKeeper$Core -/
set_option maxRecDepth 100000
def RX2 : String := "IncidentKeeper$Core"
def TX2 : u_T := fun k => match k with
  | 0 => ("IncidentKeeper$Core", "incidents", "Ljava/util/ArrayList;", true)
  | 1 => ("IncidentKeeper$Core", "changes", "Ljava/util/ArrayList;", true)
  | 2 => ("IncidentKeeper$Core", "actions", "Ljava/util/ArrayList;", true)
  | 3 => ("IncidentKeeper$Core", "events", "Ljava/util/ArrayList;", true)
  | 4 => ("IncidentKeeper$Core", "reviews", "[I", true)
  | 5 => ("IncidentKeeper$Core", "targets", "[I", true)
  | 6 => ("IncidentKeeper$Core", "limits", "[I", true)
  | 7 => ("IncidentKeeper$Core", "reviewCount", "I", false)
  | 8 => ("IncidentKeeper$Core", "onDuty", "I", false)
  | 9 => ("IncidentKeeper$Core", "window", "I", false)
  | _ => ("IncidentKeeper$Core", "now", "I", false)
def tyX2 : Nat → FieldType := fun k => match k with
  | 0 => .object "java/util/ArrayList"
  | 1 => .object "java/util/ArrayList"
  | 2 => .object "java/util/ArrayList"
  | 3 => .object "java/util/ArrayList"
  | 4 => .array .int
  | 5 => .array .int
  | 6 => .array .int
  | 7 => .int
  | 8 => .int
  | 9 => .int
  | _ => .int
abbrev wsX20 : List Cond := u_ws RX2 TX2 11
theorem nmX2 : ∀ a, a < 11 → ∀ b, b < 11 → a ≠ b → (TX2 a).2.1 ≠ (TX2 b).2.1 := by decide +kernel
theorem tyX2_ok : ∀ k, k < 11 → parseFieldDescriptor (TX2 k).2.2.1 = some (tyX2 k) := by decide +kernel
abbrev cX2_init : ByteArray := prog_6_method_1_code
def yX2_init : MethodName := ⟨RX2, "<init>", "()V"⟩
def dkwX2_init_4 : List UInt8 := [6, 181, 0, 37, 42, 16, 30, 181, 0, 41, 177]
abbrev dktX2_init_4 : List UInt8 := dkwX2_init_4 ++ []
def dkwX2_init_3 : List UInt8 := [79, 89, 5, 17, 0, 240, 79, 89, 6, 17, 1, 224, 79, 181, 0, 31, 42, 7, 188, 10, 181, 0, 34, 42]
abbrev dktX2_init_3 : List UInt8 := dkwX2_init_3 ++ dktX2_init_4
def dkwX2_init_2 : List UInt8 := [181, 0, 24, 42, 16, 8, 188, 10, 181, 0, 27, 42, 7, 188, 10, 89, 3, 16, 15, 79, 89, 4, 16, 60]
abbrev dktX2_init_2 : List UInt8 := dkwX2_init_2 ++ dktX2_init_3
def dkwX2_init_1 : List UInt8 := [181, 0, 18, 42, 187, 0, 9, 89, 183, 0, 11, 181, 0, 21, 42, 187, 0, 9, 89, 183, 0, 11]
abbrev dktX2_init_1 : List UInt8 := dkwX2_init_1 ++ dktX2_init_2
def dkwX2_init_0 : List UInt8 := [42, 183, 0, 3, 42, 187, 0, 9, 89, 183, 0, 11, 181, 0, 12, 42, 187, 0, 9, 89, 183, 0, 11]
abbrev dktX2_init_0 : List UInt8 := dkwX2_init_0 ++ dktX2_init_1
theorem dksX2_init_0 : cX2_init.data.toList.drop 0 = dktX2_init_0 := by decide +kernel
theorem dksX2_init_1 : cX2_init.data.toList.drop 23 = dktX2_init_1 := dk_seg dksX2_init_0 23 rfl rfl
theorem dksX2_init_2 : cX2_init.data.toList.drop 45 = dktX2_init_2 := dk_seg dksX2_init_1 22 rfl rfl
theorem dksX2_init_3 : cX2_init.data.toList.drop 69 = dktX2_init_3 := dk_seg dksX2_init_2 24 rfl rfl
theorem dksX2_init_4 : cX2_init.data.toList.drop 93 = dktX2_init_4 := dk_seg dksX2_init_3 24 rfl rfl
theorem dX2_init_0 : decode cX2_init 0 = .ok (.aload_n 0, 1) := dk_42 (dk_at dksX2_init_0 0 rfl rfl)
theorem dX2_init_1 : decode cX2_init 1 = .ok (.invokespecial 3, 3) := dk_183 0 3 (dk_at dksX2_init_0 1 rfl rfl)
theorem dX2_init_4 : decode cX2_init 4 = .ok (.aload_n 0, 1) := dk_42 (dk_at dksX2_init_0 4 rfl rfl)
theorem dX2_init_5 : decode cX2_init 5 = .ok (.new 9, 3) := dk_187 0 9 (dk_at dksX2_init_0 5 rfl rfl)
theorem dX2_init_8 : decode cX2_init 8 = .ok (.dup, 1) := dk_89 (dk_at dksX2_init_0 8 rfl rfl)
theorem dX2_init_9 : decode cX2_init 9 = .ok (.invokespecial 11, 3) := dk_183 0 11 (dk_at dksX2_init_0 9 rfl rfl)
theorem dX2_init_12 : decode cX2_init 12 = .ok (.putfield 12, 3) := dk_181 0 12 (dk_at dksX2_init_0 12 rfl rfl)
theorem dX2_init_15 : decode cX2_init 15 = .ok (.aload_n 0, 1) := dk_42 (dk_at dksX2_init_0 15 rfl rfl)
theorem dX2_init_16 : decode cX2_init 16 = .ok (.new 9, 3) := dk_187 0 9 (dk_at dksX2_init_0 16 rfl rfl)
theorem dX2_init_19 : decode cX2_init 19 = .ok (.dup, 1) := dk_89 (dk_at dksX2_init_0 19 rfl rfl)
theorem dX2_init_20 : decode cX2_init 20 = .ok (.invokespecial 11, 3) := dk_183 0 11 (dk_at dksX2_init_0 20 rfl rfl)
theorem dX2_init_23 : decode cX2_init 23 = .ok (.putfield 18, 3) := dk_181 0 18 (dk_at dksX2_init_1 0 rfl rfl)
theorem dX2_init_26 : decode cX2_init 26 = .ok (.aload_n 0, 1) := dk_42 (dk_at dksX2_init_1 3 rfl rfl)
theorem dX2_init_27 : decode cX2_init 27 = .ok (.new 9, 3) := dk_187 0 9 (dk_at dksX2_init_1 4 rfl rfl)
theorem dX2_init_30 : decode cX2_init 30 = .ok (.dup, 1) := dk_89 (dk_at dksX2_init_1 7 rfl rfl)
theorem dX2_init_31 : decode cX2_init 31 = .ok (.invokespecial 11, 3) := dk_183 0 11 (dk_at dksX2_init_1 8 rfl rfl)
theorem dX2_init_34 : decode cX2_init 34 = .ok (.putfield 21, 3) := dk_181 0 21 (dk_at dksX2_init_1 11 rfl rfl)
theorem dX2_init_37 : decode cX2_init 37 = .ok (.aload_n 0, 1) := dk_42 (dk_at dksX2_init_1 14 rfl rfl)
theorem dX2_init_38 : decode cX2_init 38 = .ok (.new 9, 3) := dk_187 0 9 (dk_at dksX2_init_1 15 rfl rfl)
theorem dX2_init_41 : decode cX2_init 41 = .ok (.dup, 1) := dk_89 (dk_at dksX2_init_1 18 rfl rfl)
theorem dX2_init_42 : decode cX2_init 42 = .ok (.invokespecial 11, 3) := dk_183 0 11 (dk_at dksX2_init_1 19 rfl rfl)
theorem dX2_init_45 : decode cX2_init 45 = .ok (.putfield 24, 3) := dk_181 0 24 (dk_at dksX2_init_2 0 rfl rfl)
theorem dX2_init_48 : decode cX2_init 48 = .ok (.aload_n 0, 1) := dk_42 (dk_at dksX2_init_2 3 rfl rfl)
theorem dX2_init_49 : decode cX2_init 49 = .ok (.bipush 8, 2) := dk_16 8 (dk_at dksX2_init_2 4 rfl rfl)
theorem dX2_init_51 : decode cX2_init 51 = .ok (.newarray .int, 2) := dk_188_10 (dk_at dksX2_init_2 6 rfl rfl)
theorem dX2_init_53 : decode cX2_init 53 = .ok (.putfield 27, 3) := dk_181 0 27 (dk_at dksX2_init_2 8 rfl rfl)
theorem dX2_init_56 : decode cX2_init 56 = .ok (.aload_n 0, 1) := dk_42 (dk_at dksX2_init_2 11 rfl rfl)
theorem dX2_init_57 : decode cX2_init 57 = .ok (.iconst 4, 1) := dk_7 (dk_at dksX2_init_2 12 rfl rfl)
theorem dX2_init_58 : decode cX2_init 58 = .ok (.newarray .int, 2) := dk_188_10 (dk_at dksX2_init_2 13 rfl rfl)
theorem dX2_init_60 : decode cX2_init 60 = .ok (.dup, 1) := dk_89 (dk_at dksX2_init_2 15 rfl rfl)
theorem dX2_init_61 : decode cX2_init 61 = .ok (.iconst 0, 1) := dk_3 (dk_at dksX2_init_2 16 rfl rfl)
theorem dX2_init_62 : decode cX2_init 62 = .ok (.bipush 15, 2) := dk_16 15 (dk_at dksX2_init_2 17 rfl rfl)
theorem dX2_init_64 : decode cX2_init 64 = .ok (.iastore, 1) := dk_79 (dk_at dksX2_init_2 19 rfl rfl)
theorem dX2_init_65 : decode cX2_init 65 = .ok (.dup, 1) := dk_89 (dk_at dksX2_init_2 20 rfl rfl)
theorem dX2_init_66 : decode cX2_init 66 = .ok (.iconst 1, 1) := dk_4 (dk_at dksX2_init_2 21 rfl rfl)
theorem dX2_init_67 : decode cX2_init 67 = .ok (.bipush 60, 2) := dk_16 60 (dk_at dksX2_init_2 22 rfl rfl)
theorem dX2_init_69 : decode cX2_init 69 = .ok (.iastore, 1) := dk_79 (dk_at dksX2_init_3 0 rfl rfl)
theorem dX2_init_70 : decode cX2_init 70 = .ok (.dup, 1) := dk_89 (dk_at dksX2_init_3 1 rfl rfl)
theorem dX2_init_71 : decode cX2_init 71 = .ok (.iconst 2, 1) := dk_5 (dk_at dksX2_init_3 2 rfl rfl)
theorem dX2_init_72 : decode cX2_init 72 = .ok (.sipush 240, 3) := dk_17 0 240 (dk_at dksX2_init_3 3 rfl rfl)
theorem dX2_init_75 : decode cX2_init 75 = .ok (.iastore, 1) := dk_79 (dk_at dksX2_init_3 6 rfl rfl)
theorem dX2_init_76 : decode cX2_init 76 = .ok (.dup, 1) := dk_89 (dk_at dksX2_init_3 7 rfl rfl)
theorem dX2_init_77 : decode cX2_init 77 = .ok (.iconst 3, 1) := dk_6 (dk_at dksX2_init_3 8 rfl rfl)
theorem dX2_init_78 : decode cX2_init 78 = .ok (.sipush 480, 3) := dk_17 1 224 (dk_at dksX2_init_3 9 rfl rfl)
theorem dX2_init_81 : decode cX2_init 81 = .ok (.iastore, 1) := dk_79 (dk_at dksX2_init_3 12 rfl rfl)
theorem dX2_init_82 : decode cX2_init 82 = .ok (.putfield 31, 3) := dk_181 0 31 (dk_at dksX2_init_3 13 rfl rfl)
theorem dX2_init_85 : decode cX2_init 85 = .ok (.aload_n 0, 1) := dk_42 (dk_at dksX2_init_3 16 rfl rfl)
theorem dX2_init_86 : decode cX2_init 86 = .ok (.iconst 4, 1) := dk_7 (dk_at dksX2_init_3 17 rfl rfl)
theorem dX2_init_87 : decode cX2_init 87 = .ok (.newarray .int, 2) := dk_188_10 (dk_at dksX2_init_3 18 rfl rfl)
theorem dX2_init_89 : decode cX2_init 89 = .ok (.putfield 34, 3) := dk_181 0 34 (dk_at dksX2_init_3 20 rfl rfl)
theorem dX2_init_92 : decode cX2_init 92 = .ok (.aload_n 0, 1) := dk_42 (dk_at dksX2_init_3 23 rfl rfl)
theorem dX2_init_93 : decode cX2_init 93 = .ok (.iconst 3, 1) := dk_6 (dk_at dksX2_init_4 0 rfl rfl)
theorem dX2_init_94 : decode cX2_init 94 = .ok (.putfield 37, 3) := dk_181 0 37 (dk_at dksX2_init_4 1 rfl rfl)
theorem dX2_init_97 : decode cX2_init 97 = .ok (.aload_n 0, 1) := dk_42 (dk_at dksX2_init_4 4 rfl rfl)
theorem dX2_init_98 : decode cX2_init 98 = .ok (.bipush 30, 2) := dk_16 30 (dk_at dksX2_init_4 5 rfl rfl)
theorem dX2_init_100 : decode cX2_init 100 = .ok (.putfield 41, 3) := dk_181 0 41 (dk_at dksX2_init_4 7 rfl rfl)
theorem dX2_init_103 : decode cX2_init 103 = .ok (.return_, 1) := dk_177 (dk_at dksX2_init_4 10 rfl rfl)
abbrev cX2_copy : ByteArray := prog_6_method_2_code
def yX2_copy : MethodName := ⟨RX2, "copy", "()LIncidentKeeper$Core;"⟩
def dkwX2_copy_10 : List UInt8 := [43, 42, 180, 0, 41, 181, 0, 41, 43, 42, 180, 0, 91, 181, 0, 91, 43, 176]
abbrev dktX2_copy_10 : List UInt8 := dkwX2_copy_10 ++ []
def dkwX2_copy_9 : List UInt8 := [180, 0, 34, 3, 7, 184, 0, 82, 43, 42, 180, 0, 88, 181, 0, 88, 43, 42, 180, 0, 37, 181, 0, 37]
abbrev dktX2_copy_9 : List UInt8 := dkwX2_copy_9 ++ dktX2_copy_10
def dkwX2_copy_8 : List UInt8 := [184, 0, 82, 42, 180, 0, 31, 3, 43, 180, 0, 31, 3, 7, 184, 0, 82, 42, 180, 0, 34, 3, 43]
abbrev dktX2_copy_8 : List UInt8 := dkwX2_copy_8 ++ dktX2_copy_9
def dkwX2_copy_7 : List UInt8 := [182, 0, 71, 87, 132, 2, 1, 167, 255, 223, 42, 180, 0, 27, 3, 43, 180, 0, 27, 3, 16, 8]
abbrev dktX2_copy_7 : List UInt8 := dkwX2_copy_7 ++ dktX2_copy_8
def dkwX2_copy_6 : List UInt8 := [180, 0, 24, 182, 0, 45, 162, 0, 28, 43, 180, 0, 24, 42, 180, 0, 24, 28, 182, 0, 49, 192, 0, 80]
abbrev dktX2_copy_6 : List UInt8 := dkwX2_copy_6 ++ dktX2_copy_7
def dkwX2_copy_5 : List UInt8 := [182, 0, 49, 192, 0, 74, 182, 0, 76, 182, 0, 71, 87, 132, 2, 1, 167, 255, 220, 3, 61, 28, 42]
abbrev dktX2_copy_5 : List UInt8 := dkwX2_copy_5 ++ dktX2_copy_6
def dkwX2_copy_4 : List UInt8 := [3, 61, 28, 42, 180, 0, 21, 182, 0, 45, 162, 0, 31, 43, 180, 0, 21, 42, 180, 0, 21, 28]
abbrev dktX2_copy_4 : List UInt8 := dkwX2_copy_4 ++ dktX2_copy_5
def dkwX2_copy_3 : List UInt8 := [180, 0, 18, 42, 180, 0, 18, 28, 182, 0, 49, 192, 0, 69, 182, 0, 71, 87, 132, 2, 1, 167, 255, 223]
abbrev dktX2_copy_3 : List UInt8 := dkwX2_copy_3 ++ dktX2_copy_4
def dkwX2_copy_2 : List UInt8 := [182, 0, 65, 132, 2, 1, 167, 255, 214, 3, 61, 28, 42, 180, 0, 18, 182, 0, 45, 162, 0, 28, 43]
abbrev dktX2_copy_2 : List UInt8 := dkwX2_copy_2 ++ dktX2_copy_3
def dkwX2_copy_1 : List UInt8 := [180, 0, 12, 28, 182, 0, 49, 192, 0, 53, 78, 43, 45, 182, 0, 55, 45, 182, 0, 58, 182, 0, 61, 45]
abbrev dktX2_copy_1 : List UInt8 := dkwX2_copy_1 ++ dktX2_copy_2
def dkwX2_copy_0 : List UInt8 := [187, 0, 13, 89, 183, 0, 44, 76, 3, 61, 28, 42, 180, 0, 12, 182, 0, 45, 162, 0, 37, 42]
abbrev dktX2_copy_0 : List UInt8 := dkwX2_copy_0 ++ dktX2_copy_1
theorem dksX2_copy_0 : cX2_copy.data.toList.drop 0 = dktX2_copy_0 := by decide +kernel
theorem dksX2_copy_1 : cX2_copy.data.toList.drop 22 = dktX2_copy_1 := dk_seg dksX2_copy_0 22 rfl rfl
theorem dksX2_copy_2 : cX2_copy.data.toList.drop 46 = dktX2_copy_2 := dk_seg dksX2_copy_1 24 rfl rfl
theorem dksX2_copy_3 : cX2_copy.data.toList.drop 69 = dktX2_copy_3 := dk_seg dksX2_copy_2 23 rfl rfl
theorem dksX2_copy_4 : cX2_copy.data.toList.drop 93 = dktX2_copy_4 := dk_seg dksX2_copy_3 24 rfl rfl
theorem dksX2_copy_5 : cX2_copy.data.toList.drop 115 = dktX2_copy_5 := dk_seg dksX2_copy_4 22 rfl rfl
theorem dksX2_copy_6 : cX2_copy.data.toList.drop 138 = dktX2_copy_6 := dk_seg dksX2_copy_5 23 rfl rfl
theorem dksX2_copy_7 : cX2_copy.data.toList.drop 162 = dktX2_copy_7 := dk_seg dksX2_copy_6 24 rfl rfl
theorem dksX2_copy_8 : cX2_copy.data.toList.drop 184 = dktX2_copy_8 := dk_seg dksX2_copy_7 22 rfl rfl
theorem dksX2_copy_9 : cX2_copy.data.toList.drop 207 = dktX2_copy_9 := dk_seg dksX2_copy_8 23 rfl rfl
theorem dksX2_copy_10 : cX2_copy.data.toList.drop 231 = dktX2_copy_10 := dk_seg dksX2_copy_9 24 rfl rfl
theorem dX2_copy_0 : decode cX2_copy 0 = .ok (.new 13, 3) := dk_187 0 13 (dk_at dksX2_copy_0 0 rfl rfl)
theorem dX2_copy_3 : decode cX2_copy 3 = .ok (.dup, 1) := dk_89 (dk_at dksX2_copy_0 3 rfl rfl)
theorem dX2_copy_4 : decode cX2_copy 4 = .ok (.invokespecial 44, 3) := dk_183 0 44 (dk_at dksX2_copy_0 4 rfl rfl)
theorem dX2_copy_7 : decode cX2_copy 7 = .ok (.astore_n 1, 1) := dk_76 (dk_at dksX2_copy_0 7 rfl rfl)
theorem dX2_copy_8 : decode cX2_copy 8 = .ok (.iconst 0, 1) := dk_3 (dk_at dksX2_copy_0 8 rfl rfl)
theorem dX2_copy_9 : decode cX2_copy 9 = .ok (.istore_n 2, 1) := dk_61 (dk_at dksX2_copy_0 9 rfl rfl)
theorem dX2_copy_10 : decode cX2_copy 10 = .ok (.iload_n 2, 1) := dk_28 (dk_at dksX2_copy_0 10 rfl rfl)
theorem dX2_copy_11 : decode cX2_copy 11 = .ok (.aload_n 0, 1) := dk_42 (dk_at dksX2_copy_0 11 rfl rfl)
theorem dX2_copy_12 : decode cX2_copy 12 = .ok (.getfield 12, 3) := dk_180 0 12 (dk_at dksX2_copy_0 12 rfl rfl)
theorem dX2_copy_15 : decode cX2_copy 15 = .ok (.invokevirtual 45, 3) := dk_182 0 45 (dk_at dksX2_copy_0 15 rfl rfl)
theorem dX2_copy_18 : decode cX2_copy 18 = .ok (.if_icmp .ge 37, 3) := dk_162 0 37 (dk_at dksX2_copy_0 18 rfl rfl)
theorem dX2_copy_21 : decode cX2_copy 21 = .ok (.aload_n 0, 1) := dk_42 (dk_at dksX2_copy_0 21 rfl rfl)
theorem dX2_copy_22 : decode cX2_copy 22 = .ok (.getfield 12, 3) := dk_180 0 12 (dk_at dksX2_copy_1 0 rfl rfl)
theorem dX2_copy_25 : decode cX2_copy 25 = .ok (.iload_n 2, 1) := dk_28 (dk_at dksX2_copy_1 3 rfl rfl)
theorem dX2_copy_26 : decode cX2_copy 26 = .ok (.invokevirtual 49, 3) := dk_182 0 49 (dk_at dksX2_copy_1 4 rfl rfl)
theorem dX2_copy_29 : decode cX2_copy 29 = .ok (.checkcast 53, 3) := dk_192 0 53 (dk_at dksX2_copy_1 7 rfl rfl)
theorem dX2_copy_32 : decode cX2_copy 32 = .ok (.astore_n 3, 1) := dk_78 (dk_at dksX2_copy_1 10 rfl rfl)
theorem dX2_copy_33 : decode cX2_copy 33 = .ok (.aload_n 1, 1) := dk_43 (dk_at dksX2_copy_1 11 rfl rfl)
theorem dX2_copy_34 : decode cX2_copy 34 = .ok (.aload_n 3, 1) := dk_45 (dk_at dksX2_copy_1 12 rfl rfl)
theorem dX2_copy_35 : decode cX2_copy 35 = .ok (.invokevirtual 55, 3) := dk_182 0 55 (dk_at dksX2_copy_1 13 rfl rfl)
theorem dX2_copy_38 : decode cX2_copy 38 = .ok (.aload_n 3, 1) := dk_45 (dk_at dksX2_copy_1 16 rfl rfl)
theorem dX2_copy_39 : decode cX2_copy 39 = .ok (.invokevirtual 58, 3) := dk_182 0 58 (dk_at dksX2_copy_1 17 rfl rfl)
theorem dX2_copy_42 : decode cX2_copy 42 = .ok (.invokevirtual 61, 3) := dk_182 0 61 (dk_at dksX2_copy_1 20 rfl rfl)
theorem dX2_copy_45 : decode cX2_copy 45 = .ok (.aload_n 3, 1) := dk_45 (dk_at dksX2_copy_1 23 rfl rfl)
theorem dX2_copy_46 : decode cX2_copy 46 = .ok (.invokevirtual 65, 3) := dk_182 0 65 (dk_at dksX2_copy_2 0 rfl rfl)
theorem dX2_copy_49 : decode cX2_copy 49 = .ok (.iinc 2 1, 3) := dk_132 2 1 (dk_at dksX2_copy_2 3 rfl rfl)
theorem dX2_copy_52 : decode cX2_copy 52 = .ok (.goto (-42), 3) := dk_167 255 214 (dk_at dksX2_copy_2 6 rfl rfl)
theorem dX2_copy_55 : decode cX2_copy 55 = .ok (.iconst 0, 1) := dk_3 (dk_at dksX2_copy_2 9 rfl rfl)
theorem dX2_copy_56 : decode cX2_copy 56 = .ok (.istore_n 2, 1) := dk_61 (dk_at dksX2_copy_2 10 rfl rfl)
theorem dX2_copy_57 : decode cX2_copy 57 = .ok (.iload_n 2, 1) := dk_28 (dk_at dksX2_copy_2 11 rfl rfl)
theorem dX2_copy_58 : decode cX2_copy 58 = .ok (.aload_n 0, 1) := dk_42 (dk_at dksX2_copy_2 12 rfl rfl)
theorem dX2_copy_59 : decode cX2_copy 59 = .ok (.getfield 18, 3) := dk_180 0 18 (dk_at dksX2_copy_2 13 rfl rfl)
theorem dX2_copy_62 : decode cX2_copy 62 = .ok (.invokevirtual 45, 3) := dk_182 0 45 (dk_at dksX2_copy_2 16 rfl rfl)
theorem dX2_copy_65 : decode cX2_copy 65 = .ok (.if_icmp .ge 28, 3) := dk_162 0 28 (dk_at dksX2_copy_2 19 rfl rfl)
theorem dX2_copy_68 : decode cX2_copy 68 = .ok (.aload_n 1, 1) := dk_43 (dk_at dksX2_copy_2 22 rfl rfl)
theorem dX2_copy_69 : decode cX2_copy 69 = .ok (.getfield 18, 3) := dk_180 0 18 (dk_at dksX2_copy_3 0 rfl rfl)
theorem dX2_copy_72 : decode cX2_copy 72 = .ok (.aload_n 0, 1) := dk_42 (dk_at dksX2_copy_3 3 rfl rfl)
theorem dX2_copy_73 : decode cX2_copy 73 = .ok (.getfield 18, 3) := dk_180 0 18 (dk_at dksX2_copy_3 4 rfl rfl)
theorem dX2_copy_76 : decode cX2_copy 76 = .ok (.iload_n 2, 1) := dk_28 (dk_at dksX2_copy_3 7 rfl rfl)
theorem dX2_copy_77 : decode cX2_copy 77 = .ok (.invokevirtual 49, 3) := dk_182 0 49 (dk_at dksX2_copy_3 8 rfl rfl)
theorem dX2_copy_80 : decode cX2_copy 80 = .ok (.checkcast 69, 3) := dk_192 0 69 (dk_at dksX2_copy_3 11 rfl rfl)
theorem dX2_copy_83 : decode cX2_copy 83 = .ok (.invokevirtual 71, 3) := dk_182 0 71 (dk_at dksX2_copy_3 14 rfl rfl)
theorem dX2_copy_86 : decode cX2_copy 86 = .ok (.pop, 1) := dk_87 (dk_at dksX2_copy_3 17 rfl rfl)
theorem dX2_copy_87 : decode cX2_copy 87 = .ok (.iinc 2 1, 3) := dk_132 2 1 (dk_at dksX2_copy_3 18 rfl rfl)
theorem dX2_copy_90 : decode cX2_copy 90 = .ok (.goto (-33), 3) := dk_167 255 223 (dk_at dksX2_copy_3 21 rfl rfl)
theorem dX2_copy_93 : decode cX2_copy 93 = .ok (.iconst 0, 1) := dk_3 (dk_at dksX2_copy_4 0 rfl rfl)
theorem dX2_copy_94 : decode cX2_copy 94 = .ok (.istore_n 2, 1) := dk_61 (dk_at dksX2_copy_4 1 rfl rfl)
theorem dX2_copy_95 : decode cX2_copy 95 = .ok (.iload_n 2, 1) := dk_28 (dk_at dksX2_copy_4 2 rfl rfl)
theorem dX2_copy_96 : decode cX2_copy 96 = .ok (.aload_n 0, 1) := dk_42 (dk_at dksX2_copy_4 3 rfl rfl)
theorem dX2_copy_97 : decode cX2_copy 97 = .ok (.getfield 21, 3) := dk_180 0 21 (dk_at dksX2_copy_4 4 rfl rfl)
theorem dX2_copy_100 : decode cX2_copy 100 = .ok (.invokevirtual 45, 3) := dk_182 0 45 (dk_at dksX2_copy_4 7 rfl rfl)
theorem dX2_copy_103 : decode cX2_copy 103 = .ok (.if_icmp .ge 31, 3) := dk_162 0 31 (dk_at dksX2_copy_4 10 rfl rfl)
theorem dX2_copy_106 : decode cX2_copy 106 = .ok (.aload_n 1, 1) := dk_43 (dk_at dksX2_copy_4 13 rfl rfl)
theorem dX2_copy_107 : decode cX2_copy 107 = .ok (.getfield 21, 3) := dk_180 0 21 (dk_at dksX2_copy_4 14 rfl rfl)
theorem dX2_copy_110 : decode cX2_copy 110 = .ok (.aload_n 0, 1) := dk_42 (dk_at dksX2_copy_4 17 rfl rfl)
theorem dX2_copy_111 : decode cX2_copy 111 = .ok (.getfield 21, 3) := dk_180 0 21 (dk_at dksX2_copy_4 18 rfl rfl)
theorem dX2_copy_114 : decode cX2_copy 114 = .ok (.iload_n 2, 1) := dk_28 (dk_at dksX2_copy_4 21 rfl rfl)
theorem dX2_copy_115 : decode cX2_copy 115 = .ok (.invokevirtual 49, 3) := dk_182 0 49 (dk_at dksX2_copy_5 0 rfl rfl)
theorem dX2_copy_118 : decode cX2_copy 118 = .ok (.checkcast 74, 3) := dk_192 0 74 (dk_at dksX2_copy_5 3 rfl rfl)
theorem dX2_copy_121 : decode cX2_copy 121 = .ok (.invokevirtual 76, 3) := dk_182 0 76 (dk_at dksX2_copy_5 6 rfl rfl)
theorem dX2_copy_124 : decode cX2_copy 124 = .ok (.invokevirtual 71, 3) := dk_182 0 71 (dk_at dksX2_copy_5 9 rfl rfl)
theorem dX2_copy_127 : decode cX2_copy 127 = .ok (.pop, 1) := dk_87 (dk_at dksX2_copy_5 12 rfl rfl)
theorem dX2_copy_128 : decode cX2_copy 128 = .ok (.iinc 2 1, 3) := dk_132 2 1 (dk_at dksX2_copy_5 13 rfl rfl)
theorem dX2_copy_131 : decode cX2_copy 131 = .ok (.goto (-36), 3) := dk_167 255 220 (dk_at dksX2_copy_5 16 rfl rfl)
theorem dX2_copy_134 : decode cX2_copy 134 = .ok (.iconst 0, 1) := dk_3 (dk_at dksX2_copy_5 19 rfl rfl)
theorem dX2_copy_135 : decode cX2_copy 135 = .ok (.istore_n 2, 1) := dk_61 (dk_at dksX2_copy_5 20 rfl rfl)
theorem dX2_copy_136 : decode cX2_copy 136 = .ok (.iload_n 2, 1) := dk_28 (dk_at dksX2_copy_5 21 rfl rfl)
theorem dX2_copy_137 : decode cX2_copy 137 = .ok (.aload_n 0, 1) := dk_42 (dk_at dksX2_copy_5 22 rfl rfl)
theorem dX2_copy_138 : decode cX2_copy 138 = .ok (.getfield 24, 3) := dk_180 0 24 (dk_at dksX2_copy_6 0 rfl rfl)
theorem dX2_copy_141 : decode cX2_copy 141 = .ok (.invokevirtual 45, 3) := dk_182 0 45 (dk_at dksX2_copy_6 3 rfl rfl)
theorem dX2_copy_144 : decode cX2_copy 144 = .ok (.if_icmp .ge 28, 3) := dk_162 0 28 (dk_at dksX2_copy_6 6 rfl rfl)
theorem dX2_copy_147 : decode cX2_copy 147 = .ok (.aload_n 1, 1) := dk_43 (dk_at dksX2_copy_6 9 rfl rfl)
theorem dX2_copy_148 : decode cX2_copy 148 = .ok (.getfield 24, 3) := dk_180 0 24 (dk_at dksX2_copy_6 10 rfl rfl)
theorem dX2_copy_151 : decode cX2_copy 151 = .ok (.aload_n 0, 1) := dk_42 (dk_at dksX2_copy_6 13 rfl rfl)
theorem dX2_copy_152 : decode cX2_copy 152 = .ok (.getfield 24, 3) := dk_180 0 24 (dk_at dksX2_copy_6 14 rfl rfl)
theorem dX2_copy_155 : decode cX2_copy 155 = .ok (.iload_n 2, 1) := dk_28 (dk_at dksX2_copy_6 17 rfl rfl)
theorem dX2_copy_156 : decode cX2_copy 156 = .ok (.invokevirtual 49, 3) := dk_182 0 49 (dk_at dksX2_copy_6 18 rfl rfl)
theorem dX2_copy_159 : decode cX2_copy 159 = .ok (.checkcast 80, 3) := dk_192 0 80 (dk_at dksX2_copy_6 21 rfl rfl)
theorem dX2_copy_162 : decode cX2_copy 162 = .ok (.invokevirtual 71, 3) := dk_182 0 71 (dk_at dksX2_copy_7 0 rfl rfl)
theorem dX2_copy_165 : decode cX2_copy 165 = .ok (.pop, 1) := dk_87 (dk_at dksX2_copy_7 3 rfl rfl)
theorem dX2_copy_166 : decode cX2_copy 166 = .ok (.iinc 2 1, 3) := dk_132 2 1 (dk_at dksX2_copy_7 4 rfl rfl)
theorem dX2_copy_169 : decode cX2_copy 169 = .ok (.goto (-33), 3) := dk_167 255 223 (dk_at dksX2_copy_7 7 rfl rfl)
theorem dX2_copy_172 : decode cX2_copy 172 = .ok (.aload_n 0, 1) := dk_42 (dk_at dksX2_copy_7 10 rfl rfl)
theorem dX2_copy_173 : decode cX2_copy 173 = .ok (.getfield 27, 3) := dk_180 0 27 (dk_at dksX2_copy_7 11 rfl rfl)
theorem dX2_copy_176 : decode cX2_copy 176 = .ok (.iconst 0, 1) := dk_3 (dk_at dksX2_copy_7 14 rfl rfl)
theorem dX2_copy_177 : decode cX2_copy 177 = .ok (.aload_n 1, 1) := dk_43 (dk_at dksX2_copy_7 15 rfl rfl)
theorem dX2_copy_178 : decode cX2_copy 178 = .ok (.getfield 27, 3) := dk_180 0 27 (dk_at dksX2_copy_7 16 rfl rfl)
theorem dX2_copy_181 : decode cX2_copy 181 = .ok (.iconst 0, 1) := dk_3 (dk_at dksX2_copy_7 19 rfl rfl)
theorem dX2_copy_182 : decode cX2_copy 182 = .ok (.bipush 8, 2) := dk_16 8 (dk_at dksX2_copy_7 20 rfl rfl)
theorem dX2_copy_184 : decode cX2_copy 184 = .ok (.invokestatic 82, 3) := dk_184 0 82 (dk_at dksX2_copy_8 0 rfl rfl)
theorem dX2_copy_187 : decode cX2_copy 187 = .ok (.aload_n 0, 1) := dk_42 (dk_at dksX2_copy_8 3 rfl rfl)
theorem dX2_copy_188 : decode cX2_copy 188 = .ok (.getfield 31, 3) := dk_180 0 31 (dk_at dksX2_copy_8 4 rfl rfl)
theorem dX2_copy_191 : decode cX2_copy 191 = .ok (.iconst 0, 1) := dk_3 (dk_at dksX2_copy_8 7 rfl rfl)
theorem dX2_copy_192 : decode cX2_copy 192 = .ok (.aload_n 1, 1) := dk_43 (dk_at dksX2_copy_8 8 rfl rfl)
theorem dX2_copy_193 : decode cX2_copy 193 = .ok (.getfield 31, 3) := dk_180 0 31 (dk_at dksX2_copy_8 9 rfl rfl)
theorem dX2_copy_196 : decode cX2_copy 196 = .ok (.iconst 0, 1) := dk_3 (dk_at dksX2_copy_8 12 rfl rfl)
theorem dX2_copy_197 : decode cX2_copy 197 = .ok (.iconst 4, 1) := dk_7 (dk_at dksX2_copy_8 13 rfl rfl)
theorem dX2_copy_198 : decode cX2_copy 198 = .ok (.invokestatic 82, 3) := dk_184 0 82 (dk_at dksX2_copy_8 14 rfl rfl)
theorem dX2_copy_201 : decode cX2_copy 201 = .ok (.aload_n 0, 1) := dk_42 (dk_at dksX2_copy_8 17 rfl rfl)
theorem dX2_copy_202 : decode cX2_copy 202 = .ok (.getfield 34, 3) := dk_180 0 34 (dk_at dksX2_copy_8 18 rfl rfl)
theorem dX2_copy_205 : decode cX2_copy 205 = .ok (.iconst 0, 1) := dk_3 (dk_at dksX2_copy_8 21 rfl rfl)
theorem dX2_copy_206 : decode cX2_copy 206 = .ok (.aload_n 1, 1) := dk_43 (dk_at dksX2_copy_8 22 rfl rfl)
theorem dX2_copy_207 : decode cX2_copy 207 = .ok (.getfield 34, 3) := dk_180 0 34 (dk_at dksX2_copy_9 0 rfl rfl)
theorem dX2_copy_210 : decode cX2_copy 210 = .ok (.iconst 0, 1) := dk_3 (dk_at dksX2_copy_9 3 rfl rfl)
theorem dX2_copy_211 : decode cX2_copy 211 = .ok (.iconst 4, 1) := dk_7 (dk_at dksX2_copy_9 4 rfl rfl)
theorem dX2_copy_212 : decode cX2_copy 212 = .ok (.invokestatic 82, 3) := dk_184 0 82 (dk_at dksX2_copy_9 5 rfl rfl)
theorem dX2_copy_215 : decode cX2_copy 215 = .ok (.aload_n 1, 1) := dk_43 (dk_at dksX2_copy_9 8 rfl rfl)
theorem dX2_copy_216 : decode cX2_copy 216 = .ok (.aload_n 0, 1) := dk_42 (dk_at dksX2_copy_9 9 rfl rfl)
theorem dX2_copy_217 : decode cX2_copy 217 = .ok (.getfield 88, 3) := dk_180 0 88 (dk_at dksX2_copy_9 10 rfl rfl)
theorem dX2_copy_220 : decode cX2_copy 220 = .ok (.putfield 88, 3) := dk_181 0 88 (dk_at dksX2_copy_9 13 rfl rfl)
theorem dX2_copy_223 : decode cX2_copy 223 = .ok (.aload_n 1, 1) := dk_43 (dk_at dksX2_copy_9 16 rfl rfl)
theorem dX2_copy_224 : decode cX2_copy 224 = .ok (.aload_n 0, 1) := dk_42 (dk_at dksX2_copy_9 17 rfl rfl)
theorem dX2_copy_225 : decode cX2_copy 225 = .ok (.getfield 37, 3) := dk_180 0 37 (dk_at dksX2_copy_9 18 rfl rfl)
theorem dX2_copy_228 : decode cX2_copy 228 = .ok (.putfield 37, 3) := dk_181 0 37 (dk_at dksX2_copy_9 21 rfl rfl)
theorem dX2_copy_231 : decode cX2_copy 231 = .ok (.aload_n 1, 1) := dk_43 (dk_at dksX2_copy_10 0 rfl rfl)
theorem dX2_copy_232 : decode cX2_copy 232 = .ok (.aload_n 0, 1) := dk_42 (dk_at dksX2_copy_10 1 rfl rfl)
theorem dX2_copy_233 : decode cX2_copy 233 = .ok (.getfield 41, 3) := dk_180 0 41 (dk_at dksX2_copy_10 2 rfl rfl)
theorem dX2_copy_236 : decode cX2_copy 236 = .ok (.putfield 41, 3) := dk_181 0 41 (dk_at dksX2_copy_10 5 rfl rfl)
theorem dX2_copy_239 : decode cX2_copy 239 = .ok (.aload_n 1, 1) := dk_43 (dk_at dksX2_copy_10 8 rfl rfl)
theorem dX2_copy_240 : decode cX2_copy 240 = .ok (.aload_n 0, 1) := dk_42 (dk_at dksX2_copy_10 9 rfl rfl)
theorem dX2_copy_241 : decode cX2_copy 241 = .ok (.getfield 91, 3) := dk_180 0 91 (dk_at dksX2_copy_10 10 rfl rfl)
theorem dX2_copy_244 : decode cX2_copy 244 = .ok (.putfield 91, 3) := dk_181 0 91 (dk_at dksX2_copy_10 13 rfl rfl)
theorem dX2_copy_247 : decode cX2_copy 247 = .ok (.aload_n 1, 1) := dk_43 (dk_at dksX2_copy_10 16 rfl rfl)
theorem dX2_copy_248 : decode cX2_copy 248 = .ok (.areturn, 1) := dk_176 (dk_at dksX2_copy_10 17 rfl rfl)
abbrev cX2_add : ByteArray := prog_6_method_3_code
def yX2_add : MethodName := ⟨RX2, "add", "(II)LIncidentKeeper$Core$Incident;"⟩
def dkwX2_add_1 : List UInt8 := [182, 0, 71, 87, 45, 176]
abbrev dktX2_add_1 : List UInt8 := dkwX2_add_1 ++ []
def dkwX2_add_0 : List UInt8 := [187, 0, 53, 89, 42, 42, 180, 0, 12, 182, 0, 45, 27, 28, 183, 0, 94, 78, 42, 180, 0, 12, 45]
abbrev dktX2_add_0 : List UInt8 := dkwX2_add_0 ++ dktX2_add_1
theorem dksX2_add_0 : cX2_add.data.toList.drop 0 = dktX2_add_0 := by decide +kernel
theorem dksX2_add_1 : cX2_add.data.toList.drop 23 = dktX2_add_1 := dk_seg dksX2_add_0 23 rfl rfl
theorem dX2_add_0 : decode cX2_add 0 = .ok (.new 53, 3) := dk_187 0 53 (dk_at dksX2_add_0 0 rfl rfl)
theorem dX2_add_3 : decode cX2_add 3 = .ok (.dup, 1) := dk_89 (dk_at dksX2_add_0 3 rfl rfl)
theorem dX2_add_4 : decode cX2_add 4 = .ok (.aload_n 0, 1) := dk_42 (dk_at dksX2_add_0 4 rfl rfl)
theorem dX2_add_5 : decode cX2_add 5 = .ok (.aload_n 0, 1) := dk_42 (dk_at dksX2_add_0 5 rfl rfl)
theorem dX2_add_6 : decode cX2_add 6 = .ok (.getfield 12, 3) := dk_180 0 12 (dk_at dksX2_add_0 6 rfl rfl)
theorem dX2_add_9 : decode cX2_add 9 = .ok (.invokevirtual 45, 3) := dk_182 0 45 (dk_at dksX2_add_0 9 rfl rfl)
theorem dX2_add_12 : decode cX2_add 12 = .ok (.iload_n 1, 1) := dk_27 (dk_at dksX2_add_0 12 rfl rfl)
theorem dX2_add_13 : decode cX2_add 13 = .ok (.iload_n 2, 1) := dk_28 (dk_at dksX2_add_0 13 rfl rfl)
theorem dX2_add_14 : decode cX2_add 14 = .ok (.invokespecial 94, 3) := dk_183 0 94 (dk_at dksX2_add_0 14 rfl rfl)
theorem dX2_add_17 : decode cX2_add 17 = .ok (.astore_n 3, 1) := dk_78 (dk_at dksX2_add_0 17 rfl rfl)
theorem dX2_add_18 : decode cX2_add 18 = .ok (.aload_n 0, 1) := dk_42 (dk_at dksX2_add_0 18 rfl rfl)
theorem dX2_add_19 : decode cX2_add 19 = .ok (.getfield 12, 3) := dk_180 0 12 (dk_at dksX2_add_0 19 rfl rfl)
theorem dX2_add_22 : decode cX2_add 22 = .ok (.aload_n 3, 1) := dk_45 (dk_at dksX2_add_0 22 rfl rfl)
theorem dX2_add_23 : decode cX2_add 23 = .ok (.invokevirtual 71, 3) := dk_182 0 71 (dk_at dksX2_add_1 0 rfl rfl)
theorem dX2_add_26 : decode cX2_add 26 = .ok (.pop, 1) := dk_87 (dk_at dksX2_add_1 3 rfl rfl)
theorem dX2_add_27 : decode cX2_add 27 = .ok (.aload_n 3, 1) := dk_45 (dk_at dksX2_add_1 4 rfl rfl)
theorem dX2_add_28 : decode cX2_add 28 = .ok (.areturn, 1) := dk_176 (dk_at dksX2_add_1 5 rfl rfl)
abbrev cX2_setDuty : ByteArray := prog_6_method_12_code
def yX2_setDuty : MethodName := ⟨RX2, "setDuty", "(IZ)I"⟩
def dkwX2_setDuty_5 : List UInt8 := [167, 255, 194, 29, 172]
abbrev dktX2_setDuty_5 : List UInt8 := dkwX2_setDuty_5 ++ []
def dkwX2_setDuty_4 : List UInt8 := [25, 5, 182, 0, 118, 153, 0, 15, 25, 5, 42, 182, 0, 139, 182, 0, 142, 132, 3, 1, 132, 4, 1]
abbrev dktX2_setDuty_4 : List UInt8 := dkwX2_setDuty_4 ++ dktX2_setDuty_5
def dkwX2_setDuty_3 : List UInt8 := [42, 180, 0, 12, 21, 4, 182, 0, 49, 192, 0, 53, 58, 5, 25, 5, 180, 0, 125, 27, 160, 0, 23]
abbrev dktX2_setDuty_3 : List UInt8 := dkwX2_setDuty_3 ++ dktX2_setDuty_4
def dkwX2_setDuty_2 : List UInt8 := [181, 0, 37, 3, 62, 3, 54, 4, 21, 4, 42, 180, 0, 12, 182, 0, 45, 162, 0, 56, 28, 154, 0, 52]
abbrev dktX2_setDuty_2 : List UInt8 := dkwX2_setDuty_2 ++ dktX2_setDuty_3
def dkwX2_setDuty_1 : List UInt8 := [28, 160, 0, 7, 4, 167, 0, 4, 3, 16, 13, 184, 0, 111, 42, 89, 180, 0, 37, 4, 27, 120, 130]
abbrev dktX2_setDuty_1 : List UInt8 := dkwX2_setDuty_1 ++ dktX2_setDuty_2
def dkwX2_setDuty_0 : List UInt8 := [27, 184, 0, 136, 154, 0, 7, 4, 167, 0, 4, 3, 4, 184, 0, 111, 42, 180, 0, 37, 27, 184, 0, 128]
abbrev dktX2_setDuty_0 : List UInt8 := dkwX2_setDuty_0 ++ dktX2_setDuty_1
theorem dksX2_setDuty_0 : cX2_setDuty.data.toList.drop 0 = dktX2_setDuty_0 := by decide +kernel
theorem dksX2_setDuty_1 : cX2_setDuty.data.toList.drop 24 = dktX2_setDuty_1 := dk_seg dksX2_setDuty_0 24 rfl rfl
theorem dksX2_setDuty_2 : cX2_setDuty.data.toList.drop 47 = dktX2_setDuty_2 := dk_seg dksX2_setDuty_1 23 rfl rfl
theorem dksX2_setDuty_3 : cX2_setDuty.data.toList.drop 71 = dktX2_setDuty_3 := dk_seg dksX2_setDuty_2 24 rfl rfl
theorem dksX2_setDuty_4 : cX2_setDuty.data.toList.drop 94 = dktX2_setDuty_4 := dk_seg dksX2_setDuty_3 23 rfl rfl
theorem dksX2_setDuty_5 : cX2_setDuty.data.toList.drop 117 = dktX2_setDuty_5 := dk_seg dksX2_setDuty_4 23 rfl rfl
theorem dX2_setDuty_0 : decode cX2_setDuty 0 = .ok (.iload_n 1, 1) := dk_27 (dk_at dksX2_setDuty_0 0 rfl rfl)
theorem dX2_setDuty_1 : decode cX2_setDuty 1 = .ok (.invokestatic 136, 3) := dk_184 0 136 (dk_at dksX2_setDuty_0 1 rfl rfl)
theorem dX2_setDuty_4 : decode cX2_setDuty 4 = .ok (.ifCond .ne 7, 3) := dk_154 0 7 (dk_at dksX2_setDuty_0 4 rfl rfl)
theorem dX2_setDuty_7 : decode cX2_setDuty 7 = .ok (.iconst 1, 1) := dk_4 (dk_at dksX2_setDuty_0 7 rfl rfl)
theorem dX2_setDuty_8 : decode cX2_setDuty 8 = .ok (.goto 4, 3) := dk_167 0 4 (dk_at dksX2_setDuty_0 8 rfl rfl)
theorem dX2_setDuty_11 : decode cX2_setDuty 11 = .ok (.iconst 0, 1) := dk_3 (dk_at dksX2_setDuty_0 11 rfl rfl)
theorem dX2_setDuty_12 : decode cX2_setDuty 12 = .ok (.iconst 1, 1) := dk_4 (dk_at dksX2_setDuty_0 12 rfl rfl)
theorem dX2_setDuty_13 : decode cX2_setDuty 13 = .ok (.invokestatic 111, 3) := dk_184 0 111 (dk_at dksX2_setDuty_0 13 rfl rfl)
theorem dX2_setDuty_16 : decode cX2_setDuty 16 = .ok (.aload_n 0, 1) := dk_42 (dk_at dksX2_setDuty_0 16 rfl rfl)
theorem dX2_setDuty_17 : decode cX2_setDuty 17 = .ok (.getfield 37, 3) := dk_180 0 37 (dk_at dksX2_setDuty_0 17 rfl rfl)
theorem dX2_setDuty_20 : decode cX2_setDuty 20 = .ok (.iload_n 1, 1) := dk_27 (dk_at dksX2_setDuty_0 20 rfl rfl)
theorem dX2_setDuty_21 : decode cX2_setDuty 21 = .ok (.invokestatic 128, 3) := dk_184 0 128 (dk_at dksX2_setDuty_0 21 rfl rfl)
theorem dX2_setDuty_24 : decode cX2_setDuty 24 = .ok (.iload_n 2, 1) := dk_28 (dk_at dksX2_setDuty_1 0 rfl rfl)
theorem dX2_setDuty_25 : decode cX2_setDuty 25 = .ok (.if_icmp .ne 7, 3) := dk_160 0 7 (dk_at dksX2_setDuty_1 1 rfl rfl)
theorem dX2_setDuty_28 : decode cX2_setDuty 28 = .ok (.iconst 1, 1) := dk_4 (dk_at dksX2_setDuty_1 4 rfl rfl)
theorem dX2_setDuty_29 : decode cX2_setDuty 29 = .ok (.goto 4, 3) := dk_167 0 4 (dk_at dksX2_setDuty_1 5 rfl rfl)
theorem dX2_setDuty_32 : decode cX2_setDuty 32 = .ok (.iconst 0, 1) := dk_3 (dk_at dksX2_setDuty_1 8 rfl rfl)
theorem dX2_setDuty_33 : decode cX2_setDuty 33 = .ok (.bipush 13, 2) := dk_16 13 (dk_at dksX2_setDuty_1 9 rfl rfl)
theorem dX2_setDuty_35 : decode cX2_setDuty 35 = .ok (.invokestatic 111, 3) := dk_184 0 111 (dk_at dksX2_setDuty_1 11 rfl rfl)
theorem dX2_setDuty_38 : decode cX2_setDuty 38 = .ok (.aload_n 0, 1) := dk_42 (dk_at dksX2_setDuty_1 14 rfl rfl)
theorem dX2_setDuty_39 : decode cX2_setDuty 39 = .ok (.dup, 1) := dk_89 (dk_at dksX2_setDuty_1 15 rfl rfl)
theorem dX2_setDuty_40 : decode cX2_setDuty 40 = .ok (.getfield 37, 3) := dk_180 0 37 (dk_at dksX2_setDuty_1 16 rfl rfl)
theorem dX2_setDuty_43 : decode cX2_setDuty 43 = .ok (.iconst 1, 1) := dk_4 (dk_at dksX2_setDuty_1 19 rfl rfl)
theorem dX2_setDuty_44 : decode cX2_setDuty 44 = .ok (.iload_n 1, 1) := dk_27 (dk_at dksX2_setDuty_1 20 rfl rfl)
theorem dX2_setDuty_45 : decode cX2_setDuty 45 = .ok (.ishl, 1) := dk_120 (dk_at dksX2_setDuty_1 21 rfl rfl)
theorem dX2_setDuty_46 : decode cX2_setDuty 46 = .ok (.ixor, 1) := dk_130 (dk_at dksX2_setDuty_1 22 rfl rfl)
theorem dX2_setDuty_47 : decode cX2_setDuty 47 = .ok (.putfield 37, 3) := dk_181 0 37 (dk_at dksX2_setDuty_2 0 rfl rfl)
theorem dX2_setDuty_50 : decode cX2_setDuty 50 = .ok (.iconst 0, 1) := dk_3 (dk_at dksX2_setDuty_2 3 rfl rfl)
theorem dX2_setDuty_51 : decode cX2_setDuty 51 = .ok (.istore_n 3, 1) := dk_62 (dk_at dksX2_setDuty_2 4 rfl rfl)
theorem dX2_setDuty_52 : decode cX2_setDuty 52 = .ok (.iconst 0, 1) := dk_3 (dk_at dksX2_setDuty_2 5 rfl rfl)
theorem dX2_setDuty_53 : decode cX2_setDuty 53 = .ok (.istore 4, 2) := dk_54 4 (dk_at dksX2_setDuty_2 6 rfl rfl)
theorem dX2_setDuty_55 : decode cX2_setDuty 55 = .ok (.iload 4, 2) := dk_21 4 (dk_at dksX2_setDuty_2 8 rfl rfl)
theorem dX2_setDuty_57 : decode cX2_setDuty 57 = .ok (.aload_n 0, 1) := dk_42 (dk_at dksX2_setDuty_2 10 rfl rfl)
theorem dX2_setDuty_58 : decode cX2_setDuty 58 = .ok (.getfield 12, 3) := dk_180 0 12 (dk_at dksX2_setDuty_2 11 rfl rfl)
theorem dX2_setDuty_61 : decode cX2_setDuty 61 = .ok (.invokevirtual 45, 3) := dk_182 0 45 (dk_at dksX2_setDuty_2 14 rfl rfl)
theorem dX2_setDuty_64 : decode cX2_setDuty 64 = .ok (.if_icmp .ge 56, 3) := dk_162 0 56 (dk_at dksX2_setDuty_2 17 rfl rfl)
theorem dX2_setDuty_67 : decode cX2_setDuty 67 = .ok (.iload_n 2, 1) := dk_28 (dk_at dksX2_setDuty_2 20 rfl rfl)
theorem dX2_setDuty_68 : decode cX2_setDuty 68 = .ok (.ifCond .ne 52, 3) := dk_154 0 52 (dk_at dksX2_setDuty_2 21 rfl rfl)
theorem dX2_setDuty_71 : decode cX2_setDuty 71 = .ok (.aload_n 0, 1) := dk_42 (dk_at dksX2_setDuty_3 0 rfl rfl)
theorem dX2_setDuty_72 : decode cX2_setDuty 72 = .ok (.getfield 12, 3) := dk_180 0 12 (dk_at dksX2_setDuty_3 1 rfl rfl)
theorem dX2_setDuty_75 : decode cX2_setDuty 75 = .ok (.iload 4, 2) := dk_21 4 (dk_at dksX2_setDuty_3 4 rfl rfl)
theorem dX2_setDuty_77 : decode cX2_setDuty 77 = .ok (.invokevirtual 49, 3) := dk_182 0 49 (dk_at dksX2_setDuty_3 6 rfl rfl)
theorem dX2_setDuty_80 : decode cX2_setDuty 80 = .ok (.checkcast 53, 3) := dk_192 0 53 (dk_at dksX2_setDuty_3 9 rfl rfl)
theorem dX2_setDuty_83 : decode cX2_setDuty 83 = .ok (.astore 5, 2) := dk_58 5 (dk_at dksX2_setDuty_3 12 rfl rfl)
theorem dX2_setDuty_85 : decode cX2_setDuty 85 = .ok (.aload 5, 2) := dk_25 5 (dk_at dksX2_setDuty_3 14 rfl rfl)
theorem dX2_setDuty_87 : decode cX2_setDuty 87 = .ok (.getfield 125, 3) := dk_180 0 125 (dk_at dksX2_setDuty_3 16 rfl rfl)
theorem dX2_setDuty_90 : decode cX2_setDuty 90 = .ok (.iload_n 1, 1) := dk_27 (dk_at dksX2_setDuty_3 19 rfl rfl)
theorem dX2_setDuty_91 : decode cX2_setDuty 91 = .ok (.if_icmp .ne 23, 3) := dk_160 0 23 (dk_at dksX2_setDuty_3 20 rfl rfl)
theorem dX2_setDuty_94 : decode cX2_setDuty 94 = .ok (.aload 5, 2) := dk_25 5 (dk_at dksX2_setDuty_4 0 rfl rfl)
theorem dX2_setDuty_96 : decode cX2_setDuty 96 = .ok (.invokevirtual 118, 3) := dk_182 0 118 (dk_at dksX2_setDuty_4 2 rfl rfl)
theorem dX2_setDuty_99 : decode cX2_setDuty 99 = .ok (.ifCond .eq 15, 3) := dk_153 0 15 (dk_at dksX2_setDuty_4 5 rfl rfl)
theorem dX2_setDuty_102 : decode cX2_setDuty 102 = .ok (.aload 5, 2) := dk_25 5 (dk_at dksX2_setDuty_4 8 rfl rfl)
theorem dX2_setDuty_104 : decode cX2_setDuty 104 = .ok (.aload_n 0, 1) := dk_42 (dk_at dksX2_setDuty_4 10 rfl rfl)
theorem dX2_setDuty_105 : decode cX2_setDuty 105 = .ok (.invokevirtual 139, 3) := dk_182 0 139 (dk_at dksX2_setDuty_4 11 rfl rfl)
theorem dX2_setDuty_108 : decode cX2_setDuty 108 = .ok (.invokevirtual 142, 3) := dk_182 0 142 (dk_at dksX2_setDuty_4 14 rfl rfl)
theorem dX2_setDuty_111 : decode cX2_setDuty 111 = .ok (.iinc 3 1, 3) := dk_132 3 1 (dk_at dksX2_setDuty_4 17 rfl rfl)
theorem dX2_setDuty_114 : decode cX2_setDuty 114 = .ok (.iinc 4 1, 3) := dk_132 4 1 (dk_at dksX2_setDuty_4 20 rfl rfl)
theorem dX2_setDuty_117 : decode cX2_setDuty 117 = .ok (.goto (-62), 3) := dk_167 255 194 (dk_at dksX2_setDuty_5 0 rfl rfl)
theorem dX2_setDuty_120 : decode cX2_setDuty 120 = .ok (.iload_n 3, 1) := dk_29 (dk_at dksX2_setDuty_5 3 rfl rfl)
theorem dX2_setDuty_121 : decode cX2_setDuty 121 = .ok (.ireturn, 1) := dk_172 (dk_at dksX2_setDuty_5 4 rfl rfl)
abbrev cX2_freest : ByteArray := prog_6_method_11_code
def yX2_freest : MethodName := ⟨RX2, "freest", "()I"⟩
def dkwX2_freest_3 : List UInt8 := [2, 160, 0, 7, 4, 167, 0, 4, 3, 8, 184, 0, 111, 27, 172]
abbrev dktX2_freest_3 : List UInt8 := dkwX2_freest_3 ++ []
def dkwX2_freest_2 : List UInt8 := [182, 0, 132, 42, 27, 182, 0, 132, 162, 0, 7, 28, 167, 0, 4, 27, 60, 132, 2, 1, 167, 255, 193, 27]
abbrev dktX2_freest_2 : List UInt8 := dkwX2_freest_2 ++ dktX2_freest_3
def dkwX2_freest_1 : List UInt8 := [182, 0, 132, 7, 162, 0, 7, 4, 167, 0, 4, 3, 62, 29, 153, 0, 25, 27, 2, 159, 0, 16, 42, 28]
abbrev dktX2_freest_1 : List UInt8 := dkwX2_freest_1 ++ dktX2_freest_2
def dkwX2_freest_0 : List UInt8 := [2, 60, 3, 61, 28, 16, 6, 162, 0, 63, 42, 180, 0, 37, 28, 184, 0, 128, 153, 0, 16, 42, 28]
abbrev dktX2_freest_0 : List UInt8 := dkwX2_freest_0 ++ dktX2_freest_1
theorem dksX2_freest_0 : cX2_freest.data.toList.drop 0 = dktX2_freest_0 := by decide +kernel
theorem dksX2_freest_1 : cX2_freest.data.toList.drop 23 = dktX2_freest_1 := dk_seg dksX2_freest_0 23 rfl rfl
theorem dksX2_freest_2 : cX2_freest.data.toList.drop 47 = dktX2_freest_2 := dk_seg dksX2_freest_1 24 rfl rfl
theorem dksX2_freest_3 : cX2_freest.data.toList.drop 71 = dktX2_freest_3 := dk_seg dksX2_freest_2 24 rfl rfl
theorem dX2_freest_0 : decode cX2_freest 0 = .ok (.iconst (-1), 1) := dk_2 (dk_at dksX2_freest_0 0 rfl rfl)
theorem dX2_freest_1 : decode cX2_freest 1 = .ok (.istore_n 1, 1) := dk_60 (dk_at dksX2_freest_0 1 rfl rfl)
theorem dX2_freest_2 : decode cX2_freest 2 = .ok (.iconst 0, 1) := dk_3 (dk_at dksX2_freest_0 2 rfl rfl)
theorem dX2_freest_3 : decode cX2_freest 3 = .ok (.istore_n 2, 1) := dk_61 (dk_at dksX2_freest_0 3 rfl rfl)
theorem dX2_freest_4 : decode cX2_freest 4 = .ok (.iload_n 2, 1) := dk_28 (dk_at dksX2_freest_0 4 rfl rfl)
theorem dX2_freest_5 : decode cX2_freest 5 = .ok (.bipush 6, 2) := dk_16 6 (dk_at dksX2_freest_0 5 rfl rfl)
theorem dX2_freest_7 : decode cX2_freest 7 = .ok (.if_icmp .ge 63, 3) := dk_162 0 63 (dk_at dksX2_freest_0 7 rfl rfl)
theorem dX2_freest_10 : decode cX2_freest 10 = .ok (.aload_n 0, 1) := dk_42 (dk_at dksX2_freest_0 10 rfl rfl)
theorem dX2_freest_11 : decode cX2_freest 11 = .ok (.getfield 37, 3) := dk_180 0 37 (dk_at dksX2_freest_0 11 rfl rfl)
theorem dX2_freest_14 : decode cX2_freest 14 = .ok (.iload_n 2, 1) := dk_28 (dk_at dksX2_freest_0 14 rfl rfl)
theorem dX2_freest_15 : decode cX2_freest 15 = .ok (.invokestatic 128, 3) := dk_184 0 128 (dk_at dksX2_freest_0 15 rfl rfl)
theorem dX2_freest_18 : decode cX2_freest 18 = .ok (.ifCond .eq 16, 3) := dk_153 0 16 (dk_at dksX2_freest_0 18 rfl rfl)
theorem dX2_freest_21 : decode cX2_freest 21 = .ok (.aload_n 0, 1) := dk_42 (dk_at dksX2_freest_0 21 rfl rfl)
theorem dX2_freest_22 : decode cX2_freest 22 = .ok (.iload_n 2, 1) := dk_28 (dk_at dksX2_freest_0 22 rfl rfl)
theorem dX2_freest_23 : decode cX2_freest 23 = .ok (.invokevirtual 132, 3) := dk_182 0 132 (dk_at dksX2_freest_1 0 rfl rfl)
theorem dX2_freest_26 : decode cX2_freest 26 = .ok (.iconst 4, 1) := dk_7 (dk_at dksX2_freest_1 3 rfl rfl)
theorem dX2_freest_27 : decode cX2_freest 27 = .ok (.if_icmp .ge 7, 3) := dk_162 0 7 (dk_at dksX2_freest_1 4 rfl rfl)
theorem dX2_freest_30 : decode cX2_freest 30 = .ok (.iconst 1, 1) := dk_4 (dk_at dksX2_freest_1 7 rfl rfl)
theorem dX2_freest_31 : decode cX2_freest 31 = .ok (.goto 4, 3) := dk_167 0 4 (dk_at dksX2_freest_1 8 rfl rfl)
theorem dX2_freest_34 : decode cX2_freest 34 = .ok (.iconst 0, 1) := dk_3 (dk_at dksX2_freest_1 11 rfl rfl)
theorem dX2_freest_35 : decode cX2_freest 35 = .ok (.istore_n 3, 1) := dk_62 (dk_at dksX2_freest_1 12 rfl rfl)
theorem dX2_freest_36 : decode cX2_freest 36 = .ok (.iload_n 3, 1) := dk_29 (dk_at dksX2_freest_1 13 rfl rfl)
theorem dX2_freest_37 : decode cX2_freest 37 = .ok (.ifCond .eq 25, 3) := dk_153 0 25 (dk_at dksX2_freest_1 14 rfl rfl)
theorem dX2_freest_40 : decode cX2_freest 40 = .ok (.iload_n 1, 1) := dk_27 (dk_at dksX2_freest_1 17 rfl rfl)
theorem dX2_freest_41 : decode cX2_freest 41 = .ok (.iconst (-1), 1) := dk_2 (dk_at dksX2_freest_1 18 rfl rfl)
theorem dX2_freest_42 : decode cX2_freest 42 = .ok (.if_icmp .eq 16, 3) := dk_159 0 16 (dk_at dksX2_freest_1 19 rfl rfl)
theorem dX2_freest_45 : decode cX2_freest 45 = .ok (.aload_n 0, 1) := dk_42 (dk_at dksX2_freest_1 22 rfl rfl)
theorem dX2_freest_46 : decode cX2_freest 46 = .ok (.iload_n 2, 1) := dk_28 (dk_at dksX2_freest_1 23 rfl rfl)
theorem dX2_freest_47 : decode cX2_freest 47 = .ok (.invokevirtual 132, 3) := dk_182 0 132 (dk_at dksX2_freest_2 0 rfl rfl)
theorem dX2_freest_50 : decode cX2_freest 50 = .ok (.aload_n 0, 1) := dk_42 (dk_at dksX2_freest_2 3 rfl rfl)
theorem dX2_freest_51 : decode cX2_freest 51 = .ok (.iload_n 1, 1) := dk_27 (dk_at dksX2_freest_2 4 rfl rfl)
theorem dX2_freest_52 : decode cX2_freest 52 = .ok (.invokevirtual 132, 3) := dk_182 0 132 (dk_at dksX2_freest_2 5 rfl rfl)
theorem dX2_freest_55 : decode cX2_freest 55 = .ok (.if_icmp .ge 7, 3) := dk_162 0 7 (dk_at dksX2_freest_2 8 rfl rfl)
theorem dX2_freest_58 : decode cX2_freest 58 = .ok (.iload_n 2, 1) := dk_28 (dk_at dksX2_freest_2 11 rfl rfl)
theorem dX2_freest_59 : decode cX2_freest 59 = .ok (.goto 4, 3) := dk_167 0 4 (dk_at dksX2_freest_2 12 rfl rfl)
theorem dX2_freest_62 : decode cX2_freest 62 = .ok (.iload_n 1, 1) := dk_27 (dk_at dksX2_freest_2 15 rfl rfl)
theorem dX2_freest_63 : decode cX2_freest 63 = .ok (.istore_n 1, 1) := dk_60 (dk_at dksX2_freest_2 16 rfl rfl)
theorem dX2_freest_64 : decode cX2_freest 64 = .ok (.iinc 2 1, 3) := dk_132 2 1 (dk_at dksX2_freest_2 17 rfl rfl)
theorem dX2_freest_67 : decode cX2_freest 67 = .ok (.goto (-63), 3) := dk_167 255 193 (dk_at dksX2_freest_2 20 rfl rfl)
theorem dX2_freest_70 : decode cX2_freest 70 = .ok (.iload_n 1, 1) := dk_27 (dk_at dksX2_freest_2 23 rfl rfl)
theorem dX2_freest_71 : decode cX2_freest 71 = .ok (.iconst (-1), 1) := dk_2 (dk_at dksX2_freest_3 0 rfl rfl)
theorem dX2_freest_72 : decode cX2_freest 72 = .ok (.if_icmp .ne 7, 3) := dk_160 0 7 (dk_at dksX2_freest_3 1 rfl rfl)
theorem dX2_freest_75 : decode cX2_freest 75 = .ok (.iconst 1, 1) := dk_4 (dk_at dksX2_freest_3 4 rfl rfl)
theorem dX2_freest_76 : decode cX2_freest 76 = .ok (.goto 4, 3) := dk_167 0 4 (dk_at dksX2_freest_3 5 rfl rfl)
theorem dX2_freest_79 : decode cX2_freest 79 = .ok (.iconst 0, 1) := dk_3 (dk_at dksX2_freest_3 8 rfl rfl)
theorem dX2_freest_80 : decode cX2_freest 80 = .ok (.iconst 5, 1) := dk_8 (dk_at dksX2_freest_3 9 rfl rfl)
theorem dX2_freest_81 : decode cX2_freest 81 = .ok (.invokestatic 111, 3) := dk_184 0 111 (dk_at dksX2_freest_3 10 rfl rfl)
theorem dX2_freest_84 : decode cX2_freest 84 = .ok (.iload_n 1, 1) := dk_27 (dk_at dksX2_freest_3 13 rfl rfl)
theorem dX2_freest_85 : decode cX2_freest 85 = .ok (.ireturn, 1) := dk_172 (dk_at dksX2_freest_3 14 rfl rfl)
abbrev cX2_load : ByteArray := prog_6_method_9_code
def yX2_load : MethodName := ⟨RX2, "load", "(I)I"⟩
def dkwX2_load_2 : List UInt8 := [4, 167, 0, 4, 3, 96, 61, 132, 3, 1, 167, 255, 203, 28, 172]
abbrev dktX2_load_2 : List UInt8 := dkwX2_load_2 ++ []
def dkwX2_load_1 : List UInt8 := [192, 0, 53, 58, 4, 28, 25, 4, 180, 0, 125, 27, 160, 0, 16, 25, 4, 180, 0, 122, 6, 159, 0, 7]
abbrev dktX2_load_1 : List UInt8 := dkwX2_load_1 ++ dktX2_load_2
def dkwX2_load_0 : List UInt8 := [3, 61, 3, 62, 29, 42, 180, 0, 12, 182, 0, 45, 162, 0, 48, 42, 180, 0, 12, 29, 182, 0, 49]
abbrev dktX2_load_0 : List UInt8 := dkwX2_load_0 ++ dktX2_load_1
theorem dksX2_load_0 : cX2_load.data.toList.drop 0 = dktX2_load_0 := by decide +kernel
theorem dksX2_load_1 : cX2_load.data.toList.drop 23 = dktX2_load_1 := dk_seg dksX2_load_0 23 rfl rfl
theorem dksX2_load_2 : cX2_load.data.toList.drop 47 = dktX2_load_2 := dk_seg dksX2_load_1 24 rfl rfl
theorem dX2_load_0 : decode cX2_load 0 = .ok (.iconst 0, 1) := dk_3 (dk_at dksX2_load_0 0 rfl rfl)
theorem dX2_load_1 : decode cX2_load 1 = .ok (.istore_n 2, 1) := dk_61 (dk_at dksX2_load_0 1 rfl rfl)
theorem dX2_load_2 : decode cX2_load 2 = .ok (.iconst 0, 1) := dk_3 (dk_at dksX2_load_0 2 rfl rfl)
theorem dX2_load_3 : decode cX2_load 3 = .ok (.istore_n 3, 1) := dk_62 (dk_at dksX2_load_0 3 rfl rfl)
theorem dX2_load_4 : decode cX2_load 4 = .ok (.iload_n 3, 1) := dk_29 (dk_at dksX2_load_0 4 rfl rfl)
theorem dX2_load_5 : decode cX2_load 5 = .ok (.aload_n 0, 1) := dk_42 (dk_at dksX2_load_0 5 rfl rfl)
theorem dX2_load_6 : decode cX2_load 6 = .ok (.getfield 12, 3) := dk_180 0 12 (dk_at dksX2_load_0 6 rfl rfl)
theorem dX2_load_9 : decode cX2_load 9 = .ok (.invokevirtual 45, 3) := dk_182 0 45 (dk_at dksX2_load_0 9 rfl rfl)
theorem dX2_load_12 : decode cX2_load 12 = .ok (.if_icmp .ge 48, 3) := dk_162 0 48 (dk_at dksX2_load_0 12 rfl rfl)
theorem dX2_load_15 : decode cX2_load 15 = .ok (.aload_n 0, 1) := dk_42 (dk_at dksX2_load_0 15 rfl rfl)
theorem dX2_load_16 : decode cX2_load 16 = .ok (.getfield 12, 3) := dk_180 0 12 (dk_at dksX2_load_0 16 rfl rfl)
theorem dX2_load_19 : decode cX2_load 19 = .ok (.iload_n 3, 1) := dk_29 (dk_at dksX2_load_0 19 rfl rfl)
theorem dX2_load_20 : decode cX2_load 20 = .ok (.invokevirtual 49, 3) := dk_182 0 49 (dk_at dksX2_load_0 20 rfl rfl)
theorem dX2_load_23 : decode cX2_load 23 = .ok (.checkcast 53, 3) := dk_192 0 53 (dk_at dksX2_load_1 0 rfl rfl)
theorem dX2_load_26 : decode cX2_load 26 = .ok (.astore 4, 2) := dk_58 4 (dk_at dksX2_load_1 3 rfl rfl)
theorem dX2_load_28 : decode cX2_load 28 = .ok (.iload_n 2, 1) := dk_28 (dk_at dksX2_load_1 5 rfl rfl)
theorem dX2_load_29 : decode cX2_load 29 = .ok (.aload 4, 2) := dk_25 4 (dk_at dksX2_load_1 6 rfl rfl)
theorem dX2_load_31 : decode cX2_load 31 = .ok (.getfield 125, 3) := dk_180 0 125 (dk_at dksX2_load_1 8 rfl rfl)
theorem dX2_load_34 : decode cX2_load 34 = .ok (.iload_n 1, 1) := dk_27 (dk_at dksX2_load_1 11 rfl rfl)
theorem dX2_load_35 : decode cX2_load 35 = .ok (.if_icmp .ne 16, 3) := dk_160 0 16 (dk_at dksX2_load_1 12 rfl rfl)
theorem dX2_load_38 : decode cX2_load 38 = .ok (.aload 4, 2) := dk_25 4 (dk_at dksX2_load_1 15 rfl rfl)
theorem dX2_load_40 : decode cX2_load 40 = .ok (.getfield 122, 3) := dk_180 0 122 (dk_at dksX2_load_1 17 rfl rfl)
theorem dX2_load_43 : decode cX2_load 43 = .ok (.iconst 3, 1) := dk_6 (dk_at dksX2_load_1 20 rfl rfl)
theorem dX2_load_44 : decode cX2_load 44 = .ok (.if_icmp .eq 7, 3) := dk_159 0 7 (dk_at dksX2_load_1 21 rfl rfl)
theorem dX2_load_47 : decode cX2_load 47 = .ok (.iconst 1, 1) := dk_4 (dk_at dksX2_load_2 0 rfl rfl)
theorem dX2_load_48 : decode cX2_load 48 = .ok (.goto 4, 3) := dk_167 0 4 (dk_at dksX2_load_2 1 rfl rfl)
theorem dX2_load_51 : decode cX2_load 51 = .ok (.iconst 0, 1) := dk_3 (dk_at dksX2_load_2 4 rfl rfl)
theorem dX2_load_52 : decode cX2_load 52 = .ok (.iadd, 1) := dk_96 (dk_at dksX2_load_2 5 rfl rfl)
theorem dX2_load_53 : decode cX2_load 53 = .ok (.istore_n 2, 1) := dk_61 (dk_at dksX2_load_2 6 rfl rfl)
theorem dX2_load_54 : decode cX2_load 54 = .ok (.iinc 3 1, 3) := dk_132 3 1 (dk_at dksX2_load_2 7 rfl rfl)
theorem dX2_load_57 : decode cX2_load 57 = .ok (.goto (-53), 3) := dk_167 255 203 (dk_at dksX2_load_2 10 rfl rfl)
theorem dX2_load_60 : decode cX2_load 60 = .ok (.iload_n 2, 1) := dk_28 (dk_at dksX2_load_2 13 rfl rfl)
theorem dX2_load_61 : decode cX2_load 61 = .ok (.ireturn, 1) := dk_172 (dk_at dksX2_load_2 14 rfl rfl)
abbrev cX2_happens : ByteArray := prog_6_method_4_code
def yX2_happens : MethodName := ⟨RX2, "happens", "(III)V"⟩
def dkwX2_happens_1 : List UInt8 := [180, 0, 24, 187, 0, 80, 89, 42, 180, 0, 91, 27, 28, 29, 183, 0, 100, 182, 0, 71, 87, 177]
abbrev dktX2_happens_1 : List UInt8 := dkwX2_happens_1 ++ []
def dkwX2_happens_0 : List UInt8 := [42, 180, 0, 24, 182, 0, 45, 16, 60, 160, 0, 12, 42, 180, 0, 24, 3, 182, 0, 97, 87, 42]
abbrev dktX2_happens_0 : List UInt8 := dkwX2_happens_0 ++ dktX2_happens_1
theorem dksX2_happens_0 : cX2_happens.data.toList.drop 0 = dktX2_happens_0 := by decide +kernel
theorem dksX2_happens_1 : cX2_happens.data.toList.drop 22 = dktX2_happens_1 := dk_seg dksX2_happens_0 22 rfl rfl
theorem dX2_happens_0 : decode cX2_happens 0 = .ok (.aload_n 0, 1) := dk_42 (dk_at dksX2_happens_0 0 rfl rfl)
theorem dX2_happens_1 : decode cX2_happens 1 = .ok (.getfield 24, 3) := dk_180 0 24 (dk_at dksX2_happens_0 1 rfl rfl)
theorem dX2_happens_4 : decode cX2_happens 4 = .ok (.invokevirtual 45, 3) := dk_182 0 45 (dk_at dksX2_happens_0 4 rfl rfl)
theorem dX2_happens_7 : decode cX2_happens 7 = .ok (.bipush 60, 2) := dk_16 60 (dk_at dksX2_happens_0 7 rfl rfl)
theorem dX2_happens_9 : decode cX2_happens 9 = .ok (.if_icmp .ne 12, 3) := dk_160 0 12 (dk_at dksX2_happens_0 9 rfl rfl)
theorem dX2_happens_12 : decode cX2_happens 12 = .ok (.aload_n 0, 1) := dk_42 (dk_at dksX2_happens_0 12 rfl rfl)
theorem dX2_happens_13 : decode cX2_happens 13 = .ok (.getfield 24, 3) := dk_180 0 24 (dk_at dksX2_happens_0 13 rfl rfl)
theorem dX2_happens_16 : decode cX2_happens 16 = .ok (.iconst 0, 1) := dk_3 (dk_at dksX2_happens_0 16 rfl rfl)
theorem dX2_happens_17 : decode cX2_happens 17 = .ok (.invokevirtual 97, 3) := dk_182 0 97 (dk_at dksX2_happens_0 17 rfl rfl)
theorem dX2_happens_20 : decode cX2_happens 20 = .ok (.pop, 1) := dk_87 (dk_at dksX2_happens_0 20 rfl rfl)
theorem dX2_happens_21 : decode cX2_happens 21 = .ok (.aload_n 0, 1) := dk_42 (dk_at dksX2_happens_0 21 rfl rfl)
theorem dX2_happens_22 : decode cX2_happens 22 = .ok (.getfield 24, 3) := dk_180 0 24 (dk_at dksX2_happens_1 0 rfl rfl)
theorem dX2_happens_25 : decode cX2_happens 25 = .ok (.new 80, 3) := dk_187 0 80 (dk_at dksX2_happens_1 3 rfl rfl)
theorem dX2_happens_28 : decode cX2_happens 28 = .ok (.dup, 1) := dk_89 (dk_at dksX2_happens_1 6 rfl rfl)
theorem dX2_happens_29 : decode cX2_happens 29 = .ok (.aload_n 0, 1) := dk_42 (dk_at dksX2_happens_1 7 rfl rfl)
theorem dX2_happens_30 : decode cX2_happens 30 = .ok (.getfield 91, 3) := dk_180 0 91 (dk_at dksX2_happens_1 8 rfl rfl)
theorem dX2_happens_33 : decode cX2_happens 33 = .ok (.iload_n 1, 1) := dk_27 (dk_at dksX2_happens_1 11 rfl rfl)
theorem dX2_happens_34 : decode cX2_happens 34 = .ok (.iload_n 2, 1) := dk_28 (dk_at dksX2_happens_1 12 rfl rfl)
theorem dX2_happens_35 : decode cX2_happens 35 = .ok (.iload_n 3, 1) := dk_29 (dk_at dksX2_happens_1 13 rfl rfl)
theorem dX2_happens_36 : decode cX2_happens 36 = .ok (.invokespecial 100, 3) := dk_183 0 100 (dk_at dksX2_happens_1 14 rfl rfl)
theorem dX2_happens_39 : decode cX2_happens 39 = .ok (.invokevirtual 71, 3) := dk_182 0 71 (dk_at dksX2_happens_1 17 rfl rfl)
theorem dX2_happens_42 : decode cX2_happens 42 = .ok (.pop, 1) := dk_87 (dk_at dksX2_happens_1 20 rfl rfl)
theorem dX2_happens_43 : decode cX2_happens 43 = .ok (.return_, 1) := dk_177 (dk_at dksX2_happens_1 21 rfl rfl)
abbrev cX2_open : ByteArray := prog_6_method_18_code
def yX2_open : MethodName := ⟨RX2, "open", "(II)I"⟩
def dkwX2_open_3 : List UInt8 := [29, 181, 0, 125, 42, 3, 25, 4, 180, 0, 153, 3, 182, 0, 156, 25, 4, 180, 0, 153, 172]
abbrev dktX2_open_3 : List UInt8 := dkwX2_open_3 ++ []
def dkwX2_open_2 : List UInt8 := [42, 182, 0, 139, 62, 42, 27, 42, 180, 0, 91, 182, 0, 61, 58, 4, 25, 4, 28, 181, 0, 150, 25, 4]
abbrev dktX2_open_2 : List UInt8 := dkwX2_open_2 ++ dktX2_open_3
def dkwX2_open_1 : List UInt8 := [184, 0, 111, 42, 180, 0, 12, 182, 0, 45, 16, 16, 160, 0, 7, 4, 167, 0, 4, 3, 6, 184, 0, 111]
abbrev dktX2_open_1 : List UInt8 := dkwX2_open_1 ++ dktX2_open_2
def dkwX2_open_0 : List UInt8 := [27, 3, 7, 184, 0, 103, 153, 0, 12, 28, 4, 7, 184, 0, 103, 154, 0, 7, 4, 167, 0, 4, 3, 5]
abbrev dktX2_open_0 : List UInt8 := dkwX2_open_0 ++ dktX2_open_1
theorem dksX2_open_0 : cX2_open.data.toList.drop 0 = dktX2_open_0 := by decide +kernel
theorem dksX2_open_1 : cX2_open.data.toList.drop 24 = dktX2_open_1 := dk_seg dksX2_open_0 24 rfl rfl
theorem dksX2_open_2 : cX2_open.data.toList.drop 48 = dktX2_open_2 := dk_seg dksX2_open_1 24 rfl rfl
theorem dksX2_open_3 : cX2_open.data.toList.drop 72 = dktX2_open_3 := dk_seg dksX2_open_2 24 rfl rfl
theorem dX2_open_0 : decode cX2_open 0 = .ok (.iload_n 1, 1) := dk_27 (dk_at dksX2_open_0 0 rfl rfl)
theorem dX2_open_1 : decode cX2_open 1 = .ok (.iconst 0, 1) := dk_3 (dk_at dksX2_open_0 1 rfl rfl)
theorem dX2_open_2 : decode cX2_open 2 = .ok (.iconst 4, 1) := dk_7 (dk_at dksX2_open_0 2 rfl rfl)
theorem dX2_open_3 : decode cX2_open 3 = .ok (.invokestatic 103, 3) := dk_184 0 103 (dk_at dksX2_open_0 3 rfl rfl)
theorem dX2_open_6 : decode cX2_open 6 = .ok (.ifCond .eq 12, 3) := dk_153 0 12 (dk_at dksX2_open_0 6 rfl rfl)
theorem dX2_open_9 : decode cX2_open 9 = .ok (.iload_n 2, 1) := dk_28 (dk_at dksX2_open_0 9 rfl rfl)
theorem dX2_open_10 : decode cX2_open 10 = .ok (.iconst 1, 1) := dk_4 (dk_at dksX2_open_0 10 rfl rfl)
theorem dX2_open_11 : decode cX2_open 11 = .ok (.iconst 4, 1) := dk_7 (dk_at dksX2_open_0 11 rfl rfl)
theorem dX2_open_12 : decode cX2_open 12 = .ok (.invokestatic 103, 3) := dk_184 0 103 (dk_at dksX2_open_0 12 rfl rfl)
theorem dX2_open_15 : decode cX2_open 15 = .ok (.ifCond .ne 7, 3) := dk_154 0 7 (dk_at dksX2_open_0 15 rfl rfl)
theorem dX2_open_18 : decode cX2_open 18 = .ok (.iconst 1, 1) := dk_4 (dk_at dksX2_open_0 18 rfl rfl)
theorem dX2_open_19 : decode cX2_open 19 = .ok (.goto 4, 3) := dk_167 0 4 (dk_at dksX2_open_0 19 rfl rfl)
theorem dX2_open_22 : decode cX2_open 22 = .ok (.iconst 0, 1) := dk_3 (dk_at dksX2_open_0 22 rfl rfl)
theorem dX2_open_23 : decode cX2_open 23 = .ok (.iconst 2, 1) := dk_5 (dk_at dksX2_open_0 23 rfl rfl)
theorem dX2_open_24 : decode cX2_open 24 = .ok (.invokestatic 111, 3) := dk_184 0 111 (dk_at dksX2_open_1 0 rfl rfl)
theorem dX2_open_27 : decode cX2_open 27 = .ok (.aload_n 0, 1) := dk_42 (dk_at dksX2_open_1 3 rfl rfl)
theorem dX2_open_28 : decode cX2_open 28 = .ok (.getfield 12, 3) := dk_180 0 12 (dk_at dksX2_open_1 4 rfl rfl)
theorem dX2_open_31 : decode cX2_open 31 = .ok (.invokevirtual 45, 3) := dk_182 0 45 (dk_at dksX2_open_1 7 rfl rfl)
theorem dX2_open_34 : decode cX2_open 34 = .ok (.bipush 16, 2) := dk_16 16 (dk_at dksX2_open_1 10 rfl rfl)
theorem dX2_open_36 : decode cX2_open 36 = .ok (.if_icmp .ne 7, 3) := dk_160 0 7 (dk_at dksX2_open_1 12 rfl rfl)
theorem dX2_open_39 : decode cX2_open 39 = .ok (.iconst 1, 1) := dk_4 (dk_at dksX2_open_1 15 rfl rfl)
theorem dX2_open_40 : decode cX2_open 40 = .ok (.goto 4, 3) := dk_167 0 4 (dk_at dksX2_open_1 16 rfl rfl)
theorem dX2_open_43 : decode cX2_open 43 = .ok (.iconst 0, 1) := dk_3 (dk_at dksX2_open_1 19 rfl rfl)
theorem dX2_open_44 : decode cX2_open 44 = .ok (.iconst 3, 1) := dk_6 (dk_at dksX2_open_1 20 rfl rfl)
theorem dX2_open_45 : decode cX2_open 45 = .ok (.invokestatic 111, 3) := dk_184 0 111 (dk_at dksX2_open_1 21 rfl rfl)
theorem dX2_open_48 : decode cX2_open 48 = .ok (.aload_n 0, 1) := dk_42 (dk_at dksX2_open_2 0 rfl rfl)
theorem dX2_open_49 : decode cX2_open 49 = .ok (.invokevirtual 139, 3) := dk_182 0 139 (dk_at dksX2_open_2 1 rfl rfl)
theorem dX2_open_52 : decode cX2_open 52 = .ok (.istore_n 3, 1) := dk_62 (dk_at dksX2_open_2 4 rfl rfl)
theorem dX2_open_53 : decode cX2_open 53 = .ok (.aload_n 0, 1) := dk_42 (dk_at dksX2_open_2 5 rfl rfl)
theorem dX2_open_54 : decode cX2_open 54 = .ok (.iload_n 1, 1) := dk_27 (dk_at dksX2_open_2 6 rfl rfl)
theorem dX2_open_55 : decode cX2_open 55 = .ok (.aload_n 0, 1) := dk_42 (dk_at dksX2_open_2 7 rfl rfl)
theorem dX2_open_56 : decode cX2_open 56 = .ok (.getfield 91, 3) := dk_180 0 91 (dk_at dksX2_open_2 8 rfl rfl)
theorem dX2_open_59 : decode cX2_open 59 = .ok (.invokevirtual 61, 3) := dk_182 0 61 (dk_at dksX2_open_2 11 rfl rfl)
theorem dX2_open_62 : decode cX2_open 62 = .ok (.astore 4, 2) := dk_58 4 (dk_at dksX2_open_2 14 rfl rfl)
theorem dX2_open_64 : decode cX2_open 64 = .ok (.aload 4, 2) := dk_25 4 (dk_at dksX2_open_2 16 rfl rfl)
theorem dX2_open_66 : decode cX2_open 66 = .ok (.iload_n 2, 1) := dk_28 (dk_at dksX2_open_2 18 rfl rfl)
theorem dX2_open_67 : decode cX2_open 67 = .ok (.putfield 150, 3) := dk_181 0 150 (dk_at dksX2_open_2 19 rfl rfl)
theorem dX2_open_70 : decode cX2_open 70 = .ok (.aload 4, 2) := dk_25 4 (dk_at dksX2_open_2 22 rfl rfl)
theorem dX2_open_72 : decode cX2_open 72 = .ok (.iload_n 3, 1) := dk_29 (dk_at dksX2_open_3 0 rfl rfl)
theorem dX2_open_73 : decode cX2_open 73 = .ok (.putfield 125, 3) := dk_181 0 125 (dk_at dksX2_open_3 1 rfl rfl)
theorem dX2_open_76 : decode cX2_open 76 = .ok (.aload_n 0, 1) := dk_42 (dk_at dksX2_open_3 4 rfl rfl)
theorem dX2_open_77 : decode cX2_open 77 = .ok (.iconst 0, 1) := dk_3 (dk_at dksX2_open_3 5 rfl rfl)
theorem dX2_open_78 : decode cX2_open 78 = .ok (.aload 4, 2) := dk_25 4 (dk_at dksX2_open_3 6 rfl rfl)
theorem dX2_open_80 : decode cX2_open 80 = .ok (.getfield 153, 3) := dk_180 0 153 (dk_at dksX2_open_3 8 rfl rfl)
theorem dX2_open_83 : decode cX2_open 83 = .ok (.iconst 0, 1) := dk_3 (dk_at dksX2_open_3 11 rfl rfl)
theorem dX2_open_84 : decode cX2_open 84 = .ok (.invokevirtual 156, 3) := dk_182 0 156 (dk_at dksX2_open_3 12 rfl rfl)
theorem dX2_open_87 : decode cX2_open 87 = .ok (.aload 4, 2) := dk_25 4 (dk_at dksX2_open_3 15 rfl rfl)
theorem dX2_open_89 : decode cX2_open 89 = .ok (.getfield 153, 3) := dk_180 0 153 (dk_at dksX2_open_3 17 rfl rfl)
theorem dX2_open_92 : decode cX2_open 92 = .ok (.ireturn, 1) := dk_172 (dk_at dksX2_open_3 20 rfl rfl)
abbrev cX2_hand : ByteArray := prog_6_method_13_code
def yX2_hand : MethodName := ⟨RX2, "hand", "(II)I"⟩
def dkwX2_hand_4 : List UInt8 := [16, 7, 184, 0, 111, 45, 180, 0, 125, 54, 4, 45, 28, 182, 0, 142, 21, 4, 172]
abbrev dktX2_hand_4 : List UInt8 := dkwX2_hand_4 ++ []
def dkwX2_hand_3 : List UInt8 := [4, 167, 0, 4, 3, 16, 6, 184, 0, 111, 42, 28, 182, 0, 132, 7, 161, 0, 7, 4, 167, 0, 4, 3]
abbrev dktX2_hand_3 : List UInt8 := dkwX2_hand_3 ++ dktX2_hand_4
def dkwX2_hand_2 : List UInt8 := [3, 7, 184, 0, 111, 42, 180, 0, 37, 28, 184, 0, 128, 153, 0, 11, 45, 180, 0, 125, 28, 160, 0, 7]
abbrev dktX2_hand_2 : List UInt8 := dkwX2_hand_2 ++ dktX2_hand_3
def dkwX2_hand_1 : List UInt8 := [42, 180, 0, 12, 27, 182, 0, 49, 192, 0, 53, 78, 45, 180, 0, 122, 6, 160, 0, 7, 4, 167, 0, 4]
abbrev dktX2_hand_1 : List UInt8 := dkwX2_hand_1 ++ dktX2_hand_2
def dkwX2_hand_0 : List UInt8 := [42, 27, 182, 0, 107, 153, 0, 10, 28, 184, 0, 136, 154, 0, 7, 4, 167, 0, 4, 3, 4, 184, 0, 111]
abbrev dktX2_hand_0 : List UInt8 := dkwX2_hand_0 ++ dktX2_hand_1
theorem dksX2_hand_0 : cX2_hand.data.toList.drop 0 = dktX2_hand_0 := by decide +kernel
theorem dksX2_hand_1 : cX2_hand.data.toList.drop 24 = dktX2_hand_1 := dk_seg dksX2_hand_0 24 rfl rfl
theorem dksX2_hand_2 : cX2_hand.data.toList.drop 48 = dktX2_hand_2 := dk_seg dksX2_hand_1 24 rfl rfl
theorem dksX2_hand_3 : cX2_hand.data.toList.drop 72 = dktX2_hand_3 := dk_seg dksX2_hand_2 24 rfl rfl
theorem dksX2_hand_4 : cX2_hand.data.toList.drop 96 = dktX2_hand_4 := dk_seg dksX2_hand_3 24 rfl rfl
theorem dX2_hand_0 : decode cX2_hand 0 = .ok (.aload_n 0, 1) := dk_42 (dk_at dksX2_hand_0 0 rfl rfl)
theorem dX2_hand_1 : decode cX2_hand 1 = .ok (.iload_n 1, 1) := dk_27 (dk_at dksX2_hand_0 1 rfl rfl)
theorem dX2_hand_2 : decode cX2_hand 2 = .ok (.invokevirtual 107, 3) := dk_182 0 107 (dk_at dksX2_hand_0 2 rfl rfl)
theorem dX2_hand_5 : decode cX2_hand 5 = .ok (.ifCond .eq 10, 3) := dk_153 0 10 (dk_at dksX2_hand_0 5 rfl rfl)
theorem dX2_hand_8 : decode cX2_hand 8 = .ok (.iload_n 2, 1) := dk_28 (dk_at dksX2_hand_0 8 rfl rfl)
theorem dX2_hand_9 : decode cX2_hand 9 = .ok (.invokestatic 136, 3) := dk_184 0 136 (dk_at dksX2_hand_0 9 rfl rfl)
theorem dX2_hand_12 : decode cX2_hand 12 = .ok (.ifCond .ne 7, 3) := dk_154 0 7 (dk_at dksX2_hand_0 12 rfl rfl)
theorem dX2_hand_15 : decode cX2_hand 15 = .ok (.iconst 1, 1) := dk_4 (dk_at dksX2_hand_0 15 rfl rfl)
theorem dX2_hand_16 : decode cX2_hand 16 = .ok (.goto 4, 3) := dk_167 0 4 (dk_at dksX2_hand_0 16 rfl rfl)
theorem dX2_hand_19 : decode cX2_hand 19 = .ok (.iconst 0, 1) := dk_3 (dk_at dksX2_hand_0 19 rfl rfl)
theorem dX2_hand_20 : decode cX2_hand 20 = .ok (.iconst 1, 1) := dk_4 (dk_at dksX2_hand_0 20 rfl rfl)
theorem dX2_hand_21 : decode cX2_hand 21 = .ok (.invokestatic 111, 3) := dk_184 0 111 (dk_at dksX2_hand_0 21 rfl rfl)
theorem dX2_hand_24 : decode cX2_hand 24 = .ok (.aload_n 0, 1) := dk_42 (dk_at dksX2_hand_1 0 rfl rfl)
theorem dX2_hand_25 : decode cX2_hand 25 = .ok (.getfield 12, 3) := dk_180 0 12 (dk_at dksX2_hand_1 1 rfl rfl)
theorem dX2_hand_28 : decode cX2_hand 28 = .ok (.iload_n 1, 1) := dk_27 (dk_at dksX2_hand_1 4 rfl rfl)
theorem dX2_hand_29 : decode cX2_hand 29 = .ok (.invokevirtual 49, 3) := dk_182 0 49 (dk_at dksX2_hand_1 5 rfl rfl)
theorem dX2_hand_32 : decode cX2_hand 32 = .ok (.checkcast 53, 3) := dk_192 0 53 (dk_at dksX2_hand_1 8 rfl rfl)
theorem dX2_hand_35 : decode cX2_hand 35 = .ok (.astore_n 3, 1) := dk_78 (dk_at dksX2_hand_1 11 rfl rfl)
theorem dX2_hand_36 : decode cX2_hand 36 = .ok (.aload_n 3, 1) := dk_45 (dk_at dksX2_hand_1 12 rfl rfl)
theorem dX2_hand_37 : decode cX2_hand 37 = .ok (.getfield 122, 3) := dk_180 0 122 (dk_at dksX2_hand_1 13 rfl rfl)
theorem dX2_hand_40 : decode cX2_hand 40 = .ok (.iconst 3, 1) := dk_6 (dk_at dksX2_hand_1 16 rfl rfl)
theorem dX2_hand_41 : decode cX2_hand 41 = .ok (.if_icmp .ne 7, 3) := dk_160 0 7 (dk_at dksX2_hand_1 17 rfl rfl)
theorem dX2_hand_44 : decode cX2_hand 44 = .ok (.iconst 1, 1) := dk_4 (dk_at dksX2_hand_1 20 rfl rfl)
theorem dX2_hand_45 : decode cX2_hand 45 = .ok (.goto 4, 3) := dk_167 0 4 (dk_at dksX2_hand_1 21 rfl rfl)
theorem dX2_hand_48 : decode cX2_hand 48 = .ok (.iconst 0, 1) := dk_3 (dk_at dksX2_hand_2 0 rfl rfl)
theorem dX2_hand_49 : decode cX2_hand 49 = .ok (.iconst 4, 1) := dk_7 (dk_at dksX2_hand_2 1 rfl rfl)
theorem dX2_hand_50 : decode cX2_hand 50 = .ok (.invokestatic 111, 3) := dk_184 0 111 (dk_at dksX2_hand_2 2 rfl rfl)
theorem dX2_hand_53 : decode cX2_hand 53 = .ok (.aload_n 0, 1) := dk_42 (dk_at dksX2_hand_2 5 rfl rfl)
theorem dX2_hand_54 : decode cX2_hand 54 = .ok (.getfield 37, 3) := dk_180 0 37 (dk_at dksX2_hand_2 6 rfl rfl)
theorem dX2_hand_57 : decode cX2_hand 57 = .ok (.iload_n 2, 1) := dk_28 (dk_at dksX2_hand_2 9 rfl rfl)
theorem dX2_hand_58 : decode cX2_hand 58 = .ok (.invokestatic 128, 3) := dk_184 0 128 (dk_at dksX2_hand_2 10 rfl rfl)
theorem dX2_hand_61 : decode cX2_hand 61 = .ok (.ifCond .eq 11, 3) := dk_153 0 11 (dk_at dksX2_hand_2 13 rfl rfl)
theorem dX2_hand_64 : decode cX2_hand 64 = .ok (.aload_n 3, 1) := dk_45 (dk_at dksX2_hand_2 16 rfl rfl)
theorem dX2_hand_65 : decode cX2_hand 65 = .ok (.getfield 125, 3) := dk_180 0 125 (dk_at dksX2_hand_2 17 rfl rfl)
theorem dX2_hand_68 : decode cX2_hand 68 = .ok (.iload_n 2, 1) := dk_28 (dk_at dksX2_hand_2 20 rfl rfl)
theorem dX2_hand_69 : decode cX2_hand 69 = .ok (.if_icmp .ne 7, 3) := dk_160 0 7 (dk_at dksX2_hand_2 21 rfl rfl)
theorem dX2_hand_72 : decode cX2_hand 72 = .ok (.iconst 1, 1) := dk_4 (dk_at dksX2_hand_3 0 rfl rfl)
theorem dX2_hand_73 : decode cX2_hand 73 = .ok (.goto 4, 3) := dk_167 0 4 (dk_at dksX2_hand_3 1 rfl rfl)
theorem dX2_hand_76 : decode cX2_hand 76 = .ok (.iconst 0, 1) := dk_3 (dk_at dksX2_hand_3 4 rfl rfl)
theorem dX2_hand_77 : decode cX2_hand 77 = .ok (.bipush 6, 2) := dk_16 6 (dk_at dksX2_hand_3 5 rfl rfl)
theorem dX2_hand_79 : decode cX2_hand 79 = .ok (.invokestatic 111, 3) := dk_184 0 111 (dk_at dksX2_hand_3 7 rfl rfl)
theorem dX2_hand_82 : decode cX2_hand 82 = .ok (.aload_n 0, 1) := dk_42 (dk_at dksX2_hand_3 10 rfl rfl)
theorem dX2_hand_83 : decode cX2_hand 83 = .ok (.iload_n 2, 1) := dk_28 (dk_at dksX2_hand_3 11 rfl rfl)
theorem dX2_hand_84 : decode cX2_hand 84 = .ok (.invokevirtual 132, 3) := dk_182 0 132 (dk_at dksX2_hand_3 12 rfl rfl)
theorem dX2_hand_87 : decode cX2_hand 87 = .ok (.iconst 4, 1) := dk_7 (dk_at dksX2_hand_3 15 rfl rfl)
theorem dX2_hand_88 : decode cX2_hand 88 = .ok (.if_icmp .lt 7, 3) := dk_161 0 7 (dk_at dksX2_hand_3 16 rfl rfl)
theorem dX2_hand_91 : decode cX2_hand 91 = .ok (.iconst 1, 1) := dk_4 (dk_at dksX2_hand_3 19 rfl rfl)
theorem dX2_hand_92 : decode cX2_hand 92 = .ok (.goto 4, 3) := dk_167 0 4 (dk_at dksX2_hand_3 20 rfl rfl)
theorem dX2_hand_95 : decode cX2_hand 95 = .ok (.iconst 0, 1) := dk_3 (dk_at dksX2_hand_3 23 rfl rfl)
theorem dX2_hand_96 : decode cX2_hand 96 = .ok (.bipush 7, 2) := dk_16 7 (dk_at dksX2_hand_4 0 rfl rfl)
theorem dX2_hand_98 : decode cX2_hand 98 = .ok (.invokestatic 111, 3) := dk_184 0 111 (dk_at dksX2_hand_4 2 rfl rfl)
theorem dX2_hand_101 : decode cX2_hand 101 = .ok (.aload_n 3, 1) := dk_45 (dk_at dksX2_hand_4 5 rfl rfl)
theorem dX2_hand_102 : decode cX2_hand 102 = .ok (.getfield 125, 3) := dk_180 0 125 (dk_at dksX2_hand_4 6 rfl rfl)
theorem dX2_hand_105 : decode cX2_hand 105 = .ok (.istore 4, 2) := dk_54 4 (dk_at dksX2_hand_4 9 rfl rfl)
theorem dX2_hand_107 : decode cX2_hand 107 = .ok (.aload_n 3, 1) := dk_45 (dk_at dksX2_hand_4 11 rfl rfl)
theorem dX2_hand_108 : decode cX2_hand 108 = .ok (.iload_n 2, 1) := dk_28 (dk_at dksX2_hand_4 12 rfl rfl)
theorem dX2_hand_109 : decode cX2_hand 109 = .ok (.invokevirtual 142, 3) := dk_182 0 142 (dk_at dksX2_hand_4 13 rfl rfl)
theorem dX2_hand_112 : decode cX2_hand 112 = .ok (.iload 4, 2) := dk_21 4 (dk_at dksX2_hand_4 16 rfl rfl)
theorem dX2_hand_114 : decode cX2_hand 114 = .ok (.ireturn, 1) := dk_172 (dk_at dksX2_hand_4 18 rfl rfl)
abbrev cX2_hasIncident : ByteArray := prog_6_method_5_code
def yX2_hasIncident : MethodName := ⟨RX2, "hasIncident", "(I)Z"⟩
def dkwX2_hasIncident_0 : List UInt8 := [27, 3, 42, 180, 0, 12, 182, 0, 45, 4, 100, 184, 0, 103, 172]
abbrev dktX2_hasIncident_0 : List UInt8 := dkwX2_hasIncident_0 ++ []
theorem dksX2_hasIncident_0 : cX2_hasIncident.data.toList.drop 0 = dktX2_hasIncident_0 := by decide +kernel
theorem dX2_hasIncident_0 : decode cX2_hasIncident 0 = .ok (.iload_n 1, 1) := dk_27 (dk_at dksX2_hasIncident_0 0 rfl rfl)
theorem dX2_hasIncident_1 : decode cX2_hasIncident 1 = .ok (.iconst 0, 1) := dk_3 (dk_at dksX2_hasIncident_0 1 rfl rfl)
theorem dX2_hasIncident_2 : decode cX2_hasIncident 2 = .ok (.aload_n 0, 1) := dk_42 (dk_at dksX2_hasIncident_0 2 rfl rfl)
theorem dX2_hasIncident_3 : decode cX2_hasIncident 3 = .ok (.getfield 12, 3) := dk_180 0 12 (dk_at dksX2_hasIncident_0 3 rfl rfl)
theorem dX2_hasIncident_6 : decode cX2_hasIncident 6 = .ok (.invokevirtual 45, 3) := dk_182 0 45 (dk_at dksX2_hasIncident_0 6 rfl rfl)
theorem dX2_hasIncident_9 : decode cX2_hasIncident 9 = .ok (.iconst 1, 1) := dk_4 (dk_at dksX2_hasIncident_0 9 rfl rfl)
theorem dX2_hasIncident_10 : decode cX2_hasIncident 10 = .ok (.isub, 1) := dk_100 (dk_at dksX2_hasIncident_0 10 rfl rfl)
theorem dX2_hasIncident_11 : decode cX2_hasIncident 11 = .ok (.invokestatic 103, 3) := dk_184 0 103 (dk_at dksX2_hasIncident_0 11 rfl rfl)
theorem dX2_hasIncident_14 : decode cX2_hasIncident 14 = .ok (.ireturn, 1) := dk_172 (dk_at dksX2_hasIncident_0 14 rfl rfl)
abbrev cX2_stop : ByteArray := prog_6_method_21_code
def yX2_stop : MethodName := ⟨RX2, "stop", "(II)I"⟩
def dkwX2_stop_1 : List UInt8 := [28, 3, 79, 45, 182, 0, 173, 42, 6, 27, 28, 182, 0, 156, 45, 180, 0, 163, 172]
abbrev dktX2_stop_1 : List UInt8 := dkwX2_stop_1 ++ []
def dkwX2_stop_0 : List UInt8 := [42, 27, 28, 3, 182, 0, 166, 78, 45, 89, 180, 0, 163, 4, 28, 120, 128, 181, 0, 163, 45, 180, 0, 170]
abbrev dktX2_stop_0 : List UInt8 := dkwX2_stop_0 ++ dktX2_stop_1
theorem dksX2_stop_0 : cX2_stop.data.toList.drop 0 = dktX2_stop_0 := by decide +kernel
theorem dksX2_stop_1 : cX2_stop.data.toList.drop 24 = dktX2_stop_1 := dk_seg dksX2_stop_0 24 rfl rfl
theorem dX2_stop_0 : decode cX2_stop 0 = .ok (.aload_n 0, 1) := dk_42 (dk_at dksX2_stop_0 0 rfl rfl)
theorem dX2_stop_1 : decode cX2_stop 1 = .ok (.iload_n 1, 1) := dk_27 (dk_at dksX2_stop_0 1 rfl rfl)
theorem dX2_stop_2 : decode cX2_stop 2 = .ok (.iload_n 2, 1) := dk_28 (dk_at dksX2_stop_0 2 rfl rfl)
theorem dX2_stop_3 : decode cX2_stop 3 = .ok (.iconst 0, 1) := dk_3 (dk_at dksX2_stop_0 3 rfl rfl)
theorem dX2_stop_4 : decode cX2_stop 4 = .ok (.invokevirtual 166, 3) := dk_182 0 166 (dk_at dksX2_stop_0 4 rfl rfl)
theorem dX2_stop_7 : decode cX2_stop 7 = .ok (.astore_n 3, 1) := dk_78 (dk_at dksX2_stop_0 7 rfl rfl)
theorem dX2_stop_8 : decode cX2_stop 8 = .ok (.aload_n 3, 1) := dk_45 (dk_at dksX2_stop_0 8 rfl rfl)
theorem dX2_stop_9 : decode cX2_stop 9 = .ok (.dup, 1) := dk_89 (dk_at dksX2_stop_0 9 rfl rfl)
theorem dX2_stop_10 : decode cX2_stop 10 = .ok (.getfield 163, 3) := dk_180 0 163 (dk_at dksX2_stop_0 10 rfl rfl)
theorem dX2_stop_13 : decode cX2_stop 13 = .ok (.iconst 1, 1) := dk_4 (dk_at dksX2_stop_0 13 rfl rfl)
theorem dX2_stop_14 : decode cX2_stop 14 = .ok (.iload_n 2, 1) := dk_28 (dk_at dksX2_stop_0 14 rfl rfl)
theorem dX2_stop_15 : decode cX2_stop 15 = .ok (.ishl, 1) := dk_120 (dk_at dksX2_stop_0 15 rfl rfl)
theorem dX2_stop_16 : decode cX2_stop 16 = .ok (.ior, 1) := dk_128 (dk_at dksX2_stop_0 16 rfl rfl)
theorem dX2_stop_17 : decode cX2_stop 17 = .ok (.putfield 163, 3) := dk_181 0 163 (dk_at dksX2_stop_0 17 rfl rfl)
theorem dX2_stop_20 : decode cX2_stop 20 = .ok (.aload_n 3, 1) := dk_45 (dk_at dksX2_stop_0 20 rfl rfl)
theorem dX2_stop_21 : decode cX2_stop 21 = .ok (.getfield 170, 3) := dk_180 0 170 (dk_at dksX2_stop_0 21 rfl rfl)
theorem dX2_stop_24 : decode cX2_stop 24 = .ok (.iload_n 2, 1) := dk_28 (dk_at dksX2_stop_1 0 rfl rfl)
theorem dX2_stop_25 : decode cX2_stop 25 = .ok (.iconst 0, 1) := dk_3 (dk_at dksX2_stop_1 1 rfl rfl)
theorem dX2_stop_26 : decode cX2_stop 26 = .ok (.iastore, 1) := dk_79 (dk_at dksX2_stop_1 2 rfl rfl)
theorem dX2_stop_27 : decode cX2_stop 27 = .ok (.aload_n 3, 1) := dk_45 (dk_at dksX2_stop_1 3 rfl rfl)
theorem dX2_stop_28 : decode cX2_stop 28 = .ok (.invokevirtual 173, 3) := dk_182 0 173 (dk_at dksX2_stop_1 4 rfl rfl)
theorem dX2_stop_31 : decode cX2_stop 31 = .ok (.aload_n 0, 1) := dk_42 (dk_at dksX2_stop_1 7 rfl rfl)
theorem dX2_stop_32 : decode cX2_stop 32 = .ok (.iconst 3, 1) := dk_6 (dk_at dksX2_stop_1 8 rfl rfl)
theorem dX2_stop_33 : decode cX2_stop 33 = .ok (.iload_n 1, 1) := dk_27 (dk_at dksX2_stop_1 9 rfl rfl)
theorem dX2_stop_34 : decode cX2_stop 34 = .ok (.iload_n 2, 1) := dk_28 (dk_at dksX2_stop_1 10 rfl rfl)
theorem dX2_stop_35 : decode cX2_stop 35 = .ok (.invokevirtual 156, 3) := dk_182 0 156 (dk_at dksX2_stop_1 11 rfl rfl)
theorem dX2_stop_38 : decode cX2_stop 38 = .ok (.aload_n 3, 1) := dk_45 (dk_at dksX2_stop_1 14 rfl rfl)
theorem dX2_stop_39 : decode cX2_stop 39 = .ok (.getfield 163, 3) := dk_180 0 163 (dk_at dksX2_stop_1 15 rfl rfl)
theorem dX2_stop_42 : decode cX2_stop 42 = .ok (.ireturn, 1) := dk_172 (dk_at dksX2_stop_1 18 rfl rfl)
abbrev cX2_getFor : ByteArray := prog_6_method_20_code
def yX2_getFor : MethodName := ⟨RX2, "getFor", "(IIZ)LIncidentKeeper$Core$Incident;"⟩
def dkwX2_getFor_2 : List UInt8 := [180, 0, 163, 28, 184, 0, 128, 29, 159, 0, 7, 4, 167, 0, 4, 3, 16, 8, 184, 0, 111, 25, 4, 176]
abbrev dktX2_getFor_2 : List UInt8 := dkwX2_getFor_2 ++ []
def dkwX2_getFor_1 : List UInt8 := [184, 0, 111, 25, 4, 182, 0, 118, 154, 0, 7, 4, 167, 0, 4, 3, 7, 184, 0, 111, 25, 4]
abbrev dktX2_getFor_1 : List UInt8 := dkwX2_getFor_1 ++ dktX2_getFor_2
def dkwX2_getFor_0 : List UInt8 := [42, 27, 182, 0, 115, 58, 4, 28, 3, 6, 184, 0, 103, 154, 0, 7, 4, 167, 0, 4, 3, 5]
abbrev dktX2_getFor_0 : List UInt8 := dkwX2_getFor_0 ++ dktX2_getFor_1
theorem dksX2_getFor_0 : cX2_getFor.data.toList.drop 0 = dktX2_getFor_0 := by decide +kernel
theorem dksX2_getFor_1 : cX2_getFor.data.toList.drop 22 = dktX2_getFor_1 := dk_seg dksX2_getFor_0 22 rfl rfl
theorem dksX2_getFor_2 : cX2_getFor.data.toList.drop 44 = dktX2_getFor_2 := dk_seg dksX2_getFor_1 22 rfl rfl
theorem dX2_getFor_0 : decode cX2_getFor 0 = .ok (.aload_n 0, 1) := dk_42 (dk_at dksX2_getFor_0 0 rfl rfl)
theorem dX2_getFor_1 : decode cX2_getFor 1 = .ok (.iload_n 1, 1) := dk_27 (dk_at dksX2_getFor_0 1 rfl rfl)
theorem dX2_getFor_2 : decode cX2_getFor 2 = .ok (.invokevirtual 115, 3) := dk_182 0 115 (dk_at dksX2_getFor_0 2 rfl rfl)
theorem dX2_getFor_5 : decode cX2_getFor 5 = .ok (.astore 4, 2) := dk_58 4 (dk_at dksX2_getFor_0 5 rfl rfl)
theorem dX2_getFor_7 : decode cX2_getFor 7 = .ok (.iload_n 2, 1) := dk_28 (dk_at dksX2_getFor_0 7 rfl rfl)
theorem dX2_getFor_8 : decode cX2_getFor 8 = .ok (.iconst 0, 1) := dk_3 (dk_at dksX2_getFor_0 8 rfl rfl)
theorem dX2_getFor_9 : decode cX2_getFor 9 = .ok (.iconst 3, 1) := dk_6 (dk_at dksX2_getFor_0 9 rfl rfl)
theorem dX2_getFor_10 : decode cX2_getFor 10 = .ok (.invokestatic 103, 3) := dk_184 0 103 (dk_at dksX2_getFor_0 10 rfl rfl)
theorem dX2_getFor_13 : decode cX2_getFor 13 = .ok (.ifCond .ne 7, 3) := dk_154 0 7 (dk_at dksX2_getFor_0 13 rfl rfl)
theorem dX2_getFor_16 : decode cX2_getFor 16 = .ok (.iconst 1, 1) := dk_4 (dk_at dksX2_getFor_0 16 rfl rfl)
theorem dX2_getFor_17 : decode cX2_getFor 17 = .ok (.goto 4, 3) := dk_167 0 4 (dk_at dksX2_getFor_0 17 rfl rfl)
theorem dX2_getFor_20 : decode cX2_getFor 20 = .ok (.iconst 0, 1) := dk_3 (dk_at dksX2_getFor_0 20 rfl rfl)
theorem dX2_getFor_21 : decode cX2_getFor 21 = .ok (.iconst 2, 1) := dk_5 (dk_at dksX2_getFor_0 21 rfl rfl)
theorem dX2_getFor_22 : decode cX2_getFor 22 = .ok (.invokestatic 111, 3) := dk_184 0 111 (dk_at dksX2_getFor_1 0 rfl rfl)
theorem dX2_getFor_25 : decode cX2_getFor 25 = .ok (.aload 4, 2) := dk_25 4 (dk_at dksX2_getFor_1 3 rfl rfl)
theorem dX2_getFor_27 : decode cX2_getFor 27 = .ok (.invokevirtual 118, 3) := dk_182 0 118 (dk_at dksX2_getFor_1 5 rfl rfl)
theorem dX2_getFor_30 : decode cX2_getFor 30 = .ok (.ifCond .ne 7, 3) := dk_154 0 7 (dk_at dksX2_getFor_1 8 rfl rfl)
theorem dX2_getFor_33 : decode cX2_getFor 33 = .ok (.iconst 1, 1) := dk_4 (dk_at dksX2_getFor_1 11 rfl rfl)
theorem dX2_getFor_34 : decode cX2_getFor 34 = .ok (.goto 4, 3) := dk_167 0 4 (dk_at dksX2_getFor_1 12 rfl rfl)
theorem dX2_getFor_37 : decode cX2_getFor 37 = .ok (.iconst 0, 1) := dk_3 (dk_at dksX2_getFor_1 15 rfl rfl)
theorem dX2_getFor_38 : decode cX2_getFor 38 = .ok (.iconst 4, 1) := dk_7 (dk_at dksX2_getFor_1 16 rfl rfl)
theorem dX2_getFor_39 : decode cX2_getFor 39 = .ok (.invokestatic 111, 3) := dk_184 0 111 (dk_at dksX2_getFor_1 17 rfl rfl)
theorem dX2_getFor_42 : decode cX2_getFor 42 = .ok (.aload 4, 2) := dk_25 4 (dk_at dksX2_getFor_1 20 rfl rfl)
theorem dX2_getFor_44 : decode cX2_getFor 44 = .ok (.getfield 163, 3) := dk_180 0 163 (dk_at dksX2_getFor_2 0 rfl rfl)
theorem dX2_getFor_47 : decode cX2_getFor 47 = .ok (.iload_n 2, 1) := dk_28 (dk_at dksX2_getFor_2 3 rfl rfl)
theorem dX2_getFor_48 : decode cX2_getFor 48 = .ok (.invokestatic 128, 3) := dk_184 0 128 (dk_at dksX2_getFor_2 4 rfl rfl)
theorem dX2_getFor_51 : decode cX2_getFor 51 = .ok (.iload_n 3, 1) := dk_29 (dk_at dksX2_getFor_2 7 rfl rfl)
theorem dX2_getFor_52 : decode cX2_getFor 52 = .ok (.if_icmp .eq 7, 3) := dk_159 0 7 (dk_at dksX2_getFor_2 8 rfl rfl)
theorem dX2_getFor_55 : decode cX2_getFor 55 = .ok (.iconst 1, 1) := dk_4 (dk_at dksX2_getFor_2 11 rfl rfl)
theorem dX2_getFor_56 : decode cX2_getFor 56 = .ok (.goto 4, 3) := dk_167 0 4 (dk_at dksX2_getFor_2 12 rfl rfl)
theorem dX2_getFor_59 : decode cX2_getFor 59 = .ok (.iconst 0, 1) := dk_3 (dk_at dksX2_getFor_2 15 rfl rfl)
theorem dX2_getFor_60 : decode cX2_getFor 60 = .ok (.bipush 8, 2) := dk_16 8 (dk_at dksX2_getFor_2 16 rfl rfl)
theorem dX2_getFor_62 : decode cX2_getFor 62 = .ok (.invokestatic 111, 3) := dk_184 0 111 (dk_at dksX2_getFor_2 18 rfl rfl)
theorem dX2_getFor_65 : decode cX2_getFor 65 = .ok (.aload 4, 2) := dk_25 4 (dk_at dksX2_getFor_2 21 rfl rfl)
theorem dX2_getFor_67 : decode cX2_getFor 67 = .ok (.areturn, 1) := dk_176 (dk_at dksX2_getFor_2 23 rfl rfl)
abbrev cX2_get : ByteArray := prog_6_method_6_code
def yX2_get : MethodName := ⟨RX2, "get", "(I)LIncidentKeeper$Core$Incident;"⟩
def dkwX2_get_1 : List UInt8 := [182, 0, 49, 192, 0, 53, 176]
abbrev dktX2_get_1 : List UInt8 := dkwX2_get_1 ++ []
def dkwX2_get_0 : List UInt8 := [42, 27, 182, 0, 107, 154, 0, 7, 4, 167, 0, 4, 3, 4, 184, 0, 111, 42, 180, 0, 12, 27]
abbrev dktX2_get_0 : List UInt8 := dkwX2_get_0 ++ dktX2_get_1
theorem dksX2_get_0 : cX2_get.data.toList.drop 0 = dktX2_get_0 := by decide +kernel
theorem dksX2_get_1 : cX2_get.data.toList.drop 22 = dktX2_get_1 := dk_seg dksX2_get_0 22 rfl rfl
theorem dX2_get_0 : decode cX2_get 0 = .ok (.aload_n 0, 1) := dk_42 (dk_at dksX2_get_0 0 rfl rfl)
theorem dX2_get_1 : decode cX2_get 1 = .ok (.iload_n 1, 1) := dk_27 (dk_at dksX2_get_0 1 rfl rfl)
theorem dX2_get_2 : decode cX2_get 2 = .ok (.invokevirtual 107, 3) := dk_182 0 107 (dk_at dksX2_get_0 2 rfl rfl)
theorem dX2_get_5 : decode cX2_get 5 = .ok (.ifCond .ne 7, 3) := dk_154 0 7 (dk_at dksX2_get_0 5 rfl rfl)
theorem dX2_get_8 : decode cX2_get 8 = .ok (.iconst 1, 1) := dk_4 (dk_at dksX2_get_0 8 rfl rfl)
theorem dX2_get_9 : decode cX2_get 9 = .ok (.goto 4, 3) := dk_167 0 4 (dk_at dksX2_get_0 9 rfl rfl)
theorem dX2_get_12 : decode cX2_get 12 = .ok (.iconst 0, 1) := dk_3 (dk_at dksX2_get_0 12 rfl rfl)
theorem dX2_get_13 : decode cX2_get 13 = .ok (.iconst 1, 1) := dk_4 (dk_at dksX2_get_0 13 rfl rfl)
theorem dX2_get_14 : decode cX2_get 14 = .ok (.invokestatic 111, 3) := dk_184 0 111 (dk_at dksX2_get_0 14 rfl rfl)
theorem dX2_get_17 : decode cX2_get 17 = .ok (.aload_n 0, 1) := dk_42 (dk_at dksX2_get_0 17 rfl rfl)
theorem dX2_get_18 : decode cX2_get 18 = .ok (.getfield 12, 3) := dk_180 0 12 (dk_at dksX2_get_0 18 rfl rfl)
theorem dX2_get_21 : decode cX2_get 21 = .ok (.iload_n 1, 1) := dk_27 (dk_at dksX2_get_0 21 rfl rfl)
theorem dX2_get_22 : decode cX2_get 22 = .ok (.invokevirtual 49, 3) := dk_182 0 49 (dk_at dksX2_get_1 0 rfl rfl)
theorem dX2_get_25 : decode cX2_get 25 = .ok (.checkcast 53, 3) := dk_192 0 53 (dk_at dksX2_get_1 3 rfl rfl)
theorem dX2_get_28 : decode cX2_get 28 = .ok (.areturn, 1) := dk_176 (dk_at dksX2_get_1 6 rfl rfl)
abbrev cX2_go : ByteArray := prog_6_method_22_code
def yX2_go : MethodName := ⟨RX2, "go", "(II)I"⟩
def dkwX2_go_0 : List UInt8 := [42, 27, 28, 4, 182, 0, 166, 78, 45, 28, 182, 0, 176, 45, 180, 0, 163, 172]
abbrev dktX2_go_0 : List UInt8 := dkwX2_go_0 ++ []
theorem dksX2_go_0 : cX2_go.data.toList.drop 0 = dktX2_go_0 := by decide +kernel
theorem dX2_go_0 : decode cX2_go 0 = .ok (.aload_n 0, 1) := dk_42 (dk_at dksX2_go_0 0 rfl rfl)
theorem dX2_go_1 : decode cX2_go 1 = .ok (.iload_n 1, 1) := dk_27 (dk_at dksX2_go_0 1 rfl rfl)
theorem dX2_go_2 : decode cX2_go 2 = .ok (.iload_n 2, 1) := dk_28 (dk_at dksX2_go_0 2 rfl rfl)
theorem dX2_go_3 : decode cX2_go 3 = .ok (.iconst 1, 1) := dk_4 (dk_at dksX2_go_0 3 rfl rfl)
theorem dX2_go_4 : decode cX2_go 4 = .ok (.invokevirtual 166, 3) := dk_182 0 166 (dk_at dksX2_go_0 4 rfl rfl)
theorem dX2_go_7 : decode cX2_go 7 = .ok (.astore_n 3, 1) := dk_78 (dk_at dksX2_go_0 7 rfl rfl)
theorem dX2_go_8 : decode cX2_go 8 = .ok (.aload_n 3, 1) := dk_45 (dk_at dksX2_go_0 8 rfl rfl)
theorem dX2_go_9 : decode cX2_go 9 = .ok (.iload_n 2, 1) := dk_28 (dk_at dksX2_go_0 9 rfl rfl)
theorem dX2_go_10 : decode cX2_go 10 = .ok (.invokevirtual 176, 3) := dk_182 0 176 (dk_at dksX2_go_0 10 rfl rfl)
theorem dX2_go_13 : decode cX2_go 13 = .ok (.aload_n 3, 1) := dk_45 (dk_at dksX2_go_0 13 rfl rfl)
theorem dX2_go_14 : decode cX2_go 14 = .ok (.getfield 163, 3) := dk_180 0 163 (dk_at dksX2_go_0 14 rfl rfl)
theorem dX2_go_17 : decode cX2_go 17 = .ok (.ireturn, 1) := dk_172 (dk_at dksX2_go_0 17 rfl rfl)
abbrev cX2_rate : ByteArray := prog_6_method_19_code
def yX2_rate : MethodName := ⟨RX2, "rate", "(II)I"⟩
def dkwX2_rate_2 : List UInt8 := [182, 0, 160, 21, 4, 172]
abbrev dktX2_rate_2 : List UInt8 := dkwX2_rate_2 ++ []
def dkwX2_rate_1 : List UInt8 := [45, 182, 0, 118, 154, 0, 7, 4, 167, 0, 4, 3, 7, 184, 0, 111, 45, 180, 0, 150, 54, 4, 45, 28]
abbrev dktX2_rate_1 : List UInt8 := dkwX2_rate_1 ++ dktX2_rate_2
def dkwX2_rate_0 : List UInt8 := [42, 27, 182, 0, 115, 78, 28, 4, 7, 184, 0, 103, 154, 0, 7, 4, 167, 0, 4, 3, 5, 184, 0, 111]
abbrev dktX2_rate_0 : List UInt8 := dkwX2_rate_0 ++ dktX2_rate_1
theorem dksX2_rate_0 : cX2_rate.data.toList.drop 0 = dktX2_rate_0 := by decide +kernel
theorem dksX2_rate_1 : cX2_rate.data.toList.drop 24 = dktX2_rate_1 := dk_seg dksX2_rate_0 24 rfl rfl
theorem dksX2_rate_2 : cX2_rate.data.toList.drop 48 = dktX2_rate_2 := dk_seg dksX2_rate_1 24 rfl rfl
theorem dX2_rate_0 : decode cX2_rate 0 = .ok (.aload_n 0, 1) := dk_42 (dk_at dksX2_rate_0 0 rfl rfl)
theorem dX2_rate_1 : decode cX2_rate 1 = .ok (.iload_n 1, 1) := dk_27 (dk_at dksX2_rate_0 1 rfl rfl)
theorem dX2_rate_2 : decode cX2_rate 2 = .ok (.invokevirtual 115, 3) := dk_182 0 115 (dk_at dksX2_rate_0 2 rfl rfl)
theorem dX2_rate_5 : decode cX2_rate 5 = .ok (.astore_n 3, 1) := dk_78 (dk_at dksX2_rate_0 5 rfl rfl)
theorem dX2_rate_6 : decode cX2_rate 6 = .ok (.iload_n 2, 1) := dk_28 (dk_at dksX2_rate_0 6 rfl rfl)
theorem dX2_rate_7 : decode cX2_rate 7 = .ok (.iconst 1, 1) := dk_4 (dk_at dksX2_rate_0 7 rfl rfl)
theorem dX2_rate_8 : decode cX2_rate 8 = .ok (.iconst 4, 1) := dk_7 (dk_at dksX2_rate_0 8 rfl rfl)
theorem dX2_rate_9 : decode cX2_rate 9 = .ok (.invokestatic 103, 3) := dk_184 0 103 (dk_at dksX2_rate_0 9 rfl rfl)
theorem dX2_rate_12 : decode cX2_rate 12 = .ok (.ifCond .ne 7, 3) := dk_154 0 7 (dk_at dksX2_rate_0 12 rfl rfl)
theorem dX2_rate_15 : decode cX2_rate 15 = .ok (.iconst 1, 1) := dk_4 (dk_at dksX2_rate_0 15 rfl rfl)
theorem dX2_rate_16 : decode cX2_rate 16 = .ok (.goto 4, 3) := dk_167 0 4 (dk_at dksX2_rate_0 16 rfl rfl)
theorem dX2_rate_19 : decode cX2_rate 19 = .ok (.iconst 0, 1) := dk_3 (dk_at dksX2_rate_0 19 rfl rfl)
theorem dX2_rate_20 : decode cX2_rate 20 = .ok (.iconst 2, 1) := dk_5 (dk_at dksX2_rate_0 20 rfl rfl)
theorem dX2_rate_21 : decode cX2_rate 21 = .ok (.invokestatic 111, 3) := dk_184 0 111 (dk_at dksX2_rate_0 21 rfl rfl)
theorem dX2_rate_24 : decode cX2_rate 24 = .ok (.aload_n 3, 1) := dk_45 (dk_at dksX2_rate_1 0 rfl rfl)
theorem dX2_rate_25 : decode cX2_rate 25 = .ok (.invokevirtual 118, 3) := dk_182 0 118 (dk_at dksX2_rate_1 1 rfl rfl)
theorem dX2_rate_28 : decode cX2_rate 28 = .ok (.ifCond .ne 7, 3) := dk_154 0 7 (dk_at dksX2_rate_1 4 rfl rfl)
theorem dX2_rate_31 : decode cX2_rate 31 = .ok (.iconst 1, 1) := dk_4 (dk_at dksX2_rate_1 7 rfl rfl)
theorem dX2_rate_32 : decode cX2_rate 32 = .ok (.goto 4, 3) := dk_167 0 4 (dk_at dksX2_rate_1 8 rfl rfl)
theorem dX2_rate_35 : decode cX2_rate 35 = .ok (.iconst 0, 1) := dk_3 (dk_at dksX2_rate_1 11 rfl rfl)
theorem dX2_rate_36 : decode cX2_rate 36 = .ok (.iconst 4, 1) := dk_7 (dk_at dksX2_rate_1 12 rfl rfl)
theorem dX2_rate_37 : decode cX2_rate 37 = .ok (.invokestatic 111, 3) := dk_184 0 111 (dk_at dksX2_rate_1 13 rfl rfl)
theorem dX2_rate_40 : decode cX2_rate 40 = .ok (.aload_n 3, 1) := dk_45 (dk_at dksX2_rate_1 16 rfl rfl)
theorem dX2_rate_41 : decode cX2_rate 41 = .ok (.getfield 150, 3) := dk_180 0 150 (dk_at dksX2_rate_1 17 rfl rfl)
theorem dX2_rate_44 : decode cX2_rate 44 = .ok (.istore 4, 2) := dk_54 4 (dk_at dksX2_rate_1 20 rfl rfl)
theorem dX2_rate_46 : decode cX2_rate 46 = .ok (.aload_n 3, 1) := dk_45 (dk_at dksX2_rate_1 22 rfl rfl)
theorem dX2_rate_47 : decode cX2_rate 47 = .ok (.iload_n 2, 1) := dk_28 (dk_at dksX2_rate_1 23 rfl rfl)
theorem dX2_rate_48 : decode cX2_rate 48 = .ok (.invokevirtual 160, 3) := dk_182 0 160 (dk_at dksX2_rate_2 0 rfl rfl)
theorem dX2_rate_51 : decode cX2_rate 51 = .ok (.iload 4, 2) := dk_21 4 (dk_at dksX2_rate_2 3 rfl rfl)
theorem dX2_rate_53 : decode cX2_rate 53 = .ok (.ireturn, 1) := dk_172 (dk_at dksX2_rate_2 5 rfl rfl)
abbrev cX2_resolve : ByteArray := prog_6_method_23_code
def yX2_resolve : MethodName := ⟨RX2, "resolve", "(I)I"⟩
def dkwX2_resolve_3 : List UInt8 := [8, 27, 3, 182, 0, 156, 44, 180, 0, 206, 172]
abbrev dktX2_resolve_3 : List UInt8 := dkwX2_resolve_3 ++ []
def dkwX2_resolve_2 : List UInt8 := [16, 9, 25, 4, 180, 0, 153, 184, 0, 200, 167, 255, 221, 44, 3, 181, 0, 163, 44, 5, 182, 0, 203, 42]
abbrev dktX2_resolve_2 : List UInt8 := dkwX2_resolve_2 ++ dktX2_resolve_3
def dkwX2_resolve_1 : List UInt8 := [185, 0, 191, 1, 0, 153, 0, 32, 45, 185, 0, 196, 1, 0, 192, 0, 53, 58, 4, 25, 4, 182, 0, 118]
abbrev dktX2_resolve_1 : List UInt8 := dkwX2_resolve_1 ++ dktX2_resolve_2
def dkwX2_resolve_0 : List UInt8 := [42, 27, 182, 0, 179, 77, 187, 0, 182, 89, 42, 27, 183, 0, 184, 182, 0, 187, 78, 45]
abbrev dktX2_resolve_0 : List UInt8 := dkwX2_resolve_0 ++ dktX2_resolve_1
theorem dksX2_resolve_0 : cX2_resolve.data.toList.drop 0 = dktX2_resolve_0 := by decide +kernel
theorem dksX2_resolve_1 : cX2_resolve.data.toList.drop 20 = dktX2_resolve_1 := dk_seg dksX2_resolve_0 20 rfl rfl
theorem dksX2_resolve_2 : cX2_resolve.data.toList.drop 44 = dktX2_resolve_2 := dk_seg dksX2_resolve_1 24 rfl rfl
theorem dksX2_resolve_3 : cX2_resolve.data.toList.drop 68 = dktX2_resolve_3 := dk_seg dksX2_resolve_2 24 rfl rfl
theorem dX2_resolve_0 : decode cX2_resolve 0 = .ok (.aload_n 0, 1) := dk_42 (dk_at dksX2_resolve_0 0 rfl rfl)
theorem dX2_resolve_1 : decode cX2_resolve 1 = .ok (.iload_n 1, 1) := dk_27 (dk_at dksX2_resolve_0 1 rfl rfl)
theorem dX2_resolve_2 : decode cX2_resolve 2 = .ok (.invokevirtual 179, 3) := dk_182 0 179 (dk_at dksX2_resolve_0 2 rfl rfl)
theorem dX2_resolve_5 : decode cX2_resolve 5 = .ok (.astore_n 2, 1) := dk_77 (dk_at dksX2_resolve_0 5 rfl rfl)
theorem dX2_resolve_6 : decode cX2_resolve 6 = .ok (.new 182, 3) := dk_187 0 182 (dk_at dksX2_resolve_0 6 rfl rfl)
theorem dX2_resolve_9 : decode cX2_resolve 9 = .ok (.dup, 1) := dk_89 (dk_at dksX2_resolve_0 9 rfl rfl)
theorem dX2_resolve_10 : decode cX2_resolve 10 = .ok (.aload_n 0, 1) := dk_42 (dk_at dksX2_resolve_0 10 rfl rfl)
theorem dX2_resolve_11 : decode cX2_resolve 11 = .ok (.iload_n 1, 1) := dk_27 (dk_at dksX2_resolve_0 11 rfl rfl)
theorem dX2_resolve_12 : decode cX2_resolve 12 = .ok (.invokespecial 184, 3) := dk_183 0 184 (dk_at dksX2_resolve_0 12 rfl rfl)
theorem dX2_resolve_15 : decode cX2_resolve 15 = .ok (.invokevirtual 187, 3) := dk_182 0 187 (dk_at dksX2_resolve_0 15 rfl rfl)
theorem dX2_resolve_18 : decode cX2_resolve 18 = .ok (.astore_n 3, 1) := dk_78 (dk_at dksX2_resolve_0 18 rfl rfl)
theorem dX2_resolve_19 : decode cX2_resolve 19 = .ok (.aload_n 3, 1) := dk_45 (dk_at dksX2_resolve_0 19 rfl rfl)
theorem dX2_resolve_20 : decode cX2_resolve 20 = .ok (.invokeinterface 191 1, 5) := by decide +kernel
theorem dX2_resolve_25 : decode cX2_resolve 25 = .ok (.ifCond .eq 32, 3) := dk_153 0 32 (dk_at dksX2_resolve_1 5 rfl rfl)
theorem dX2_resolve_28 : decode cX2_resolve 28 = .ok (.aload_n 3, 1) := dk_45 (dk_at dksX2_resolve_1 8 rfl rfl)
theorem dX2_resolve_29 : decode cX2_resolve 29 = .ok (.invokeinterface 196 1, 5) := by decide +kernel
theorem dX2_resolve_34 : decode cX2_resolve 34 = .ok (.checkcast 53, 3) := dk_192 0 53 (dk_at dksX2_resolve_1 14 rfl rfl)
theorem dX2_resolve_37 : decode cX2_resolve 37 = .ok (.astore 4, 2) := dk_58 4 (dk_at dksX2_resolve_1 17 rfl rfl)
theorem dX2_resolve_39 : decode cX2_resolve 39 = .ok (.aload 4, 2) := dk_25 4 (dk_at dksX2_resolve_1 19 rfl rfl)
theorem dX2_resolve_41 : decode cX2_resolve 41 = .ok (.invokevirtual 118, 3) := dk_182 0 118 (dk_at dksX2_resolve_1 21 rfl rfl)
theorem dX2_resolve_44 : decode cX2_resolve 44 = .ok (.bipush 9, 2) := dk_16 9 (dk_at dksX2_resolve_2 0 rfl rfl)
theorem dX2_resolve_46 : decode cX2_resolve 46 = .ok (.aload 4, 2) := dk_25 4 (dk_at dksX2_resolve_2 2 rfl rfl)
theorem dX2_resolve_48 : decode cX2_resolve 48 = .ok (.getfield 153, 3) := dk_180 0 153 (dk_at dksX2_resolve_2 4 rfl rfl)
theorem dX2_resolve_51 : decode cX2_resolve 51 = .ok (.invokestatic 200, 3) := dk_184 0 200 (dk_at dksX2_resolve_2 7 rfl rfl)
theorem dX2_resolve_54 : decode cX2_resolve 54 = .ok (.goto (-35), 3) := dk_167 255 221 (dk_at dksX2_resolve_2 10 rfl rfl)
theorem dX2_resolve_57 : decode cX2_resolve 57 = .ok (.aload_n 2, 1) := dk_44 (dk_at dksX2_resolve_2 13 rfl rfl)
theorem dX2_resolve_58 : decode cX2_resolve 58 = .ok (.iconst 0, 1) := dk_3 (dk_at dksX2_resolve_2 14 rfl rfl)
theorem dX2_resolve_59 : decode cX2_resolve 59 = .ok (.putfield 163, 3) := dk_181 0 163 (dk_at dksX2_resolve_2 15 rfl rfl)
theorem dX2_resolve_62 : decode cX2_resolve 62 = .ok (.aload_n 2, 1) := dk_44 (dk_at dksX2_resolve_2 18 rfl rfl)
theorem dX2_resolve_63 : decode cX2_resolve 63 = .ok (.iconst 2, 1) := dk_5 (dk_at dksX2_resolve_2 19 rfl rfl)
theorem dX2_resolve_64 : decode cX2_resolve 64 = .ok (.invokevirtual 203, 3) := dk_182 0 203 (dk_at dksX2_resolve_2 20 rfl rfl)
theorem dX2_resolve_67 : decode cX2_resolve 67 = .ok (.aload_n 0, 1) := dk_42 (dk_at dksX2_resolve_2 23 rfl rfl)
theorem dX2_resolve_68 : decode cX2_resolve 68 = .ok (.iconst 5, 1) := dk_8 (dk_at dksX2_resolve_3 0 rfl rfl)
theorem dX2_resolve_69 : decode cX2_resolve 69 = .ok (.iload_n 1, 1) := dk_27 (dk_at dksX2_resolve_3 1 rfl rfl)
theorem dX2_resolve_70 : decode cX2_resolve 70 = .ok (.iconst 0, 1) := dk_3 (dk_at dksX2_resolve_3 2 rfl rfl)
theorem dX2_resolve_71 : decode cX2_resolve 71 = .ok (.invokevirtual 156, 3) := dk_182 0 156 (dk_at dksX2_resolve_3 3 rfl rfl)
theorem dX2_resolve_74 : decode cX2_resolve 74 = .ok (.aload_n 2, 1) := dk_44 (dk_at dksX2_resolve_3 6 rfl rfl)
theorem dX2_resolve_75 : decode cX2_resolve 75 = .ok (.getfield 206, 3) := dk_180 0 206 (dk_at dksX2_resolve_3 7 rfl rfl)
theorem dX2_resolve_78 : decode cX2_resolve 78 = .ok (.ireturn, 1) := dk_172 (dk_at dksX2_resolve_3 10 rfl rfl)
abbrev cX2_getActive : ByteArray := prog_6_method_7_code
def yX2_getActive : MethodName := ⟨RX2, "getActive", "(I)LIncidentKeeper$Core$Incident;"⟩
def dkwX2_getActive_0 : List UInt8 := [42, 27, 182, 0, 115, 77, 44, 182, 0, 118, 154, 0, 7, 4, 167, 0, 4, 3, 7, 184, 0, 111, 44, 176]
abbrev dktX2_getActive_0 : List UInt8 := dkwX2_getActive_0 ++ []
theorem dksX2_getActive_0 : cX2_getActive.data.toList.drop 0 = dktX2_getActive_0 := by decide +kernel
theorem dX2_getActive_0 : decode cX2_getActive 0 = .ok (.aload_n 0, 1) := dk_42 (dk_at dksX2_getActive_0 0 rfl rfl)
theorem dX2_getActive_1 : decode cX2_getActive 1 = .ok (.iload_n 1, 1) := dk_27 (dk_at dksX2_getActive_0 1 rfl rfl)
theorem dX2_getActive_2 : decode cX2_getActive 2 = .ok (.invokevirtual 115, 3) := dk_182 0 115 (dk_at dksX2_getActive_0 2 rfl rfl)
theorem dX2_getActive_5 : decode cX2_getActive 5 = .ok (.astore_n 2, 1) := dk_77 (dk_at dksX2_getActive_0 5 rfl rfl)
theorem dX2_getActive_6 : decode cX2_getActive 6 = .ok (.aload_n 2, 1) := dk_44 (dk_at dksX2_getActive_0 6 rfl rfl)
theorem dX2_getActive_7 : decode cX2_getActive 7 = .ok (.invokevirtual 118, 3) := dk_182 0 118 (dk_at dksX2_getActive_0 7 rfl rfl)
theorem dX2_getActive_10 : decode cX2_getActive 10 = .ok (.ifCond .ne 7, 3) := dk_154 0 7 (dk_at dksX2_getActive_0 10 rfl rfl)
theorem dX2_getActive_13 : decode cX2_getActive 13 = .ok (.iconst 1, 1) := dk_4 (dk_at dksX2_getActive_0 13 rfl rfl)
theorem dX2_getActive_14 : decode cX2_getActive 14 = .ok (.goto 4, 3) := dk_167 0 4 (dk_at dksX2_getActive_0 14 rfl rfl)
theorem dX2_getActive_17 : decode cX2_getActive 17 = .ok (.iconst 0, 1) := dk_3 (dk_at dksX2_getActive_0 17 rfl rfl)
theorem dX2_getActive_18 : decode cX2_getActive 18 = .ok (.iconst 4, 1) := dk_7 (dk_at dksX2_getActive_0 18 rfl rfl)
theorem dX2_getActive_19 : decode cX2_getActive 19 = .ok (.invokestatic 111, 3) := dk_184 0 111 (dk_at dksX2_getActive_0 19 rfl rfl)
theorem dX2_getActive_22 : decode cX2_getActive 22 = .ok (.aload_n 2, 1) := dk_44 (dk_at dksX2_getActive_0 22 rfl rfl)
theorem dX2_getActive_23 : decode cX2_getActive 23 = .ok (.areturn, 1) := dk_176 (dk_at dksX2_getActive_0 23 rfl rfl)
abbrev cX2_reopen : ByteArray := prog_6_method_25_code
def yX2_reopen : MethodName := ⟨RX2, "reopen", "(I)I"⟩
def dkwX2_reopen_5 : List UInt8 := [167, 255, 212, 28, 184, 0, 221, 172]
abbrev dktX2_reopen_5 : List UInt8 := dkwX2_reopen_5 ++ []
def dkwX2_reopen_4 : List UInt8 := [180, 0, 12, 29, 182, 0, 49, 192, 0, 53, 182, 0, 173, 42, 16, 6, 29, 3, 182, 0, 156, 132, 3, 1]
abbrev dktX2_reopen_4 : List UInt8 := dkwX2_reopen_4 ++ dktX2_reopen_5
def dkwX2_reopen_3 : List UInt8 := [3, 62, 29, 42, 180, 0, 12, 182, 0, 45, 162, 0, 39, 28, 29, 184, 0, 128, 153, 0, 25, 42]
abbrev dktX2_reopen_3 : List UInt8 := dkwX2_reopen_3 ++ dktX2_reopen_4
def dkwX2_reopen_2 : List UInt8 := [180, 0, 218, 2, 159, 0, 7, 4, 167, 0, 4, 3, 16, 11, 29, 184, 0, 200, 132, 3, 1, 167, 255, 205]
abbrev dktX2_reopen_2 : List UInt8 := dkwX2_reopen_2 ++ dktX2_reopen_3
def dkwX2_reopen_1 : List UInt8 := [162, 0, 46, 28, 29, 184, 0, 128, 153, 0, 25, 42, 180, 0, 12, 29, 182, 0, 49, 192, 0, 53]
abbrev dktX2_reopen_1 : List UInt8 := dkwX2_reopen_1 ++ dktX2_reopen_2
def dkwX2_reopen_0 : List UInt8 := [42, 27, 182, 0, 212, 87, 42, 27, 182, 0, 215, 61, 3, 62, 29, 42, 180, 0, 12, 182, 0, 45]
abbrev dktX2_reopen_0 : List UInt8 := dkwX2_reopen_0 ++ dktX2_reopen_1
theorem dksX2_reopen_0 : cX2_reopen.data.toList.drop 0 = dktX2_reopen_0 := by decide +kernel
theorem dksX2_reopen_1 : cX2_reopen.data.toList.drop 22 = dktX2_reopen_1 := dk_seg dksX2_reopen_0 22 rfl rfl
theorem dksX2_reopen_2 : cX2_reopen.data.toList.drop 44 = dktX2_reopen_2 := dk_seg dksX2_reopen_1 22 rfl rfl
theorem dksX2_reopen_3 : cX2_reopen.data.toList.drop 68 = dktX2_reopen_3 := dk_seg dksX2_reopen_2 24 rfl rfl
theorem dksX2_reopen_4 : cX2_reopen.data.toList.drop 90 = dktX2_reopen_4 := dk_seg dksX2_reopen_3 22 rfl rfl
theorem dksX2_reopen_5 : cX2_reopen.data.toList.drop 114 = dktX2_reopen_5 := dk_seg dksX2_reopen_4 24 rfl rfl
theorem dX2_reopen_0 : decode cX2_reopen 0 = .ok (.aload_n 0, 1) := dk_42 (dk_at dksX2_reopen_0 0 rfl rfl)
theorem dX2_reopen_1 : decode cX2_reopen 1 = .ok (.iload_n 1, 1) := dk_27 (dk_at dksX2_reopen_0 1 rfl rfl)
theorem dX2_reopen_2 : decode cX2_reopen 2 = .ok (.invokevirtual 212, 3) := dk_182 0 212 (dk_at dksX2_reopen_0 2 rfl rfl)
theorem dX2_reopen_5 : decode cX2_reopen 5 = .ok (.pop, 1) := dk_87 (dk_at dksX2_reopen_0 5 rfl rfl)
theorem dX2_reopen_6 : decode cX2_reopen 6 = .ok (.aload_n 0, 1) := dk_42 (dk_at dksX2_reopen_0 6 rfl rfl)
theorem dX2_reopen_7 : decode cX2_reopen 7 = .ok (.iload_n 1, 1) := dk_27 (dk_at dksX2_reopen_0 7 rfl rfl)
theorem dX2_reopen_8 : decode cX2_reopen 8 = .ok (.invokevirtual 215, 3) := dk_182 0 215 (dk_at dksX2_reopen_0 8 rfl rfl)
theorem dX2_reopen_11 : decode cX2_reopen 11 = .ok (.istore_n 2, 1) := dk_61 (dk_at dksX2_reopen_0 11 rfl rfl)
theorem dX2_reopen_12 : decode cX2_reopen 12 = .ok (.iconst 0, 1) := dk_3 (dk_at dksX2_reopen_0 12 rfl rfl)
theorem dX2_reopen_13 : decode cX2_reopen 13 = .ok (.istore_n 3, 1) := dk_62 (dk_at dksX2_reopen_0 13 rfl rfl)
theorem dX2_reopen_14 : decode cX2_reopen 14 = .ok (.iload_n 3, 1) := dk_29 (dk_at dksX2_reopen_0 14 rfl rfl)
theorem dX2_reopen_15 : decode cX2_reopen 15 = .ok (.aload_n 0, 1) := dk_42 (dk_at dksX2_reopen_0 15 rfl rfl)
theorem dX2_reopen_16 : decode cX2_reopen 16 = .ok (.getfield 12, 3) := dk_180 0 12 (dk_at dksX2_reopen_0 16 rfl rfl)
theorem dX2_reopen_19 : decode cX2_reopen 19 = .ok (.invokevirtual 45, 3) := dk_182 0 45 (dk_at dksX2_reopen_0 19 rfl rfl)
theorem dX2_reopen_22 : decode cX2_reopen 22 = .ok (.if_icmp .ge 46, 3) := dk_162 0 46 (dk_at dksX2_reopen_1 0 rfl rfl)
theorem dX2_reopen_25 : decode cX2_reopen 25 = .ok (.iload_n 2, 1) := dk_28 (dk_at dksX2_reopen_1 3 rfl rfl)
theorem dX2_reopen_26 : decode cX2_reopen 26 = .ok (.iload_n 3, 1) := dk_29 (dk_at dksX2_reopen_1 4 rfl rfl)
theorem dX2_reopen_27 : decode cX2_reopen 27 = .ok (.invokestatic 128, 3) := dk_184 0 128 (dk_at dksX2_reopen_1 5 rfl rfl)
theorem dX2_reopen_30 : decode cX2_reopen 30 = .ok (.ifCond .eq 25, 3) := dk_153 0 25 (dk_at dksX2_reopen_1 8 rfl rfl)
theorem dX2_reopen_33 : decode cX2_reopen 33 = .ok (.aload_n 0, 1) := dk_42 (dk_at dksX2_reopen_1 11 rfl rfl)
theorem dX2_reopen_34 : decode cX2_reopen 34 = .ok (.getfield 12, 3) := dk_180 0 12 (dk_at dksX2_reopen_1 12 rfl rfl)
theorem dX2_reopen_37 : decode cX2_reopen 37 = .ok (.iload_n 3, 1) := dk_29 (dk_at dksX2_reopen_1 15 rfl rfl)
theorem dX2_reopen_38 : decode cX2_reopen 38 = .ok (.invokevirtual 49, 3) := dk_182 0 49 (dk_at dksX2_reopen_1 16 rfl rfl)
theorem dX2_reopen_41 : decode cX2_reopen 41 = .ok (.checkcast 53, 3) := dk_192 0 53 (dk_at dksX2_reopen_1 19 rfl rfl)
theorem dX2_reopen_44 : decode cX2_reopen 44 = .ok (.getfield 218, 3) := dk_180 0 218 (dk_at dksX2_reopen_2 0 rfl rfl)
theorem dX2_reopen_47 : decode cX2_reopen 47 = .ok (.iconst (-1), 1) := dk_2 (dk_at dksX2_reopen_2 3 rfl rfl)
theorem dX2_reopen_48 : decode cX2_reopen 48 = .ok (.if_icmp .eq 7, 3) := dk_159 0 7 (dk_at dksX2_reopen_2 4 rfl rfl)
theorem dX2_reopen_51 : decode cX2_reopen 51 = .ok (.iconst 1, 1) := dk_4 (dk_at dksX2_reopen_2 7 rfl rfl)
theorem dX2_reopen_52 : decode cX2_reopen 52 = .ok (.goto 4, 3) := dk_167 0 4 (dk_at dksX2_reopen_2 8 rfl rfl)
theorem dX2_reopen_55 : decode cX2_reopen 55 = .ok (.iconst 0, 1) := dk_3 (dk_at dksX2_reopen_2 11 rfl rfl)
theorem dX2_reopen_56 : decode cX2_reopen 56 = .ok (.bipush 11, 2) := dk_16 11 (dk_at dksX2_reopen_2 12 rfl rfl)
theorem dX2_reopen_58 : decode cX2_reopen 58 = .ok (.iload_n 3, 1) := dk_29 (dk_at dksX2_reopen_2 14 rfl rfl)
theorem dX2_reopen_59 : decode cX2_reopen 59 = .ok (.invokestatic 200, 3) := dk_184 0 200 (dk_at dksX2_reopen_2 15 rfl rfl)
theorem dX2_reopen_62 : decode cX2_reopen 62 = .ok (.iinc 3 1, 3) := dk_132 3 1 (dk_at dksX2_reopen_2 18 rfl rfl)
theorem dX2_reopen_65 : decode cX2_reopen 65 = .ok (.goto (-51), 3) := dk_167 255 205 (dk_at dksX2_reopen_2 21 rfl rfl)
theorem dX2_reopen_68 : decode cX2_reopen 68 = .ok (.iconst 0, 1) := dk_3 (dk_at dksX2_reopen_3 0 rfl rfl)
theorem dX2_reopen_69 : decode cX2_reopen 69 = .ok (.istore_n 3, 1) := dk_62 (dk_at dksX2_reopen_3 1 rfl rfl)
theorem dX2_reopen_70 : decode cX2_reopen 70 = .ok (.iload_n 3, 1) := dk_29 (dk_at dksX2_reopen_3 2 rfl rfl)
theorem dX2_reopen_71 : decode cX2_reopen 71 = .ok (.aload_n 0, 1) := dk_42 (dk_at dksX2_reopen_3 3 rfl rfl)
theorem dX2_reopen_72 : decode cX2_reopen 72 = .ok (.getfield 12, 3) := dk_180 0 12 (dk_at dksX2_reopen_3 4 rfl rfl)
theorem dX2_reopen_75 : decode cX2_reopen 75 = .ok (.invokevirtual 45, 3) := dk_182 0 45 (dk_at dksX2_reopen_3 7 rfl rfl)
theorem dX2_reopen_78 : decode cX2_reopen 78 = .ok (.if_icmp .ge 39, 3) := dk_162 0 39 (dk_at dksX2_reopen_3 10 rfl rfl)
theorem dX2_reopen_81 : decode cX2_reopen 81 = .ok (.iload_n 2, 1) := dk_28 (dk_at dksX2_reopen_3 13 rfl rfl)
theorem dX2_reopen_82 : decode cX2_reopen 82 = .ok (.iload_n 3, 1) := dk_29 (dk_at dksX2_reopen_3 14 rfl rfl)
theorem dX2_reopen_83 : decode cX2_reopen 83 = .ok (.invokestatic 128, 3) := dk_184 0 128 (dk_at dksX2_reopen_3 15 rfl rfl)
theorem dX2_reopen_86 : decode cX2_reopen 86 = .ok (.ifCond .eq 25, 3) := dk_153 0 25 (dk_at dksX2_reopen_3 18 rfl rfl)
theorem dX2_reopen_89 : decode cX2_reopen 89 = .ok (.aload_n 0, 1) := dk_42 (dk_at dksX2_reopen_3 21 rfl rfl)
theorem dX2_reopen_90 : decode cX2_reopen 90 = .ok (.getfield 12, 3) := dk_180 0 12 (dk_at dksX2_reopen_4 0 rfl rfl)
theorem dX2_reopen_93 : decode cX2_reopen 93 = .ok (.iload_n 3, 1) := dk_29 (dk_at dksX2_reopen_4 3 rfl rfl)
theorem dX2_reopen_94 : decode cX2_reopen 94 = .ok (.invokevirtual 49, 3) := dk_182 0 49 (dk_at dksX2_reopen_4 4 rfl rfl)
theorem dX2_reopen_97 : decode cX2_reopen 97 = .ok (.checkcast 53, 3) := dk_192 0 53 (dk_at dksX2_reopen_4 7 rfl rfl)
theorem dX2_reopen_100 : decode cX2_reopen 100 = .ok (.invokevirtual 173, 3) := dk_182 0 173 (dk_at dksX2_reopen_4 10 rfl rfl)
theorem dX2_reopen_103 : decode cX2_reopen 103 = .ok (.aload_n 0, 1) := dk_42 (dk_at dksX2_reopen_4 13 rfl rfl)
theorem dX2_reopen_104 : decode cX2_reopen 104 = .ok (.bipush 6, 2) := dk_16 6 (dk_at dksX2_reopen_4 14 rfl rfl)
theorem dX2_reopen_106 : decode cX2_reopen 106 = .ok (.iload_n 3, 1) := dk_29 (dk_at dksX2_reopen_4 16 rfl rfl)
theorem dX2_reopen_107 : decode cX2_reopen 107 = .ok (.iconst 0, 1) := dk_3 (dk_at dksX2_reopen_4 17 rfl rfl)
theorem dX2_reopen_108 : decode cX2_reopen 108 = .ok (.invokevirtual 156, 3) := dk_182 0 156 (dk_at dksX2_reopen_4 18 rfl rfl)
theorem dX2_reopen_111 : decode cX2_reopen 111 = .ok (.iinc 3 1, 3) := dk_132 3 1 (dk_at dksX2_reopen_4 21 rfl rfl)
theorem dX2_reopen_114 : decode cX2_reopen 114 = .ok (.goto (-44), 3) := dk_167 255 212 (dk_at dksX2_reopen_5 0 rfl rfl)
theorem dX2_reopen_117 : decode cX2_reopen 117 = .ok (.iload_n 2, 1) := dk_28 (dk_at dksX2_reopen_5 3 rfl rfl)
theorem dX2_reopen_118 : decode cX2_reopen 118 = .ok (.invokestatic 221, 3) := dk_184 0 221 (dk_at dksX2_reopen_5 4 rfl rfl)
theorem dX2_reopen_121 : decode cX2_reopen 121 = .ok (.ireturn, 1) := dk_172 (dk_at dksX2_reopen_5 7 rfl rfl)
abbrev cX2_getResolved : ByteArray := prog_6_method_8_code
def yX2_getResolved : MethodName := ⟨RX2, "getResolved", "(I)LIncidentKeeper$Core$Incident;"⟩
def dkwX2_getResolved_1 : List UInt8 := [176]
abbrev dktX2_getResolved_1 : List UInt8 := dkwX2_getResolved_1 ++ []
def dkwX2_getResolved_0 : List UInt8 := [42, 27, 182, 0, 115, 77, 44, 180, 0, 122, 5, 159, 0, 7, 4, 167, 0, 4, 3, 7, 184, 0, 111, 44]
abbrev dktX2_getResolved_0 : List UInt8 := dkwX2_getResolved_0 ++ dktX2_getResolved_1
theorem dksX2_getResolved_0 : cX2_getResolved.data.toList.drop 0 = dktX2_getResolved_0 := by decide +kernel
theorem dksX2_getResolved_1 : cX2_getResolved.data.toList.drop 24 = dktX2_getResolved_1 := dk_seg dksX2_getResolved_0 24 rfl rfl
theorem dX2_getResolved_0 : decode cX2_getResolved 0 = .ok (.aload_n 0, 1) := dk_42 (dk_at dksX2_getResolved_0 0 rfl rfl)
theorem dX2_getResolved_1 : decode cX2_getResolved 1 = .ok (.iload_n 1, 1) := dk_27 (dk_at dksX2_getResolved_0 1 rfl rfl)
theorem dX2_getResolved_2 : decode cX2_getResolved 2 = .ok (.invokevirtual 115, 3) := dk_182 0 115 (dk_at dksX2_getResolved_0 2 rfl rfl)
theorem dX2_getResolved_5 : decode cX2_getResolved 5 = .ok (.astore_n 2, 1) := dk_77 (dk_at dksX2_getResolved_0 5 rfl rfl)
theorem dX2_getResolved_6 : decode cX2_getResolved 6 = .ok (.aload_n 2, 1) := dk_44 (dk_at dksX2_getResolved_0 6 rfl rfl)
theorem dX2_getResolved_7 : decode cX2_getResolved 7 = .ok (.getfield 122, 3) := dk_180 0 122 (dk_at dksX2_getResolved_0 7 rfl rfl)
theorem dX2_getResolved_10 : decode cX2_getResolved 10 = .ok (.iconst 2, 1) := dk_5 (dk_at dksX2_getResolved_0 10 rfl rfl)
theorem dX2_getResolved_11 : decode cX2_getResolved 11 = .ok (.if_icmp .eq 7, 3) := dk_159 0 7 (dk_at dksX2_getResolved_0 11 rfl rfl)
theorem dX2_getResolved_14 : decode cX2_getResolved 14 = .ok (.iconst 1, 1) := dk_4 (dk_at dksX2_getResolved_0 14 rfl rfl)
theorem dX2_getResolved_15 : decode cX2_getResolved 15 = .ok (.goto 4, 3) := dk_167 0 4 (dk_at dksX2_getResolved_0 15 rfl rfl)
theorem dX2_getResolved_18 : decode cX2_getResolved 18 = .ok (.iconst 0, 1) := dk_3 (dk_at dksX2_getResolved_0 18 rfl rfl)
theorem dX2_getResolved_19 : decode cX2_getResolved 19 = .ok (.iconst 4, 1) := dk_7 (dk_at dksX2_getResolved_0 19 rfl rfl)
theorem dX2_getResolved_20 : decode cX2_getResolved 20 = .ok (.invokestatic 111, 3) := dk_184 0 111 (dk_at dksX2_getResolved_0 20 rfl rfl)
theorem dX2_getResolved_23 : decode cX2_getResolved 23 = .ok (.aload_n 2, 1) := dk_44 (dk_at dksX2_getResolved_0 23 rfl rfl)
theorem dX2_getResolved_24 : decode cX2_getResolved 24 = .ok (.areturn, 1) := dk_176 (dk_at dksX2_getResolved_1 0 rfl rfl)
abbrev cX2_resolvedAbove : ByteArray := prog_6_method_24_code
def yX2_resolvedAbove : MethodName := ⟨RX2, "resolvedAbove", "(I)I"⟩
def dkwX2_resolvedAbove_2 : List UInt8 := [180, 0, 209, 62, 167, 255, 208, 28, 172]
abbrev dktX2_resolvedAbove_2 : List UInt8 := dkwX2_resolvedAbove_2 ++ []
def dkwX2_resolvedAbove_1 : List UInt8 := [5, 160, 0, 9, 4, 29, 120, 167, 0, 4, 3, 128, 61, 42, 180, 0, 12, 29, 182, 0, 49, 192, 0, 53]
abbrev dktX2_resolvedAbove_1 : List UInt8 := dkwX2_resolvedAbove_1 ++ dktX2_resolvedAbove_2
def dkwX2_resolvedAbove_0 : List UInt8 := [3, 61, 27, 62, 29, 2, 159, 0, 49, 28, 42, 180, 0, 12, 29, 182, 0, 49, 192, 0, 53, 180, 0, 122]
abbrev dktX2_resolvedAbove_0 : List UInt8 := dkwX2_resolvedAbove_0 ++ dktX2_resolvedAbove_1
theorem dksX2_resolvedAbove_0 : cX2_resolvedAbove.data.toList.drop 0 = dktX2_resolvedAbove_0 := by decide +kernel
theorem dksX2_resolvedAbove_1 : cX2_resolvedAbove.data.toList.drop 24 = dktX2_resolvedAbove_1 := dk_seg dksX2_resolvedAbove_0 24 rfl rfl
theorem dksX2_resolvedAbove_2 : cX2_resolvedAbove.data.toList.drop 48 = dktX2_resolvedAbove_2 := dk_seg dksX2_resolvedAbove_1 24 rfl rfl
theorem dX2_resolvedAbove_0 : decode cX2_resolvedAbove 0 = .ok (.iconst 0, 1) := dk_3 (dk_at dksX2_resolvedAbove_0 0 rfl rfl)
theorem dX2_resolvedAbove_1 : decode cX2_resolvedAbove 1 = .ok (.istore_n 2, 1) := dk_61 (dk_at dksX2_resolvedAbove_0 1 rfl rfl)
theorem dX2_resolvedAbove_2 : decode cX2_resolvedAbove 2 = .ok (.iload_n 1, 1) := dk_27 (dk_at dksX2_resolvedAbove_0 2 rfl rfl)
theorem dX2_resolvedAbove_3 : decode cX2_resolvedAbove 3 = .ok (.istore_n 3, 1) := dk_62 (dk_at dksX2_resolvedAbove_0 3 rfl rfl)
theorem dX2_resolvedAbove_4 : decode cX2_resolvedAbove 4 = .ok (.iload_n 3, 1) := dk_29 (dk_at dksX2_resolvedAbove_0 4 rfl rfl)
theorem dX2_resolvedAbove_5 : decode cX2_resolvedAbove 5 = .ok (.iconst (-1), 1) := dk_2 (dk_at dksX2_resolvedAbove_0 5 rfl rfl)
theorem dX2_resolvedAbove_6 : decode cX2_resolvedAbove 6 = .ok (.if_icmp .eq 49, 3) := dk_159 0 49 (dk_at dksX2_resolvedAbove_0 6 rfl rfl)
theorem dX2_resolvedAbove_9 : decode cX2_resolvedAbove 9 = .ok (.iload_n 2, 1) := dk_28 (dk_at dksX2_resolvedAbove_0 9 rfl rfl)
theorem dX2_resolvedAbove_10 : decode cX2_resolvedAbove 10 = .ok (.aload_n 0, 1) := dk_42 (dk_at dksX2_resolvedAbove_0 10 rfl rfl)
theorem dX2_resolvedAbove_11 : decode cX2_resolvedAbove 11 = .ok (.getfield 12, 3) := dk_180 0 12 (dk_at dksX2_resolvedAbove_0 11 rfl rfl)
theorem dX2_resolvedAbove_14 : decode cX2_resolvedAbove 14 = .ok (.iload_n 3, 1) := dk_29 (dk_at dksX2_resolvedAbove_0 14 rfl rfl)
theorem dX2_resolvedAbove_15 : decode cX2_resolvedAbove 15 = .ok (.invokevirtual 49, 3) := dk_182 0 49 (dk_at dksX2_resolvedAbove_0 15 rfl rfl)
theorem dX2_resolvedAbove_18 : decode cX2_resolvedAbove 18 = .ok (.checkcast 53, 3) := dk_192 0 53 (dk_at dksX2_resolvedAbove_0 18 rfl rfl)
theorem dX2_resolvedAbove_21 : decode cX2_resolvedAbove 21 = .ok (.getfield 122, 3) := dk_180 0 122 (dk_at dksX2_resolvedAbove_0 21 rfl rfl)
theorem dX2_resolvedAbove_24 : decode cX2_resolvedAbove 24 = .ok (.iconst 2, 1) := dk_5 (dk_at dksX2_resolvedAbove_1 0 rfl rfl)
theorem dX2_resolvedAbove_25 : decode cX2_resolvedAbove 25 = .ok (.if_icmp .ne 9, 3) := dk_160 0 9 (dk_at dksX2_resolvedAbove_1 1 rfl rfl)
theorem dX2_resolvedAbove_28 : decode cX2_resolvedAbove 28 = .ok (.iconst 1, 1) := dk_4 (dk_at dksX2_resolvedAbove_1 4 rfl rfl)
theorem dX2_resolvedAbove_29 : decode cX2_resolvedAbove 29 = .ok (.iload_n 3, 1) := dk_29 (dk_at dksX2_resolvedAbove_1 5 rfl rfl)
theorem dX2_resolvedAbove_30 : decode cX2_resolvedAbove 30 = .ok (.ishl, 1) := dk_120 (dk_at dksX2_resolvedAbove_1 6 rfl rfl)
theorem dX2_resolvedAbove_31 : decode cX2_resolvedAbove 31 = .ok (.goto 4, 3) := dk_167 0 4 (dk_at dksX2_resolvedAbove_1 7 rfl rfl)
theorem dX2_resolvedAbove_34 : decode cX2_resolvedAbove 34 = .ok (.iconst 0, 1) := dk_3 (dk_at dksX2_resolvedAbove_1 10 rfl rfl)
theorem dX2_resolvedAbove_35 : decode cX2_resolvedAbove 35 = .ok (.ior, 1) := dk_128 (dk_at dksX2_resolvedAbove_1 11 rfl rfl)
theorem dX2_resolvedAbove_36 : decode cX2_resolvedAbove 36 = .ok (.istore_n 2, 1) := dk_61 (dk_at dksX2_resolvedAbove_1 12 rfl rfl)
theorem dX2_resolvedAbove_37 : decode cX2_resolvedAbove 37 = .ok (.aload_n 0, 1) := dk_42 (dk_at dksX2_resolvedAbove_1 13 rfl rfl)
theorem dX2_resolvedAbove_38 : decode cX2_resolvedAbove 38 = .ok (.getfield 12, 3) := dk_180 0 12 (dk_at dksX2_resolvedAbove_1 14 rfl rfl)
theorem dX2_resolvedAbove_41 : decode cX2_resolvedAbove 41 = .ok (.iload_n 3, 1) := dk_29 (dk_at dksX2_resolvedAbove_1 17 rfl rfl)
theorem dX2_resolvedAbove_42 : decode cX2_resolvedAbove 42 = .ok (.invokevirtual 49, 3) := dk_182 0 49 (dk_at dksX2_resolvedAbove_1 18 rfl rfl)
theorem dX2_resolvedAbove_45 : decode cX2_resolvedAbove 45 = .ok (.checkcast 53, 3) := dk_192 0 53 (dk_at dksX2_resolvedAbove_1 21 rfl rfl)
theorem dX2_resolvedAbove_48 : decode cX2_resolvedAbove 48 = .ok (.getfield 209, 3) := dk_180 0 209 (dk_at dksX2_resolvedAbove_2 0 rfl rfl)
theorem dX2_resolvedAbove_51 : decode cX2_resolvedAbove 51 = .ok (.istore_n 3, 1) := dk_62 (dk_at dksX2_resolvedAbove_2 3 rfl rfl)
theorem dX2_resolvedAbove_52 : decode cX2_resolvedAbove 52 = .ok (.goto (-48), 3) := dk_167 255 208 (dk_at dksX2_resolvedAbove_2 4 rfl rfl)
theorem dX2_resolvedAbove_55 : decode cX2_resolvedAbove 55 = .ok (.iload_n 2, 1) := dk_28 (dk_at dksX2_resolvedAbove_2 7 rfl rfl)
theorem dX2_resolvedAbove_56 : decode cX2_resolvedAbove 56 = .ok (.ireturn, 1) := dk_172 (dk_at dksX2_resolvedAbove_2 8 rfl rfl)
abbrev cX2_close : ByteArray := prog_6_method_27_code
def yX2_close : MethodName := ⟨RX2, "close", "(I)I"⟩
def dkwX2_close_6 : List UInt8 := [42, 6, 182, 0, 234, 100, 172]
abbrev dktX2_close_6 : List UInt8 := dkwX2_close_6 ++ []
def dkwX2_close_5 : List UInt8 := [29, 184, 0, 200, 44, 6, 182, 0, 203, 42, 16, 7, 27, 3, 182, 0, 156, 42, 180, 0, 12, 182, 0, 45]
abbrev dktX2_close_5 : List UInt8 := dkwX2_close_5 ++ dktX2_close_6
def dkwX2_close_4 : List UInt8 := [182, 0, 231, 62, 44, 180, 0, 218, 2, 159, 0, 8, 29, 2, 159, 0, 7, 4, 167, 0, 4, 3, 16, 12]
abbrev dktX2_close_4 : List UInt8 := dkwX2_close_4 ++ dktX2_close_5
def dkwX2_close_3 : List UInt8 := [180, 0, 150, 5, 163, 0, 48, 44, 180, 0, 218, 2, 160, 0, 7, 2, 167, 0, 11, 42, 44, 180, 0, 218]
abbrev dktX2_close_3 : List UInt8 := dkwX2_close_3 ++ dktX2_close_4
def dkwX2_close_2 : List UInt8 := [6, 159, 0, 7, 4, 167, 0, 4, 3, 16, 9, 25, 4, 180, 0, 153, 184, 0, 200, 167, 255, 212, 44]
abbrev dktX2_close_2 : List UInt8 := dkwX2_close_2 ++ dktX2_close_3
def dkwX2_close_1 : List UInt8 := [185, 0, 191, 1, 0, 153, 0, 41, 45, 185, 0, 196, 1, 0, 192, 0, 53, 58, 4, 25, 4, 180, 0, 122]
abbrev dktX2_close_1 : List UInt8 := dkwX2_close_1 ++ dktX2_close_2
def dkwX2_close_0 : List UInt8 := [42, 27, 182, 0, 212, 77, 187, 0, 182, 89, 42, 27, 183, 0, 184, 182, 0, 187, 78, 45]
abbrev dktX2_close_0 : List UInt8 := dkwX2_close_0 ++ dktX2_close_1
theorem dksX2_close_0 : cX2_close.data.toList.drop 0 = dktX2_close_0 := by decide +kernel
theorem dksX2_close_1 : cX2_close.data.toList.drop 20 = dktX2_close_1 := dk_seg dksX2_close_0 20 rfl rfl
theorem dksX2_close_2 : cX2_close.data.toList.drop 44 = dktX2_close_2 := dk_seg dksX2_close_1 24 rfl rfl
theorem dksX2_close_3 : cX2_close.data.toList.drop 67 = dktX2_close_3 := dk_seg dksX2_close_2 23 rfl rfl
theorem dksX2_close_4 : cX2_close.data.toList.drop 91 = dktX2_close_4 := dk_seg dksX2_close_3 24 rfl rfl
theorem dksX2_close_5 : cX2_close.data.toList.drop 115 = dktX2_close_5 := dk_seg dksX2_close_4 24 rfl rfl
theorem dksX2_close_6 : cX2_close.data.toList.drop 139 = dktX2_close_6 := dk_seg dksX2_close_5 24 rfl rfl
theorem dX2_close_0 : decode cX2_close 0 = .ok (.aload_n 0, 1) := dk_42 (dk_at dksX2_close_0 0 rfl rfl)
theorem dX2_close_1 : decode cX2_close 1 = .ok (.iload_n 1, 1) := dk_27 (dk_at dksX2_close_0 1 rfl rfl)
theorem dX2_close_2 : decode cX2_close 2 = .ok (.invokevirtual 212, 3) := dk_182 0 212 (dk_at dksX2_close_0 2 rfl rfl)
theorem dX2_close_5 : decode cX2_close 5 = .ok (.astore_n 2, 1) := dk_77 (dk_at dksX2_close_0 5 rfl rfl)
theorem dX2_close_6 : decode cX2_close 6 = .ok (.new 182, 3) := dk_187 0 182 (dk_at dksX2_close_0 6 rfl rfl)
theorem dX2_close_9 : decode cX2_close 9 = .ok (.dup, 1) := dk_89 (dk_at dksX2_close_0 9 rfl rfl)
theorem dX2_close_10 : decode cX2_close 10 = .ok (.aload_n 0, 1) := dk_42 (dk_at dksX2_close_0 10 rfl rfl)
theorem dX2_close_11 : decode cX2_close 11 = .ok (.iload_n 1, 1) := dk_27 (dk_at dksX2_close_0 11 rfl rfl)
theorem dX2_close_12 : decode cX2_close 12 = .ok (.invokespecial 184, 3) := dk_183 0 184 (dk_at dksX2_close_0 12 rfl rfl)
theorem dX2_close_15 : decode cX2_close 15 = .ok (.invokevirtual 187, 3) := dk_182 0 187 (dk_at dksX2_close_0 15 rfl rfl)
theorem dX2_close_18 : decode cX2_close 18 = .ok (.astore_n 3, 1) := dk_78 (dk_at dksX2_close_0 18 rfl rfl)
theorem dX2_close_19 : decode cX2_close 19 = .ok (.aload_n 3, 1) := dk_45 (dk_at dksX2_close_0 19 rfl rfl)
theorem dX2_close_20 : decode cX2_close 20 = .ok (.invokeinterface 191 1, 5) := by decide +kernel
theorem dX2_close_25 : decode cX2_close 25 = .ok (.ifCond .eq 41, 3) := dk_153 0 41 (dk_at dksX2_close_1 5 rfl rfl)
theorem dX2_close_28 : decode cX2_close 28 = .ok (.aload_n 3, 1) := dk_45 (dk_at dksX2_close_1 8 rfl rfl)
theorem dX2_close_29 : decode cX2_close 29 = .ok (.invokeinterface 196 1, 5) := by decide +kernel
theorem dX2_close_34 : decode cX2_close 34 = .ok (.checkcast 53, 3) := dk_192 0 53 (dk_at dksX2_close_1 14 rfl rfl)
theorem dX2_close_37 : decode cX2_close 37 = .ok (.astore 4, 2) := dk_58 4 (dk_at dksX2_close_1 17 rfl rfl)
theorem dX2_close_39 : decode cX2_close 39 = .ok (.aload 4, 2) := dk_25 4 (dk_at dksX2_close_1 19 rfl rfl)
theorem dX2_close_41 : decode cX2_close 41 = .ok (.getfield 122, 3) := dk_180 0 122 (dk_at dksX2_close_1 21 rfl rfl)
theorem dX2_close_44 : decode cX2_close 44 = .ok (.iconst 3, 1) := dk_6 (dk_at dksX2_close_2 0 rfl rfl)
theorem dX2_close_45 : decode cX2_close 45 = .ok (.if_icmp .eq 7, 3) := dk_159 0 7 (dk_at dksX2_close_2 1 rfl rfl)
theorem dX2_close_48 : decode cX2_close 48 = .ok (.iconst 1, 1) := dk_4 (dk_at dksX2_close_2 4 rfl rfl)
theorem dX2_close_49 : decode cX2_close 49 = .ok (.goto 4, 3) := dk_167 0 4 (dk_at dksX2_close_2 5 rfl rfl)
theorem dX2_close_52 : decode cX2_close 52 = .ok (.iconst 0, 1) := dk_3 (dk_at dksX2_close_2 8 rfl rfl)
theorem dX2_close_53 : decode cX2_close 53 = .ok (.bipush 9, 2) := dk_16 9 (dk_at dksX2_close_2 9 rfl rfl)
theorem dX2_close_55 : decode cX2_close 55 = .ok (.aload 4, 2) := dk_25 4 (dk_at dksX2_close_2 11 rfl rfl)
theorem dX2_close_57 : decode cX2_close 57 = .ok (.getfield 153, 3) := dk_180 0 153 (dk_at dksX2_close_2 13 rfl rfl)
theorem dX2_close_60 : decode cX2_close 60 = .ok (.invokestatic 200, 3) := dk_184 0 200 (dk_at dksX2_close_2 16 rfl rfl)
theorem dX2_close_63 : decode cX2_close 63 = .ok (.goto (-44), 3) := dk_167 255 212 (dk_at dksX2_close_2 19 rfl rfl)
theorem dX2_close_66 : decode cX2_close 66 = .ok (.aload_n 2, 1) := dk_44 (dk_at dksX2_close_2 22 rfl rfl)
theorem dX2_close_67 : decode cX2_close 67 = .ok (.getfield 150, 3) := dk_180 0 150 (dk_at dksX2_close_3 0 rfl rfl)
theorem dX2_close_70 : decode cX2_close 70 = .ok (.iconst 2, 1) := dk_5 (dk_at dksX2_close_3 3 rfl rfl)
theorem dX2_close_71 : decode cX2_close 71 = .ok (.if_icmp .gt 48, 3) := dk_163 0 48 (dk_at dksX2_close_3 4 rfl rfl)
theorem dX2_close_74 : decode cX2_close 74 = .ok (.aload_n 2, 1) := dk_44 (dk_at dksX2_close_3 7 rfl rfl)
theorem dX2_close_75 : decode cX2_close 75 = .ok (.getfield 218, 3) := dk_180 0 218 (dk_at dksX2_close_3 8 rfl rfl)
theorem dX2_close_78 : decode cX2_close 78 = .ok (.iconst (-1), 1) := dk_2 (dk_at dksX2_close_3 11 rfl rfl)
theorem dX2_close_79 : decode cX2_close 79 = .ok (.if_icmp .ne 7, 3) := dk_160 0 7 (dk_at dksX2_close_3 12 rfl rfl)
theorem dX2_close_82 : decode cX2_close 82 = .ok (.iconst (-1), 1) := dk_2 (dk_at dksX2_close_3 15 rfl rfl)
theorem dX2_close_83 : decode cX2_close 83 = .ok (.goto 11, 3) := dk_167 0 11 (dk_at dksX2_close_3 16 rfl rfl)
theorem dX2_close_86 : decode cX2_close 86 = .ok (.aload_n 0, 1) := dk_42 (dk_at dksX2_close_3 19 rfl rfl)
theorem dX2_close_87 : decode cX2_close 87 = .ok (.aload_n 2, 1) := dk_44 (dk_at dksX2_close_3 20 rfl rfl)
theorem dX2_close_88 : decode cX2_close 88 = .ok (.getfield 218, 3) := dk_180 0 218 (dk_at dksX2_close_3 21 rfl rfl)
theorem dX2_close_91 : decode cX2_close 91 = .ok (.invokevirtual 231, 3) := dk_182 0 231 (dk_at dksX2_close_4 0 rfl rfl)
theorem dX2_close_94 : decode cX2_close 94 = .ok (.istore_n 3, 1) := dk_62 (dk_at dksX2_close_4 3 rfl rfl)
theorem dX2_close_95 : decode cX2_close 95 = .ok (.aload_n 2, 1) := dk_44 (dk_at dksX2_close_4 4 rfl rfl)
theorem dX2_close_96 : decode cX2_close 96 = .ok (.getfield 218, 3) := dk_180 0 218 (dk_at dksX2_close_4 5 rfl rfl)
theorem dX2_close_99 : decode cX2_close 99 = .ok (.iconst (-1), 1) := dk_2 (dk_at dksX2_close_4 8 rfl rfl)
theorem dX2_close_100 : decode cX2_close 100 = .ok (.if_icmp .eq 8, 3) := dk_159 0 8 (dk_at dksX2_close_4 9 rfl rfl)
theorem dX2_close_103 : decode cX2_close 103 = .ok (.iload_n 3, 1) := dk_29 (dk_at dksX2_close_4 12 rfl rfl)
theorem dX2_close_104 : decode cX2_close 104 = .ok (.iconst (-1), 1) := dk_2 (dk_at dksX2_close_4 13 rfl rfl)
theorem dX2_close_105 : decode cX2_close 105 = .ok (.if_icmp .eq 7, 3) := dk_159 0 7 (dk_at dksX2_close_4 14 rfl rfl)
theorem dX2_close_108 : decode cX2_close 108 = .ok (.iconst 1, 1) := dk_4 (dk_at dksX2_close_4 17 rfl rfl)
theorem dX2_close_109 : decode cX2_close 109 = .ok (.goto 4, 3) := dk_167 0 4 (dk_at dksX2_close_4 18 rfl rfl)
theorem dX2_close_112 : decode cX2_close 112 = .ok (.iconst 0, 1) := dk_3 (dk_at dksX2_close_4 21 rfl rfl)
theorem dX2_close_113 : decode cX2_close 113 = .ok (.bipush 12, 2) := dk_16 12 (dk_at dksX2_close_4 22 rfl rfl)
theorem dX2_close_115 : decode cX2_close 115 = .ok (.iload_n 3, 1) := dk_29 (dk_at dksX2_close_5 0 rfl rfl)
theorem dX2_close_116 : decode cX2_close 116 = .ok (.invokestatic 200, 3) := dk_184 0 200 (dk_at dksX2_close_5 1 rfl rfl)
theorem dX2_close_119 : decode cX2_close 119 = .ok (.aload_n 2, 1) := dk_44 (dk_at dksX2_close_5 4 rfl rfl)
theorem dX2_close_120 : decode cX2_close 120 = .ok (.iconst 3, 1) := dk_6 (dk_at dksX2_close_5 5 rfl rfl)
theorem dX2_close_121 : decode cX2_close 121 = .ok (.invokevirtual 203, 3) := dk_182 0 203 (dk_at dksX2_close_5 6 rfl rfl)
theorem dX2_close_124 : decode cX2_close 124 = .ok (.aload_n 0, 1) := dk_42 (dk_at dksX2_close_5 9 rfl rfl)
theorem dX2_close_125 : decode cX2_close 125 = .ok (.bipush 7, 2) := dk_16 7 (dk_at dksX2_close_5 10 rfl rfl)
theorem dX2_close_127 : decode cX2_close 127 = .ok (.iload_n 1, 1) := dk_27 (dk_at dksX2_close_5 12 rfl rfl)
theorem dX2_close_128 : decode cX2_close 128 = .ok (.iconst 0, 1) := dk_3 (dk_at dksX2_close_5 13 rfl rfl)
theorem dX2_close_129 : decode cX2_close 129 = .ok (.invokevirtual 156, 3) := dk_182 0 156 (dk_at dksX2_close_5 14 rfl rfl)
theorem dX2_close_132 : decode cX2_close 132 = .ok (.aload_n 0, 1) := dk_42 (dk_at dksX2_close_5 17 rfl rfl)
theorem dX2_close_133 : decode cX2_close 133 = .ok (.getfield 12, 3) := dk_180 0 12 (dk_at dksX2_close_5 18 rfl rfl)
theorem dX2_close_136 : decode cX2_close 136 = .ok (.invokevirtual 45, 3) := dk_182 0 45 (dk_at dksX2_close_5 21 rfl rfl)
theorem dX2_close_139 : decode cX2_close 139 = .ok (.aload_n 0, 1) := dk_42 (dk_at dksX2_close_6 0 rfl rfl)
theorem dX2_close_140 : decode cX2_close 140 = .ok (.iconst 3, 1) := dk_6 (dk_at dksX2_close_6 1 rfl rfl)
theorem dX2_close_141 : decode cX2_close 141 = .ok (.invokevirtual 234, 3) := dk_182 0 234 (dk_at dksX2_close_6 2 rfl rfl)
theorem dX2_close_144 : decode cX2_close 144 = .ok (.isub, 1) := dk_100 (dk_at dksX2_close_6 5 rfl rfl)
theorem dX2_close_145 : decode cX2_close 145 = .ok (.ireturn, 1) := dk_172 (dk_at dksX2_close_6 6 rfl rfl)
abbrev cX2_openAction : ByteArray := prog_6_method_26_code
def yX2_openAction : MethodName := ⟨RX2, "openAction", "(I)I"⟩
def dkwX2_openAction_2 : List UInt8 := [28, 172, 132, 2, 1, 167, 255, 205, 2, 172]
abbrev dktX2_openAction_2 : List UInt8 := dkwX2_openAction_2 ++ []
def dkwX2_openAction_1 : List UInt8 := [180, 0, 226, 27, 160, 0, 22, 42, 180, 0, 21, 28, 182, 0, 49, 192, 0, 74, 180, 0, 227, 154, 0, 5]
abbrev dktX2_openAction_1 : List UInt8 := dkwX2_openAction_1 ++ dktX2_openAction_2
def dkwX2_openAction_0 : List UInt8 := [3, 61, 28, 42, 180, 0, 21, 182, 0, 45, 162, 0, 46, 42, 180, 0, 21, 28, 182, 0, 49, 192, 0, 74]
abbrev dktX2_openAction_0 : List UInt8 := dkwX2_openAction_0 ++ dktX2_openAction_1
theorem dksX2_openAction_0 : cX2_openAction.data.toList.drop 0 = dktX2_openAction_0 := by decide +kernel
theorem dksX2_openAction_1 : cX2_openAction.data.toList.drop 24 = dktX2_openAction_1 := dk_seg dksX2_openAction_0 24 rfl rfl
theorem dksX2_openAction_2 : cX2_openAction.data.toList.drop 48 = dktX2_openAction_2 := dk_seg dksX2_openAction_1 24 rfl rfl
theorem dX2_openAction_0 : decode cX2_openAction 0 = .ok (.iconst 0, 1) := dk_3 (dk_at dksX2_openAction_0 0 rfl rfl)
theorem dX2_openAction_1 : decode cX2_openAction 1 = .ok (.istore_n 2, 1) := dk_61 (dk_at dksX2_openAction_0 1 rfl rfl)
theorem dX2_openAction_2 : decode cX2_openAction 2 = .ok (.iload_n 2, 1) := dk_28 (dk_at dksX2_openAction_0 2 rfl rfl)
theorem dX2_openAction_3 : decode cX2_openAction 3 = .ok (.aload_n 0, 1) := dk_42 (dk_at dksX2_openAction_0 3 rfl rfl)
theorem dX2_openAction_4 : decode cX2_openAction 4 = .ok (.getfield 21, 3) := dk_180 0 21 (dk_at dksX2_openAction_0 4 rfl rfl)
theorem dX2_openAction_7 : decode cX2_openAction 7 = .ok (.invokevirtual 45, 3) := dk_182 0 45 (dk_at dksX2_openAction_0 7 rfl rfl)
theorem dX2_openAction_10 : decode cX2_openAction 10 = .ok (.if_icmp .ge 46, 3) := dk_162 0 46 (dk_at dksX2_openAction_0 10 rfl rfl)
theorem dX2_openAction_13 : decode cX2_openAction 13 = .ok (.aload_n 0, 1) := dk_42 (dk_at dksX2_openAction_0 13 rfl rfl)
theorem dX2_openAction_14 : decode cX2_openAction 14 = .ok (.getfield 21, 3) := dk_180 0 21 (dk_at dksX2_openAction_0 14 rfl rfl)
theorem dX2_openAction_17 : decode cX2_openAction 17 = .ok (.iload_n 2, 1) := dk_28 (dk_at dksX2_openAction_0 17 rfl rfl)
theorem dX2_openAction_18 : decode cX2_openAction 18 = .ok (.invokevirtual 49, 3) := dk_182 0 49 (dk_at dksX2_openAction_0 18 rfl rfl)
theorem dX2_openAction_21 : decode cX2_openAction 21 = .ok (.checkcast 74, 3) := dk_192 0 74 (dk_at dksX2_openAction_0 21 rfl rfl)
theorem dX2_openAction_24 : decode cX2_openAction 24 = .ok (.getfield 226, 3) := dk_180 0 226 (dk_at dksX2_openAction_1 0 rfl rfl)
theorem dX2_openAction_27 : decode cX2_openAction 27 = .ok (.iload_n 1, 1) := dk_27 (dk_at dksX2_openAction_1 3 rfl rfl)
theorem dX2_openAction_28 : decode cX2_openAction 28 = .ok (.if_icmp .ne 22, 3) := dk_160 0 22 (dk_at dksX2_openAction_1 4 rfl rfl)
theorem dX2_openAction_31 : decode cX2_openAction 31 = .ok (.aload_n 0, 1) := dk_42 (dk_at dksX2_openAction_1 7 rfl rfl)
theorem dX2_openAction_32 : decode cX2_openAction 32 = .ok (.getfield 21, 3) := dk_180 0 21 (dk_at dksX2_openAction_1 8 rfl rfl)
theorem dX2_openAction_35 : decode cX2_openAction 35 = .ok (.iload_n 2, 1) := dk_28 (dk_at dksX2_openAction_1 11 rfl rfl)
theorem dX2_openAction_36 : decode cX2_openAction 36 = .ok (.invokevirtual 49, 3) := dk_182 0 49 (dk_at dksX2_openAction_1 12 rfl rfl)
theorem dX2_openAction_39 : decode cX2_openAction 39 = .ok (.checkcast 74, 3) := dk_192 0 74 (dk_at dksX2_openAction_1 15 rfl rfl)
theorem dX2_openAction_42 : decode cX2_openAction 42 = .ok (.getfield 227, 3) := dk_180 0 227 (dk_at dksX2_openAction_1 18 rfl rfl)
theorem dX2_openAction_45 : decode cX2_openAction 45 = .ok (.ifCond .ne 5, 3) := dk_154 0 5 (dk_at dksX2_openAction_1 21 rfl rfl)
theorem dX2_openAction_48 : decode cX2_openAction 48 = .ok (.iload_n 2, 1) := dk_28 (dk_at dksX2_openAction_2 0 rfl rfl)
theorem dX2_openAction_49 : decode cX2_openAction 49 = .ok (.ireturn, 1) := dk_172 (dk_at dksX2_openAction_2 1 rfl rfl)
theorem dX2_openAction_50 : decode cX2_openAction 50 = .ok (.iinc 2 1, 3) := dk_132 2 1 (dk_at dksX2_openAction_2 2 rfl rfl)
theorem dX2_openAction_53 : decode cX2_openAction 53 = .ok (.goto (-51), 3) := dk_167 255 205 (dk_at dksX2_openAction_2 5 rfl rfl)
theorem dX2_openAction_56 : decode cX2_openAction 56 = .ok (.iconst (-1), 1) := dk_2 (dk_at dksX2_openAction_2 8 rfl rfl)
theorem dX2_openAction_57 : decode cX2_openAction 57 = .ok (.ireturn, 1) := dk_172 (dk_at dksX2_openAction_2 9 rfl rfl)
abbrev cX2_inState : ByteArray := prog_6_method_28_code
def yX2_inState : MethodName := ⟨RX2, "inState", "(I)I"⟩
def dkwX2_inState_2 : List UInt8 := [172]
abbrev dktX2_inState_2 : List UInt8 := dkwX2_inState_2 ++ []
def dkwX2_inState_1 : List UInt8 := [192, 0, 53, 180, 0, 122, 27, 160, 0, 7, 4, 167, 0, 4, 3, 96, 61, 132, 3, 1, 167, 255, 216, 28]
abbrev dktX2_inState_1 : List UInt8 := dkwX2_inState_1 ++ dktX2_inState_2
def dkwX2_inState_0 : List UInt8 := [3, 61, 3, 62, 29, 42, 180, 0, 12, 182, 0, 45, 162, 0, 35, 28, 42, 180, 0, 12, 29, 182, 0, 49]
abbrev dktX2_inState_0 : List UInt8 := dkwX2_inState_0 ++ dktX2_inState_1
theorem dksX2_inState_0 : cX2_inState.data.toList.drop 0 = dktX2_inState_0 := by decide +kernel
theorem dksX2_inState_1 : cX2_inState.data.toList.drop 24 = dktX2_inState_1 := dk_seg dksX2_inState_0 24 rfl rfl
theorem dksX2_inState_2 : cX2_inState.data.toList.drop 48 = dktX2_inState_2 := dk_seg dksX2_inState_1 24 rfl rfl
theorem dX2_inState_0 : decode cX2_inState 0 = .ok (.iconst 0, 1) := dk_3 (dk_at dksX2_inState_0 0 rfl rfl)
theorem dX2_inState_1 : decode cX2_inState 1 = .ok (.istore_n 2, 1) := dk_61 (dk_at dksX2_inState_0 1 rfl rfl)
theorem dX2_inState_2 : decode cX2_inState 2 = .ok (.iconst 0, 1) := dk_3 (dk_at dksX2_inState_0 2 rfl rfl)
theorem dX2_inState_3 : decode cX2_inState 3 = .ok (.istore_n 3, 1) := dk_62 (dk_at dksX2_inState_0 3 rfl rfl)
theorem dX2_inState_4 : decode cX2_inState 4 = .ok (.iload_n 3, 1) := dk_29 (dk_at dksX2_inState_0 4 rfl rfl)
theorem dX2_inState_5 : decode cX2_inState 5 = .ok (.aload_n 0, 1) := dk_42 (dk_at dksX2_inState_0 5 rfl rfl)
theorem dX2_inState_6 : decode cX2_inState 6 = .ok (.getfield 12, 3) := dk_180 0 12 (dk_at dksX2_inState_0 6 rfl rfl)
theorem dX2_inState_9 : decode cX2_inState 9 = .ok (.invokevirtual 45, 3) := dk_182 0 45 (dk_at dksX2_inState_0 9 rfl rfl)
theorem dX2_inState_12 : decode cX2_inState 12 = .ok (.if_icmp .ge 35, 3) := dk_162 0 35 (dk_at dksX2_inState_0 12 rfl rfl)
theorem dX2_inState_15 : decode cX2_inState 15 = .ok (.iload_n 2, 1) := dk_28 (dk_at dksX2_inState_0 15 rfl rfl)
theorem dX2_inState_16 : decode cX2_inState 16 = .ok (.aload_n 0, 1) := dk_42 (dk_at dksX2_inState_0 16 rfl rfl)
theorem dX2_inState_17 : decode cX2_inState 17 = .ok (.getfield 12, 3) := dk_180 0 12 (dk_at dksX2_inState_0 17 rfl rfl)
theorem dX2_inState_20 : decode cX2_inState 20 = .ok (.iload_n 3, 1) := dk_29 (dk_at dksX2_inState_0 20 rfl rfl)
theorem dX2_inState_21 : decode cX2_inState 21 = .ok (.invokevirtual 49, 3) := dk_182 0 49 (dk_at dksX2_inState_0 21 rfl rfl)
theorem dX2_inState_24 : decode cX2_inState 24 = .ok (.checkcast 53, 3) := dk_192 0 53 (dk_at dksX2_inState_1 0 rfl rfl)
theorem dX2_inState_27 : decode cX2_inState 27 = .ok (.getfield 122, 3) := dk_180 0 122 (dk_at dksX2_inState_1 3 rfl rfl)
theorem dX2_inState_30 : decode cX2_inState 30 = .ok (.iload_n 1, 1) := dk_27 (dk_at dksX2_inState_1 6 rfl rfl)
theorem dX2_inState_31 : decode cX2_inState 31 = .ok (.if_icmp .ne 7, 3) := dk_160 0 7 (dk_at dksX2_inState_1 7 rfl rfl)
theorem dX2_inState_34 : decode cX2_inState 34 = .ok (.iconst 1, 1) := dk_4 (dk_at dksX2_inState_1 10 rfl rfl)
theorem dX2_inState_35 : decode cX2_inState 35 = .ok (.goto 4, 3) := dk_167 0 4 (dk_at dksX2_inState_1 11 rfl rfl)
theorem dX2_inState_38 : decode cX2_inState 38 = .ok (.iconst 0, 1) := dk_3 (dk_at dksX2_inState_1 14 rfl rfl)
theorem dX2_inState_39 : decode cX2_inState 39 = .ok (.iadd, 1) := dk_96 (dk_at dksX2_inState_1 15 rfl rfl)
theorem dX2_inState_40 : decode cX2_inState 40 = .ok (.istore_n 2, 1) := dk_61 (dk_at dksX2_inState_1 16 rfl rfl)
theorem dX2_inState_41 : decode cX2_inState 41 = .ok (.iinc 3 1, 3) := dk_132 3 1 (dk_at dksX2_inState_1 17 rfl rfl)
theorem dX2_inState_44 : decode cX2_inState 44 = .ok (.goto (-40), 3) := dk_167 255 216 (dk_at dksX2_inState_1 20 rfl rfl)
theorem dX2_inState_47 : decode cX2_inState 47 = .ok (.iload_n 2, 1) := dk_28 (dk_at dksX2_inState_1 23 rfl rfl)
theorem dX2_inState_48 : decode cX2_inState 48 = .ok (.ireturn, 1) := dk_172 (dk_at dksX2_inState_2 0 rfl rfl)
abbrev cX2_pass : ByteArray := prog_6_method_38_code
def yX2_pass : MethodName := ⟨RX2, "pass", "(I)I"⟩
def dkwX2_pass_4 : List UInt8 := [96, 181, 1, 9, 132, 4, 1, 167, 255, 197, 132, 3, 1, 167, 255, 173, 28, 172]
abbrev dktX2_pass_4 : List UInt8 := dkwX2_pass_4 ++ []
def dkwX2_pass_3 : List UInt8 := [182, 0, 118, 153, 0, 14, 28, 25, 5, 182, 1, 6, 96, 61, 167, 0, 14, 25, 5, 89, 180, 1, 9, 4]
abbrev dktX2_pass_3 : List UInt8 := dkwX2_pass_3 ++ dktX2_pass_4
def dkwX2_pass_2 : List UInt8 := [182, 0, 45, 162, 0, 53, 42, 180, 0, 12, 21, 4, 182, 0, 49, 192, 0, 53, 58, 5, 25, 5]
abbrev dktX2_pass_2 : List UInt8 := dkwX2_pass_2 ++ dktX2_pass_3
def dkwX2_pass_1 : List UInt8 := [29, 27, 162, 0, 84, 42, 89, 180, 0, 91, 4, 96, 181, 0, 91, 3, 54, 4, 21, 4, 42, 180, 0, 12]
abbrev dktX2_pass_1 : List UInt8 := dkwX2_pass_1 ++ dktX2_pass_2
def dkwX2_pass_0 : List UInt8 := [27, 4, 17, 2, 88, 184, 0, 103, 154, 0, 7, 4, 167, 0, 4, 3, 5, 184, 0, 111, 3, 61, 3, 62]
abbrev dktX2_pass_0 : List UInt8 := dkwX2_pass_0 ++ dktX2_pass_1
theorem dksX2_pass_0 : cX2_pass.data.toList.drop 0 = dktX2_pass_0 := by decide +kernel
theorem dksX2_pass_1 : cX2_pass.data.toList.drop 24 = dktX2_pass_1 := dk_seg dksX2_pass_0 24 rfl rfl
theorem dksX2_pass_2 : cX2_pass.data.toList.drop 48 = dktX2_pass_2 := dk_seg dksX2_pass_1 24 rfl rfl
theorem dksX2_pass_3 : cX2_pass.data.toList.drop 70 = dktX2_pass_3 := dk_seg dksX2_pass_2 22 rfl rfl
theorem dksX2_pass_4 : cX2_pass.data.toList.drop 94 = dktX2_pass_4 := dk_seg dksX2_pass_3 24 rfl rfl
theorem dX2_pass_0 : decode cX2_pass 0 = .ok (.iload_n 1, 1) := dk_27 (dk_at dksX2_pass_0 0 rfl rfl)
theorem dX2_pass_1 : decode cX2_pass 1 = .ok (.iconst 1, 1) := dk_4 (dk_at dksX2_pass_0 1 rfl rfl)
theorem dX2_pass_2 : decode cX2_pass 2 = .ok (.sipush 600, 3) := dk_17 2 88 (dk_at dksX2_pass_0 2 rfl rfl)
theorem dX2_pass_5 : decode cX2_pass 5 = .ok (.invokestatic 103, 3) := dk_184 0 103 (dk_at dksX2_pass_0 5 rfl rfl)
theorem dX2_pass_8 : decode cX2_pass 8 = .ok (.ifCond .ne 7, 3) := dk_154 0 7 (dk_at dksX2_pass_0 8 rfl rfl)
theorem dX2_pass_11 : decode cX2_pass 11 = .ok (.iconst 1, 1) := dk_4 (dk_at dksX2_pass_0 11 rfl rfl)
theorem dX2_pass_12 : decode cX2_pass 12 = .ok (.goto 4, 3) := dk_167 0 4 (dk_at dksX2_pass_0 12 rfl rfl)
theorem dX2_pass_15 : decode cX2_pass 15 = .ok (.iconst 0, 1) := dk_3 (dk_at dksX2_pass_0 15 rfl rfl)
theorem dX2_pass_16 : decode cX2_pass 16 = .ok (.iconst 2, 1) := dk_5 (dk_at dksX2_pass_0 16 rfl rfl)
theorem dX2_pass_17 : decode cX2_pass 17 = .ok (.invokestatic 111, 3) := dk_184 0 111 (dk_at dksX2_pass_0 17 rfl rfl)
theorem dX2_pass_20 : decode cX2_pass 20 = .ok (.iconst 0, 1) := dk_3 (dk_at dksX2_pass_0 20 rfl rfl)
theorem dX2_pass_21 : decode cX2_pass 21 = .ok (.istore_n 2, 1) := dk_61 (dk_at dksX2_pass_0 21 rfl rfl)
theorem dX2_pass_22 : decode cX2_pass 22 = .ok (.iconst 0, 1) := dk_3 (dk_at dksX2_pass_0 22 rfl rfl)
theorem dX2_pass_23 : decode cX2_pass 23 = .ok (.istore_n 3, 1) := dk_62 (dk_at dksX2_pass_0 23 rfl rfl)
theorem dX2_pass_24 : decode cX2_pass 24 = .ok (.iload_n 3, 1) := dk_29 (dk_at dksX2_pass_1 0 rfl rfl)
theorem dX2_pass_25 : decode cX2_pass 25 = .ok (.iload_n 1, 1) := dk_27 (dk_at dksX2_pass_1 1 rfl rfl)
theorem dX2_pass_26 : decode cX2_pass 26 = .ok (.if_icmp .ge 84, 3) := dk_162 0 84 (dk_at dksX2_pass_1 2 rfl rfl)
theorem dX2_pass_29 : decode cX2_pass 29 = .ok (.aload_n 0, 1) := dk_42 (dk_at dksX2_pass_1 5 rfl rfl)
theorem dX2_pass_30 : decode cX2_pass 30 = .ok (.dup, 1) := dk_89 (dk_at dksX2_pass_1 6 rfl rfl)
theorem dX2_pass_31 : decode cX2_pass 31 = .ok (.getfield 91, 3) := dk_180 0 91 (dk_at dksX2_pass_1 7 rfl rfl)
theorem dX2_pass_34 : decode cX2_pass 34 = .ok (.iconst 1, 1) := dk_4 (dk_at dksX2_pass_1 10 rfl rfl)
theorem dX2_pass_35 : decode cX2_pass 35 = .ok (.iadd, 1) := dk_96 (dk_at dksX2_pass_1 11 rfl rfl)
theorem dX2_pass_36 : decode cX2_pass 36 = .ok (.putfield 91, 3) := dk_181 0 91 (dk_at dksX2_pass_1 12 rfl rfl)
theorem dX2_pass_39 : decode cX2_pass 39 = .ok (.iconst 0, 1) := dk_3 (dk_at dksX2_pass_1 15 rfl rfl)
theorem dX2_pass_40 : decode cX2_pass 40 = .ok (.istore 4, 2) := dk_54 4 (dk_at dksX2_pass_1 16 rfl rfl)
theorem dX2_pass_42 : decode cX2_pass 42 = .ok (.iload 4, 2) := dk_21 4 (dk_at dksX2_pass_1 18 rfl rfl)
theorem dX2_pass_44 : decode cX2_pass 44 = .ok (.aload_n 0, 1) := dk_42 (dk_at dksX2_pass_1 20 rfl rfl)
theorem dX2_pass_45 : decode cX2_pass 45 = .ok (.getfield 12, 3) := dk_180 0 12 (dk_at dksX2_pass_1 21 rfl rfl)
theorem dX2_pass_48 : decode cX2_pass 48 = .ok (.invokevirtual 45, 3) := dk_182 0 45 (dk_at dksX2_pass_2 0 rfl rfl)
theorem dX2_pass_51 : decode cX2_pass 51 = .ok (.if_icmp .ge 53, 3) := dk_162 0 53 (dk_at dksX2_pass_2 3 rfl rfl)
theorem dX2_pass_54 : decode cX2_pass 54 = .ok (.aload_n 0, 1) := dk_42 (dk_at dksX2_pass_2 6 rfl rfl)
theorem dX2_pass_55 : decode cX2_pass 55 = .ok (.getfield 12, 3) := dk_180 0 12 (dk_at dksX2_pass_2 7 rfl rfl)
theorem dX2_pass_58 : decode cX2_pass 58 = .ok (.iload 4, 2) := dk_21 4 (dk_at dksX2_pass_2 10 rfl rfl)
theorem dX2_pass_60 : decode cX2_pass 60 = .ok (.invokevirtual 49, 3) := dk_182 0 49 (dk_at dksX2_pass_2 12 rfl rfl)
theorem dX2_pass_63 : decode cX2_pass 63 = .ok (.checkcast 53, 3) := dk_192 0 53 (dk_at dksX2_pass_2 15 rfl rfl)
theorem dX2_pass_66 : decode cX2_pass 66 = .ok (.astore 5, 2) := dk_58 5 (dk_at dksX2_pass_2 18 rfl rfl)
theorem dX2_pass_68 : decode cX2_pass 68 = .ok (.aload 5, 2) := dk_25 5 (dk_at dksX2_pass_2 20 rfl rfl)
theorem dX2_pass_70 : decode cX2_pass 70 = .ok (.invokevirtual 118, 3) := dk_182 0 118 (dk_at dksX2_pass_3 0 rfl rfl)
theorem dX2_pass_73 : decode cX2_pass 73 = .ok (.ifCond .eq 14, 3) := dk_153 0 14 (dk_at dksX2_pass_3 3 rfl rfl)
theorem dX2_pass_76 : decode cX2_pass 76 = .ok (.iload_n 2, 1) := dk_28 (dk_at dksX2_pass_3 6 rfl rfl)
theorem dX2_pass_77 : decode cX2_pass 77 = .ok (.aload 5, 2) := dk_25 5 (dk_at dksX2_pass_3 7 rfl rfl)
theorem dX2_pass_79 : decode cX2_pass 79 = .ok (.invokevirtual 262, 3) := dk_182 1 6 (dk_at dksX2_pass_3 9 rfl rfl)
theorem dX2_pass_82 : decode cX2_pass 82 = .ok (.iadd, 1) := dk_96 (dk_at dksX2_pass_3 12 rfl rfl)
theorem dX2_pass_83 : decode cX2_pass 83 = .ok (.istore_n 2, 1) := dk_61 (dk_at dksX2_pass_3 13 rfl rfl)
theorem dX2_pass_84 : decode cX2_pass 84 = .ok (.goto 14, 3) := dk_167 0 14 (dk_at dksX2_pass_3 14 rfl rfl)
theorem dX2_pass_87 : decode cX2_pass 87 = .ok (.aload 5, 2) := dk_25 5 (dk_at dksX2_pass_3 17 rfl rfl)
theorem dX2_pass_89 : decode cX2_pass 89 = .ok (.dup, 1) := dk_89 (dk_at dksX2_pass_3 19 rfl rfl)
theorem dX2_pass_90 : decode cX2_pass 90 = .ok (.getfield 265, 3) := dk_180 1 9 (dk_at dksX2_pass_3 20 rfl rfl)
theorem dX2_pass_93 : decode cX2_pass 93 = .ok (.iconst 1, 1) := dk_4 (dk_at dksX2_pass_3 23 rfl rfl)
theorem dX2_pass_94 : decode cX2_pass 94 = .ok (.iadd, 1) := dk_96 (dk_at dksX2_pass_4 0 rfl rfl)
theorem dX2_pass_95 : decode cX2_pass 95 = .ok (.putfield 265, 3) := dk_181 1 9 (dk_at dksX2_pass_4 1 rfl rfl)
theorem dX2_pass_98 : decode cX2_pass 98 = .ok (.iinc 4 1, 3) := dk_132 4 1 (dk_at dksX2_pass_4 4 rfl rfl)
theorem dX2_pass_101 : decode cX2_pass 101 = .ok (.goto (-59), 3) := dk_167 255 197 (dk_at dksX2_pass_4 7 rfl rfl)
theorem dX2_pass_104 : decode cX2_pass 104 = .ok (.iinc 3 1, 3) := dk_132 3 1 (dk_at dksX2_pass_4 10 rfl rfl)
theorem dX2_pass_107 : decode cX2_pass 107 = .ok (.goto (-83), 3) := dk_167 255 173 (dk_at dksX2_pass_4 13 rfl rfl)
theorem dX2_pass_110 : decode cX2_pass 110 = .ok (.iload_n 2, 1) := dk_28 (dk_at dksX2_pass_4 16 rfl rfl)
theorem dX2_pass_111 : decode cX2_pass 111 = .ok (.ireturn, 1) := dk_172 (dk_at dksX2_pass_4 17 rfl rfl)
abbrev cX2_setTarget : ByteArray := prog_6_method_15_code
def yX2_setTarget : MethodName := ⟨RX2, "setTarget", "(II)I"⟩
def dkwX2_setTarget_0 : List UInt8 := [42, 180, 0, 31, 27, 4, 100, 28, 4, 17, 3, 231, 184, 0, 146, 172]
abbrev dktX2_setTarget_0 : List UInt8 := dkwX2_setTarget_0 ++ []
theorem dksX2_setTarget_0 : cX2_setTarget.data.toList.drop 0 = dktX2_setTarget_0 := by decide +kernel
theorem dX2_setTarget_0 : decode cX2_setTarget 0 = .ok (.aload_n 0, 1) := dk_42 (dk_at dksX2_setTarget_0 0 rfl rfl)
theorem dX2_setTarget_1 : decode cX2_setTarget 1 = .ok (.getfield 31, 3) := dk_180 0 31 (dk_at dksX2_setTarget_0 1 rfl rfl)
theorem dX2_setTarget_4 : decode cX2_setTarget 4 = .ok (.iload_n 1, 1) := dk_27 (dk_at dksX2_setTarget_0 4 rfl rfl)
theorem dX2_setTarget_5 : decode cX2_setTarget 5 = .ok (.iconst 1, 1) := dk_4 (dk_at dksX2_setTarget_0 5 rfl rfl)
theorem dX2_setTarget_6 : decode cX2_setTarget 6 = .ok (.isub, 1) := dk_100 (dk_at dksX2_setTarget_0 6 rfl rfl)
theorem dX2_setTarget_7 : decode cX2_setTarget 7 = .ok (.iload_n 2, 1) := dk_28 (dk_at dksX2_setTarget_0 7 rfl rfl)
theorem dX2_setTarget_8 : decode cX2_setTarget 8 = .ok (.iconst 1, 1) := dk_4 (dk_at dksX2_setTarget_0 8 rfl rfl)
theorem dX2_setTarget_9 : decode cX2_setTarget 9 = .ok (.sipush 999, 3) := dk_17 3 231 (dk_at dksX2_setTarget_0 9 rfl rfl)
theorem dX2_setTarget_12 : decode cX2_setTarget 12 = .ok (.invokestatic 146, 3) := dk_184 0 146 (dk_at dksX2_setTarget_0 12 rfl rfl)
theorem dX2_setTarget_15 : decode cX2_setTarget 15 = .ok (.ireturn, 1) := dk_172 (dk_at dksX2_setTarget_0 15 rfl rfl)
abbrev cX2_put : ByteArray := prog_6_method_14_code
def yX2_put : MethodName := ⟨RX2, "put", "([IIIII)I"⟩
def dkwX2_put_1 : List UInt8 := [167, 0, 4, 3, 5, 184, 0, 111, 42, 27, 46, 54, 5, 42, 27, 28, 79, 21, 5, 172]
abbrev dktX2_put_1 : List UInt8 := dkwX2_put_1 ++ []
def dkwX2_put_0 : List UInt8 := [27, 3, 42, 190, 4, 100, 184, 0, 103, 153, 0, 13, 28, 29, 21, 4, 184, 0, 103, 154, 0, 7, 4]
abbrev dktX2_put_0 : List UInt8 := dkwX2_put_0 ++ dktX2_put_1
theorem dksX2_put_0 : cX2_put.data.toList.drop 0 = dktX2_put_0 := by decide +kernel
theorem dksX2_put_1 : cX2_put.data.toList.drop 23 = dktX2_put_1 := dk_seg dksX2_put_0 23 rfl rfl
theorem dX2_put_0 : decode cX2_put 0 = .ok (.iload_n 1, 1) := dk_27 (dk_at dksX2_put_0 0 rfl rfl)
theorem dX2_put_1 : decode cX2_put 1 = .ok (.iconst 0, 1) := dk_3 (dk_at dksX2_put_0 1 rfl rfl)
theorem dX2_put_2 : decode cX2_put 2 = .ok (.aload_n 0, 1) := dk_42 (dk_at dksX2_put_0 2 rfl rfl)
theorem dX2_put_3 : decode cX2_put 3 = .ok (.arraylength, 1) := dk_190 (dk_at dksX2_put_0 3 rfl rfl)
theorem dX2_put_4 : decode cX2_put 4 = .ok (.iconst 1, 1) := dk_4 (dk_at dksX2_put_0 4 rfl rfl)
theorem dX2_put_5 : decode cX2_put 5 = .ok (.isub, 1) := dk_100 (dk_at dksX2_put_0 5 rfl rfl)
theorem dX2_put_6 : decode cX2_put 6 = .ok (.invokestatic 103, 3) := dk_184 0 103 (dk_at dksX2_put_0 6 rfl rfl)
theorem dX2_put_9 : decode cX2_put 9 = .ok (.ifCond .eq 13, 3) := dk_153 0 13 (dk_at dksX2_put_0 9 rfl rfl)
theorem dX2_put_12 : decode cX2_put 12 = .ok (.iload_n 2, 1) := dk_28 (dk_at dksX2_put_0 12 rfl rfl)
theorem dX2_put_13 : decode cX2_put 13 = .ok (.iload_n 3, 1) := dk_29 (dk_at dksX2_put_0 13 rfl rfl)
theorem dX2_put_14 : decode cX2_put 14 = .ok (.iload 4, 2) := dk_21 4 (dk_at dksX2_put_0 14 rfl rfl)
theorem dX2_put_16 : decode cX2_put 16 = .ok (.invokestatic 103, 3) := dk_184 0 103 (dk_at dksX2_put_0 16 rfl rfl)
theorem dX2_put_19 : decode cX2_put 19 = .ok (.ifCond .ne 7, 3) := dk_154 0 7 (dk_at dksX2_put_0 19 rfl rfl)
theorem dX2_put_22 : decode cX2_put 22 = .ok (.iconst 1, 1) := dk_4 (dk_at dksX2_put_0 22 rfl rfl)
theorem dX2_put_23 : decode cX2_put 23 = .ok (.goto 4, 3) := dk_167 0 4 (dk_at dksX2_put_1 0 rfl rfl)
theorem dX2_put_26 : decode cX2_put 26 = .ok (.iconst 0, 1) := dk_3 (dk_at dksX2_put_1 3 rfl rfl)
theorem dX2_put_27 : decode cX2_put 27 = .ok (.iconst 2, 1) := dk_5 (dk_at dksX2_put_1 4 rfl rfl)
theorem dX2_put_28 : decode cX2_put 28 = .ok (.invokestatic 111, 3) := dk_184 0 111 (dk_at dksX2_put_1 5 rfl rfl)
theorem dX2_put_31 : decode cX2_put 31 = .ok (.aload_n 0, 1) := dk_42 (dk_at dksX2_put_1 8 rfl rfl)
theorem dX2_put_32 : decode cX2_put 32 = .ok (.iload_n 1, 1) := dk_27 (dk_at dksX2_put_1 9 rfl rfl)
theorem dX2_put_33 : decode cX2_put 33 = .ok (.iaload, 1) := dk_46 (dk_at dksX2_put_1 10 rfl rfl)
theorem dX2_put_34 : decode cX2_put 34 = .ok (.istore 5, 2) := dk_54 5 (dk_at dksX2_put_1 11 rfl rfl)
theorem dX2_put_36 : decode cX2_put 36 = .ok (.aload_n 0, 1) := dk_42 (dk_at dksX2_put_1 13 rfl rfl)
theorem dX2_put_37 : decode cX2_put 37 = .ok (.iload_n 1, 1) := dk_27 (dk_at dksX2_put_1 14 rfl rfl)
theorem dX2_put_38 : decode cX2_put 38 = .ok (.iload_n 2, 1) := dk_28 (dk_at dksX2_put_1 15 rfl rfl)
theorem dX2_put_39 : decode cX2_put 39 = .ok (.iastore, 1) := dk_79 (dk_at dksX2_put_1 16 rfl rfl)
theorem dX2_put_40 : decode cX2_put 40 = .ok (.iload 5, 2) := dk_21 5 (dk_at dksX2_put_1 17 rfl rfl)
theorem dX2_put_42 : decode cX2_put 42 = .ok (.ireturn, 1) := dk_172 (dk_at dksX2_put_1 19 rfl rfl)
abbrev cX2_setLimit : ByteArray := prog_6_method_16_code
def yX2_setLimit : MethodName := ⟨RX2, "setLimit", "(II)I"⟩
def dkwX2_setLimit_0 : List UInt8 := [42, 180, 0, 34, 27, 28, 3, 16, 99, 184, 0, 146, 172]
abbrev dktX2_setLimit_0 : List UInt8 := dkwX2_setLimit_0 ++ []
theorem dksX2_setLimit_0 : cX2_setLimit.data.toList.drop 0 = dktX2_setLimit_0 := by decide +kernel
theorem dX2_setLimit_0 : decode cX2_setLimit 0 = .ok (.aload_n 0, 1) := dk_42 (dk_at dksX2_setLimit_0 0 rfl rfl)
theorem dX2_setLimit_1 : decode cX2_setLimit 1 = .ok (.getfield 34, 3) := dk_180 0 34 (dk_at dksX2_setLimit_0 1 rfl rfl)
theorem dX2_setLimit_4 : decode cX2_setLimit 4 = .ok (.iload_n 1, 1) := dk_27 (dk_at dksX2_setLimit_0 4 rfl rfl)
theorem dX2_setLimit_5 : decode cX2_setLimit 5 = .ok (.iload_n 2, 1) := dk_28 (dk_at dksX2_setLimit_0 5 rfl rfl)
theorem dX2_setLimit_6 : decode cX2_setLimit 6 = .ok (.iconst 0, 1) := dk_3 (dk_at dksX2_setLimit_0 6 rfl rfl)
theorem dX2_setLimit_7 : decode cX2_setLimit 7 = .ok (.bipush 99, 2) := dk_16 99 (dk_at dksX2_setLimit_0 7 rfl rfl)
theorem dX2_setLimit_9 : decode cX2_setLimit 9 = .ok (.invokestatic 146, 3) := dk_184 0 146 (dk_at dksX2_setLimit_0 9 rfl rfl)
theorem dX2_setLimit_12 : decode cX2_setLimit 12 = .ok (.ireturn, 1) := dk_172 (dk_at dksX2_setLimit_0 12 rfl rfl)
abbrev cX2_setWindow : ByteArray := prog_6_method_17_code
def yX2_setWindow : MethodName := ⟨RX2, "setWindow", "(I)I"⟩
def dkwX2_setWindow_1 : List UInt8 := [61, 42, 27, 181, 0, 41, 28, 172]
abbrev dktX2_setWindow_1 : List UInt8 := dkwX2_setWindow_1 ++ []
def dkwX2_setWindow_0 : List UInt8 := [27, 3, 17, 3, 231, 184, 0, 103, 154, 0, 7, 4, 167, 0, 4, 3, 5, 184, 0, 111, 42, 180, 0, 41]
abbrev dktX2_setWindow_0 : List UInt8 := dkwX2_setWindow_0 ++ dktX2_setWindow_1
theorem dksX2_setWindow_0 : cX2_setWindow.data.toList.drop 0 = dktX2_setWindow_0 := by decide +kernel
theorem dksX2_setWindow_1 : cX2_setWindow.data.toList.drop 24 = dktX2_setWindow_1 := dk_seg dksX2_setWindow_0 24 rfl rfl
theorem dX2_setWindow_0 : decode cX2_setWindow 0 = .ok (.iload_n 1, 1) := dk_27 (dk_at dksX2_setWindow_0 0 rfl rfl)
theorem dX2_setWindow_1 : decode cX2_setWindow 1 = .ok (.iconst 0, 1) := dk_3 (dk_at dksX2_setWindow_0 1 rfl rfl)
theorem dX2_setWindow_2 : decode cX2_setWindow 2 = .ok (.sipush 999, 3) := dk_17 3 231 (dk_at dksX2_setWindow_0 2 rfl rfl)
theorem dX2_setWindow_5 : decode cX2_setWindow 5 = .ok (.invokestatic 103, 3) := dk_184 0 103 (dk_at dksX2_setWindow_0 5 rfl rfl)
theorem dX2_setWindow_8 : decode cX2_setWindow 8 = .ok (.ifCond .ne 7, 3) := dk_154 0 7 (dk_at dksX2_setWindow_0 8 rfl rfl)
theorem dX2_setWindow_11 : decode cX2_setWindow 11 = .ok (.iconst 1, 1) := dk_4 (dk_at dksX2_setWindow_0 11 rfl rfl)
theorem dX2_setWindow_12 : decode cX2_setWindow 12 = .ok (.goto 4, 3) := dk_167 0 4 (dk_at dksX2_setWindow_0 12 rfl rfl)
theorem dX2_setWindow_15 : decode cX2_setWindow 15 = .ok (.iconst 0, 1) := dk_3 (dk_at dksX2_setWindow_0 15 rfl rfl)
theorem dX2_setWindow_16 : decode cX2_setWindow 16 = .ok (.iconst 2, 1) := dk_5 (dk_at dksX2_setWindow_0 16 rfl rfl)
theorem dX2_setWindow_17 : decode cX2_setWindow 17 = .ok (.invokestatic 111, 3) := dk_184 0 111 (dk_at dksX2_setWindow_0 17 rfl rfl)
theorem dX2_setWindow_20 : decode cX2_setWindow 20 = .ok (.aload_n 0, 1) := dk_42 (dk_at dksX2_setWindow_0 20 rfl rfl)
theorem dX2_setWindow_21 : decode cX2_setWindow 21 = .ok (.getfield 41, 3) := dk_180 0 41 (dk_at dksX2_setWindow_0 21 rfl rfl)
theorem dX2_setWindow_24 : decode cX2_setWindow 24 = .ok (.istore_n 2, 1) := dk_61 (dk_at dksX2_setWindow_1 0 rfl rfl)
theorem dX2_setWindow_25 : decode cX2_setWindow 25 = .ok (.aload_n 0, 1) := dk_42 (dk_at dksX2_setWindow_1 1 rfl rfl)
theorem dX2_setWindow_26 : decode cX2_setWindow 26 = .ok (.iload_n 1, 1) := dk_27 (dk_at dksX2_setWindow_1 2 rfl rfl)
theorem dX2_setWindow_27 : decode cX2_setWindow 27 = .ok (.putfield 41, 3) := dk_181 0 41 (dk_at dksX2_setWindow_1 3 rfl rfl)
theorem dX2_setWindow_30 : decode cX2_setWindow 30 = .ok (.iload_n 2, 1) := dk_28 (dk_at dksX2_setWindow_1 6 rfl rfl)
theorem dX2_setWindow_31 : decode cX2_setWindow 31 = .ok (.ireturn, 1) := dk_172 (dk_at dksX2_setWindow_1 7 rfl rfl)
abbrev cX2_setParent : ByteArray := prog_6_method_29_code
def yX2_setParent : MethodName := ⟨RX2, "setParent", "(II)I"⟩
def dkwX2_setParent_3 : List UInt8 := [28, 181, 0, 209, 42, 28, 182, 0, 237, 184, 0, 221, 172]
abbrev dktX2_setParent_3 : List UInt8 := dkwX2_setParent_3 ++ []
def dkwX2_setParent_2 : List UInt8 := [28, 182, 0, 179, 87, 45, 180, 0, 209, 2, 159, 0, 7, 4, 167, 0, 4, 3, 16, 13, 184, 0, 111, 45]
abbrev dktX2_setParent_2 : List UInt8 := dkwX2_setParent_2 ++ dktX2_setParent_3
def dkwX2_setParent_1 : List UInt8 := [184, 0, 111, 28, 27, 161, 0, 7, 4, 167, 0, 4, 3, 5, 184, 0, 111, 42, 27, 182, 0, 179, 78, 42]
abbrev dktX2_setParent_1 : List UInt8 := dkwX2_setParent_1 ++ dktX2_setParent_2
def dkwX2_setParent_0 : List UInt8 := [42, 27, 182, 0, 107, 153, 0, 11, 42, 28, 182, 0, 107, 154, 0, 7, 4, 167, 0, 4, 3, 4]
abbrev dktX2_setParent_0 : List UInt8 := dkwX2_setParent_0 ++ dktX2_setParent_1
theorem dksX2_setParent_0 : cX2_setParent.data.toList.drop 0 = dktX2_setParent_0 := by decide +kernel
theorem dksX2_setParent_1 : cX2_setParent.data.toList.drop 22 = dktX2_setParent_1 := dk_seg dksX2_setParent_0 22 rfl rfl
theorem dksX2_setParent_2 : cX2_setParent.data.toList.drop 46 = dktX2_setParent_2 := dk_seg dksX2_setParent_1 24 rfl rfl
theorem dksX2_setParent_3 : cX2_setParent.data.toList.drop 70 = dktX2_setParent_3 := dk_seg dksX2_setParent_2 24 rfl rfl
theorem dX2_setParent_0 : decode cX2_setParent 0 = .ok (.aload_n 0, 1) := dk_42 (dk_at dksX2_setParent_0 0 rfl rfl)
theorem dX2_setParent_1 : decode cX2_setParent 1 = .ok (.iload_n 1, 1) := dk_27 (dk_at dksX2_setParent_0 1 rfl rfl)
theorem dX2_setParent_2 : decode cX2_setParent 2 = .ok (.invokevirtual 107, 3) := dk_182 0 107 (dk_at dksX2_setParent_0 2 rfl rfl)
theorem dX2_setParent_5 : decode cX2_setParent 5 = .ok (.ifCond .eq 11, 3) := dk_153 0 11 (dk_at dksX2_setParent_0 5 rfl rfl)
theorem dX2_setParent_8 : decode cX2_setParent 8 = .ok (.aload_n 0, 1) := dk_42 (dk_at dksX2_setParent_0 8 rfl rfl)
theorem dX2_setParent_9 : decode cX2_setParent 9 = .ok (.iload_n 2, 1) := dk_28 (dk_at dksX2_setParent_0 9 rfl rfl)
theorem dX2_setParent_10 : decode cX2_setParent 10 = .ok (.invokevirtual 107, 3) := dk_182 0 107 (dk_at dksX2_setParent_0 10 rfl rfl)
theorem dX2_setParent_13 : decode cX2_setParent 13 = .ok (.ifCond .ne 7, 3) := dk_154 0 7 (dk_at dksX2_setParent_0 13 rfl rfl)
theorem dX2_setParent_16 : decode cX2_setParent 16 = .ok (.iconst 1, 1) := dk_4 (dk_at dksX2_setParent_0 16 rfl rfl)
theorem dX2_setParent_17 : decode cX2_setParent 17 = .ok (.goto 4, 3) := dk_167 0 4 (dk_at dksX2_setParent_0 17 rfl rfl)
theorem dX2_setParent_20 : decode cX2_setParent 20 = .ok (.iconst 0, 1) := dk_3 (dk_at dksX2_setParent_0 20 rfl rfl)
theorem dX2_setParent_21 : decode cX2_setParent 21 = .ok (.iconst 1, 1) := dk_4 (dk_at dksX2_setParent_0 21 rfl rfl)
theorem dX2_setParent_22 : decode cX2_setParent 22 = .ok (.invokestatic 111, 3) := dk_184 0 111 (dk_at dksX2_setParent_1 0 rfl rfl)
theorem dX2_setParent_25 : decode cX2_setParent 25 = .ok (.iload_n 2, 1) := dk_28 (dk_at dksX2_setParent_1 3 rfl rfl)
theorem dX2_setParent_26 : decode cX2_setParent 26 = .ok (.iload_n 1, 1) := dk_27 (dk_at dksX2_setParent_1 4 rfl rfl)
theorem dX2_setParent_27 : decode cX2_setParent 27 = .ok (.if_icmp .lt 7, 3) := dk_161 0 7 (dk_at dksX2_setParent_1 5 rfl rfl)
theorem dX2_setParent_30 : decode cX2_setParent 30 = .ok (.iconst 1, 1) := dk_4 (dk_at dksX2_setParent_1 8 rfl rfl)
theorem dX2_setParent_31 : decode cX2_setParent 31 = .ok (.goto 4, 3) := dk_167 0 4 (dk_at dksX2_setParent_1 9 rfl rfl)
theorem dX2_setParent_34 : decode cX2_setParent 34 = .ok (.iconst 0, 1) := dk_3 (dk_at dksX2_setParent_1 12 rfl rfl)
theorem dX2_setParent_35 : decode cX2_setParent 35 = .ok (.iconst 2, 1) := dk_5 (dk_at dksX2_setParent_1 13 rfl rfl)
theorem dX2_setParent_36 : decode cX2_setParent 36 = .ok (.invokestatic 111, 3) := dk_184 0 111 (dk_at dksX2_setParent_1 14 rfl rfl)
theorem dX2_setParent_39 : decode cX2_setParent 39 = .ok (.aload_n 0, 1) := dk_42 (dk_at dksX2_setParent_1 17 rfl rfl)
theorem dX2_setParent_40 : decode cX2_setParent 40 = .ok (.iload_n 1, 1) := dk_27 (dk_at dksX2_setParent_1 18 rfl rfl)
theorem dX2_setParent_41 : decode cX2_setParent 41 = .ok (.invokevirtual 179, 3) := dk_182 0 179 (dk_at dksX2_setParent_1 19 rfl rfl)
theorem dX2_setParent_44 : decode cX2_setParent 44 = .ok (.astore_n 3, 1) := dk_78 (dk_at dksX2_setParent_1 22 rfl rfl)
theorem dX2_setParent_45 : decode cX2_setParent 45 = .ok (.aload_n 0, 1) := dk_42 (dk_at dksX2_setParent_1 23 rfl rfl)
theorem dX2_setParent_46 : decode cX2_setParent 46 = .ok (.iload_n 2, 1) := dk_28 (dk_at dksX2_setParent_2 0 rfl rfl)
theorem dX2_setParent_47 : decode cX2_setParent 47 = .ok (.invokevirtual 179, 3) := dk_182 0 179 (dk_at dksX2_setParent_2 1 rfl rfl)
theorem dX2_setParent_50 : decode cX2_setParent 50 = .ok (.pop, 1) := dk_87 (dk_at dksX2_setParent_2 4 rfl rfl)
theorem dX2_setParent_51 : decode cX2_setParent 51 = .ok (.aload_n 3, 1) := dk_45 (dk_at dksX2_setParent_2 5 rfl rfl)
theorem dX2_setParent_52 : decode cX2_setParent 52 = .ok (.getfield 209, 3) := dk_180 0 209 (dk_at dksX2_setParent_2 6 rfl rfl)
theorem dX2_setParent_55 : decode cX2_setParent 55 = .ok (.iconst (-1), 1) := dk_2 (dk_at dksX2_setParent_2 9 rfl rfl)
theorem dX2_setParent_56 : decode cX2_setParent 56 = .ok (.if_icmp .eq 7, 3) := dk_159 0 7 (dk_at dksX2_setParent_2 10 rfl rfl)
theorem dX2_setParent_59 : decode cX2_setParent 59 = .ok (.iconst 1, 1) := dk_4 (dk_at dksX2_setParent_2 13 rfl rfl)
theorem dX2_setParent_60 : decode cX2_setParent 60 = .ok (.goto 4, 3) := dk_167 0 4 (dk_at dksX2_setParent_2 14 rfl rfl)
theorem dX2_setParent_63 : decode cX2_setParent 63 = .ok (.iconst 0, 1) := dk_3 (dk_at dksX2_setParent_2 17 rfl rfl)
theorem dX2_setParent_64 : decode cX2_setParent 64 = .ok (.bipush 13, 2) := dk_16 13 (dk_at dksX2_setParent_2 18 rfl rfl)
theorem dX2_setParent_66 : decode cX2_setParent 66 = .ok (.invokestatic 111, 3) := dk_184 0 111 (dk_at dksX2_setParent_2 20 rfl rfl)
theorem dX2_setParent_69 : decode cX2_setParent 69 = .ok (.aload_n 3, 1) := dk_45 (dk_at dksX2_setParent_2 23 rfl rfl)
theorem dX2_setParent_70 : decode cX2_setParent 70 = .ok (.iload_n 2, 1) := dk_28 (dk_at dksX2_setParent_3 0 rfl rfl)
theorem dX2_setParent_71 : decode cX2_setParent 71 = .ok (.putfield 209, 3) := dk_181 0 209 (dk_at dksX2_setParent_3 1 rfl rfl)
theorem dX2_setParent_74 : decode cX2_setParent 74 = .ok (.aload_n 0, 1) := dk_42 (dk_at dksX2_setParent_3 4 rfl rfl)
theorem dX2_setParent_75 : decode cX2_setParent 75 = .ok (.iload_n 2, 1) := dk_28 (dk_at dksX2_setParent_3 5 rfl rfl)
theorem dX2_setParent_76 : decode cX2_setParent 76 = .ok (.invokevirtual 237, 3) := dk_182 0 237 (dk_at dksX2_setParent_3 6 rfl rfl)
theorem dX2_setParent_79 : decode cX2_setParent 79 = .ok (.invokestatic 221, 3) := dk_184 0 221 (dk_at dksX2_setParent_3 9 rfl rfl)
theorem dX2_setParent_82 : decode cX2_setParent 82 = .ok (.ireturn, 1) := dk_172 (dk_at dksX2_setParent_3 12 rfl rfl)
abbrev cX2_tree : ByteArray := prog_6_method_30_code
def yX2_tree : MethodName := ⟨RX2, "tree", "(I)I"⟩
def dkwX2_tree_2 : List UInt8 := [167, 255, 226, 28, 172]
abbrev dktX2_tree_2 : List UInt8 := dkwX2_tree_2 ++ []
def dkwX2_tree_1 : List UInt8 := [153, 0, 27, 45, 185, 0, 196, 1, 0, 192, 0, 53, 58, 4, 28, 4, 25, 4, 180, 0, 153, 120, 128, 61]
abbrev dktX2_tree_1 : List UInt8 := dkwX2_tree_1 ++ dktX2_tree_2
def dkwX2_tree_0 : List UInt8 := [4, 27, 120, 61, 187, 0, 182, 89, 42, 27, 183, 0, 184, 182, 0, 187, 78, 45, 185, 0, 191, 1, 0]
abbrev dktX2_tree_0 : List UInt8 := dkwX2_tree_0 ++ dktX2_tree_1
theorem dksX2_tree_0 : cX2_tree.data.toList.drop 0 = dktX2_tree_0 := by decide +kernel
theorem dksX2_tree_1 : cX2_tree.data.toList.drop 23 = dktX2_tree_1 := dk_seg dksX2_tree_0 23 rfl rfl
theorem dksX2_tree_2 : cX2_tree.data.toList.drop 47 = dktX2_tree_2 := dk_seg dksX2_tree_1 24 rfl rfl
theorem dX2_tree_0 : decode cX2_tree 0 = .ok (.iconst 1, 1) := dk_4 (dk_at dksX2_tree_0 0 rfl rfl)
theorem dX2_tree_1 : decode cX2_tree 1 = .ok (.iload_n 1, 1) := dk_27 (dk_at dksX2_tree_0 1 rfl rfl)
theorem dX2_tree_2 : decode cX2_tree 2 = .ok (.ishl, 1) := dk_120 (dk_at dksX2_tree_0 2 rfl rfl)
theorem dX2_tree_3 : decode cX2_tree 3 = .ok (.istore_n 2, 1) := dk_61 (dk_at dksX2_tree_0 3 rfl rfl)
theorem dX2_tree_4 : decode cX2_tree 4 = .ok (.new 182, 3) := dk_187 0 182 (dk_at dksX2_tree_0 4 rfl rfl)
theorem dX2_tree_7 : decode cX2_tree 7 = .ok (.dup, 1) := dk_89 (dk_at dksX2_tree_0 7 rfl rfl)
theorem dX2_tree_8 : decode cX2_tree 8 = .ok (.aload_n 0, 1) := dk_42 (dk_at dksX2_tree_0 8 rfl rfl)
theorem dX2_tree_9 : decode cX2_tree 9 = .ok (.iload_n 1, 1) := dk_27 (dk_at dksX2_tree_0 9 rfl rfl)
theorem dX2_tree_10 : decode cX2_tree 10 = .ok (.invokespecial 184, 3) := dk_183 0 184 (dk_at dksX2_tree_0 10 rfl rfl)
theorem dX2_tree_13 : decode cX2_tree 13 = .ok (.invokevirtual 187, 3) := dk_182 0 187 (dk_at dksX2_tree_0 13 rfl rfl)
theorem dX2_tree_16 : decode cX2_tree 16 = .ok (.astore_n 3, 1) := dk_78 (dk_at dksX2_tree_0 16 rfl rfl)
theorem dX2_tree_17 : decode cX2_tree 17 = .ok (.aload_n 3, 1) := dk_45 (dk_at dksX2_tree_0 17 rfl rfl)
theorem dX2_tree_18 : decode cX2_tree 18 = .ok (.invokeinterface 191 1, 5) := by decide +kernel
theorem dX2_tree_23 : decode cX2_tree 23 = .ok (.ifCond .eq 27, 3) := dk_153 0 27 (dk_at dksX2_tree_1 0 rfl rfl)
theorem dX2_tree_26 : decode cX2_tree 26 = .ok (.aload_n 3, 1) := dk_45 (dk_at dksX2_tree_1 3 rfl rfl)
theorem dX2_tree_27 : decode cX2_tree 27 = .ok (.invokeinterface 196 1, 5) := by decide +kernel
theorem dX2_tree_32 : decode cX2_tree 32 = .ok (.checkcast 53, 3) := dk_192 0 53 (dk_at dksX2_tree_1 9 rfl rfl)
theorem dX2_tree_35 : decode cX2_tree 35 = .ok (.astore 4, 2) := dk_58 4 (dk_at dksX2_tree_1 12 rfl rfl)
theorem dX2_tree_37 : decode cX2_tree 37 = .ok (.iload_n 2, 1) := dk_28 (dk_at dksX2_tree_1 14 rfl rfl)
theorem dX2_tree_38 : decode cX2_tree 38 = .ok (.iconst 1, 1) := dk_4 (dk_at dksX2_tree_1 15 rfl rfl)
theorem dX2_tree_39 : decode cX2_tree 39 = .ok (.aload 4, 2) := dk_25 4 (dk_at dksX2_tree_1 16 rfl rfl)
theorem dX2_tree_41 : decode cX2_tree 41 = .ok (.getfield 153, 3) := dk_180 0 153 (dk_at dksX2_tree_1 18 rfl rfl)
theorem dX2_tree_44 : decode cX2_tree 44 = .ok (.ishl, 1) := dk_120 (dk_at dksX2_tree_1 21 rfl rfl)
theorem dX2_tree_45 : decode cX2_tree 45 = .ok (.ior, 1) := dk_128 (dk_at dksX2_tree_1 22 rfl rfl)
theorem dX2_tree_46 : decode cX2_tree 46 = .ok (.istore_n 2, 1) := dk_61 (dk_at dksX2_tree_1 23 rfl rfl)
theorem dX2_tree_47 : decode cX2_tree 47 = .ok (.goto (-30), 3) := dk_167 255 226 (dk_at dksX2_tree_2 0 rfl rfl)
theorem dX2_tree_50 : decode cX2_tree 50 = .ok (.iload_n 2, 1) := dk_28 (dk_at dksX2_tree_2 3 rfl rfl)
theorem dX2_tree_51 : decode cX2_tree 51 = .ok (.ireturn, 1) := dk_172 (dk_at dksX2_tree_2 4 rfl rfl)
abbrev cX2_note : ByteArray := prog_6_method_32_code
def yX2_note : MethodName := ⟨RX2, "note", "(III)I"⟩
def dkwX2_note_4 : List UInt8 := [180, 0, 18, 182, 0, 45, 4, 100, 172]
abbrev dktX2_note_4 : List UInt8 := dkwX2_note_4 ++ []
def dkwX2_note_3 : List UInt8 := [184, 0, 111, 42, 180, 0, 18, 187, 0, 69, 89, 27, 28, 29, 183, 0, 249, 182, 0, 71, 87, 42]
abbrev dktX2_note_3 : List UInt8 := dkwX2_note_3 ++ dktX2_note_4
def dkwX2_note_2 : List UInt8 := [3, 5, 184, 0, 111, 42, 180, 0, 18, 182, 0, 45, 16, 12, 160, 0, 7, 4, 167, 0, 4, 3, 6]
abbrev dktX2_note_2 : List UInt8 := dkwX2_note_2 ++ dktX2_note_3
def dkwX2_note_1 : List UInt8 := [16, 99, 184, 0, 103, 153, 0, 7, 4, 167, 0, 4, 3, 54, 4, 21, 4, 154, 0, 7, 4, 167, 0, 4]
abbrev dktX2_note_1 : List UInt8 := dkwX2_note_1 ++ dktX2_note_2
def dkwX2_note_0 : List UInt8 := [27, 3, 7, 184, 0, 103, 153, 0, 29, 28, 3, 42, 180, 0, 91, 184, 0, 103, 153, 0, 17, 29, 4]
abbrev dktX2_note_0 : List UInt8 := dkwX2_note_0 ++ dktX2_note_1
theorem dksX2_note_0 : cX2_note.data.toList.drop 0 = dktX2_note_0 := by decide +kernel
theorem dksX2_note_1 : cX2_note.data.toList.drop 23 = dktX2_note_1 := dk_seg dksX2_note_0 23 rfl rfl
theorem dksX2_note_2 : cX2_note.data.toList.drop 47 = dktX2_note_2 := dk_seg dksX2_note_1 24 rfl rfl
theorem dksX2_note_3 : cX2_note.data.toList.drop 70 = dktX2_note_3 := dk_seg dksX2_note_2 23 rfl rfl
theorem dksX2_note_4 : cX2_note.data.toList.drop 92 = dktX2_note_4 := dk_seg dksX2_note_3 22 rfl rfl
theorem dX2_note_0 : decode cX2_note 0 = .ok (.iload_n 1, 1) := dk_27 (dk_at dksX2_note_0 0 rfl rfl)
theorem dX2_note_1 : decode cX2_note 1 = .ok (.iconst 0, 1) := dk_3 (dk_at dksX2_note_0 1 rfl rfl)
theorem dX2_note_2 : decode cX2_note 2 = .ok (.iconst 4, 1) := dk_7 (dk_at dksX2_note_0 2 rfl rfl)
theorem dX2_note_3 : decode cX2_note 3 = .ok (.invokestatic 103, 3) := dk_184 0 103 (dk_at dksX2_note_0 3 rfl rfl)
theorem dX2_note_6 : decode cX2_note 6 = .ok (.ifCond .eq 29, 3) := dk_153 0 29 (dk_at dksX2_note_0 6 rfl rfl)
theorem dX2_note_9 : decode cX2_note 9 = .ok (.iload_n 2, 1) := dk_28 (dk_at dksX2_note_0 9 rfl rfl)
theorem dX2_note_10 : decode cX2_note 10 = .ok (.iconst 0, 1) := dk_3 (dk_at dksX2_note_0 10 rfl rfl)
theorem dX2_note_11 : decode cX2_note 11 = .ok (.aload_n 0, 1) := dk_42 (dk_at dksX2_note_0 11 rfl rfl)
theorem dX2_note_12 : decode cX2_note 12 = .ok (.getfield 91, 3) := dk_180 0 91 (dk_at dksX2_note_0 12 rfl rfl)
theorem dX2_note_15 : decode cX2_note 15 = .ok (.invokestatic 103, 3) := dk_184 0 103 (dk_at dksX2_note_0 15 rfl rfl)
theorem dX2_note_18 : decode cX2_note 18 = .ok (.ifCond .eq 17, 3) := dk_153 0 17 (dk_at dksX2_note_0 18 rfl rfl)
theorem dX2_note_21 : decode cX2_note 21 = .ok (.iload_n 3, 1) := dk_29 (dk_at dksX2_note_0 21 rfl rfl)
theorem dX2_note_22 : decode cX2_note 22 = .ok (.iconst 1, 1) := dk_4 (dk_at dksX2_note_0 22 rfl rfl)
theorem dX2_note_23 : decode cX2_note 23 = .ok (.bipush 99, 2) := dk_16 99 (dk_at dksX2_note_1 0 rfl rfl)
theorem dX2_note_25 : decode cX2_note 25 = .ok (.invokestatic 103, 3) := dk_184 0 103 (dk_at dksX2_note_1 2 rfl rfl)
theorem dX2_note_28 : decode cX2_note 28 = .ok (.ifCond .eq 7, 3) := dk_153 0 7 (dk_at dksX2_note_1 5 rfl rfl)
theorem dX2_note_31 : decode cX2_note 31 = .ok (.iconst 1, 1) := dk_4 (dk_at dksX2_note_1 8 rfl rfl)
theorem dX2_note_32 : decode cX2_note 32 = .ok (.goto 4, 3) := dk_167 0 4 (dk_at dksX2_note_1 9 rfl rfl)
theorem dX2_note_35 : decode cX2_note 35 = .ok (.iconst 0, 1) := dk_3 (dk_at dksX2_note_1 12 rfl rfl)
theorem dX2_note_36 : decode cX2_note 36 = .ok (.istore 4, 2) := dk_54 4 (dk_at dksX2_note_1 13 rfl rfl)
theorem dX2_note_38 : decode cX2_note 38 = .ok (.iload 4, 2) := dk_21 4 (dk_at dksX2_note_1 15 rfl rfl)
theorem dX2_note_40 : decode cX2_note 40 = .ok (.ifCond .ne 7, 3) := dk_154 0 7 (dk_at dksX2_note_1 17 rfl rfl)
theorem dX2_note_43 : decode cX2_note 43 = .ok (.iconst 1, 1) := dk_4 (dk_at dksX2_note_1 20 rfl rfl)
theorem dX2_note_44 : decode cX2_note 44 = .ok (.goto 4, 3) := dk_167 0 4 (dk_at dksX2_note_1 21 rfl rfl)
theorem dX2_note_47 : decode cX2_note 47 = .ok (.iconst 0, 1) := dk_3 (dk_at dksX2_note_2 0 rfl rfl)
theorem dX2_note_48 : decode cX2_note 48 = .ok (.iconst 2, 1) := dk_5 (dk_at dksX2_note_2 1 rfl rfl)
theorem dX2_note_49 : decode cX2_note 49 = .ok (.invokestatic 111, 3) := dk_184 0 111 (dk_at dksX2_note_2 2 rfl rfl)
theorem dX2_note_52 : decode cX2_note 52 = .ok (.aload_n 0, 1) := dk_42 (dk_at dksX2_note_2 5 rfl rfl)
theorem dX2_note_53 : decode cX2_note 53 = .ok (.getfield 18, 3) := dk_180 0 18 (dk_at dksX2_note_2 6 rfl rfl)
theorem dX2_note_56 : decode cX2_note 56 = .ok (.invokevirtual 45, 3) := dk_182 0 45 (dk_at dksX2_note_2 9 rfl rfl)
theorem dX2_note_59 : decode cX2_note 59 = .ok (.bipush 12, 2) := dk_16 12 (dk_at dksX2_note_2 12 rfl rfl)
theorem dX2_note_61 : decode cX2_note 61 = .ok (.if_icmp .ne 7, 3) := dk_160 0 7 (dk_at dksX2_note_2 14 rfl rfl)
theorem dX2_note_64 : decode cX2_note 64 = .ok (.iconst 1, 1) := dk_4 (dk_at dksX2_note_2 17 rfl rfl)
theorem dX2_note_65 : decode cX2_note 65 = .ok (.goto 4, 3) := dk_167 0 4 (dk_at dksX2_note_2 18 rfl rfl)
theorem dX2_note_68 : decode cX2_note 68 = .ok (.iconst 0, 1) := dk_3 (dk_at dksX2_note_2 21 rfl rfl)
theorem dX2_note_69 : decode cX2_note 69 = .ok (.iconst 3, 1) := dk_6 (dk_at dksX2_note_2 22 rfl rfl)
theorem dX2_note_70 : decode cX2_note 70 = .ok (.invokestatic 111, 3) := dk_184 0 111 (dk_at dksX2_note_3 0 rfl rfl)
theorem dX2_note_73 : decode cX2_note 73 = .ok (.aload_n 0, 1) := dk_42 (dk_at dksX2_note_3 3 rfl rfl)
theorem dX2_note_74 : decode cX2_note 74 = .ok (.getfield 18, 3) := dk_180 0 18 (dk_at dksX2_note_3 4 rfl rfl)
theorem dX2_note_77 : decode cX2_note 77 = .ok (.new 69, 3) := dk_187 0 69 (dk_at dksX2_note_3 7 rfl rfl)
theorem dX2_note_80 : decode cX2_note 80 = .ok (.dup, 1) := dk_89 (dk_at dksX2_note_3 10 rfl rfl)
theorem dX2_note_81 : decode cX2_note 81 = .ok (.iload_n 1, 1) := dk_27 (dk_at dksX2_note_3 11 rfl rfl)
theorem dX2_note_82 : decode cX2_note 82 = .ok (.iload_n 2, 1) := dk_28 (dk_at dksX2_note_3 12 rfl rfl)
theorem dX2_note_83 : decode cX2_note 83 = .ok (.iload_n 3, 1) := dk_29 (dk_at dksX2_note_3 13 rfl rfl)
theorem dX2_note_84 : decode cX2_note 84 = .ok (.invokespecial 249, 3) := dk_183 0 249 (dk_at dksX2_note_3 14 rfl rfl)
theorem dX2_note_87 : decode cX2_note 87 = .ok (.invokevirtual 71, 3) := dk_182 0 71 (dk_at dksX2_note_3 17 rfl rfl)
theorem dX2_note_90 : decode cX2_note 90 = .ok (.pop, 1) := dk_87 (dk_at dksX2_note_3 20 rfl rfl)
theorem dX2_note_91 : decode cX2_note 91 = .ok (.aload_n 0, 1) := dk_42 (dk_at dksX2_note_3 21 rfl rfl)
theorem dX2_note_92 : decode cX2_note 92 = .ok (.getfield 18, 3) := dk_180 0 18 (dk_at dksX2_note_4 0 rfl rfl)
theorem dX2_note_95 : decode cX2_note 95 = .ok (.invokevirtual 45, 3) := dk_182 0 45 (dk_at dksX2_note_4 3 rfl rfl)
theorem dX2_note_98 : decode cX2_note 98 = .ok (.iconst 1, 1) := dk_4 (dk_at dksX2_note_4 6 rfl rfl)
theorem dX2_note_99 : decode cX2_note 99 = .ok (.isub, 1) := dk_100 (dk_at dksX2_note_4 7 rfl rfl)
theorem dX2_note_100 : decode cX2_note 100 = .ok (.ireturn, 1) := dk_172 (dk_at dksX2_note_4 8 rfl rfl)
abbrev cX2_link : ByteArray := prog_6_method_33_code
def yX2_link : MethodName := ⟨RX2, "link", "(II)I"⟩
def dkwX2_link_4 : List UInt8 := [180, 0, 255, 54, 4, 45, 28, 181, 0, 255, 21, 4, 172]
abbrev dktX2_link_4 : List UInt8 := dkwX2_link_4 ++ []
def dkwX2_link_3 : List UInt8 := [16, 10, 184, 0, 111, 45, 180, 0, 255, 28, 160, 0, 7, 4, 167, 0, 4, 3, 16, 13, 184, 0, 111, 45]
abbrev dktX2_link_3 : List UInt8 := dkwX2_link_3 ++ dktX2_link_4
def dkwX2_link_2 : List UInt8 := [45, 42, 180, 0, 18, 28, 182, 0, 49, 192, 0, 69, 182, 0, 251, 154, 0, 7, 4, 167, 0, 4, 3]
abbrev dktX2_link_2 : List UInt8 := dkwX2_link_2 ++ dktX2_link_3
def dkwX2_link_1 : List UInt8 := [154, 0, 7, 4, 167, 0, 4, 3, 4, 184, 0, 111, 42, 180, 0, 12, 27, 182, 0, 49, 192, 0, 53, 78]
abbrev dktX2_link_1 : List UInt8 := dkwX2_link_1 ++ dktX2_link_2
def dkwX2_link_0 : List UInt8 := [42, 27, 182, 0, 107, 153, 0, 20, 28, 3, 42, 180, 0, 18, 182, 0, 45, 4, 100, 184, 0, 103]
abbrev dktX2_link_0 : List UInt8 := dkwX2_link_0 ++ dktX2_link_1
theorem dksX2_link_0 : cX2_link.data.toList.drop 0 = dktX2_link_0 := by decide +kernel
theorem dksX2_link_1 : cX2_link.data.toList.drop 22 = dktX2_link_1 := dk_seg dksX2_link_0 22 rfl rfl
theorem dksX2_link_2 : cX2_link.data.toList.drop 46 = dktX2_link_2 := dk_seg dksX2_link_1 24 rfl rfl
theorem dksX2_link_3 : cX2_link.data.toList.drop 69 = dktX2_link_3 := dk_seg dksX2_link_2 23 rfl rfl
theorem dksX2_link_4 : cX2_link.data.toList.drop 93 = dktX2_link_4 := dk_seg dksX2_link_3 24 rfl rfl
theorem dX2_link_0 : decode cX2_link 0 = .ok (.aload_n 0, 1) := dk_42 (dk_at dksX2_link_0 0 rfl rfl)
theorem dX2_link_1 : decode cX2_link 1 = .ok (.iload_n 1, 1) := dk_27 (dk_at dksX2_link_0 1 rfl rfl)
theorem dX2_link_2 : decode cX2_link 2 = .ok (.invokevirtual 107, 3) := dk_182 0 107 (dk_at dksX2_link_0 2 rfl rfl)
theorem dX2_link_5 : decode cX2_link 5 = .ok (.ifCond .eq 20, 3) := dk_153 0 20 (dk_at dksX2_link_0 5 rfl rfl)
theorem dX2_link_8 : decode cX2_link 8 = .ok (.iload_n 2, 1) := dk_28 (dk_at dksX2_link_0 8 rfl rfl)
theorem dX2_link_9 : decode cX2_link 9 = .ok (.iconst 0, 1) := dk_3 (dk_at dksX2_link_0 9 rfl rfl)
theorem dX2_link_10 : decode cX2_link 10 = .ok (.aload_n 0, 1) := dk_42 (dk_at dksX2_link_0 10 rfl rfl)
theorem dX2_link_11 : decode cX2_link 11 = .ok (.getfield 18, 3) := dk_180 0 18 (dk_at dksX2_link_0 11 rfl rfl)
theorem dX2_link_14 : decode cX2_link 14 = .ok (.invokevirtual 45, 3) := dk_182 0 45 (dk_at dksX2_link_0 14 rfl rfl)
theorem dX2_link_17 : decode cX2_link 17 = .ok (.iconst 1, 1) := dk_4 (dk_at dksX2_link_0 17 rfl rfl)
theorem dX2_link_18 : decode cX2_link 18 = .ok (.isub, 1) := dk_100 (dk_at dksX2_link_0 18 rfl rfl)
theorem dX2_link_19 : decode cX2_link 19 = .ok (.invokestatic 103, 3) := dk_184 0 103 (dk_at dksX2_link_0 19 rfl rfl)
theorem dX2_link_22 : decode cX2_link 22 = .ok (.ifCond .ne 7, 3) := dk_154 0 7 (dk_at dksX2_link_1 0 rfl rfl)
theorem dX2_link_25 : decode cX2_link 25 = .ok (.iconst 1, 1) := dk_4 (dk_at dksX2_link_1 3 rfl rfl)
theorem dX2_link_26 : decode cX2_link 26 = .ok (.goto 4, 3) := dk_167 0 4 (dk_at dksX2_link_1 4 rfl rfl)
theorem dX2_link_29 : decode cX2_link 29 = .ok (.iconst 0, 1) := dk_3 (dk_at dksX2_link_1 7 rfl rfl)
theorem dX2_link_30 : decode cX2_link 30 = .ok (.iconst 1, 1) := dk_4 (dk_at dksX2_link_1 8 rfl rfl)
theorem dX2_link_31 : decode cX2_link 31 = .ok (.invokestatic 111, 3) := dk_184 0 111 (dk_at dksX2_link_1 9 rfl rfl)
theorem dX2_link_34 : decode cX2_link 34 = .ok (.aload_n 0, 1) := dk_42 (dk_at dksX2_link_1 12 rfl rfl)
theorem dX2_link_35 : decode cX2_link 35 = .ok (.getfield 12, 3) := dk_180 0 12 (dk_at dksX2_link_1 13 rfl rfl)
theorem dX2_link_38 : decode cX2_link 38 = .ok (.iload_n 1, 1) := dk_27 (dk_at dksX2_link_1 16 rfl rfl)
theorem dX2_link_39 : decode cX2_link 39 = .ok (.invokevirtual 49, 3) := dk_182 0 49 (dk_at dksX2_link_1 17 rfl rfl)
theorem dX2_link_42 : decode cX2_link 42 = .ok (.checkcast 53, 3) := dk_192 0 53 (dk_at dksX2_link_1 20 rfl rfl)
theorem dX2_link_45 : decode cX2_link 45 = .ok (.astore_n 3, 1) := dk_78 (dk_at dksX2_link_1 23 rfl rfl)
theorem dX2_link_46 : decode cX2_link 46 = .ok (.aload_n 3, 1) := dk_45 (dk_at dksX2_link_2 0 rfl rfl)
theorem dX2_link_47 : decode cX2_link 47 = .ok (.aload_n 0, 1) := dk_42 (dk_at dksX2_link_2 1 rfl rfl)
theorem dX2_link_48 : decode cX2_link 48 = .ok (.getfield 18, 3) := dk_180 0 18 (dk_at dksX2_link_2 2 rfl rfl)
theorem dX2_link_51 : decode cX2_link 51 = .ok (.iload_n 2, 1) := dk_28 (dk_at dksX2_link_2 5 rfl rfl)
theorem dX2_link_52 : decode cX2_link 52 = .ok (.invokevirtual 49, 3) := dk_182 0 49 (dk_at dksX2_link_2 6 rfl rfl)
theorem dX2_link_55 : decode cX2_link 55 = .ok (.checkcast 69, 3) := dk_192 0 69 (dk_at dksX2_link_2 9 rfl rfl)
theorem dX2_link_58 : decode cX2_link 58 = .ok (.invokevirtual 251, 3) := dk_182 0 251 (dk_at dksX2_link_2 12 rfl rfl)
theorem dX2_link_61 : decode cX2_link 61 = .ok (.ifCond .ne 7, 3) := dk_154 0 7 (dk_at dksX2_link_2 15 rfl rfl)
theorem dX2_link_64 : decode cX2_link 64 = .ok (.iconst 1, 1) := dk_4 (dk_at dksX2_link_2 18 rfl rfl)
theorem dX2_link_65 : decode cX2_link 65 = .ok (.goto 4, 3) := dk_167 0 4 (dk_at dksX2_link_2 19 rfl rfl)
theorem dX2_link_68 : decode cX2_link 68 = .ok (.iconst 0, 1) := dk_3 (dk_at dksX2_link_2 22 rfl rfl)
theorem dX2_link_69 : decode cX2_link 69 = .ok (.bipush 10, 2) := dk_16 10 (dk_at dksX2_link_3 0 rfl rfl)
theorem dX2_link_71 : decode cX2_link 71 = .ok (.invokestatic 111, 3) := dk_184 0 111 (dk_at dksX2_link_3 2 rfl rfl)
theorem dX2_link_74 : decode cX2_link 74 = .ok (.aload_n 3, 1) := dk_45 (dk_at dksX2_link_3 5 rfl rfl)
theorem dX2_link_75 : decode cX2_link 75 = .ok (.getfield 255, 3) := dk_180 0 255 (dk_at dksX2_link_3 6 rfl rfl)
theorem dX2_link_78 : decode cX2_link 78 = .ok (.iload_n 2, 1) := dk_28 (dk_at dksX2_link_3 9 rfl rfl)
theorem dX2_link_79 : decode cX2_link 79 = .ok (.if_icmp .ne 7, 3) := dk_160 0 7 (dk_at dksX2_link_3 10 rfl rfl)
theorem dX2_link_82 : decode cX2_link 82 = .ok (.iconst 1, 1) := dk_4 (dk_at dksX2_link_3 13 rfl rfl)
theorem dX2_link_83 : decode cX2_link 83 = .ok (.goto 4, 3) := dk_167 0 4 (dk_at dksX2_link_3 14 rfl rfl)
theorem dX2_link_86 : decode cX2_link 86 = .ok (.iconst 0, 1) := dk_3 (dk_at dksX2_link_3 17 rfl rfl)
theorem dX2_link_87 : decode cX2_link 87 = .ok (.bipush 13, 2) := dk_16 13 (dk_at dksX2_link_3 18 rfl rfl)
theorem dX2_link_89 : decode cX2_link 89 = .ok (.invokestatic 111, 3) := dk_184 0 111 (dk_at dksX2_link_3 20 rfl rfl)
theorem dX2_link_92 : decode cX2_link 92 = .ok (.aload_n 3, 1) := dk_45 (dk_at dksX2_link_3 23 rfl rfl)
theorem dX2_link_93 : decode cX2_link 93 = .ok (.getfield 255, 3) := dk_180 0 255 (dk_at dksX2_link_4 0 rfl rfl)
theorem dX2_link_96 : decode cX2_link 96 = .ok (.istore 4, 2) := dk_54 4 (dk_at dksX2_link_4 3 rfl rfl)
theorem dX2_link_98 : decode cX2_link 98 = .ok (.aload_n 3, 1) := dk_45 (dk_at dksX2_link_4 5 rfl rfl)
theorem dX2_link_99 : decode cX2_link 99 = .ok (.iload_n 2, 1) := dk_28 (dk_at dksX2_link_4 6 rfl rfl)
theorem dX2_link_100 : decode cX2_link 100 = .ok (.putfield 255, 3) := dk_181 0 255 (dk_at dksX2_link_4 7 rfl rfl)
theorem dX2_link_103 : decode cX2_link 103 = .ok (.iload 4, 2) := dk_21 4 (dk_at dksX2_link_4 10 rfl rfl)
theorem dX2_link_105 : decode cX2_link 105 = .ok (.ireturn, 1) := dk_172 (dk_at dksX2_link_4 12 rfl rfl)
abbrev cX2_review : ByteArray := prog_6_method_34_code
def yX2_review : MethodName := ⟨RX2, "review", "(I)I"⟩
def dkwX2_review_10 : List UInt8 := [100, 172]
abbrev dktX2_review_10 : List UInt8 := dkwX2_review_10 ++ []
def dkwX2_review_9 : List UInt8 := [180, 0, 27, 42, 180, 0, 88, 27, 79, 42, 89, 180, 0, 88, 4, 96, 181, 0, 88, 42, 180, 0, 88, 4]
abbrev dktX2_review_9 : List UInt8 := dkwX2_review_9 ++ dktX2_review_10
def dkwX2_review_8 : List UInt8 := [153, 0, 10, 42, 180, 0, 88, 167, 0, 7, 45, 180, 0, 218, 181, 0, 218, 132, 2, 1, 167, 255, 207, 42]
abbrev dktX2_review_8 : List UInt8 := dkwX2_review_8 ++ dktX2_review_9
def dkwX2_review_7 : List UInt8 := [182, 0, 45, 162, 0, 44, 42, 180, 0, 12, 28, 182, 0, 49, 192, 0, 53, 78, 45, 27, 28, 184, 0, 128]
abbrev dktX2_review_7 : List UInt8 := dkwX2_review_7 ++ dktX2_review_8
def dkwX2_review_6 : List UInt8 := [167, 0, 4, 3, 16, 11, 28, 184, 0, 200, 132, 2, 1, 167, 255, 205, 3, 61, 28, 42, 180, 0, 12]
abbrev dktX2_review_6 : List UInt8 := dkwX2_review_6 ++ dktX2_review_7
def dkwX2_review_5 : List UInt8 := [153, 0, 25, 42, 180, 0, 12, 28, 182, 0, 49, 192, 0, 53, 180, 0, 218, 2, 159, 0, 7, 4]
abbrev dktX2_review_5 : List UInt8 := dkwX2_review_5 ++ dktX2_review_6
def dkwX2_review_4 : List UInt8 := [132, 2, 1, 167, 255, 206, 3, 61, 28, 42, 180, 0, 12, 182, 0, 45, 162, 0, 46, 27, 28, 184, 0, 128]
abbrev dktX2_review_4 : List UInt8 := dkwX2_review_4 ++ dktX2_review_5
def dkwX2_review_3 : List UInt8 := [182, 0, 49, 192, 0, 53, 180, 0, 122, 5, 159, 0, 7, 4, 167, 0, 4, 3, 7, 28, 184, 0, 200]
abbrev dktX2_review_3 : List UInt8 := dkwX2_review_3 ++ dktX2_review_4
def dkwX2_review_2 : List UInt8 := [42, 180, 0, 12, 182, 0, 45, 162, 0, 45, 27, 28, 184, 0, 128, 153, 0, 25, 42, 180, 0, 12, 28]
abbrev dktX2_review_2 : List UInt8 := dkwX2_review_2 ++ dktX2_review_3
def dkwX2_review_1 : List UInt8 := [184, 0, 111, 42, 180, 0, 88, 16, 8, 160, 0, 7, 4, 167, 0, 4, 3, 6, 184, 0, 111, 3, 61, 28]
abbrev dktX2_review_1 : List UInt8 := dkwX2_review_1 ++ dktX2_review_2
def dkwX2_review_0 : List UInt8 := [27, 158, 0, 16, 27, 4, 42, 180, 0, 12, 182, 0, 45, 120, 161, 0, 7, 4, 167, 0, 4, 3, 5]
abbrev dktX2_review_0 : List UInt8 := dkwX2_review_0 ++ dktX2_review_1
theorem dksX2_review_0 : cX2_review.data.toList.drop 0 = dktX2_review_0 := by decide +kernel
theorem dksX2_review_1 : cX2_review.data.toList.drop 23 = dktX2_review_1 := dk_seg dksX2_review_0 23 rfl rfl
theorem dksX2_review_2 : cX2_review.data.toList.drop 47 = dktX2_review_2 := dk_seg dksX2_review_1 24 rfl rfl
theorem dksX2_review_3 : cX2_review.data.toList.drop 70 = dktX2_review_3 := dk_seg dksX2_review_2 23 rfl rfl
theorem dksX2_review_4 : cX2_review.data.toList.drop 93 = dktX2_review_4 := dk_seg dksX2_review_3 23 rfl rfl
theorem dksX2_review_5 : cX2_review.data.toList.drop 117 = dktX2_review_5 := dk_seg dksX2_review_4 24 rfl rfl
theorem dksX2_review_6 : cX2_review.data.toList.drop 139 = dktX2_review_6 := dk_seg dksX2_review_5 22 rfl rfl
theorem dksX2_review_7 : cX2_review.data.toList.drop 162 = dktX2_review_7 := dk_seg dksX2_review_6 23 rfl rfl
theorem dksX2_review_8 : cX2_review.data.toList.drop 186 = dktX2_review_8 := dk_seg dksX2_review_7 24 rfl rfl
theorem dksX2_review_9 : cX2_review.data.toList.drop 210 = dktX2_review_9 := dk_seg dksX2_review_8 24 rfl rfl
theorem dksX2_review_10 : cX2_review.data.toList.drop 234 = dktX2_review_10 := dk_seg dksX2_review_9 24 rfl rfl
theorem dX2_review_0 : decode cX2_review 0 = .ok (.iload_n 1, 1) := dk_27 (dk_at dksX2_review_0 0 rfl rfl)
theorem dX2_review_1 : decode cX2_review 1 = .ok (.ifCond .le 16, 3) := dk_158 0 16 (dk_at dksX2_review_0 1 rfl rfl)
theorem dX2_review_4 : decode cX2_review 4 = .ok (.iload_n 1, 1) := dk_27 (dk_at dksX2_review_0 4 rfl rfl)
theorem dX2_review_5 : decode cX2_review 5 = .ok (.iconst 1, 1) := dk_4 (dk_at dksX2_review_0 5 rfl rfl)
theorem dX2_review_6 : decode cX2_review 6 = .ok (.aload_n 0, 1) := dk_42 (dk_at dksX2_review_0 6 rfl rfl)
theorem dX2_review_7 : decode cX2_review 7 = .ok (.getfield 12, 3) := dk_180 0 12 (dk_at dksX2_review_0 7 rfl rfl)
theorem dX2_review_10 : decode cX2_review 10 = .ok (.invokevirtual 45, 3) := dk_182 0 45 (dk_at dksX2_review_0 10 rfl rfl)
theorem dX2_review_13 : decode cX2_review 13 = .ok (.ishl, 1) := dk_120 (dk_at dksX2_review_0 13 rfl rfl)
theorem dX2_review_14 : decode cX2_review 14 = .ok (.if_icmp .lt 7, 3) := dk_161 0 7 (dk_at dksX2_review_0 14 rfl rfl)
theorem dX2_review_17 : decode cX2_review 17 = .ok (.iconst 1, 1) := dk_4 (dk_at dksX2_review_0 17 rfl rfl)
theorem dX2_review_18 : decode cX2_review 18 = .ok (.goto 4, 3) := dk_167 0 4 (dk_at dksX2_review_0 18 rfl rfl)
theorem dX2_review_21 : decode cX2_review 21 = .ok (.iconst 0, 1) := dk_3 (dk_at dksX2_review_0 21 rfl rfl)
theorem dX2_review_22 : decode cX2_review 22 = .ok (.iconst 2, 1) := dk_5 (dk_at dksX2_review_0 22 rfl rfl)
theorem dX2_review_23 : decode cX2_review 23 = .ok (.invokestatic 111, 3) := dk_184 0 111 (dk_at dksX2_review_1 0 rfl rfl)
theorem dX2_review_26 : decode cX2_review 26 = .ok (.aload_n 0, 1) := dk_42 (dk_at dksX2_review_1 3 rfl rfl)
theorem dX2_review_27 : decode cX2_review 27 = .ok (.getfield 88, 3) := dk_180 0 88 (dk_at dksX2_review_1 4 rfl rfl)
theorem dX2_review_30 : decode cX2_review 30 = .ok (.bipush 8, 2) := dk_16 8 (dk_at dksX2_review_1 7 rfl rfl)
theorem dX2_review_32 : decode cX2_review 32 = .ok (.if_icmp .ne 7, 3) := dk_160 0 7 (dk_at dksX2_review_1 9 rfl rfl)
theorem dX2_review_35 : decode cX2_review 35 = .ok (.iconst 1, 1) := dk_4 (dk_at dksX2_review_1 12 rfl rfl)
theorem dX2_review_36 : decode cX2_review 36 = .ok (.goto 4, 3) := dk_167 0 4 (dk_at dksX2_review_1 13 rfl rfl)
theorem dX2_review_39 : decode cX2_review 39 = .ok (.iconst 0, 1) := dk_3 (dk_at dksX2_review_1 16 rfl rfl)
theorem dX2_review_40 : decode cX2_review 40 = .ok (.iconst 3, 1) := dk_6 (dk_at dksX2_review_1 17 rfl rfl)
theorem dX2_review_41 : decode cX2_review 41 = .ok (.invokestatic 111, 3) := dk_184 0 111 (dk_at dksX2_review_1 18 rfl rfl)
theorem dX2_review_44 : decode cX2_review 44 = .ok (.iconst 0, 1) := dk_3 (dk_at dksX2_review_1 21 rfl rfl)
theorem dX2_review_45 : decode cX2_review 45 = .ok (.istore_n 2, 1) := dk_61 (dk_at dksX2_review_1 22 rfl rfl)
theorem dX2_review_46 : decode cX2_review 46 = .ok (.iload_n 2, 1) := dk_28 (dk_at dksX2_review_1 23 rfl rfl)
theorem dX2_review_47 : decode cX2_review 47 = .ok (.aload_n 0, 1) := dk_42 (dk_at dksX2_review_2 0 rfl rfl)
theorem dX2_review_48 : decode cX2_review 48 = .ok (.getfield 12, 3) := dk_180 0 12 (dk_at dksX2_review_2 1 rfl rfl)
theorem dX2_review_51 : decode cX2_review 51 = .ok (.invokevirtual 45, 3) := dk_182 0 45 (dk_at dksX2_review_2 4 rfl rfl)
theorem dX2_review_54 : decode cX2_review 54 = .ok (.if_icmp .ge 45, 3) := dk_162 0 45 (dk_at dksX2_review_2 7 rfl rfl)
theorem dX2_review_57 : decode cX2_review 57 = .ok (.iload_n 1, 1) := dk_27 (dk_at dksX2_review_2 10 rfl rfl)
theorem dX2_review_58 : decode cX2_review 58 = .ok (.iload_n 2, 1) := dk_28 (dk_at dksX2_review_2 11 rfl rfl)
theorem dX2_review_59 : decode cX2_review 59 = .ok (.invokestatic 128, 3) := dk_184 0 128 (dk_at dksX2_review_2 12 rfl rfl)
theorem dX2_review_62 : decode cX2_review 62 = .ok (.ifCond .eq 25, 3) := dk_153 0 25 (dk_at dksX2_review_2 15 rfl rfl)
theorem dX2_review_65 : decode cX2_review 65 = .ok (.aload_n 0, 1) := dk_42 (dk_at dksX2_review_2 18 rfl rfl)
theorem dX2_review_66 : decode cX2_review 66 = .ok (.getfield 12, 3) := dk_180 0 12 (dk_at dksX2_review_2 19 rfl rfl)
theorem dX2_review_69 : decode cX2_review 69 = .ok (.iload_n 2, 1) := dk_28 (dk_at dksX2_review_2 22 rfl rfl)
theorem dX2_review_70 : decode cX2_review 70 = .ok (.invokevirtual 49, 3) := dk_182 0 49 (dk_at dksX2_review_3 0 rfl rfl)
theorem dX2_review_73 : decode cX2_review 73 = .ok (.checkcast 53, 3) := dk_192 0 53 (dk_at dksX2_review_3 3 rfl rfl)
theorem dX2_review_76 : decode cX2_review 76 = .ok (.getfield 122, 3) := dk_180 0 122 (dk_at dksX2_review_3 6 rfl rfl)
theorem dX2_review_79 : decode cX2_review 79 = .ok (.iconst 2, 1) := dk_5 (dk_at dksX2_review_3 9 rfl rfl)
theorem dX2_review_80 : decode cX2_review 80 = .ok (.if_icmp .eq 7, 3) := dk_159 0 7 (dk_at dksX2_review_3 10 rfl rfl)
theorem dX2_review_83 : decode cX2_review 83 = .ok (.iconst 1, 1) := dk_4 (dk_at dksX2_review_3 13 rfl rfl)
theorem dX2_review_84 : decode cX2_review 84 = .ok (.goto 4, 3) := dk_167 0 4 (dk_at dksX2_review_3 14 rfl rfl)
theorem dX2_review_87 : decode cX2_review 87 = .ok (.iconst 0, 1) := dk_3 (dk_at dksX2_review_3 17 rfl rfl)
theorem dX2_review_88 : decode cX2_review 88 = .ok (.iconst 4, 1) := dk_7 (dk_at dksX2_review_3 18 rfl rfl)
theorem dX2_review_89 : decode cX2_review 89 = .ok (.iload_n 2, 1) := dk_28 (dk_at dksX2_review_3 19 rfl rfl)
theorem dX2_review_90 : decode cX2_review 90 = .ok (.invokestatic 200, 3) := dk_184 0 200 (dk_at dksX2_review_3 20 rfl rfl)
theorem dX2_review_93 : decode cX2_review 93 = .ok (.iinc 2 1, 3) := dk_132 2 1 (dk_at dksX2_review_4 0 rfl rfl)
theorem dX2_review_96 : decode cX2_review 96 = .ok (.goto (-50), 3) := dk_167 255 206 (dk_at dksX2_review_4 3 rfl rfl)
theorem dX2_review_99 : decode cX2_review 99 = .ok (.iconst 0, 1) := dk_3 (dk_at dksX2_review_4 6 rfl rfl)
theorem dX2_review_100 : decode cX2_review 100 = .ok (.istore_n 2, 1) := dk_61 (dk_at dksX2_review_4 7 rfl rfl)
theorem dX2_review_101 : decode cX2_review 101 = .ok (.iload_n 2, 1) := dk_28 (dk_at dksX2_review_4 8 rfl rfl)
theorem dX2_review_102 : decode cX2_review 102 = .ok (.aload_n 0, 1) := dk_42 (dk_at dksX2_review_4 9 rfl rfl)
theorem dX2_review_103 : decode cX2_review 103 = .ok (.getfield 12, 3) := dk_180 0 12 (dk_at dksX2_review_4 10 rfl rfl)
theorem dX2_review_106 : decode cX2_review 106 = .ok (.invokevirtual 45, 3) := dk_182 0 45 (dk_at dksX2_review_4 13 rfl rfl)
theorem dX2_review_109 : decode cX2_review 109 = .ok (.if_icmp .ge 46, 3) := dk_162 0 46 (dk_at dksX2_review_4 16 rfl rfl)
theorem dX2_review_112 : decode cX2_review 112 = .ok (.iload_n 1, 1) := dk_27 (dk_at dksX2_review_4 19 rfl rfl)
theorem dX2_review_113 : decode cX2_review 113 = .ok (.iload_n 2, 1) := dk_28 (dk_at dksX2_review_4 20 rfl rfl)
theorem dX2_review_114 : decode cX2_review 114 = .ok (.invokestatic 128, 3) := dk_184 0 128 (dk_at dksX2_review_4 21 rfl rfl)
theorem dX2_review_117 : decode cX2_review 117 = .ok (.ifCond .eq 25, 3) := dk_153 0 25 (dk_at dksX2_review_5 0 rfl rfl)
theorem dX2_review_120 : decode cX2_review 120 = .ok (.aload_n 0, 1) := dk_42 (dk_at dksX2_review_5 3 rfl rfl)
theorem dX2_review_121 : decode cX2_review 121 = .ok (.getfield 12, 3) := dk_180 0 12 (dk_at dksX2_review_5 4 rfl rfl)
theorem dX2_review_124 : decode cX2_review 124 = .ok (.iload_n 2, 1) := dk_28 (dk_at dksX2_review_5 7 rfl rfl)
theorem dX2_review_125 : decode cX2_review 125 = .ok (.invokevirtual 49, 3) := dk_182 0 49 (dk_at dksX2_review_5 8 rfl rfl)
theorem dX2_review_128 : decode cX2_review 128 = .ok (.checkcast 53, 3) := dk_192 0 53 (dk_at dksX2_review_5 11 rfl rfl)
theorem dX2_review_131 : decode cX2_review 131 = .ok (.getfield 218, 3) := dk_180 0 218 (dk_at dksX2_review_5 14 rfl rfl)
theorem dX2_review_134 : decode cX2_review 134 = .ok (.iconst (-1), 1) := dk_2 (dk_at dksX2_review_5 17 rfl rfl)
theorem dX2_review_135 : decode cX2_review 135 = .ok (.if_icmp .eq 7, 3) := dk_159 0 7 (dk_at dksX2_review_5 18 rfl rfl)
theorem dX2_review_138 : decode cX2_review 138 = .ok (.iconst 1, 1) := dk_4 (dk_at dksX2_review_5 21 rfl rfl)
theorem dX2_review_139 : decode cX2_review 139 = .ok (.goto 4, 3) := dk_167 0 4 (dk_at dksX2_review_6 0 rfl rfl)
theorem dX2_review_142 : decode cX2_review 142 = .ok (.iconst 0, 1) := dk_3 (dk_at dksX2_review_6 3 rfl rfl)
theorem dX2_review_143 : decode cX2_review 143 = .ok (.bipush 11, 2) := dk_16 11 (dk_at dksX2_review_6 4 rfl rfl)
theorem dX2_review_145 : decode cX2_review 145 = .ok (.iload_n 2, 1) := dk_28 (dk_at dksX2_review_6 6 rfl rfl)
theorem dX2_review_146 : decode cX2_review 146 = .ok (.invokestatic 200, 3) := dk_184 0 200 (dk_at dksX2_review_6 7 rfl rfl)
theorem dX2_review_149 : decode cX2_review 149 = .ok (.iinc 2 1, 3) := dk_132 2 1 (dk_at dksX2_review_6 10 rfl rfl)
theorem dX2_review_152 : decode cX2_review 152 = .ok (.goto (-51), 3) := dk_167 255 205 (dk_at dksX2_review_6 13 rfl rfl)
theorem dX2_review_155 : decode cX2_review 155 = .ok (.iconst 0, 1) := dk_3 (dk_at dksX2_review_6 16 rfl rfl)
theorem dX2_review_156 : decode cX2_review 156 = .ok (.istore_n 2, 1) := dk_61 (dk_at dksX2_review_6 17 rfl rfl)
theorem dX2_review_157 : decode cX2_review 157 = .ok (.iload_n 2, 1) := dk_28 (dk_at dksX2_review_6 18 rfl rfl)
theorem dX2_review_158 : decode cX2_review 158 = .ok (.aload_n 0, 1) := dk_42 (dk_at dksX2_review_6 19 rfl rfl)
theorem dX2_review_159 : decode cX2_review 159 = .ok (.getfield 12, 3) := dk_180 0 12 (dk_at dksX2_review_6 20 rfl rfl)
theorem dX2_review_162 : decode cX2_review 162 = .ok (.invokevirtual 45, 3) := dk_182 0 45 (dk_at dksX2_review_7 0 rfl rfl)
theorem dX2_review_165 : decode cX2_review 165 = .ok (.if_icmp .ge 44, 3) := dk_162 0 44 (dk_at dksX2_review_7 3 rfl rfl)
theorem dX2_review_168 : decode cX2_review 168 = .ok (.aload_n 0, 1) := dk_42 (dk_at dksX2_review_7 6 rfl rfl)
theorem dX2_review_169 : decode cX2_review 169 = .ok (.getfield 12, 3) := dk_180 0 12 (dk_at dksX2_review_7 7 rfl rfl)
theorem dX2_review_172 : decode cX2_review 172 = .ok (.iload_n 2, 1) := dk_28 (dk_at dksX2_review_7 10 rfl rfl)
theorem dX2_review_173 : decode cX2_review 173 = .ok (.invokevirtual 49, 3) := dk_182 0 49 (dk_at dksX2_review_7 11 rfl rfl)
theorem dX2_review_176 : decode cX2_review 176 = .ok (.checkcast 53, 3) := dk_192 0 53 (dk_at dksX2_review_7 14 rfl rfl)
theorem dX2_review_179 : decode cX2_review 179 = .ok (.astore_n 3, 1) := dk_78 (dk_at dksX2_review_7 17 rfl rfl)
theorem dX2_review_180 : decode cX2_review 180 = .ok (.aload_n 3, 1) := dk_45 (dk_at dksX2_review_7 18 rfl rfl)
theorem dX2_review_181 : decode cX2_review 181 = .ok (.iload_n 1, 1) := dk_27 (dk_at dksX2_review_7 19 rfl rfl)
theorem dX2_review_182 : decode cX2_review 182 = .ok (.iload_n 2, 1) := dk_28 (dk_at dksX2_review_7 20 rfl rfl)
theorem dX2_review_183 : decode cX2_review 183 = .ok (.invokestatic 128, 3) := dk_184 0 128 (dk_at dksX2_review_7 21 rfl rfl)
theorem dX2_review_186 : decode cX2_review 186 = .ok (.ifCond .eq 10, 3) := dk_153 0 10 (dk_at dksX2_review_8 0 rfl rfl)
theorem dX2_review_189 : decode cX2_review 189 = .ok (.aload_n 0, 1) := dk_42 (dk_at dksX2_review_8 3 rfl rfl)
theorem dX2_review_190 : decode cX2_review 190 = .ok (.getfield 88, 3) := dk_180 0 88 (dk_at dksX2_review_8 4 rfl rfl)
theorem dX2_review_193 : decode cX2_review 193 = .ok (.goto 7, 3) := dk_167 0 7 (dk_at dksX2_review_8 7 rfl rfl)
theorem dX2_review_196 : decode cX2_review 196 = .ok (.aload_n 3, 1) := dk_45 (dk_at dksX2_review_8 10 rfl rfl)
theorem dX2_review_197 : decode cX2_review 197 = .ok (.getfield 218, 3) := dk_180 0 218 (dk_at dksX2_review_8 11 rfl rfl)
theorem dX2_review_200 : decode cX2_review 200 = .ok (.putfield 218, 3) := dk_181 0 218 (dk_at dksX2_review_8 14 rfl rfl)
theorem dX2_review_203 : decode cX2_review 203 = .ok (.iinc 2 1, 3) := dk_132 2 1 (dk_at dksX2_review_8 17 rfl rfl)
theorem dX2_review_206 : decode cX2_review 206 = .ok (.goto (-49), 3) := dk_167 255 207 (dk_at dksX2_review_8 20 rfl rfl)
theorem dX2_review_209 : decode cX2_review 209 = .ok (.aload_n 0, 1) := dk_42 (dk_at dksX2_review_8 23 rfl rfl)
theorem dX2_review_210 : decode cX2_review 210 = .ok (.getfield 27, 3) := dk_180 0 27 (dk_at dksX2_review_9 0 rfl rfl)
theorem dX2_review_213 : decode cX2_review 213 = .ok (.aload_n 0, 1) := dk_42 (dk_at dksX2_review_9 3 rfl rfl)
theorem dX2_review_214 : decode cX2_review 214 = .ok (.getfield 88, 3) := dk_180 0 88 (dk_at dksX2_review_9 4 rfl rfl)
theorem dX2_review_217 : decode cX2_review 217 = .ok (.iload_n 1, 1) := dk_27 (dk_at dksX2_review_9 7 rfl rfl)
theorem dX2_review_218 : decode cX2_review 218 = .ok (.iastore, 1) := dk_79 (dk_at dksX2_review_9 8 rfl rfl)
theorem dX2_review_219 : decode cX2_review 219 = .ok (.aload_n 0, 1) := dk_42 (dk_at dksX2_review_9 9 rfl rfl)
theorem dX2_review_220 : decode cX2_review 220 = .ok (.dup, 1) := dk_89 (dk_at dksX2_review_9 10 rfl rfl)
theorem dX2_review_221 : decode cX2_review 221 = .ok (.getfield 88, 3) := dk_180 0 88 (dk_at dksX2_review_9 11 rfl rfl)
theorem dX2_review_224 : decode cX2_review 224 = .ok (.iconst 1, 1) := dk_4 (dk_at dksX2_review_9 14 rfl rfl)
theorem dX2_review_225 : decode cX2_review 225 = .ok (.iadd, 1) := dk_96 (dk_at dksX2_review_9 15 rfl rfl)
theorem dX2_review_226 : decode cX2_review 226 = .ok (.putfield 88, 3) := dk_181 0 88 (dk_at dksX2_review_9 16 rfl rfl)
theorem dX2_review_229 : decode cX2_review 229 = .ok (.aload_n 0, 1) := dk_42 (dk_at dksX2_review_9 19 rfl rfl)
theorem dX2_review_230 : decode cX2_review 230 = .ok (.getfield 88, 3) := dk_180 0 88 (dk_at dksX2_review_9 20 rfl rfl)
theorem dX2_review_233 : decode cX2_review 233 = .ok (.iconst 1, 1) := dk_4 (dk_at dksX2_review_9 23 rfl rfl)
theorem dX2_review_234 : decode cX2_review 234 = .ok (.isub, 1) := dk_100 (dk_at dksX2_review_10 0 rfl rfl)
theorem dX2_review_235 : decode cX2_review 235 = .ok (.ireturn, 1) := dk_172 (dk_at dksX2_review_10 1 rfl rfl)
abbrev cX2_action : ByteArray := prog_6_method_36_code
def yX2_action : MethodName := ⟨RX2, "action", "(III)I"⟩
def dkwX2_action_3 : List UInt8 := [89, 27, 28, 29, 183, 1, 5, 182, 0, 71, 87, 42, 180, 0, 21, 182, 0, 45, 4, 100, 172]
abbrev dktX2_action_3 : List UInt8 := dkwX2_action_3 ++ []
def dkwX2_action_2 : List UInt8 := [182, 0, 45, 16, 20, 160, 0, 7, 4, 167, 0, 4, 3, 6, 184, 0, 111, 42, 180, 0, 21, 187, 0, 74]
abbrev dktX2_action_2 : List UInt8 := dkwX2_action_2 ++ dktX2_action_3
def dkwX2_action_1 : List UInt8 := [29, 4, 16, 9, 184, 0, 103, 154, 0, 7, 4, 167, 0, 4, 3, 5, 184, 0, 111, 42, 180, 0, 21]
abbrev dktX2_action_1 : List UInt8 := dkwX2_action_1 ++ dktX2_action_2
def dkwX2_action_0 : List UInt8 := [42, 27, 182, 1, 2, 153, 0, 10, 28, 184, 0, 136, 154, 0, 7, 4, 167, 0, 4, 3, 4, 184, 0, 111]
abbrev dktX2_action_0 : List UInt8 := dkwX2_action_0 ++ dktX2_action_1
theorem dksX2_action_0 : cX2_action.data.toList.drop 0 = dktX2_action_0 := by decide +kernel
theorem dksX2_action_1 : cX2_action.data.toList.drop 24 = dktX2_action_1 := dk_seg dksX2_action_0 24 rfl rfl
theorem dksX2_action_2 : cX2_action.data.toList.drop 47 = dktX2_action_2 := dk_seg dksX2_action_1 23 rfl rfl
theorem dksX2_action_3 : cX2_action.data.toList.drop 71 = dktX2_action_3 := dk_seg dksX2_action_2 24 rfl rfl
theorem dX2_action_0 : decode cX2_action 0 = .ok (.aload_n 0, 1) := dk_42 (dk_at dksX2_action_0 0 rfl rfl)
theorem dX2_action_1 : decode cX2_action 1 = .ok (.iload_n 1, 1) := dk_27 (dk_at dksX2_action_0 1 rfl rfl)
theorem dX2_action_2 : decode cX2_action 2 = .ok (.invokevirtual 258, 3) := dk_182 1 2 (dk_at dksX2_action_0 2 rfl rfl)
theorem dX2_action_5 : decode cX2_action 5 = .ok (.ifCond .eq 10, 3) := dk_153 0 10 (dk_at dksX2_action_0 5 rfl rfl)
theorem dX2_action_8 : decode cX2_action 8 = .ok (.iload_n 2, 1) := dk_28 (dk_at dksX2_action_0 8 rfl rfl)
theorem dX2_action_9 : decode cX2_action 9 = .ok (.invokestatic 136, 3) := dk_184 0 136 (dk_at dksX2_action_0 9 rfl rfl)
theorem dX2_action_12 : decode cX2_action 12 = .ok (.ifCond .ne 7, 3) := dk_154 0 7 (dk_at dksX2_action_0 12 rfl rfl)
theorem dX2_action_15 : decode cX2_action 15 = .ok (.iconst 1, 1) := dk_4 (dk_at dksX2_action_0 15 rfl rfl)
theorem dX2_action_16 : decode cX2_action 16 = .ok (.goto 4, 3) := dk_167 0 4 (dk_at dksX2_action_0 16 rfl rfl)
theorem dX2_action_19 : decode cX2_action 19 = .ok (.iconst 0, 1) := dk_3 (dk_at dksX2_action_0 19 rfl rfl)
theorem dX2_action_20 : decode cX2_action 20 = .ok (.iconst 1, 1) := dk_4 (dk_at dksX2_action_0 20 rfl rfl)
theorem dX2_action_21 : decode cX2_action 21 = .ok (.invokestatic 111, 3) := dk_184 0 111 (dk_at dksX2_action_0 21 rfl rfl)
theorem dX2_action_24 : decode cX2_action 24 = .ok (.iload_n 3, 1) := dk_29 (dk_at dksX2_action_1 0 rfl rfl)
theorem dX2_action_25 : decode cX2_action 25 = .ok (.iconst 1, 1) := dk_4 (dk_at dksX2_action_1 1 rfl rfl)
theorem dX2_action_26 : decode cX2_action 26 = .ok (.bipush 9, 2) := dk_16 9 (dk_at dksX2_action_1 2 rfl rfl)
theorem dX2_action_28 : decode cX2_action 28 = .ok (.invokestatic 103, 3) := dk_184 0 103 (dk_at dksX2_action_1 4 rfl rfl)
theorem dX2_action_31 : decode cX2_action 31 = .ok (.ifCond .ne 7, 3) := dk_154 0 7 (dk_at dksX2_action_1 7 rfl rfl)
theorem dX2_action_34 : decode cX2_action 34 = .ok (.iconst 1, 1) := dk_4 (dk_at dksX2_action_1 10 rfl rfl)
theorem dX2_action_35 : decode cX2_action 35 = .ok (.goto 4, 3) := dk_167 0 4 (dk_at dksX2_action_1 11 rfl rfl)
theorem dX2_action_38 : decode cX2_action 38 = .ok (.iconst 0, 1) := dk_3 (dk_at dksX2_action_1 14 rfl rfl)
theorem dX2_action_39 : decode cX2_action 39 = .ok (.iconst 2, 1) := dk_5 (dk_at dksX2_action_1 15 rfl rfl)
theorem dX2_action_40 : decode cX2_action 40 = .ok (.invokestatic 111, 3) := dk_184 0 111 (dk_at dksX2_action_1 16 rfl rfl)
theorem dX2_action_43 : decode cX2_action 43 = .ok (.aload_n 0, 1) := dk_42 (dk_at dksX2_action_1 19 rfl rfl)
theorem dX2_action_44 : decode cX2_action 44 = .ok (.getfield 21, 3) := dk_180 0 21 (dk_at dksX2_action_1 20 rfl rfl)
theorem dX2_action_47 : decode cX2_action 47 = .ok (.invokevirtual 45, 3) := dk_182 0 45 (dk_at dksX2_action_2 0 rfl rfl)
theorem dX2_action_50 : decode cX2_action 50 = .ok (.bipush 20, 2) := dk_16 20 (dk_at dksX2_action_2 3 rfl rfl)
theorem dX2_action_52 : decode cX2_action 52 = .ok (.if_icmp .ne 7, 3) := dk_160 0 7 (dk_at dksX2_action_2 5 rfl rfl)
theorem dX2_action_55 : decode cX2_action 55 = .ok (.iconst 1, 1) := dk_4 (dk_at dksX2_action_2 8 rfl rfl)
theorem dX2_action_56 : decode cX2_action 56 = .ok (.goto 4, 3) := dk_167 0 4 (dk_at dksX2_action_2 9 rfl rfl)
theorem dX2_action_59 : decode cX2_action 59 = .ok (.iconst 0, 1) := dk_3 (dk_at dksX2_action_2 12 rfl rfl)
theorem dX2_action_60 : decode cX2_action 60 = .ok (.iconst 3, 1) := dk_6 (dk_at dksX2_action_2 13 rfl rfl)
theorem dX2_action_61 : decode cX2_action 61 = .ok (.invokestatic 111, 3) := dk_184 0 111 (dk_at dksX2_action_2 14 rfl rfl)
theorem dX2_action_64 : decode cX2_action 64 = .ok (.aload_n 0, 1) := dk_42 (dk_at dksX2_action_2 17 rfl rfl)
theorem dX2_action_65 : decode cX2_action 65 = .ok (.getfield 21, 3) := dk_180 0 21 (dk_at dksX2_action_2 18 rfl rfl)
theorem dX2_action_68 : decode cX2_action 68 = .ok (.new 74, 3) := dk_187 0 74 (dk_at dksX2_action_2 21 rfl rfl)
theorem dX2_action_71 : decode cX2_action 71 = .ok (.dup, 1) := dk_89 (dk_at dksX2_action_3 0 rfl rfl)
theorem dX2_action_72 : decode cX2_action 72 = .ok (.iload_n 1, 1) := dk_27 (dk_at dksX2_action_3 1 rfl rfl)
theorem dX2_action_73 : decode cX2_action 73 = .ok (.iload_n 2, 1) := dk_28 (dk_at dksX2_action_3 2 rfl rfl)
theorem dX2_action_74 : decode cX2_action 74 = .ok (.iload_n 3, 1) := dk_29 (dk_at dksX2_action_3 3 rfl rfl)
theorem dX2_action_75 : decode cX2_action 75 = .ok (.invokespecial 261, 3) := dk_183 1 5 (dk_at dksX2_action_3 4 rfl rfl)
theorem dX2_action_78 : decode cX2_action 78 = .ok (.invokevirtual 71, 3) := dk_182 0 71 (dk_at dksX2_action_3 7 rfl rfl)
theorem dX2_action_81 : decode cX2_action 81 = .ok (.pop, 1) := dk_87 (dk_at dksX2_action_3 10 rfl rfl)
theorem dX2_action_82 : decode cX2_action 82 = .ok (.aload_n 0, 1) := dk_42 (dk_at dksX2_action_3 11 rfl rfl)
theorem dX2_action_83 : decode cX2_action 83 = .ok (.getfield 21, 3) := dk_180 0 21 (dk_at dksX2_action_3 12 rfl rfl)
theorem dX2_action_86 : decode cX2_action 86 = .ok (.invokevirtual 45, 3) := dk_182 0 45 (dk_at dksX2_action_3 15 rfl rfl)
theorem dX2_action_89 : decode cX2_action 89 = .ok (.iconst 1, 1) := dk_4 (dk_at dksX2_action_3 18 rfl rfl)
theorem dX2_action_90 : decode cX2_action 90 = .ok (.isub, 1) := dk_100 (dk_at dksX2_action_3 19 rfl rfl)
theorem dX2_action_91 : decode cX2_action 91 = .ok (.ireturn, 1) := dk_172 (dk_at dksX2_action_3 20 rfl rfl)
abbrev cX2_hasReview : ByteArray := prog_6_method_35_code
def yX2_hasReview : MethodName := ⟨RX2, "hasReview", "(I)Z"⟩
def dkwX2_hasReview_0 : List UInt8 := [27, 3, 42, 180, 0, 88, 4, 100, 184, 0, 103, 172]
abbrev dktX2_hasReview_0 : List UInt8 := dkwX2_hasReview_0 ++ []
theorem dksX2_hasReview_0 : cX2_hasReview.data.toList.drop 0 = dktX2_hasReview_0 := by decide +kernel
theorem dX2_hasReview_0 : decode cX2_hasReview 0 = .ok (.iload_n 1, 1) := dk_27 (dk_at dksX2_hasReview_0 0 rfl rfl)
theorem dX2_hasReview_1 : decode cX2_hasReview 1 = .ok (.iconst 0, 1) := dk_3 (dk_at dksX2_hasReview_0 1 rfl rfl)
theorem dX2_hasReview_2 : decode cX2_hasReview 2 = .ok (.aload_n 0, 1) := dk_42 (dk_at dksX2_hasReview_0 2 rfl rfl)
theorem dX2_hasReview_3 : decode cX2_hasReview 3 = .ok (.getfield 88, 3) := dk_180 0 88 (dk_at dksX2_hasReview_0 3 rfl rfl)
theorem dX2_hasReview_6 : decode cX2_hasReview 6 = .ok (.iconst 1, 1) := dk_4 (dk_at dksX2_hasReview_0 6 rfl rfl)
theorem dX2_hasReview_7 : decode cX2_hasReview 7 = .ok (.isub, 1) := dk_100 (dk_at dksX2_hasReview_0 7 rfl rfl)
theorem dX2_hasReview_8 : decode cX2_hasReview 8 = .ok (.invokestatic 103, 3) := dk_184 0 103 (dk_at dksX2_hasReview_0 8 rfl rfl)
theorem dX2_hasReview_11 : decode cX2_hasReview 11 = .ok (.ireturn, 1) := dk_172 (dk_at dksX2_hasReview_0 11 rfl rfl)
abbrev cX2_finish : ByteArray := prog_6_method_37_code
def yX2_finish : MethodName := ⟨RX2, "finish", "(I)I"⟩
def dkwX2_finish_5 : List UInt8 := [132, 4, 1, 167, 255, 193, 29, 172]
abbrev dktX2_finish_5 : List UInt8 := dkwX2_finish_5 ++ []
def dkwX2_finish_4 : List UInt8 := [180, 0, 21, 21, 4, 182, 0, 49, 192, 0, 74, 180, 0, 227, 154, 0, 7, 4, 167, 0, 4, 3, 96, 62]
abbrev dktX2_finish_4 : List UInt8 := dkwX2_finish_4 ++ dktX2_finish_5
def dkwX2_finish_3 : List UInt8 := [180, 0, 21, 21, 4, 182, 0, 49, 192, 0, 74, 180, 0, 226, 44, 180, 0, 226, 160, 0, 25, 42]
abbrev dktX2_finish_3 : List UInt8 := dkwX2_finish_3 ++ dktX2_finish_4
def dkwX2_finish_2 : List UInt8 := [44, 4, 181, 0, 227, 3, 62, 3, 54, 4, 21, 4, 42, 180, 0, 21, 182, 0, 45, 162, 0, 57, 29, 42]
abbrev dktX2_finish_2 : List UInt8 := dkwX2_finish_2 ++ dktX2_finish_3
def dkwX2_finish_1 : List UInt8 := [184, 0, 111, 42, 180, 0, 21, 27, 182, 0, 49, 192, 0, 74, 77, 44, 180, 0, 227, 16, 13, 184, 0, 111]
abbrev dktX2_finish_1 : List UInt8 := dkwX2_finish_1 ++ dktX2_finish_2
def dkwX2_finish_0 : List UInt8 := [27, 3, 42, 180, 0, 21, 182, 0, 45, 4, 100, 184, 0, 103, 154, 0, 7, 4, 167, 0, 4, 3, 4]
abbrev dktX2_finish_0 : List UInt8 := dkwX2_finish_0 ++ dktX2_finish_1
theorem dksX2_finish_0 : cX2_finish.data.toList.drop 0 = dktX2_finish_0 := by decide +kernel
theorem dksX2_finish_1 : cX2_finish.data.toList.drop 23 = dktX2_finish_1 := dk_seg dksX2_finish_0 23 rfl rfl
theorem dksX2_finish_2 : cX2_finish.data.toList.drop 47 = dktX2_finish_2 := dk_seg dksX2_finish_1 24 rfl rfl
theorem dksX2_finish_3 : cX2_finish.data.toList.drop 71 = dktX2_finish_3 := dk_seg dksX2_finish_2 24 rfl rfl
theorem dksX2_finish_4 : cX2_finish.data.toList.drop 93 = dktX2_finish_4 := dk_seg dksX2_finish_3 22 rfl rfl
theorem dksX2_finish_5 : cX2_finish.data.toList.drop 117 = dktX2_finish_5 := dk_seg dksX2_finish_4 24 rfl rfl
theorem dX2_finish_0 : decode cX2_finish 0 = .ok (.iload_n 1, 1) := dk_27 (dk_at dksX2_finish_0 0 rfl rfl)
theorem dX2_finish_1 : decode cX2_finish 1 = .ok (.iconst 0, 1) := dk_3 (dk_at dksX2_finish_0 1 rfl rfl)
theorem dX2_finish_2 : decode cX2_finish 2 = .ok (.aload_n 0, 1) := dk_42 (dk_at dksX2_finish_0 2 rfl rfl)
theorem dX2_finish_3 : decode cX2_finish 3 = .ok (.getfield 21, 3) := dk_180 0 21 (dk_at dksX2_finish_0 3 rfl rfl)
theorem dX2_finish_6 : decode cX2_finish 6 = .ok (.invokevirtual 45, 3) := dk_182 0 45 (dk_at dksX2_finish_0 6 rfl rfl)
theorem dX2_finish_9 : decode cX2_finish 9 = .ok (.iconst 1, 1) := dk_4 (dk_at dksX2_finish_0 9 rfl rfl)
theorem dX2_finish_10 : decode cX2_finish 10 = .ok (.isub, 1) := dk_100 (dk_at dksX2_finish_0 10 rfl rfl)
theorem dX2_finish_11 : decode cX2_finish 11 = .ok (.invokestatic 103, 3) := dk_184 0 103 (dk_at dksX2_finish_0 11 rfl rfl)
theorem dX2_finish_14 : decode cX2_finish 14 = .ok (.ifCond .ne 7, 3) := dk_154 0 7 (dk_at dksX2_finish_0 14 rfl rfl)
theorem dX2_finish_17 : decode cX2_finish 17 = .ok (.iconst 1, 1) := dk_4 (dk_at dksX2_finish_0 17 rfl rfl)
theorem dX2_finish_18 : decode cX2_finish 18 = .ok (.goto 4, 3) := dk_167 0 4 (dk_at dksX2_finish_0 18 rfl rfl)
theorem dX2_finish_21 : decode cX2_finish 21 = .ok (.iconst 0, 1) := dk_3 (dk_at dksX2_finish_0 21 rfl rfl)
theorem dX2_finish_22 : decode cX2_finish 22 = .ok (.iconst 1, 1) := dk_4 (dk_at dksX2_finish_0 22 rfl rfl)
theorem dX2_finish_23 : decode cX2_finish 23 = .ok (.invokestatic 111, 3) := dk_184 0 111 (dk_at dksX2_finish_1 0 rfl rfl)
theorem dX2_finish_26 : decode cX2_finish 26 = .ok (.aload_n 0, 1) := dk_42 (dk_at dksX2_finish_1 3 rfl rfl)
theorem dX2_finish_27 : decode cX2_finish 27 = .ok (.getfield 21, 3) := dk_180 0 21 (dk_at dksX2_finish_1 4 rfl rfl)
theorem dX2_finish_30 : decode cX2_finish 30 = .ok (.iload_n 1, 1) := dk_27 (dk_at dksX2_finish_1 7 rfl rfl)
theorem dX2_finish_31 : decode cX2_finish 31 = .ok (.invokevirtual 49, 3) := dk_182 0 49 (dk_at dksX2_finish_1 8 rfl rfl)
theorem dX2_finish_34 : decode cX2_finish 34 = .ok (.checkcast 74, 3) := dk_192 0 74 (dk_at dksX2_finish_1 11 rfl rfl)
theorem dX2_finish_37 : decode cX2_finish 37 = .ok (.astore_n 2, 1) := dk_77 (dk_at dksX2_finish_1 14 rfl rfl)
theorem dX2_finish_38 : decode cX2_finish 38 = .ok (.aload_n 2, 1) := dk_44 (dk_at dksX2_finish_1 15 rfl rfl)
theorem dX2_finish_39 : decode cX2_finish 39 = .ok (.getfield 227, 3) := dk_180 0 227 (dk_at dksX2_finish_1 16 rfl rfl)
theorem dX2_finish_42 : decode cX2_finish 42 = .ok (.bipush 13, 2) := dk_16 13 (dk_at dksX2_finish_1 19 rfl rfl)
theorem dX2_finish_44 : decode cX2_finish 44 = .ok (.invokestatic 111, 3) := dk_184 0 111 (dk_at dksX2_finish_1 21 rfl rfl)
theorem dX2_finish_47 : decode cX2_finish 47 = .ok (.aload_n 2, 1) := dk_44 (dk_at dksX2_finish_2 0 rfl rfl)
theorem dX2_finish_48 : decode cX2_finish 48 = .ok (.iconst 1, 1) := dk_4 (dk_at dksX2_finish_2 1 rfl rfl)
theorem dX2_finish_49 : decode cX2_finish 49 = .ok (.putfield 227, 3) := dk_181 0 227 (dk_at dksX2_finish_2 2 rfl rfl)
theorem dX2_finish_52 : decode cX2_finish 52 = .ok (.iconst 0, 1) := dk_3 (dk_at dksX2_finish_2 5 rfl rfl)
theorem dX2_finish_53 : decode cX2_finish 53 = .ok (.istore_n 3, 1) := dk_62 (dk_at dksX2_finish_2 6 rfl rfl)
theorem dX2_finish_54 : decode cX2_finish 54 = .ok (.iconst 0, 1) := dk_3 (dk_at dksX2_finish_2 7 rfl rfl)
theorem dX2_finish_55 : decode cX2_finish 55 = .ok (.istore 4, 2) := dk_54 4 (dk_at dksX2_finish_2 8 rfl rfl)
theorem dX2_finish_57 : decode cX2_finish 57 = .ok (.iload 4, 2) := dk_21 4 (dk_at dksX2_finish_2 10 rfl rfl)
theorem dX2_finish_59 : decode cX2_finish 59 = .ok (.aload_n 0, 1) := dk_42 (dk_at dksX2_finish_2 12 rfl rfl)
theorem dX2_finish_60 : decode cX2_finish 60 = .ok (.getfield 21, 3) := dk_180 0 21 (dk_at dksX2_finish_2 13 rfl rfl)
theorem dX2_finish_63 : decode cX2_finish 63 = .ok (.invokevirtual 45, 3) := dk_182 0 45 (dk_at dksX2_finish_2 16 rfl rfl)
theorem dX2_finish_66 : decode cX2_finish 66 = .ok (.if_icmp .ge 57, 3) := dk_162 0 57 (dk_at dksX2_finish_2 19 rfl rfl)
theorem dX2_finish_69 : decode cX2_finish 69 = .ok (.iload_n 3, 1) := dk_29 (dk_at dksX2_finish_2 22 rfl rfl)
theorem dX2_finish_70 : decode cX2_finish 70 = .ok (.aload_n 0, 1) := dk_42 (dk_at dksX2_finish_2 23 rfl rfl)
theorem dX2_finish_71 : decode cX2_finish 71 = .ok (.getfield 21, 3) := dk_180 0 21 (dk_at dksX2_finish_3 0 rfl rfl)
theorem dX2_finish_74 : decode cX2_finish 74 = .ok (.iload 4, 2) := dk_21 4 (dk_at dksX2_finish_3 3 rfl rfl)
theorem dX2_finish_76 : decode cX2_finish 76 = .ok (.invokevirtual 49, 3) := dk_182 0 49 (dk_at dksX2_finish_3 5 rfl rfl)
theorem dX2_finish_79 : decode cX2_finish 79 = .ok (.checkcast 74, 3) := dk_192 0 74 (dk_at dksX2_finish_3 8 rfl rfl)
theorem dX2_finish_82 : decode cX2_finish 82 = .ok (.getfield 226, 3) := dk_180 0 226 (dk_at dksX2_finish_3 11 rfl rfl)
theorem dX2_finish_85 : decode cX2_finish 85 = .ok (.aload_n 2, 1) := dk_44 (dk_at dksX2_finish_3 14 rfl rfl)
theorem dX2_finish_86 : decode cX2_finish 86 = .ok (.getfield 226, 3) := dk_180 0 226 (dk_at dksX2_finish_3 15 rfl rfl)
theorem dX2_finish_89 : decode cX2_finish 89 = .ok (.if_icmp .ne 25, 3) := dk_160 0 25 (dk_at dksX2_finish_3 18 rfl rfl)
theorem dX2_finish_92 : decode cX2_finish 92 = .ok (.aload_n 0, 1) := dk_42 (dk_at dksX2_finish_3 21 rfl rfl)
theorem dX2_finish_93 : decode cX2_finish 93 = .ok (.getfield 21, 3) := dk_180 0 21 (dk_at dksX2_finish_4 0 rfl rfl)
theorem dX2_finish_96 : decode cX2_finish 96 = .ok (.iload 4, 2) := dk_21 4 (dk_at dksX2_finish_4 3 rfl rfl)
theorem dX2_finish_98 : decode cX2_finish 98 = .ok (.invokevirtual 49, 3) := dk_182 0 49 (dk_at dksX2_finish_4 5 rfl rfl)
theorem dX2_finish_101 : decode cX2_finish 101 = .ok (.checkcast 74, 3) := dk_192 0 74 (dk_at dksX2_finish_4 8 rfl rfl)
theorem dX2_finish_104 : decode cX2_finish 104 = .ok (.getfield 227, 3) := dk_180 0 227 (dk_at dksX2_finish_4 11 rfl rfl)
theorem dX2_finish_107 : decode cX2_finish 107 = .ok (.ifCond .ne 7, 3) := dk_154 0 7 (dk_at dksX2_finish_4 14 rfl rfl)
theorem dX2_finish_110 : decode cX2_finish 110 = .ok (.iconst 1, 1) := dk_4 (dk_at dksX2_finish_4 17 rfl rfl)
theorem dX2_finish_111 : decode cX2_finish 111 = .ok (.goto 4, 3) := dk_167 0 4 (dk_at dksX2_finish_4 18 rfl rfl)
theorem dX2_finish_114 : decode cX2_finish 114 = .ok (.iconst 0, 1) := dk_3 (dk_at dksX2_finish_4 21 rfl rfl)
theorem dX2_finish_115 : decode cX2_finish 115 = .ok (.iadd, 1) := dk_96 (dk_at dksX2_finish_4 22 rfl rfl)
theorem dX2_finish_116 : decode cX2_finish 116 = .ok (.istore_n 3, 1) := dk_62 (dk_at dksX2_finish_4 23 rfl rfl)
theorem dX2_finish_117 : decode cX2_finish 117 = .ok (.iinc 4 1, 3) := dk_132 4 1 (dk_at dksX2_finish_5 0 rfl rfl)
theorem dX2_finish_120 : decode cX2_finish 120 = .ok (.goto (-63), 3) := dk_167 255 193 (dk_at dksX2_finish_5 3 rfl rfl)
theorem dX2_finish_123 : decode cX2_finish 123 = .ok (.iload_n 3, 1) := dk_29 (dk_at dksX2_finish_5 6 rfl rfl)
theorem dX2_finish_124 : decode cX2_finish 124 = .ok (.ireturn, 1) := dk_172 (dk_at dksX2_finish_5 7 rfl rfl)
abbrev cX2_deepest : ByteArray := prog_6_method_31_code
def yX2_deepest : MethodName := ⟨RX2, "deepest", "(I)I"⟩
def dkwX2_deepest_2 : List UInt8 := [167, 0, 4, 28, 61, 132, 3, 1, 167, 255, 210, 28, 4, 96, 172]
abbrev dktX2_deepest_2 : List UInt8 := dkwX2_deepest_2 ++ []
def dkwX2_deepest_1 : List UInt8 := [182, 0, 49, 192, 0, 53, 180, 0, 209, 27, 160, 0, 15, 28, 42, 29, 182, 0, 240, 184, 0, 243]
abbrev dktX2_deepest_1 : List UInt8 := dkwX2_deepest_1 ++ dktX2_deepest_2
def dkwX2_deepest_0 : List UInt8 := [3, 61, 27, 4, 96, 62, 29, 42, 180, 0, 12, 182, 0, 45, 162, 0, 41, 42, 180, 0, 12, 29]
abbrev dktX2_deepest_0 : List UInt8 := dkwX2_deepest_0 ++ dktX2_deepest_1
theorem dksX2_deepest_0 : cX2_deepest.data.toList.drop 0 = dktX2_deepest_0 := by decide +kernel
theorem dksX2_deepest_1 : cX2_deepest.data.toList.drop 22 = dktX2_deepest_1 := dk_seg dksX2_deepest_0 22 rfl rfl
theorem dksX2_deepest_2 : cX2_deepest.data.toList.drop 44 = dktX2_deepest_2 := dk_seg dksX2_deepest_1 22 rfl rfl
theorem dX2_deepest_0 : decode cX2_deepest 0 = .ok (.iconst 0, 1) := dk_3 (dk_at dksX2_deepest_0 0 rfl rfl)
theorem dX2_deepest_1 : decode cX2_deepest 1 = .ok (.istore_n 2, 1) := dk_61 (dk_at dksX2_deepest_0 1 rfl rfl)
theorem dX2_deepest_2 : decode cX2_deepest 2 = .ok (.iload_n 1, 1) := dk_27 (dk_at dksX2_deepest_0 2 rfl rfl)
theorem dX2_deepest_3 : decode cX2_deepest 3 = .ok (.iconst 1, 1) := dk_4 (dk_at dksX2_deepest_0 3 rfl rfl)
theorem dX2_deepest_4 : decode cX2_deepest 4 = .ok (.iadd, 1) := dk_96 (dk_at dksX2_deepest_0 4 rfl rfl)
theorem dX2_deepest_5 : decode cX2_deepest 5 = .ok (.istore_n 3, 1) := dk_62 (dk_at dksX2_deepest_0 5 rfl rfl)
theorem dX2_deepest_6 : decode cX2_deepest 6 = .ok (.iload_n 3, 1) := dk_29 (dk_at dksX2_deepest_0 6 rfl rfl)
theorem dX2_deepest_7 : decode cX2_deepest 7 = .ok (.aload_n 0, 1) := dk_42 (dk_at dksX2_deepest_0 7 rfl rfl)
theorem dX2_deepest_8 : decode cX2_deepest 8 = .ok (.getfield 12, 3) := dk_180 0 12 (dk_at dksX2_deepest_0 8 rfl rfl)
theorem dX2_deepest_11 : decode cX2_deepest 11 = .ok (.invokevirtual 45, 3) := dk_182 0 45 (dk_at dksX2_deepest_0 11 rfl rfl)
theorem dX2_deepest_14 : decode cX2_deepest 14 = .ok (.if_icmp .ge 41, 3) := dk_162 0 41 (dk_at dksX2_deepest_0 14 rfl rfl)
theorem dX2_deepest_17 : decode cX2_deepest 17 = .ok (.aload_n 0, 1) := dk_42 (dk_at dksX2_deepest_0 17 rfl rfl)
theorem dX2_deepest_18 : decode cX2_deepest 18 = .ok (.getfield 12, 3) := dk_180 0 12 (dk_at dksX2_deepest_0 18 rfl rfl)
theorem dX2_deepest_21 : decode cX2_deepest 21 = .ok (.iload_n 3, 1) := dk_29 (dk_at dksX2_deepest_0 21 rfl rfl)
theorem dX2_deepest_22 : decode cX2_deepest 22 = .ok (.invokevirtual 49, 3) := dk_182 0 49 (dk_at dksX2_deepest_1 0 rfl rfl)
theorem dX2_deepest_25 : decode cX2_deepest 25 = .ok (.checkcast 53, 3) := dk_192 0 53 (dk_at dksX2_deepest_1 3 rfl rfl)
theorem dX2_deepest_28 : decode cX2_deepest 28 = .ok (.getfield 209, 3) := dk_180 0 209 (dk_at dksX2_deepest_1 6 rfl rfl)
theorem dX2_deepest_31 : decode cX2_deepest 31 = .ok (.iload_n 1, 1) := dk_27 (dk_at dksX2_deepest_1 9 rfl rfl)
theorem dX2_deepest_32 : decode cX2_deepest 32 = .ok (.if_icmp .ne 15, 3) := dk_160 0 15 (dk_at dksX2_deepest_1 10 rfl rfl)
theorem dX2_deepest_35 : decode cX2_deepest 35 = .ok (.iload_n 2, 1) := dk_28 (dk_at dksX2_deepest_1 13 rfl rfl)
theorem dX2_deepest_36 : decode cX2_deepest 36 = .ok (.aload_n 0, 1) := dk_42 (dk_at dksX2_deepest_1 14 rfl rfl)
theorem dX2_deepest_37 : decode cX2_deepest 37 = .ok (.iload_n 3, 1) := dk_29 (dk_at dksX2_deepest_1 15 rfl rfl)
theorem dX2_deepest_38 : decode cX2_deepest 38 = .ok (.invokevirtual 240, 3) := dk_182 0 240 (dk_at dksX2_deepest_1 16 rfl rfl)
theorem dX2_deepest_41 : decode cX2_deepest 41 = .ok (.invokestatic 243, 3) := dk_184 0 243 (dk_at dksX2_deepest_1 19 rfl rfl)
theorem dX2_deepest_44 : decode cX2_deepest 44 = .ok (.goto 4, 3) := dk_167 0 4 (dk_at dksX2_deepest_2 0 rfl rfl)
theorem dX2_deepest_47 : decode cX2_deepest 47 = .ok (.iload_n 2, 1) := dk_28 (dk_at dksX2_deepest_2 3 rfl rfl)
theorem dX2_deepest_48 : decode cX2_deepest 48 = .ok (.istore_n 2, 1) := dk_61 (dk_at dksX2_deepest_2 4 rfl rfl)
theorem dX2_deepest_49 : decode cX2_deepest 49 = .ok (.iinc 3 1, 3) := dk_132 3 1 (dk_at dksX2_deepest_2 5 rfl rfl)
theorem dX2_deepest_52 : decode cX2_deepest 52 = .ok (.goto (-46), 3) := dk_167 255 210 (dk_at dksX2_deepest_2 8 rfl rfl)
theorem dX2_deepest_55 : decode cX2_deepest 55 = .ok (.iload_n 2, 1) := dk_28 (dk_at dksX2_deepest_2 11 rfl rfl)
theorem dX2_deepest_56 : decode cX2_deepest 56 = .ok (.iconst 1, 1) := dk_4 (dk_at dksX2_deepest_2 12 rfl rfl)
theorem dX2_deepest_57 : decode cX2_deepest 57 = .ok (.iadd, 1) := dk_96 (dk_at dksX2_deepest_2 13 rfl rfl)
theorem dX2_deepest_58 : decode cX2_deepest 58 = .ok (.ireturn, 1) := dk_172 (dk_at dksX2_deepest_2 14 rfl rfl)
abbrev cX2_heldBy : ByteArray := prog_6_method_10_code
def yX2_heldBy : MethodName := ⟨RX2, "heldBy", "(I)I"⟩
def dkwX2_heldBy_2 : List UInt8 := [167, 255, 214, 28, 172]
abbrev dktX2_heldBy_2 : List UInt8 := dkwX2_heldBy_2 ++ []
def dkwX2_heldBy_1 : List UInt8 := [192, 0, 53, 180, 0, 125, 27, 160, 0, 9, 4, 29, 120, 167, 0, 4, 3, 128, 61, 132, 3, 1]
abbrev dktX2_heldBy_1 : List UInt8 := dkwX2_heldBy_1 ++ dktX2_heldBy_2
def dkwX2_heldBy_0 : List UInt8 := [3, 61, 3, 62, 29, 42, 180, 0, 12, 182, 0, 45, 162, 0, 37, 28, 42, 180, 0, 12, 29, 182, 0, 49]
abbrev dktX2_heldBy_0 : List UInt8 := dkwX2_heldBy_0 ++ dktX2_heldBy_1
theorem dksX2_heldBy_0 : cX2_heldBy.data.toList.drop 0 = dktX2_heldBy_0 := by decide +kernel
theorem dksX2_heldBy_1 : cX2_heldBy.data.toList.drop 24 = dktX2_heldBy_1 := dk_seg dksX2_heldBy_0 24 rfl rfl
theorem dksX2_heldBy_2 : cX2_heldBy.data.toList.drop 46 = dktX2_heldBy_2 := dk_seg dksX2_heldBy_1 22 rfl rfl
theorem dX2_heldBy_0 : decode cX2_heldBy 0 = .ok (.iconst 0, 1) := dk_3 (dk_at dksX2_heldBy_0 0 rfl rfl)
theorem dX2_heldBy_1 : decode cX2_heldBy 1 = .ok (.istore_n 2, 1) := dk_61 (dk_at dksX2_heldBy_0 1 rfl rfl)
theorem dX2_heldBy_2 : decode cX2_heldBy 2 = .ok (.iconst 0, 1) := dk_3 (dk_at dksX2_heldBy_0 2 rfl rfl)
theorem dX2_heldBy_3 : decode cX2_heldBy 3 = .ok (.istore_n 3, 1) := dk_62 (dk_at dksX2_heldBy_0 3 rfl rfl)
theorem dX2_heldBy_4 : decode cX2_heldBy 4 = .ok (.iload_n 3, 1) := dk_29 (dk_at dksX2_heldBy_0 4 rfl rfl)
theorem dX2_heldBy_5 : decode cX2_heldBy 5 = .ok (.aload_n 0, 1) := dk_42 (dk_at dksX2_heldBy_0 5 rfl rfl)
theorem dX2_heldBy_6 : decode cX2_heldBy 6 = .ok (.getfield 12, 3) := dk_180 0 12 (dk_at dksX2_heldBy_0 6 rfl rfl)
theorem dX2_heldBy_9 : decode cX2_heldBy 9 = .ok (.invokevirtual 45, 3) := dk_182 0 45 (dk_at dksX2_heldBy_0 9 rfl rfl)
theorem dX2_heldBy_12 : decode cX2_heldBy 12 = .ok (.if_icmp .ge 37, 3) := dk_162 0 37 (dk_at dksX2_heldBy_0 12 rfl rfl)
theorem dX2_heldBy_15 : decode cX2_heldBy 15 = .ok (.iload_n 2, 1) := dk_28 (dk_at dksX2_heldBy_0 15 rfl rfl)
theorem dX2_heldBy_16 : decode cX2_heldBy 16 = .ok (.aload_n 0, 1) := dk_42 (dk_at dksX2_heldBy_0 16 rfl rfl)
theorem dX2_heldBy_17 : decode cX2_heldBy 17 = .ok (.getfield 12, 3) := dk_180 0 12 (dk_at dksX2_heldBy_0 17 rfl rfl)
theorem dX2_heldBy_20 : decode cX2_heldBy 20 = .ok (.iload_n 3, 1) := dk_29 (dk_at dksX2_heldBy_0 20 rfl rfl)
theorem dX2_heldBy_21 : decode cX2_heldBy 21 = .ok (.invokevirtual 49, 3) := dk_182 0 49 (dk_at dksX2_heldBy_0 21 rfl rfl)
theorem dX2_heldBy_24 : decode cX2_heldBy 24 = .ok (.checkcast 53, 3) := dk_192 0 53 (dk_at dksX2_heldBy_1 0 rfl rfl)
theorem dX2_heldBy_27 : decode cX2_heldBy 27 = .ok (.getfield 125, 3) := dk_180 0 125 (dk_at dksX2_heldBy_1 3 rfl rfl)
theorem dX2_heldBy_30 : decode cX2_heldBy 30 = .ok (.iload_n 1, 1) := dk_27 (dk_at dksX2_heldBy_1 6 rfl rfl)
theorem dX2_heldBy_31 : decode cX2_heldBy 31 = .ok (.if_icmp .ne 9, 3) := dk_160 0 9 (dk_at dksX2_heldBy_1 7 rfl rfl)
theorem dX2_heldBy_34 : decode cX2_heldBy 34 = .ok (.iconst 1, 1) := dk_4 (dk_at dksX2_heldBy_1 10 rfl rfl)
theorem dX2_heldBy_35 : decode cX2_heldBy 35 = .ok (.iload_n 3, 1) := dk_29 (dk_at dksX2_heldBy_1 11 rfl rfl)
theorem dX2_heldBy_36 : decode cX2_heldBy 36 = .ok (.ishl, 1) := dk_120 (dk_at dksX2_heldBy_1 12 rfl rfl)
theorem dX2_heldBy_37 : decode cX2_heldBy 37 = .ok (.goto 4, 3) := dk_167 0 4 (dk_at dksX2_heldBy_1 13 rfl rfl)
theorem dX2_heldBy_40 : decode cX2_heldBy 40 = .ok (.iconst 0, 1) := dk_3 (dk_at dksX2_heldBy_1 16 rfl rfl)
theorem dX2_heldBy_41 : decode cX2_heldBy 41 = .ok (.ior, 1) := dk_128 (dk_at dksX2_heldBy_1 17 rfl rfl)
theorem dX2_heldBy_42 : decode cX2_heldBy 42 = .ok (.istore_n 2, 1) := dk_61 (dk_at dksX2_heldBy_1 18 rfl rfl)
theorem dX2_heldBy_43 : decode cX2_heldBy 43 = .ok (.iinc 3 1, 3) := dk_132 3 1 (dk_at dksX2_heldBy_1 19 rfl rfl)
theorem dX2_heldBy_46 : decode cX2_heldBy 46 = .ok (.goto (-42), 3) := dk_167 255 214 (dk_at dksX2_heldBy_2 0 rfl rfl)
theorem dX2_heldBy_49 : decode cX2_heldBy 49 = .ok (.iload_n 2, 1) := dk_28 (dk_at dksX2_heldBy_2 3 rfl rfl)
theorem dX2_heldBy_50 : decode cX2_heldBy 50 = .ok (.ireturn, 1) := dk_172 (dk_at dksX2_heldBy_2 4 rfl rfl)
theorem q66 : (Jvm.Cond.initialized "IncidentKeeper$Core") ∈ lw_all := lw_g (lw_at lw_m1 2 rfl) rfl
theorem q113 : (Jvm.Cond.instantiable "IncidentKeeper$Core" (11 : Nat)) ∈ lw_all := lw_g (lw_at lw_m1 49 rfl) rfl
theorem q115 : (Jvm.Cond.instanceMethod ({ cls := "IncidentKeeper$Core", name := "<init>", desc := "()V" } : Jvm.MethodName)) ∈ lw_all := lw_g (lw_at lw_m1 51 rfl) rfl
theorem q116 : (Jvm.Cond.code ({ cls := "IncidentKeeper$Core", name := "<init>", desc := "()V" } : Jvm.MethodName) prog_6_method_1_code (1 : Nat) (Option.none : Option Jvm.ClassFile.FieldType)) ∈ lw_all := lw_g (lw_at lw_m1 52 rfl) rfl
theorem q117 : (Jvm.Cond.methodLink "IncidentKeeper$Core" (3 : Nat) ({ cls := "java/lang/Object", name := "<init>", desc := "()V" } : Jvm.MethodName)) ∈ lw_all := lw_g (lw_at lw_m1 53 rfl) rfl
theorem q118 : (Jvm.Cond.classLink "IncidentKeeper$Core" (9 : Nat) "java/util/ArrayList") ∈ lw_all := lw_g (lw_at lw_m1 54 rfl) rfl
theorem q120 : (Jvm.Cond.methodLink "IncidentKeeper$Core" (11 : Nat) ({ cls := "java/util/ArrayList", name := "<init>", desc := "()V" } : Jvm.MethodName)) ∈ lw_all := lw_g (lw_at lw_m1 56 rfl) rfl
theorem q144 : (Jvm.Cond.fieldLink "IncidentKeeper$Core" (12 : Nat) "IncidentKeeper$Core" "incidents" "Ljava/util/ArrayList;") ∈ lw_all := lw_g (lw_at lw_m1 80 rfl) rfl
theorem q148 : (Jvm.Cond.fieldLink "IncidentKeeper$Core" (18 : Nat) "IncidentKeeper$Core" "changes" "Ljava/util/ArrayList;") ∈ lw_all := lw_g (lw_at lw_m1 84 rfl) rfl
theorem q150 : (Jvm.Cond.fieldLink "IncidentKeeper$Core" (21 : Nat) "IncidentKeeper$Core" "actions" "Ljava/util/ArrayList;") ∈ lw_all := lw_g (lw_at lw_m1 86 rfl) rfl
theorem q152 : (Jvm.Cond.fieldLink "IncidentKeeper$Core" (24 : Nat) "IncidentKeeper$Core" "events" "Ljava/util/ArrayList;") ∈ lw_all := lw_g (lw_at lw_m1 88 rfl) rfl
theorem q154 : (Jvm.Cond.fieldLink "IncidentKeeper$Core" (27 : Nat) "IncidentKeeper$Core" "reviews" "[I") ∈ lw_all := lw_g (lw_at lw_m1 90 rfl) rfl
theorem q156 : (Jvm.Cond.fieldLink "IncidentKeeper$Core" (31 : Nat) "IncidentKeeper$Core" "targets" "[I") ∈ lw_all := lw_g (lw_at lw_m1 92 rfl) rfl
theorem q159 : (Jvm.Cond.fieldLink "IncidentKeeper$Core" (34 : Nat) "IncidentKeeper$Core" "limits" "[I") ∈ lw_all := lw_g (lw_at lw_m1 95 rfl) rfl
theorem q162 : (Jvm.Cond.fieldLink "IncidentKeeper$Core" (88 : Nat) "IncidentKeeper$Core" "reviewCount" "I") ∈ lw_all := lw_g (lw_at lw_m1 98 rfl) rfl
theorem q164 : (Jvm.Cond.fieldLink "IncidentKeeper$Core" (37 : Nat) "IncidentKeeper$Core" "onDuty" "I") ∈ lw_all := lw_g (lw_at lw_m1 100 rfl) rfl
theorem q166 : (Jvm.Cond.fieldLink "IncidentKeeper$Core" (41 : Nat) "IncidentKeeper$Core" "window" "I") ∈ lw_all := lw_g (lw_at lw_m1 102 rfl) rfl
theorem q169 : (Jvm.Cond.fieldLink "IncidentKeeper$Core" (91 : Nat) "IncidentKeeper$Core" "now" "I") ∈ lw_all := lw_g (lw_at lw_m1 105 rfl) rfl
theorem q171 : (Jvm.Cond.laysFinal "IncidentKeeper$Core" "IncidentKeeper$Core" "incidents" "Ljava/util/ArrayList;") ∈ lw_all := lw_g (lw_at lw_m1 107 rfl) rfl
theorem q172 : (Jvm.Cond.soleField "IncidentKeeper$Core" "incidents") ∈ lw_all := lw_g (lw_at lw_m1 108 rfl) rfl
theorem q173 : (Jvm.Cond.laysFinal "IncidentKeeper$Core" "IncidentKeeper$Core" "changes" "Ljava/util/ArrayList;") ∈ lw_all := lw_g (lw_at lw_m1 109 rfl) rfl
theorem q174 : (Jvm.Cond.soleField "IncidentKeeper$Core" "changes") ∈ lw_all := lw_g (lw_at lw_m1 110 rfl) rfl
theorem q175 : (Jvm.Cond.laysFinal "IncidentKeeper$Core" "IncidentKeeper$Core" "actions" "Ljava/util/ArrayList;") ∈ lw_all := lw_g (lw_at lw_m1 111 rfl) rfl
theorem q176 : (Jvm.Cond.soleField "IncidentKeeper$Core" "actions") ∈ lw_all := lw_g (lw_at lw_m1 112 rfl) rfl
theorem q177 : (Jvm.Cond.laysFinal "IncidentKeeper$Core" "IncidentKeeper$Core" "events" "Ljava/util/ArrayList;") ∈ lw_all := lw_g (lw_at lw_m1 113 rfl) rfl
theorem q178 : (Jvm.Cond.soleField "IncidentKeeper$Core" "events") ∈ lw_all := lw_g (lw_at lw_m1 114 rfl) rfl
theorem q179 : (Jvm.Cond.laysFinal "IncidentKeeper$Core" "IncidentKeeper$Core" "reviews" "[I") ∈ lw_all := lw_g (lw_at lw_m1 115 rfl) rfl
theorem q180 : (Jvm.Cond.soleField "IncidentKeeper$Core" "reviews") ∈ lw_all := lw_g (lw_at lw_m1 116 rfl) rfl
theorem q181 : (Jvm.Cond.laysFinal "IncidentKeeper$Core" "IncidentKeeper$Core" "targets" "[I") ∈ lw_all := lw_g (lw_at lw_m1 117 rfl) rfl
theorem q182 : (Jvm.Cond.soleField "IncidentKeeper$Core" "targets") ∈ lw_all := lw_g (lw_at lw_m1 118 rfl) rfl
theorem q183 : (Jvm.Cond.laysFinal "IncidentKeeper$Core" "IncidentKeeper$Core" "limits" "[I") ∈ lw_all := lw_g (lw_at lw_m1 119 rfl) rfl
theorem q184 : (Jvm.Cond.soleField "IncidentKeeper$Core" "limits") ∈ lw_all := lw_g (lw_at lw_m1 120 rfl) rfl
theorem q185 : (Jvm.Cond.lays "IncidentKeeper$Core" "IncidentKeeper$Core" "reviewCount" "I") ∈ lw_all := lw_g (lw_at lw_m1 121 rfl) rfl
theorem q186 : (Jvm.Cond.soleField "IncidentKeeper$Core" "reviewCount") ∈ lw_all := lw_g (lw_at lw_m1 122 rfl) rfl
theorem q187 : (Jvm.Cond.lays "IncidentKeeper$Core" "IncidentKeeper$Core" "onDuty" "I") ∈ lw_all := lw_g (lw_at lw_m1 123 rfl) rfl
theorem q188 : (Jvm.Cond.soleField "IncidentKeeper$Core" "onDuty") ∈ lw_all := lw_g (lw_at lw_m1 124 rfl) rfl
theorem q189 : (Jvm.Cond.lays "IncidentKeeper$Core" "IncidentKeeper$Core" "window" "I") ∈ lw_all := lw_g (lw_at lw_m1 125 rfl) rfl
theorem q190 : (Jvm.Cond.soleField "IncidentKeeper$Core" "window") ∈ lw_all := lw_g (lw_at lw_m1 126 rfl) rfl
theorem q191 : (Jvm.Cond.lays "IncidentKeeper$Core" "IncidentKeeper$Core" "now" "I") ∈ lw_all := lw_g (lw_at lw_m1 127 rfl) rfl
theorem q192 : (Jvm.Cond.soleField "IncidentKeeper$Core" "now") ∈ lw_all := lw_g (lw_at lw_m1 128 rfl) rfl
theorem q193 : (Jvm.Cond.superclass "IncidentKeeper$Core" "java/lang/Object") ∈ lw_all := lw_g (lw_at lw_m1 129 rfl) rfl
theorem q241 : (Jvm.Cond.instanceMethod ({ cls := "IncidentKeeper$Core", name := "copy", desc := "()LIncidentKeeper$Core;" } : Jvm.MethodName)) ∈ lw_all := lw_g (lw_at lw_m1 177 rfl) rfl
theorem q242 : (Jvm.Cond.selects "IncidentKeeper$Core" ({ cls := "IncidentKeeper$Core", name := "copy", desc := "()LIncidentKeeper$Core;" } : Jvm.MethodName) ({ cls := "IncidentKeeper$Core", name := "copy", desc := "()LIncidentKeeper$Core;" } : Jvm.MethodName)) ∈ lw_all := lw_g (lw_at lw_m1 178 rfl) rfl
theorem q243 : (Jvm.Cond.code ({ cls := "IncidentKeeper$Core", name := "copy", desc := "()LIncidentKeeper$Core;" } : Jvm.MethodName) prog_6_method_2_code (4 : Nat) (Option.some (Jvm.ClassFile.FieldType.object "IncidentKeeper$Core"))) ∈ lw_all := lw_g (lw_at lw_m1 179 rfl) rfl
theorem q244 : (Jvm.Cond.classLink "IncidentKeeper$Core" (13 : Nat) "IncidentKeeper$Core") ∈ lw_all := lw_g (lw_at lw_m1 180 rfl) rfl
theorem q245 : (Jvm.Cond.methodLink "IncidentKeeper$Core" (44 : Nat) ({ cls := "IncidentKeeper$Core", name := "<init>", desc := "()V" } : Jvm.MethodName)) ∈ lw_all := lw_g (lw_at lw_m1 181 rfl) rfl
theorem q246 : (Jvm.Cond.methodLink "IncidentKeeper$Core" (45 : Nat) ({ cls := "java/util/ArrayList", name := "size", desc := "()I" } : Jvm.MethodName)) ∈ lw_all := lw_g (lw_at lw_m1 182 rfl) rfl
theorem q250 : (Jvm.Cond.methodLink "IncidentKeeper$Core" (49 : Nat) ({ cls := "java/util/ArrayList", name := "get", desc := "(I)Ljava/lang/Object;" } : Jvm.MethodName)) ∈ lw_all := lw_g (lw_at lw_m1 186 rfl) rfl
theorem q264 : (Jvm.Cond.classLink "IncidentKeeper$Core" (53 : Nat) "IncidentKeeper$Core$Incident") ∈ lw_all := lw_g (lw_at lw_m1 200 rfl) rfl
theorem q265 : (Jvm.Cond.methodLink "IncidentKeeper$Core" (55 : Nat) ({ cls := "IncidentKeeper$Core$Incident", name := "system", desc := "()I" } : Jvm.MethodName)) ∈ lw_all := lw_g (lw_at lw_m1 201 rfl) rfl
theorem q271 : (Jvm.Cond.methodLink "IncidentKeeper$Core" (58 : Nat) ({ cls := "IncidentKeeper$Core$Incident", name := "first", desc := "()I" } : Jvm.MethodName)) ∈ lw_all := lw_g (lw_at lw_m1 207 rfl) rfl
theorem q277 : (Jvm.Cond.methodLink "IncidentKeeper$Core" (61 : Nat) ({ cls := "IncidentKeeper$Core", name := "add", desc := "(II)LIncidentKeeper$Core$Incident;" } : Jvm.MethodName)) ∈ lw_all := lw_g (lw_at lw_m1 213 rfl) rfl
theorem q278 : (Jvm.Cond.privateMethod ({ cls := "IncidentKeeper$Core", name := "add", desc := "(II)LIncidentKeeper$Core$Incident;" } : Jvm.MethodName)) ∈ lw_tbl := lw_at lw_m1 214 rfl
theorem q279 : (Jvm.Cond.instanceMethod ({ cls := "IncidentKeeper$Core", name := "add", desc := "(II)LIncidentKeeper$Core$Incident;" } : Jvm.MethodName)) ∈ lw_all := lw_g (lw_at lw_m1 215 rfl) rfl
theorem q280 : (Jvm.Cond.code ({ cls := "IncidentKeeper$Core", name := "add", desc := "(II)LIncidentKeeper$Core$Incident;" } : Jvm.MethodName) prog_6_method_3_code (4 : Nat) (Option.some (Jvm.ClassFile.FieldType.object "IncidentKeeper$Core$Incident"))) ∈ lw_all := lw_g (lw_at lw_m1 216 rfl) rfl
theorem q282 : (Jvm.Cond.methodLink "IncidentKeeper$Core" (94 : Nat) ({ cls := "IncidentKeeper$Core$Incident", name := "<init>", desc := "(LIncidentKeeper$Core;III)V" } : Jvm.MethodName)) ∈ lw_all := lw_g (lw_at lw_m1 218 rfl) rfl
theorem q290 : (Jvm.Cond.fieldLinkNest "IncidentKeeper$Core" (153 : Nat) "IncidentKeeper$Core$Incident" "number" "I" "IncidentKeeper") ∈ lw_tbl := lw_at lw_m1 226 rfl
theorem q293 : (Jvm.Cond.fieldLinkNest "IncidentKeeper$Core" (170 : Nat) "IncidentKeeper$Core$Incident" "counts" "[I" "IncidentKeeper") ∈ lw_tbl := lw_at lw_m1 229 rfl
theorem q296 : (Jvm.Cond.fieldLinkNest "IncidentKeeper$Core" (150 : Nat) "IncidentKeeper$Core$Incident" "severity" "I" "IncidentKeeper") ∈ lw_tbl := lw_at lw_m1 232 rfl
theorem q299 : (Jvm.Cond.fieldLinkNest "IncidentKeeper$Core" (125 : Nat) "IncidentKeeper$Core$Incident" "holder" "I" "IncidentKeeper") ∈ lw_tbl := lw_at lw_m1 235 rfl
theorem q302 : (Jvm.Cond.fieldLinkNest "IncidentKeeper$Core" (163 : Nat) "IncidentKeeper$Core$Incident" "causes" "I" "IncidentKeeper") ∈ lw_tbl := lw_at lw_m1 238 rfl
theorem q305 : (Jvm.Cond.fieldLinkNest "IncidentKeeper$Core" (122 : Nat) "IncidentKeeper$Core$Incident" "state" "I" "IncidentKeeper") ∈ lw_tbl := lw_at lw_m2 1 rfl
theorem q308 : (Jvm.Cond.fieldLinkNest "IncidentKeeper$Core" (206 : Nat) "IncidentKeeper$Core$Incident" "clock" "I" "IncidentKeeper") ∈ lw_tbl := lw_at lw_m2 4 rfl
theorem q314 : (Jvm.Cond.fieldLinkNest "IncidentKeeper$Core" (265 : Nat) "IncidentKeeper$Core$Incident" "idle" "I" "IncidentKeeper") ∈ lw_tbl := lw_at lw_m2 10 rfl
theorem q318 : (Jvm.Cond.fieldLinkNest "IncidentKeeper$Core" (209 : Nat) "IncidentKeeper$Core$Incident" "parent" "I" "IncidentKeeper") ∈ lw_tbl := lw_at lw_m2 14 rfl
theorem q321 : (Jvm.Cond.fieldLinkNest "IncidentKeeper$Core" (255 : Nat) "IncidentKeeper$Core$Incident" "change" "I" "IncidentKeeper") ∈ lw_tbl := lw_at lw_m2 17 rfl
theorem q324 : (Jvm.Cond.fieldLinkNest "IncidentKeeper$Core" (218 : Nat) "IncidentKeeper$Core$Incident" "review" "I" "IncidentKeeper") ∈ lw_tbl := lw_at lw_m2 20 rfl
theorem q370 : (Jvm.Cond.methodLink "IncidentKeeper$Core" (71 : Nat) ({ cls := "java/util/ArrayList", name := "add", desc := "(Ljava/lang/Object;)Z" } : Jvm.MethodName)) ∈ lw_all := lw_g (lw_at lw_m2 66 rfl) rfl
theorem q407 : (Jvm.Cond.selects "IncidentKeeper$Core" ({ cls := "java/lang/Object", name := "getClass", desc := "()Ljava/lang/Class;" } : Jvm.MethodName) ({ cls := "java/lang/Object", name := "getClass", desc := "()Ljava/lang/Class;" } : Jvm.MethodName)) ∈ lw_all := lw_g (lw_at lw_m2 103 rfl) rfl
theorem q439 : (Jvm.Cond.methodLink "IncidentKeeper$Core" (65 : Nat) ({ cls := "IncidentKeeper$Core$Incident", name := "take", desc := "(LIncidentKeeper$Core$Incident;)V" } : Jvm.MethodName)) ∈ lw_all := lw_g (lw_at lw_m2 135 rfl) rfl
theorem q444 : (Jvm.Cond.classLink "IncidentKeeper$Core" (69 : Nat) "IncidentKeeper$Change") ∈ lw_all := lw_g (lw_at lw_m2 140 rfl) rfl
theorem q445 : (Jvm.Cond.classLink "IncidentKeeper$Core" (74 : Nat) "IncidentKeeper$Action") ∈ lw_all := lw_g (lw_at lw_m2 141 rfl) rfl
theorem q446 : (Jvm.Cond.methodLink "IncidentKeeper$Core" (76 : Nat) ({ cls := "IncidentKeeper$Action", name := "copy", desc := "()LIncidentKeeper$Action;" } : Jvm.MethodName)) ∈ lw_all := lw_g (lw_at lw_m2 142 rfl) rfl
theorem q457 : (Jvm.Cond.fieldLinkNest "IncidentKeeper$Core" (226 : Nat) "IncidentKeeper$Action" "review" "I" "IncidentKeeper") ∈ lw_tbl := lw_at lw_m2 153 rfl
theorem q464 : (Jvm.Cond.fieldLinkNest "IncidentKeeper$Core" (227 : Nat) "IncidentKeeper$Action" "isDone" "Z" "IncidentKeeper") ∈ lw_tbl := lw_at lw_m2 160 rfl
theorem q475 : (Jvm.Cond.classLink "IncidentKeeper$Core" (80 : Nat) "IncidentKeeper$Event") ∈ lw_all := lw_g (lw_at lw_m2 171 rfl) rfl
theorem q476 : (Jvm.Cond.methodLink "IncidentKeeper$Core" (82 : Nat) ({ cls := "java/lang/System", name := "arraycopy", desc := "(Ljava/lang/Object;ILjava/lang/Object;II)V" } : Jvm.MethodName)) ∈ lw_all := lw_g (lw_at lw_m2 172 rfl) rfl
theorem q518 : (Jvm.Cond.instanceMethod ({ cls := "IncidentKeeper$Core", name := "setDuty", desc := "(IZ)I" } : Jvm.MethodName)) ∈ lw_all := lw_g (lw_at lw_m2 214 rfl) rfl
theorem q519 : (Jvm.Cond.selects "IncidentKeeper$Core" ({ cls := "IncidentKeeper$Core", name := "setDuty", desc := "(IZ)I" } : Jvm.MethodName) ({ cls := "IncidentKeeper$Core", name := "setDuty", desc := "(IZ)I" } : Jvm.MethodName)) ∈ lw_all := lw_g (lw_at lw_m2 215 rfl) rfl
theorem q520 : (Jvm.Cond.code ({ cls := "IncidentKeeper$Core", name := "setDuty", desc := "(IZ)I" } : Jvm.MethodName) prog_6_method_12_code (6 : Nat) (Option.some Jvm.ClassFile.FieldType.int)) ∈ lw_all := lw_g (lw_at lw_m2 216 rfl) rfl
theorem q521 : (Jvm.Cond.methodLinkNest "IncidentKeeper$Core" (136 : Nat) ({ cls := "IncidentKeeper", name := "isPerson", desc := "(I)Z" } : Jvm.MethodName) "IncidentKeeper") ∈ lw_tbl := lw_at lw_m2 217 rfl
theorem q527 : (Jvm.Cond.methodLinkNest "IncidentKeeper$Core" (111 : Nat) ({ cls := "IncidentKeeper", name := "refuse", desc := "(ZI)V" } : Jvm.MethodName) "IncidentKeeper") ∈ lw_tbl := lw_at lw_m2 223 rfl
theorem q607 : (Jvm.Cond.methodLinkNest "IncidentKeeper$Core" (128 : Nat) ({ cls := "IncidentKeeper", name := "has", desc := "(II)Z" } : Jvm.MethodName) "IncidentKeeper") ∈ lw_tbl := lw_at lw_m3 63 rfl
theorem q610 : (Jvm.Cond.methodLink "IncidentKeeper$Core" (118 : Nat) ({ cls := "IncidentKeeper$Core$Incident", name := "isActive", desc := "()Z" } : Jvm.MethodName)) ∈ lw_all := lw_g (lw_at lw_m3 66 rfl) rfl
theorem q614 : (Jvm.Cond.methodLink "IncidentKeeper$Core" (139 : Nat) ({ cls := "IncidentKeeper$Core", name := "freest", desc := "()I" } : Jvm.MethodName)) ∈ lw_all := lw_g (lw_at lw_m3 70 rfl) rfl
theorem q615 : (Jvm.Cond.privateMethod ({ cls := "IncidentKeeper$Core", name := "freest", desc := "()I" } : Jvm.MethodName)) ∈ lw_tbl := lw_at lw_m3 71 rfl
theorem q616 : (Jvm.Cond.instanceMethod ({ cls := "IncidentKeeper$Core", name := "freest", desc := "()I" } : Jvm.MethodName)) ∈ lw_all := lw_g (lw_at lw_m3 72 rfl) rfl
theorem q617 : (Jvm.Cond.code ({ cls := "IncidentKeeper$Core", name := "freest", desc := "()I" } : Jvm.MethodName) prog_6_method_11_code (4 : Nat) (Option.some Jvm.ClassFile.FieldType.int)) ∈ lw_all := lw_g (lw_at lw_m3 73 rfl) rfl
theorem q618 : (Jvm.Cond.methodLink "IncidentKeeper$Core" (132 : Nat) ({ cls := "IncidentKeeper$Core", name := "load", desc := "(I)I" } : Jvm.MethodName)) ∈ lw_all := lw_g (lw_at lw_m3 74 rfl) rfl
theorem q619 : (Jvm.Cond.instanceMethod ({ cls := "IncidentKeeper$Core", name := "load", desc := "(I)I" } : Jvm.MethodName)) ∈ lw_all := lw_g (lw_at lw_m3 75 rfl) rfl
theorem q620 : (Jvm.Cond.selects "IncidentKeeper$Core" ({ cls := "IncidentKeeper$Core", name := "load", desc := "(I)I" } : Jvm.MethodName) ({ cls := "IncidentKeeper$Core", name := "load", desc := "(I)I" } : Jvm.MethodName)) ∈ lw_all := lw_g (lw_at lw_m3 76 rfl) rfl
theorem q621 : (Jvm.Cond.code ({ cls := "IncidentKeeper$Core", name := "load", desc := "(I)I" } : Jvm.MethodName) prog_6_method_9_code (5 : Nat) (Option.some Jvm.ClassFile.FieldType.int)) ∈ lw_all := lw_g (lw_at lw_m3 77 rfl) rfl
theorem q622 : (Jvm.Cond.methodLink "IncidentKeeper$Core" (142 : Nat) ({ cls := "IncidentKeeper$Core$Incident", name := "hand", desc := "(I)V" } : Jvm.MethodName)) ∈ lw_all := lw_g (lw_at lw_m3 78 rfl) rfl
theorem q627 : (Jvm.Cond.privateMethod ({ cls := "IncidentKeeper$Core", name := "happens", desc := "(III)V" } : Jvm.MethodName)) ∈ lw_tbl := lw_at lw_m3 83 rfl
theorem q628 : (Jvm.Cond.instanceMethod ({ cls := "IncidentKeeper$Core", name := "happens", desc := "(III)V" } : Jvm.MethodName)) ∈ lw_all := lw_g (lw_at lw_m3 84 rfl) rfl
theorem q629 : (Jvm.Cond.code ({ cls := "IncidentKeeper$Core", name := "happens", desc := "(III)V" } : Jvm.MethodName) prog_6_method_4_code (4 : Nat) (Option.none : Option Jvm.ClassFile.FieldType)) ∈ lw_all := lw_g (lw_at lw_m3 85 rfl) rfl
theorem q630 : (Jvm.Cond.methodLink "IncidentKeeper$Core" (97 : Nat) ({ cls := "java/util/ArrayList", name := "remove", desc := "(I)Ljava/lang/Object;" } : Jvm.MethodName)) ∈ lw_all := lw_g (lw_at lw_m3 86 rfl) rfl
theorem q640 : (Jvm.Cond.methodLink "IncidentKeeper$Core" (100 : Nat) ({ cls := "IncidentKeeper$Event", name := "<init>", desc := "(IIII)V" } : Jvm.MethodName)) ∈ lw_all := lw_g (lw_at lw_m3 96 rfl) rfl
theorem q668 : (Jvm.Cond.instanceMethod ({ cls := "IncidentKeeper$Core", name := "open", desc := "(II)I" } : Jvm.MethodName)) ∈ lw_all := lw_g (lw_at lw_m3 124 rfl) rfl
theorem q669 : (Jvm.Cond.selects "IncidentKeeper$Core" ({ cls := "IncidentKeeper$Core", name := "open", desc := "(II)I" } : Jvm.MethodName) ({ cls := "IncidentKeeper$Core", name := "open", desc := "(II)I" } : Jvm.MethodName)) ∈ lw_all := lw_g (lw_at lw_m3 125 rfl) rfl
theorem q670 : (Jvm.Cond.code ({ cls := "IncidentKeeper$Core", name := "open", desc := "(II)I" } : Jvm.MethodName) prog_6_method_18_code (5 : Nat) (Option.some Jvm.ClassFile.FieldType.int)) ∈ lw_all := lw_g (lw_at lw_m3 126 rfl) rfl
theorem q671 : (Jvm.Cond.methodLinkNest "IncidentKeeper$Core" (103 : Nat) ({ cls := "IncidentKeeper", name := "isBetween", desc := "(III)Z" } : Jvm.MethodName) "IncidentKeeper") ∈ lw_tbl := lw_at lw_m3 127 rfl
theorem q672 : (Jvm.Cond.methodLink "IncidentKeeper$Core" (156 : Nat) ({ cls := "IncidentKeeper$Core", name := "happens", desc := "(III)V" } : Jvm.MethodName)) ∈ lw_all := lw_g (lw_at lw_m3 128 rfl) rfl
theorem q674 : (Jvm.Cond.instanceMethod ({ cls := "IncidentKeeper$Core", name := "hand", desc := "(II)I" } : Jvm.MethodName)) ∈ lw_all := lw_g (lw_at lw_m3 130 rfl) rfl
theorem q675 : (Jvm.Cond.selects "IncidentKeeper$Core" ({ cls := "IncidentKeeper$Core", name := "hand", desc := "(II)I" } : Jvm.MethodName) ({ cls := "IncidentKeeper$Core", name := "hand", desc := "(II)I" } : Jvm.MethodName)) ∈ lw_all := lw_g (lw_at lw_m3 131 rfl) rfl
theorem q676 : (Jvm.Cond.code ({ cls := "IncidentKeeper$Core", name := "hand", desc := "(II)I" } : Jvm.MethodName) prog_6_method_13_code (5 : Nat) (Option.some Jvm.ClassFile.FieldType.int)) ∈ lw_all := lw_g (lw_at lw_m3 132 rfl) rfl
theorem q677 : (Jvm.Cond.methodLink "IncidentKeeper$Core" (107 : Nat) ({ cls := "IncidentKeeper$Core", name := "hasIncident", desc := "(I)Z" } : Jvm.MethodName)) ∈ lw_all := lw_g (lw_at lw_m3 133 rfl) rfl
theorem q678 : (Jvm.Cond.instanceMethod ({ cls := "IncidentKeeper$Core", name := "hasIncident", desc := "(I)Z" } : Jvm.MethodName)) ∈ lw_all := lw_g (lw_at lw_m3 134 rfl) rfl
theorem q679 : (Jvm.Cond.selects "IncidentKeeper$Core" ({ cls := "IncidentKeeper$Core", name := "hasIncident", desc := "(I)Z" } : Jvm.MethodName) ({ cls := "IncidentKeeper$Core", name := "hasIncident", desc := "(I)Z" } : Jvm.MethodName)) ∈ lw_all := lw_g (lw_at lw_m3 135 rfl) rfl
theorem q680 : (Jvm.Cond.code ({ cls := "IncidentKeeper$Core", name := "hasIncident", desc := "(I)Z" } : Jvm.MethodName) prog_6_method_5_code (2 : Nat) (Option.some Jvm.ClassFile.FieldType.boolean)) ∈ lw_all := lw_g (lw_at lw_m3 136 rfl) rfl
theorem q682 : (Jvm.Cond.instanceMethod ({ cls := "IncidentKeeper$Core", name := "stop", desc := "(II)I" } : Jvm.MethodName)) ∈ lw_all := lw_g (lw_at lw_m3 138 rfl) rfl
theorem q683 : (Jvm.Cond.selects "IncidentKeeper$Core" ({ cls := "IncidentKeeper$Core", name := "stop", desc := "(II)I" } : Jvm.MethodName) ({ cls := "IncidentKeeper$Core", name := "stop", desc := "(II)I" } : Jvm.MethodName)) ∈ lw_all := lw_g (lw_at lw_m3 139 rfl) rfl
theorem q684 : (Jvm.Cond.code ({ cls := "IncidentKeeper$Core", name := "stop", desc := "(II)I" } : Jvm.MethodName) prog_6_method_21_code (4 : Nat) (Option.some Jvm.ClassFile.FieldType.int)) ∈ lw_all := lw_g (lw_at lw_m3 140 rfl) rfl
theorem q685 : (Jvm.Cond.methodLink "IncidentKeeper$Core" (166 : Nat) ({ cls := "IncidentKeeper$Core", name := "getFor", desc := "(IIZ)LIncidentKeeper$Core$Incident;" } : Jvm.MethodName)) ∈ lw_all := lw_g (lw_at lw_m3 141 rfl) rfl
theorem q686 : (Jvm.Cond.privateMethod ({ cls := "IncidentKeeper$Core", name := "getFor", desc := "(IIZ)LIncidentKeeper$Core$Incident;" } : Jvm.MethodName)) ∈ lw_tbl := lw_at lw_m3 142 rfl
theorem q687 : (Jvm.Cond.instanceMethod ({ cls := "IncidentKeeper$Core", name := "getFor", desc := "(IIZ)LIncidentKeeper$Core$Incident;" } : Jvm.MethodName)) ∈ lw_all := lw_g (lw_at lw_m3 143 rfl) rfl
theorem q688 : (Jvm.Cond.code ({ cls := "IncidentKeeper$Core", name := "getFor", desc := "(IIZ)LIncidentKeeper$Core$Incident;" } : Jvm.MethodName) prog_6_method_20_code (5 : Nat) (Option.some (Jvm.ClassFile.FieldType.object "IncidentKeeper$Core$Incident"))) ∈ lw_all := lw_g (lw_at lw_m3 144 rfl) rfl
theorem q689 : (Jvm.Cond.methodLink "IncidentKeeper$Core" (115 : Nat) ({ cls := "IncidentKeeper$Core", name := "get", desc := "(I)LIncidentKeeper$Core$Incident;" } : Jvm.MethodName)) ∈ lw_all := lw_g (lw_at lw_m3 145 rfl) rfl
theorem q690 : (Jvm.Cond.privateMethod ({ cls := "IncidentKeeper$Core", name := "get", desc := "(I)LIncidentKeeper$Core$Incident;" } : Jvm.MethodName)) ∈ lw_tbl := lw_at lw_m3 146 rfl
theorem q691 : (Jvm.Cond.instanceMethod ({ cls := "IncidentKeeper$Core", name := "get", desc := "(I)LIncidentKeeper$Core$Incident;" } : Jvm.MethodName)) ∈ lw_all := lw_g (lw_at lw_m3 147 rfl) rfl
theorem q692 : (Jvm.Cond.code ({ cls := "IncidentKeeper$Core", name := "get", desc := "(I)LIncidentKeeper$Core$Incident;" } : Jvm.MethodName) prog_6_method_6_code (2 : Nat) (Option.some (Jvm.ClassFile.FieldType.object "IncidentKeeper$Core$Incident"))) ∈ lw_all := lw_g (lw_at lw_m3 148 rfl) rfl
theorem q693 : (Jvm.Cond.methodLink "IncidentKeeper$Core" (173 : Nat) ({ cls := "IncidentKeeper$Core$Incident", name := "findState", desc := "()V" } : Jvm.MethodName)) ∈ lw_all := lw_g (lw_at lw_m3 149 rfl) rfl
theorem q702 : (Jvm.Cond.instanceMethod ({ cls := "IncidentKeeper$Core", name := "go", desc := "(II)I" } : Jvm.MethodName)) ∈ lw_all := lw_g (lw_at lw_m3 158 rfl) rfl
theorem q703 : (Jvm.Cond.selects "IncidentKeeper$Core" ({ cls := "IncidentKeeper$Core", name := "go", desc := "(II)I" } : Jvm.MethodName) ({ cls := "IncidentKeeper$Core", name := "go", desc := "(II)I" } : Jvm.MethodName)) ∈ lw_all := lw_g (lw_at lw_m3 159 rfl) rfl
theorem q704 : (Jvm.Cond.code ({ cls := "IncidentKeeper$Core", name := "go", desc := "(II)I" } : Jvm.MethodName) prog_6_method_22_code (4 : Nat) (Option.some Jvm.ClassFile.FieldType.int)) ∈ lw_all := lw_g (lw_at lw_m3 160 rfl) rfl
theorem q705 : (Jvm.Cond.methodLink "IncidentKeeper$Core" (176 : Nat) ({ cls := "IncidentKeeper$Core$Incident", name := "end", desc := "(I)V" } : Jvm.MethodName)) ∈ lw_all := lw_g (lw_at lw_m3 161 rfl) rfl
theorem q711 : (Jvm.Cond.instanceMethod ({ cls := "IncidentKeeper$Core", name := "rate", desc := "(II)I" } : Jvm.MethodName)) ∈ lw_all := lw_g (lw_at lw_m3 167 rfl) rfl
theorem q712 : (Jvm.Cond.selects "IncidentKeeper$Core" ({ cls := "IncidentKeeper$Core", name := "rate", desc := "(II)I" } : Jvm.MethodName) ({ cls := "IncidentKeeper$Core", name := "rate", desc := "(II)I" } : Jvm.MethodName)) ∈ lw_all := lw_g (lw_at lw_m3 168 rfl) rfl
theorem q713 : (Jvm.Cond.code ({ cls := "IncidentKeeper$Core", name := "rate", desc := "(II)I" } : Jvm.MethodName) prog_6_method_19_code (5 : Nat) (Option.some Jvm.ClassFile.FieldType.int)) ∈ lw_all := lw_g (lw_at lw_m3 169 rfl) rfl
theorem q714 : (Jvm.Cond.methodLink "IncidentKeeper$Core" (160 : Nat) ({ cls := "IncidentKeeper$Core$Incident", name := "rate", desc := "(I)V" } : Jvm.MethodName)) ∈ lw_all := lw_g (lw_at lw_m3 170 rfl) rfl
theorem q719 : (Jvm.Cond.instanceMethod ({ cls := "IncidentKeeper$Core", name := "resolve", desc := "(I)I" } : Jvm.MethodName)) ∈ lw_all := lw_g (lw_at lw_m3 175 rfl) rfl
theorem q720 : (Jvm.Cond.selects "IncidentKeeper$Core" ({ cls := "IncidentKeeper$Core", name := "resolve", desc := "(I)I" } : Jvm.MethodName) ({ cls := "IncidentKeeper$Core", name := "resolve", desc := "(I)I" } : Jvm.MethodName)) ∈ lw_all := lw_g (lw_at lw_m3 176 rfl) rfl
theorem q721 : (Jvm.Cond.code ({ cls := "IncidentKeeper$Core", name := "resolve", desc := "(I)I" } : Jvm.MethodName) prog_6_method_23_code (5 : Nat) (Option.some Jvm.ClassFile.FieldType.int)) ∈ lw_all := lw_g (lw_at lw_m3 177 rfl) rfl
theorem q722 : (Jvm.Cond.methodLink "IncidentKeeper$Core" (179 : Nat) ({ cls := "IncidentKeeper$Core", name := "getActive", desc := "(I)LIncidentKeeper$Core$Incident;" } : Jvm.MethodName)) ∈ lw_all := lw_g (lw_at lw_m3 178 rfl) rfl
theorem q723 : (Jvm.Cond.privateMethod ({ cls := "IncidentKeeper$Core", name := "getActive", desc := "(I)LIncidentKeeper$Core$Incident;" } : Jvm.MethodName)) ∈ lw_tbl := lw_at lw_m3 179 rfl
theorem q724 : (Jvm.Cond.instanceMethod ({ cls := "IncidentKeeper$Core", name := "getActive", desc := "(I)LIncidentKeeper$Core$Incident;" } : Jvm.MethodName)) ∈ lw_all := lw_g (lw_at lw_m3 180 rfl) rfl
theorem q725 : (Jvm.Cond.code ({ cls := "IncidentKeeper$Core", name := "getActive", desc := "(I)LIncidentKeeper$Core$Incident;" } : Jvm.MethodName) prog_6_method_7_code (3 : Nat) (Option.some (Jvm.ClassFile.FieldType.object "IncidentKeeper$Core$Incident"))) ∈ lw_all := lw_g (lw_at lw_m3 181 rfl) rfl
theorem q726 : (Jvm.Cond.classLink "IncidentKeeper$Core" (182 : Nat) "IncidentKeeper$Core$Descendants") ∈ lw_all := lw_g (lw_at lw_m3 182 rfl) rfl
theorem q728 : (Jvm.Cond.methodLink "IncidentKeeper$Core" (184 : Nat) ({ cls := "IncidentKeeper$Core$Descendants", name := "<init>", desc := "(LIncidentKeeper$Core;I)V" } : Jvm.MethodName)) ∈ lw_all := lw_g (lw_at lw_m3 184 rfl) rfl
theorem q741 : (Jvm.Cond.methodLink "IncidentKeeper$Core" (187 : Nat) ({ cls := "IncidentKeeper$Core$Descendants", name := "iterator", desc := "()Ljava/util/Iterator;" } : Jvm.MethodName)) ∈ lw_all := lw_g (lw_at lw_m3 197 rfl) rfl
theorem q771 : (Jvm.Cond.interfaceEntry "IncidentKeeper$Core" (191 : Nat)) ∈ lw_tbl := lw_at lw_m3 227 rfl
theorem q772 : (Jvm.Cond.methodLink "IncidentKeeper$Core" (191 : Nat) ({ cls := "java/util/Iterator", name := "hasNext", desc := "()Z" } : Jvm.MethodName)) ∈ lw_all := lw_g (lw_at lw_m3 228 rfl) rfl
theorem q781 : (Jvm.Cond.interfaceEntry "IncidentKeeper$Core" (196 : Nat)) ∈ lw_tbl := lw_at lw_m3 237 rfl
theorem q782 : (Jvm.Cond.methodLink "IncidentKeeper$Core" (196 : Nat) ({ cls := "java/util/Iterator", name := "next", desc := "()Ljava/lang/Object;" } : Jvm.MethodName)) ∈ lw_all := lw_g (lw_at lw_m3 238 rfl) rfl
theorem q794 : (Jvm.Cond.methodLinkNest "IncidentKeeper$Core" (200 : Nat) ({ cls := "IncidentKeeper", name := "refuse", desc := "(ZII)V" } : Jvm.MethodName) "IncidentKeeper") ∈ lw_tbl := lw_at lw_m4 10 rfl
theorem q795 : (Jvm.Cond.methodLink "IncidentKeeper$Core" (203 : Nat) ({ cls := "IncidentKeeper$Core$Incident", name := "setState", desc := "(I)V" } : Jvm.MethodName)) ∈ lw_all := lw_g (lw_at lw_m4 11 rfl) rfl
theorem q797 : (Jvm.Cond.instanceMethod ({ cls := "IncidentKeeper$Core", name := "reopen", desc := "(I)I" } : Jvm.MethodName)) ∈ lw_all := lw_g (lw_at lw_m4 13 rfl) rfl
theorem q798 : (Jvm.Cond.selects "IncidentKeeper$Core" ({ cls := "IncidentKeeper$Core", name := "reopen", desc := "(I)I" } : Jvm.MethodName) ({ cls := "IncidentKeeper$Core", name := "reopen", desc := "(I)I" } : Jvm.MethodName)) ∈ lw_all := lw_g (lw_at lw_m4 14 rfl) rfl
theorem q799 : (Jvm.Cond.code ({ cls := "IncidentKeeper$Core", name := "reopen", desc := "(I)I" } : Jvm.MethodName) prog_6_method_25_code (4 : Nat) (Option.some Jvm.ClassFile.FieldType.int)) ∈ lw_all := lw_g (lw_at lw_m4 15 rfl) rfl
theorem q800 : (Jvm.Cond.methodLink "IncidentKeeper$Core" (212 : Nat) ({ cls := "IncidentKeeper$Core", name := "getResolved", desc := "(I)LIncidentKeeper$Core$Incident;" } : Jvm.MethodName)) ∈ lw_all := lw_g (lw_at lw_m4 16 rfl) rfl
theorem q801 : (Jvm.Cond.privateMethod ({ cls := "IncidentKeeper$Core", name := "getResolved", desc := "(I)LIncidentKeeper$Core$Incident;" } : Jvm.MethodName)) ∈ lw_tbl := lw_at lw_m4 17 rfl
theorem q802 : (Jvm.Cond.instanceMethod ({ cls := "IncidentKeeper$Core", name := "getResolved", desc := "(I)LIncidentKeeper$Core$Incident;" } : Jvm.MethodName)) ∈ lw_all := lw_g (lw_at lw_m4 18 rfl) rfl
theorem q803 : (Jvm.Cond.code ({ cls := "IncidentKeeper$Core", name := "getResolved", desc := "(I)LIncidentKeeper$Core$Incident;" } : Jvm.MethodName) prog_6_method_8_code (3 : Nat) (Option.some (Jvm.ClassFile.FieldType.object "IncidentKeeper$Core$Incident"))) ∈ lw_all := lw_g (lw_at lw_m4 19 rfl) rfl
theorem q804 : (Jvm.Cond.methodLink "IncidentKeeper$Core" (215 : Nat) ({ cls := "IncidentKeeper$Core", name := "resolvedAbove", desc := "(I)I" } : Jvm.MethodName)) ∈ lw_all := lw_g (lw_at lw_m4 20 rfl) rfl
theorem q805 : (Jvm.Cond.privateMethod ({ cls := "IncidentKeeper$Core", name := "resolvedAbove", desc := "(I)I" } : Jvm.MethodName)) ∈ lw_tbl := lw_at lw_m4 21 rfl
theorem q806 : (Jvm.Cond.instanceMethod ({ cls := "IncidentKeeper$Core", name := "resolvedAbove", desc := "(I)I" } : Jvm.MethodName)) ∈ lw_all := lw_g (lw_at lw_m4 22 rfl) rfl
theorem q807 : (Jvm.Cond.code ({ cls := "IncidentKeeper$Core", name := "resolvedAbove", desc := "(I)I" } : Jvm.MethodName) prog_6_method_24_code (4 : Nat) (Option.some Jvm.ClassFile.FieldType.int)) ∈ lw_all := lw_g (lw_at lw_m4 23 rfl) rfl
theorem q808 : (Jvm.Cond.methodLink "IncidentKeeper$Core" (221 : Nat) ({ cls := "java/lang/Integer", name := "bitCount", desc := "(I)I" } : Jvm.MethodName)) ∈ lw_all := lw_g (lw_at lw_m4 24 rfl) rfl
theorem q815 : (Jvm.Cond.instanceMethod ({ cls := "IncidentKeeper$Core", name := "close", desc := "(I)I" } : Jvm.MethodName)) ∈ lw_all := lw_g (lw_at lw_m4 31 rfl) rfl
theorem q816 : (Jvm.Cond.selects "IncidentKeeper$Core" ({ cls := "IncidentKeeper$Core", name := "close", desc := "(I)I" } : Jvm.MethodName) ({ cls := "IncidentKeeper$Core", name := "close", desc := "(I)I" } : Jvm.MethodName)) ∈ lw_all := lw_g (lw_at lw_m4 32 rfl) rfl
theorem q817 : (Jvm.Cond.code ({ cls := "IncidentKeeper$Core", name := "close", desc := "(I)I" } : Jvm.MethodName) prog_6_method_27_code (5 : Nat) (Option.some Jvm.ClassFile.FieldType.int)) ∈ lw_all := lw_g (lw_at lw_m4 33 rfl) rfl
theorem q818 : (Jvm.Cond.methodLink "IncidentKeeper$Core" (231 : Nat) ({ cls := "IncidentKeeper$Core", name := "openAction", desc := "(I)I" } : Jvm.MethodName)) ∈ lw_all := lw_g (lw_at lw_m4 34 rfl) rfl
theorem q819 : (Jvm.Cond.privateMethod ({ cls := "IncidentKeeper$Core", name := "openAction", desc := "(I)I" } : Jvm.MethodName)) ∈ lw_tbl := lw_at lw_m4 35 rfl
theorem q820 : (Jvm.Cond.instanceMethod ({ cls := "IncidentKeeper$Core", name := "openAction", desc := "(I)I" } : Jvm.MethodName)) ∈ lw_all := lw_g (lw_at lw_m4 36 rfl) rfl
theorem q821 : (Jvm.Cond.code ({ cls := "IncidentKeeper$Core", name := "openAction", desc := "(I)I" } : Jvm.MethodName) prog_6_method_26_code (3 : Nat) (Option.some Jvm.ClassFile.FieldType.int)) ∈ lw_all := lw_g (lw_at lw_m4 37 rfl) rfl
theorem q822 : (Jvm.Cond.methodLink "IncidentKeeper$Core" (234 : Nat) ({ cls := "IncidentKeeper$Core", name := "inState", desc := "(I)I" } : Jvm.MethodName)) ∈ lw_all := lw_g (lw_at lw_m4 38 rfl) rfl
theorem q823 : (Jvm.Cond.instanceMethod ({ cls := "IncidentKeeper$Core", name := "inState", desc := "(I)I" } : Jvm.MethodName)) ∈ lw_all := lw_g (lw_at lw_m4 39 rfl) rfl
theorem q824 : (Jvm.Cond.selects "IncidentKeeper$Core" ({ cls := "IncidentKeeper$Core", name := "inState", desc := "(I)I" } : Jvm.MethodName) ({ cls := "IncidentKeeper$Core", name := "inState", desc := "(I)I" } : Jvm.MethodName)) ∈ lw_all := lw_g (lw_at lw_m4 40 rfl) rfl
theorem q825 : (Jvm.Cond.code ({ cls := "IncidentKeeper$Core", name := "inState", desc := "(I)I" } : Jvm.MethodName) prog_6_method_28_code (4 : Nat) (Option.some Jvm.ClassFile.FieldType.int)) ∈ lw_all := lw_g (lw_at lw_m4 41 rfl) rfl
theorem q827 : (Jvm.Cond.instanceMethod ({ cls := "IncidentKeeper$Core", name := "pass", desc := "(I)I" } : Jvm.MethodName)) ∈ lw_all := lw_g (lw_at lw_m4 43 rfl) rfl
theorem q828 : (Jvm.Cond.selects "IncidentKeeper$Core" ({ cls := "IncidentKeeper$Core", name := "pass", desc := "(I)I" } : Jvm.MethodName) ({ cls := "IncidentKeeper$Core", name := "pass", desc := "(I)I" } : Jvm.MethodName)) ∈ lw_all := lw_g (lw_at lw_m4 44 rfl) rfl
theorem q829 : (Jvm.Cond.code ({ cls := "IncidentKeeper$Core", name := "pass", desc := "(I)I" } : Jvm.MethodName) prog_6_method_38_code (6 : Nat) (Option.some Jvm.ClassFile.FieldType.int)) ∈ lw_all := lw_g (lw_at lw_m4 45 rfl) rfl
theorem q830 : (Jvm.Cond.methodLink "IncidentKeeper$Core" (262 : Nat) ({ cls := "IncidentKeeper$Core$Incident", name := "passes", desc := "()I" } : Jvm.MethodName)) ∈ lw_all := lw_g (lw_at lw_m4 46 rfl) rfl
theorem q855 : (Jvm.Cond.instanceMethod ({ cls := "IncidentKeeper$Core", name := "setTarget", desc := "(II)I" } : Jvm.MethodName)) ∈ lw_all := lw_g (lw_at lw_m4 71 rfl) rfl
theorem q856 : (Jvm.Cond.selects "IncidentKeeper$Core" ({ cls := "IncidentKeeper$Core", name := "setTarget", desc := "(II)I" } : Jvm.MethodName) ({ cls := "IncidentKeeper$Core", name := "setTarget", desc := "(II)I" } : Jvm.MethodName)) ∈ lw_all := lw_g (lw_at lw_m4 72 rfl) rfl
theorem q857 : (Jvm.Cond.code ({ cls := "IncidentKeeper$Core", name := "setTarget", desc := "(II)I" } : Jvm.MethodName) prog_6_method_15_code (3 : Nat) (Option.some Jvm.ClassFile.FieldType.int)) ∈ lw_all := lw_g (lw_at lw_m4 73 rfl) rfl
theorem q858 : (Jvm.Cond.methodLink "IncidentKeeper$Core" (146 : Nat) ({ cls := "IncidentKeeper$Core", name := "put", desc := "([IIIII)I" } : Jvm.MethodName)) ∈ lw_all := lw_g (lw_at lw_m4 74 rfl) rfl
theorem q859 : (Jvm.Cond.static ({ cls := "IncidentKeeper$Core", name := "put", desc := "([IIIII)I" } : Jvm.MethodName)) ∈ lw_all := lw_g (lw_at lw_m4 75 rfl) rfl
theorem q860 : (Jvm.Cond.code ({ cls := "IncidentKeeper$Core", name := "put", desc := "([IIIII)I" } : Jvm.MethodName) prog_6_method_14_code (6 : Nat) (Option.some Jvm.ClassFile.FieldType.int)) ∈ lw_all := lw_g (lw_at lw_m4 76 rfl) rfl
theorem q862 : (Jvm.Cond.instanceMethod ({ cls := "IncidentKeeper$Core", name := "setLimit", desc := "(II)I" } : Jvm.MethodName)) ∈ lw_all := lw_g (lw_at lw_m4 78 rfl) rfl
theorem q863 : (Jvm.Cond.selects "IncidentKeeper$Core" ({ cls := "IncidentKeeper$Core", name := "setLimit", desc := "(II)I" } : Jvm.MethodName) ({ cls := "IncidentKeeper$Core", name := "setLimit", desc := "(II)I" } : Jvm.MethodName)) ∈ lw_all := lw_g (lw_at lw_m4 79 rfl) rfl
theorem q864 : (Jvm.Cond.code ({ cls := "IncidentKeeper$Core", name := "setLimit", desc := "(II)I" } : Jvm.MethodName) prog_6_method_16_code (3 : Nat) (Option.some Jvm.ClassFile.FieldType.int)) ∈ lw_all := lw_g (lw_at lw_m4 80 rfl) rfl
theorem q866 : (Jvm.Cond.instanceMethod ({ cls := "IncidentKeeper$Core", name := "setWindow", desc := "(I)I" } : Jvm.MethodName)) ∈ lw_all := lw_g (lw_at lw_m4 82 rfl) rfl
theorem q867 : (Jvm.Cond.selects "IncidentKeeper$Core" ({ cls := "IncidentKeeper$Core", name := "setWindow", desc := "(I)I" } : Jvm.MethodName) ({ cls := "IncidentKeeper$Core", name := "setWindow", desc := "(I)I" } : Jvm.MethodName)) ∈ lw_all := lw_g (lw_at lw_m4 83 rfl) rfl
theorem q868 : (Jvm.Cond.code ({ cls := "IncidentKeeper$Core", name := "setWindow", desc := "(I)I" } : Jvm.MethodName) prog_6_method_17_code (3 : Nat) (Option.some Jvm.ClassFile.FieldType.int)) ∈ lw_all := lw_g (lw_at lw_m4 84 rfl) rfl
theorem q870 : (Jvm.Cond.instanceMethod ({ cls := "IncidentKeeper$Core", name := "setParent", desc := "(II)I" } : Jvm.MethodName)) ∈ lw_all := lw_g (lw_at lw_m4 86 rfl) rfl
theorem q871 : (Jvm.Cond.selects "IncidentKeeper$Core" ({ cls := "IncidentKeeper$Core", name := "setParent", desc := "(II)I" } : Jvm.MethodName) ({ cls := "IncidentKeeper$Core", name := "setParent", desc := "(II)I" } : Jvm.MethodName)) ∈ lw_all := lw_g (lw_at lw_m4 87 rfl) rfl
theorem q872 : (Jvm.Cond.code ({ cls := "IncidentKeeper$Core", name := "setParent", desc := "(II)I" } : Jvm.MethodName) prog_6_method_29_code (4 : Nat) (Option.some Jvm.ClassFile.FieldType.int)) ∈ lw_all := lw_g (lw_at lw_m4 88 rfl) rfl
theorem q873 : (Jvm.Cond.methodLink "IncidentKeeper$Core" (237 : Nat) ({ cls := "IncidentKeeper$Core", name := "tree", desc := "(I)I" } : Jvm.MethodName)) ∈ lw_all := lw_g (lw_at lw_m4 89 rfl) rfl
theorem q874 : (Jvm.Cond.instanceMethod ({ cls := "IncidentKeeper$Core", name := "tree", desc := "(I)I" } : Jvm.MethodName)) ∈ lw_all := lw_g (lw_at lw_m4 90 rfl) rfl
theorem q875 : (Jvm.Cond.selects "IncidentKeeper$Core" ({ cls := "IncidentKeeper$Core", name := "tree", desc := "(I)I" } : Jvm.MethodName) ({ cls := "IncidentKeeper$Core", name := "tree", desc := "(I)I" } : Jvm.MethodName)) ∈ lw_all := lw_g (lw_at lw_m4 91 rfl) rfl
theorem q876 : (Jvm.Cond.code ({ cls := "IncidentKeeper$Core", name := "tree", desc := "(I)I" } : Jvm.MethodName) prog_6_method_30_code (5 : Nat) (Option.some Jvm.ClassFile.FieldType.int)) ∈ lw_all := lw_g (lw_at lw_m4 92 rfl) rfl
theorem q878 : (Jvm.Cond.instanceMethod ({ cls := "IncidentKeeper$Core", name := "note", desc := "(III)I" } : Jvm.MethodName)) ∈ lw_all := lw_g (lw_at lw_m4 94 rfl) rfl
theorem q879 : (Jvm.Cond.selects "IncidentKeeper$Core" ({ cls := "IncidentKeeper$Core", name := "note", desc := "(III)I" } : Jvm.MethodName) ({ cls := "IncidentKeeper$Core", name := "note", desc := "(III)I" } : Jvm.MethodName)) ∈ lw_all := lw_g (lw_at lw_m4 95 rfl) rfl
theorem q880 : (Jvm.Cond.code ({ cls := "IncidentKeeper$Core", name := "note", desc := "(III)I" } : Jvm.MethodName) prog_6_method_32_code (5 : Nat) (Option.some Jvm.ClassFile.FieldType.int)) ∈ lw_all := lw_g (lw_at lw_m4 96 rfl) rfl
theorem q882 : (Jvm.Cond.methodLink "IncidentKeeper$Core" (249 : Nat) ({ cls := "IncidentKeeper$Change", name := "<init>", desc := "(III)V" } : Jvm.MethodName)) ∈ lw_all := lw_g (lw_at lw_m4 98 rfl) rfl
theorem q893 : (Jvm.Cond.instanceMethod ({ cls := "IncidentKeeper$Core", name := "link", desc := "(II)I" } : Jvm.MethodName)) ∈ lw_all := lw_g (lw_at lw_m4 109 rfl) rfl
theorem q894 : (Jvm.Cond.selects "IncidentKeeper$Core" ({ cls := "IncidentKeeper$Core", name := "link", desc := "(II)I" } : Jvm.MethodName) ({ cls := "IncidentKeeper$Core", name := "link", desc := "(II)I" } : Jvm.MethodName)) ∈ lw_all := lw_g (lw_at lw_m4 110 rfl) rfl
theorem q895 : (Jvm.Cond.code ({ cls := "IncidentKeeper$Core", name := "link", desc := "(II)I" } : Jvm.MethodName) prog_6_method_33_code (5 : Nat) (Option.some Jvm.ClassFile.FieldType.int)) ∈ lw_all := lw_g (lw_at lw_m4 111 rfl) rfl
theorem q896 : (Jvm.Cond.methodLink "IncidentKeeper$Core" (251 : Nat) ({ cls := "IncidentKeeper$Core$Incident", name := "isSuspected", desc := "(LIncidentKeeper$Change;)Z" } : Jvm.MethodName)) ∈ lw_all := lw_g (lw_at lw_m4 112 rfl) rfl
theorem q928 : (Jvm.Cond.instanceMethod ({ cls := "IncidentKeeper$Core", name := "review", desc := "(I)I" } : Jvm.MethodName)) ∈ lw_all := lw_g (lw_at lw_m4 144 rfl) rfl
theorem q929 : (Jvm.Cond.selects "IncidentKeeper$Core" ({ cls := "IncidentKeeper$Core", name := "review", desc := "(I)I" } : Jvm.MethodName) ({ cls := "IncidentKeeper$Core", name := "review", desc := "(I)I" } : Jvm.MethodName)) ∈ lw_all := lw_g (lw_at lw_m4 145 rfl) rfl
theorem q930 : (Jvm.Cond.code ({ cls := "IncidentKeeper$Core", name := "review", desc := "(I)I" } : Jvm.MethodName) prog_6_method_34_code (4 : Nat) (Option.some Jvm.ClassFile.FieldType.int)) ∈ lw_all := lw_g (lw_at lw_m4 146 rfl) rfl
theorem q932 : (Jvm.Cond.instanceMethod ({ cls := "IncidentKeeper$Core", name := "action", desc := "(III)I" } : Jvm.MethodName)) ∈ lw_all := lw_g (lw_at lw_m4 148 rfl) rfl
theorem q933 : (Jvm.Cond.selects "IncidentKeeper$Core" ({ cls := "IncidentKeeper$Core", name := "action", desc := "(III)I" } : Jvm.MethodName) ({ cls := "IncidentKeeper$Core", name := "action", desc := "(III)I" } : Jvm.MethodName)) ∈ lw_all := lw_g (lw_at lw_m4 149 rfl) rfl
theorem q934 : (Jvm.Cond.code ({ cls := "IncidentKeeper$Core", name := "action", desc := "(III)I" } : Jvm.MethodName) prog_6_method_36_code (4 : Nat) (Option.some Jvm.ClassFile.FieldType.int)) ∈ lw_all := lw_g (lw_at lw_m4 150 rfl) rfl
theorem q935 : (Jvm.Cond.methodLink "IncidentKeeper$Core" (258 : Nat) ({ cls := "IncidentKeeper$Core", name := "hasReview", desc := "(I)Z" } : Jvm.MethodName)) ∈ lw_all := lw_g (lw_at lw_m4 151 rfl) rfl
theorem q936 : (Jvm.Cond.instanceMethod ({ cls := "IncidentKeeper$Core", name := "hasReview", desc := "(I)Z" } : Jvm.MethodName)) ∈ lw_all := lw_g (lw_at lw_m4 152 rfl) rfl
theorem q937 : (Jvm.Cond.selects "IncidentKeeper$Core" ({ cls := "IncidentKeeper$Core", name := "hasReview", desc := "(I)Z" } : Jvm.MethodName) ({ cls := "IncidentKeeper$Core", name := "hasReview", desc := "(I)Z" } : Jvm.MethodName)) ∈ lw_all := lw_g (lw_at lw_m4 153 rfl) rfl
theorem q938 : (Jvm.Cond.code ({ cls := "IncidentKeeper$Core", name := "hasReview", desc := "(I)Z" } : Jvm.MethodName) prog_6_method_35_code (2 : Nat) (Option.some Jvm.ClassFile.FieldType.boolean)) ∈ lw_all := lw_g (lw_at lw_m4 154 rfl) rfl
theorem q939 : (Jvm.Cond.methodLink "IncidentKeeper$Core" (261 : Nat) ({ cls := "IncidentKeeper$Action", name := "<init>", desc := "(III)V" } : Jvm.MethodName)) ∈ lw_all := lw_g (lw_at lw_m4 155 rfl) rfl
theorem q941 : (Jvm.Cond.instanceMethod ({ cls := "IncidentKeeper$Core", name := "finish", desc := "(I)I" } : Jvm.MethodName)) ∈ lw_all := lw_g (lw_at lw_m4 157 rfl) rfl
theorem q942 : (Jvm.Cond.selects "IncidentKeeper$Core" ({ cls := "IncidentKeeper$Core", name := "finish", desc := "(I)I" } : Jvm.MethodName) ({ cls := "IncidentKeeper$Core", name := "finish", desc := "(I)I" } : Jvm.MethodName)) ∈ lw_all := lw_g (lw_at lw_m4 158 rfl) rfl
theorem q943 : (Jvm.Cond.code ({ cls := "IncidentKeeper$Core", name := "finish", desc := "(I)I" } : Jvm.MethodName) prog_6_method_37_code (5 : Nat) (Option.some Jvm.ClassFile.FieldType.int)) ∈ lw_all := lw_g (lw_at lw_m4 159 rfl) rfl
theorem q1464 : (Jvm.Cond.instanceMethod ({ cls := "IncidentKeeper$Core", name := "deepest", desc := "(I)I" } : Jvm.MethodName)) ∈ lw_all := lw_g (lw_at lw_m6 200 rfl) rfl
theorem q1465 : (Jvm.Cond.selects "IncidentKeeper$Core" ({ cls := "IncidentKeeper$Core", name := "deepest", desc := "(I)I" } : Jvm.MethodName) ({ cls := "IncidentKeeper$Core", name := "deepest", desc := "(I)I" } : Jvm.MethodName)) ∈ lw_all := lw_g (lw_at lw_m6 201 rfl) rfl
theorem q1466 : (Jvm.Cond.code ({ cls := "IncidentKeeper$Core", name := "deepest", desc := "(I)I" } : Jvm.MethodName) prog_6_method_31_code (4 : Nat) (Option.some Jvm.ClassFile.FieldType.int)) ∈ lw_all := lw_g (lw_at lw_m6 202 rfl) rfl
theorem q1467 : (Jvm.Cond.methodLink "IncidentKeeper$Core" (240 : Nat) ({ cls := "IncidentKeeper$Core", name := "deepest", desc := "(I)I" } : Jvm.MethodName)) ∈ lw_all := lw_g (lw_at lw_m6 203 rfl) rfl
theorem q1468 : (Jvm.Cond.methodLink "IncidentKeeper$Core" (243 : Nat) ({ cls := "java/lang/Math", name := "max", desc := "(II)I" } : Jvm.MethodName)) ∈ lw_all := lw_g (lw_at lw_m6 204 rfl) rfl
theorem q1541 : (Jvm.Cond.instanceMethod ({ cls := "IncidentKeeper$Core", name := "heldBy", desc := "(I)I" } : Jvm.MethodName)) ∈ lw_all := lw_g (lw_at lw_m7 37 rfl) rfl
theorem q1542 : (Jvm.Cond.selects "IncidentKeeper$Core" ({ cls := "IncidentKeeper$Core", name := "heldBy", desc := "(I)I" } : Jvm.MethodName) ({ cls := "IncidentKeeper$Core", name := "heldBy", desc := "(I)I" } : Jvm.MethodName)) ∈ lw_all := lw_g (lw_at lw_m7 38 rfl) rfl
theorem q1543 : (Jvm.Cond.code ({ cls := "IncidentKeeper$Core", name := "heldBy", desc := "(I)I" } : Jvm.MethodName) prog_6_method_10_code (4 : Nat) (Option.some Jvm.ClassFile.FieldType.int)) ∈ lw_all := lw_g (lw_at lw_m7 39 rfl) rfl
theorem q2065 : (Jvm.Cond.castable "IncidentKeeper$Core" "java/lang/Object") ∈ lw_tbl := lw_at lw_m9 81 rfl
theorem in_X2 : ∀ w ∈ wsX20, w ∈ lw_all := lw_in wsX20 [171, 173, 175, 177, 179, 181, 183, 185, 187, 189, 191] (by decide +kernel) (by decide +kernel)
