/-! IncidentKeeper -/
set_option maxRecDepth 100000
def RX1 : String := "IncidentKeeper"
def TX1 : u_T := fun k => match k with
  | 0 => ("IncidentKeeper", "core", "LIncidentKeeper$Core;", false)
  | 1 => ("IncidentKeeper", "before", "Ljava/util/ArrayList;", true)
  | 2 => ("IncidentKeeper", "saved", "LIncidentKeeper$Core;", false)
  | 3 => ("IncidentKeeper", "reason", "I", false)
  | 4 => ("IncidentKeeper", "detail", "I", false)
  | 5 => ("IncidentKeeper", "entry", "I", false)
  | 6 => ("IncidentKeeper", "nextEntry", "I", false)
  | 7 => ("IncidentKeeper", "text", "[C", true)
  | 8 => ("IncidentKeeper", "textLength", "I", false)
  | _ => ("IncidentKeeper", "fault", "I", false)
def tyX1 : Nat → FieldType := fun k => match k with
  | 0 => .object "IncidentKeeper$Core"
  | 1 => .object "java/util/ArrayList"
  | 2 => .object "IncidentKeeper$Core"
  | 3 => .int
  | 4 => .int
  | 5 => .int
  | 6 => .int
  | 7 => .array .char
  | 8 => .int
  | _ => .int
abbrev wsX10 : List Cond := u_ws RX1 TX1 10
theorem nmX1 : ∀ a, a < 10 → ∀ b, b < 10 → a ≠ b → (TX1 a).2.1 ≠ (TX1 b).2.1 := by decide +kernel
theorem tyX1_ok : ∀ k, k < 10 → parseFieldDescriptor (TX1 k).2.2.1 = some (tyX1 k) := by decide +kernel
abbrev cX1_init : ByteArray := prog_1_method_1_code
def yX1_init : MethodName := ⟨RX1, "<init>", "()V"⟩
def dkwX1_init_2 : List UInt8 := [181, 0, 34, 177]
abbrev dktX1_init_2 : List UInt8 := dkwX1_init_2 ++ []
def dkwX1_init_1 : List UInt8 := [181, 0, 19, 42, 2, 181, 0, 23, 42, 2, 181, 0, 27, 42, 16, 60, 188, 5, 181, 0, 30, 42, 2]
abbrev dktX1_init_1 : List UInt8 := dkwX1_init_1 ++ dktX1_init_2
def dkwX1_init_0 : List UInt8 := [42, 183, 0, 1, 42, 187, 0, 7, 89, 183, 0, 9, 181, 0, 10, 42, 187, 0, 16, 89, 183, 0, 18]
abbrev dktX1_init_0 : List UInt8 := dkwX1_init_0 ++ dktX1_init_1
theorem dksX1_init_0 : cX1_init.data.toList.drop 0 = dktX1_init_0 := by decide +kernel
theorem dksX1_init_1 : cX1_init.data.toList.drop 23 = dktX1_init_1 := dk_seg dksX1_init_0 23 rfl rfl
theorem dksX1_init_2 : cX1_init.data.toList.drop 46 = dktX1_init_2 := dk_seg dksX1_init_1 23 rfl rfl
theorem dX1_init_0 : decode cX1_init 0 = .ok (.aload_n 0, 1) := dk_42 (dk_at dksX1_init_0 0 rfl rfl)
theorem dX1_init_1 : decode cX1_init 1 = .ok (.invokespecial 1, 3) := dk_183 0 1 (dk_at dksX1_init_0 1 rfl rfl)
theorem dX1_init_4 : decode cX1_init 4 = .ok (.aload_n 0, 1) := dk_42 (dk_at dksX1_init_0 4 rfl rfl)
theorem dX1_init_5 : decode cX1_init 5 = .ok (.new 7, 3) := dk_187 0 7 (dk_at dksX1_init_0 5 rfl rfl)
theorem dX1_init_8 : decode cX1_init 8 = .ok (.dup, 1) := dk_89 (dk_at dksX1_init_0 8 rfl rfl)
theorem dX1_init_9 : decode cX1_init 9 = .ok (.invokespecial 9, 3) := dk_183 0 9 (dk_at dksX1_init_0 9 rfl rfl)
theorem dX1_init_12 : decode cX1_init 12 = .ok (.putfield 10, 3) := dk_181 0 10 (dk_at dksX1_init_0 12 rfl rfl)
theorem dX1_init_15 : decode cX1_init 15 = .ok (.aload_n 0, 1) := dk_42 (dk_at dksX1_init_0 15 rfl rfl)
theorem dX1_init_16 : decode cX1_init 16 = .ok (.new 16, 3) := dk_187 0 16 (dk_at dksX1_init_0 16 rfl rfl)
theorem dX1_init_19 : decode cX1_init 19 = .ok (.dup, 1) := dk_89 (dk_at dksX1_init_0 19 rfl rfl)
theorem dX1_init_20 : decode cX1_init 20 = .ok (.invokespecial 18, 3) := dk_183 0 18 (dk_at dksX1_init_0 20 rfl rfl)
theorem dX1_init_23 : decode cX1_init 23 = .ok (.putfield 19, 3) := dk_181 0 19 (dk_at dksX1_init_1 0 rfl rfl)
theorem dX1_init_26 : decode cX1_init 26 = .ok (.aload_n 0, 1) := dk_42 (dk_at dksX1_init_1 3 rfl rfl)
theorem dX1_init_27 : decode cX1_init 27 = .ok (.iconst (-1), 1) := dk_2 (dk_at dksX1_init_1 4 rfl rfl)
theorem dX1_init_28 : decode cX1_init 28 = .ok (.putfield 23, 3) := dk_181 0 23 (dk_at dksX1_init_1 5 rfl rfl)
theorem dX1_init_31 : decode cX1_init 31 = .ok (.aload_n 0, 1) := dk_42 (dk_at dksX1_init_1 8 rfl rfl)
theorem dX1_init_32 : decode cX1_init 32 = .ok (.iconst (-1), 1) := dk_2 (dk_at dksX1_init_1 9 rfl rfl)
theorem dX1_init_33 : decode cX1_init 33 = .ok (.putfield 27, 3) := dk_181 0 27 (dk_at dksX1_init_1 10 rfl rfl)
theorem dX1_init_36 : decode cX1_init 36 = .ok (.aload_n 0, 1) := dk_42 (dk_at dksX1_init_1 13 rfl rfl)
theorem dX1_init_37 : decode cX1_init 37 = .ok (.bipush 60, 2) := dk_16 60 (dk_at dksX1_init_1 14 rfl rfl)
theorem dX1_init_39 : decode cX1_init 39 = .ok (.newarray .char, 2) := dk_188_5 (dk_at dksX1_init_1 16 rfl rfl)
theorem dX1_init_41 : decode cX1_init 41 = .ok (.putfield 30, 3) := dk_181 0 30 (dk_at dksX1_init_1 18 rfl rfl)
theorem dX1_init_44 : decode cX1_init 44 = .ok (.aload_n 0, 1) := dk_42 (dk_at dksX1_init_1 21 rfl rfl)
theorem dX1_init_45 : decode cX1_init 45 = .ok (.iconst (-1), 1) := dk_2 (dk_at dksX1_init_1 22 rfl rfl)
theorem dX1_init_46 : decode cX1_init 46 = .ok (.putfield 34, 3) := dk_181 0 34 (dk_at dksX1_init_2 0 rfl rfl)
theorem dX1_init_49 : decode cX1_init 49 = .ok (.return_, 1) := dk_177 (dk_at dksX1_init_2 3 rfl rfl)
abbrev cX1_faultPosition : ByteArray := prog_1_method_35_code
def yX1_faultPosition : MethodName := ⟨RX1, "faultPosition", "()I"⟩
theorem dX1_faultPosition_0 : decode cX1_faultPosition 0 = .ok (.aload_n 0, 1) := by decide +kernel
theorem dX1_faultPosition_1 : decode cX1_faultPosition 1 = .ok (.getfield 34, 3) := by decide +kernel
theorem dX1_faultPosition_4 : decode cX1_faultPosition 4 = .ok (.ireturn, 1) := by decide +kernel
abbrev cX1_save : ByteArray := prog_1_method_59_code
def yX1_save : MethodName := ⟨RX1, "save", "()I"⟩
def dkwX1_save_0 : List UInt8 := [42, 42, 180, 0, 10, 182, 0, 70, 181, 1, 115, 42, 180, 0, 10, 180, 0, 150, 182, 0, 80, 172]
abbrev dktX1_save_0 : List UInt8 := dkwX1_save_0 ++ []
theorem dksX1_save_0 : cX1_save.data.toList.drop 0 = dktX1_save_0 := by decide +kernel
theorem dX1_save_0 : decode cX1_save 0 = .ok (.aload_n 0, 1) := dk_42 (dk_at dksX1_save_0 0 rfl rfl)
theorem dX1_save_1 : decode cX1_save 1 = .ok (.aload_n 0, 1) := dk_42 (dk_at dksX1_save_0 1 rfl rfl)
theorem dX1_save_2 : decode cX1_save 2 = .ok (.getfield 10, 3) := dk_180 0 10 (dk_at dksX1_save_0 2 rfl rfl)
theorem dX1_save_5 : decode cX1_save 5 = .ok (.invokevirtual 70, 3) := dk_182 0 70 (dk_at dksX1_save_0 5 rfl rfl)
theorem dX1_save_8 : decode cX1_save 8 = .ok (.putfield 371, 3) := dk_181 1 115 (dk_at dksX1_save_0 8 rfl rfl)
theorem dX1_save_11 : decode cX1_save 11 = .ok (.aload_n 0, 1) := dk_42 (dk_at dksX1_save_0 11 rfl rfl)
theorem dX1_save_12 : decode cX1_save 12 = .ok (.getfield 10, 3) := dk_180 0 10 (dk_at dksX1_save_0 12 rfl rfl)
theorem dX1_save_15 : decode cX1_save 15 = .ok (.getfield 150, 3) := dk_180 0 150 (dk_at dksX1_save_0 15 rfl rfl)
theorem dX1_save_18 : decode cX1_save 18 = .ok (.invokevirtual 80, 3) := dk_182 0 80 (dk_at dksX1_save_0 18 rfl rfl)
theorem dX1_save_21 : decode cX1_save 21 = .ok (.ireturn, 1) := dk_172 (dk_at dksX1_save_0 21 rfl rfl)
abbrev cX1_duty : ByteArray := prog_1_method_14_code
def yX1_duty : MethodName := ⟨RX1, "duty", "(IZ)I"⟩
def dkwX1_duty_0 : List UInt8 := [42, 187, 0, 108, 89, 42, 27, 28, 183, 0, 110, 182, 0, 104, 172]
abbrev dktX1_duty_0 : List UInt8 := dkwX1_duty_0 ++ []
theorem dksX1_duty_0 : cX1_duty.data.toList.drop 0 = dktX1_duty_0 := by decide +kernel
theorem dX1_duty_0 : decode cX1_duty 0 = .ok (.aload_n 0, 1) := dk_42 (dk_at dksX1_duty_0 0 rfl rfl)
theorem dX1_duty_1 : decode cX1_duty 1 = .ok (.new 108, 3) := dk_187 0 108 (dk_at dksX1_duty_0 1 rfl rfl)
theorem dX1_duty_4 : decode cX1_duty 4 = .ok (.dup, 1) := dk_89 (dk_at dksX1_duty_0 4 rfl rfl)
theorem dX1_duty_5 : decode cX1_duty 5 = .ok (.aload_n 0, 1) := dk_42 (dk_at dksX1_duty_0 5 rfl rfl)
theorem dX1_duty_6 : decode cX1_duty 6 = .ok (.iload_n 1, 1) := dk_27 (dk_at dksX1_duty_0 6 rfl rfl)
theorem dX1_duty_7 : decode cX1_duty 7 = .ok (.iload_n 2, 1) := dk_28 (dk_at dksX1_duty_0 7 rfl rfl)
theorem dX1_duty_8 : decode cX1_duty 8 = .ok (.invokespecial 110, 3) := dk_183 0 110 (dk_at dksX1_duty_0 8 rfl rfl)
theorem dX1_duty_11 : decode cX1_duty 11 = .ok (.invokevirtual 104, 3) := dk_182 0 104 (dk_at dksX1_duty_0 11 rfl rfl)
theorem dX1_duty_14 : decode cX1_duty 14 = .ok (.ireturn, 1) := dk_172 (dk_at dksX1_duty_0 14 rfl rfl)
abbrev cX1_carryOut : ByteArray := prog_1_method_12_code
def yX1_carryOut : MethodName := ⟨RX1, "carryOut", "(LIncidentKeeper$Work;)I"⟩
def dkwX1_carryOut_3 : List UInt8 := [182, 0, 92, 187, 0, 96, 89, 183, 0, 98, 191, 58, 5, 42, 2, 181, 0, 27, 25, 5, 191]
abbrev dktX1_carryOut_3 : List UInt8 := dkwX1_carryOut_3 ++ []
def dkwX1_carryOut_2 : List UInt8 := [182, 0, 88, 87, 42, 44, 181, 0, 10, 29, 54, 4, 42, 2, 181, 0, 27, 21, 4, 172, 78, 42, 45]
abbrev dktX1_carryOut_2 : List UInt8 := dkwX1_carryOut_2 ++ dktX1_carryOut_3
def dkwX1_carryOut_1 : List UInt8 := [16, 8, 160, 0, 12, 42, 180, 0, 19, 3, 182, 0, 84, 87, 42, 180, 0, 19, 42, 180, 0, 10]
abbrev dktX1_carryOut_1 : List UInt8 := dkwX1_carryOut_1 ++ dktX1_carryOut_2
def dkwX1_carryOut_0 : List UInt8 := [42, 180, 0, 10, 182, 0, 70, 77, 43, 44, 185, 0, 74, 2, 0, 62, 42, 180, 0, 19, 182, 0, 80]
abbrev dktX1_carryOut_0 : List UInt8 := dkwX1_carryOut_0 ++ dktX1_carryOut_1
theorem dksX1_carryOut_0 : cX1_carryOut.data.toList.drop 0 = dktX1_carryOut_0 := by decide +kernel
theorem dksX1_carryOut_1 : cX1_carryOut.data.toList.drop 23 = dktX1_carryOut_1 := dk_seg dksX1_carryOut_0 23 rfl rfl
theorem dksX1_carryOut_2 : cX1_carryOut.data.toList.drop 45 = dktX1_carryOut_2 := dk_seg dksX1_carryOut_1 22 rfl rfl
theorem dksX1_carryOut_3 : cX1_carryOut.data.toList.drop 68 = dktX1_carryOut_3 := dk_seg dksX1_carryOut_2 23 rfl rfl
theorem dX1_carryOut_0 : decode cX1_carryOut 0 = .ok (.aload_n 0, 1) := dk_42 (dk_at dksX1_carryOut_0 0 rfl rfl)
theorem dX1_carryOut_1 : decode cX1_carryOut 1 = .ok (.getfield 10, 3) := dk_180 0 10 (dk_at dksX1_carryOut_0 1 rfl rfl)
theorem dX1_carryOut_4 : decode cX1_carryOut 4 = .ok (.invokevirtual 70, 3) := dk_182 0 70 (dk_at dksX1_carryOut_0 4 rfl rfl)
theorem dX1_carryOut_7 : decode cX1_carryOut 7 = .ok (.astore_n 2, 1) := dk_77 (dk_at dksX1_carryOut_0 7 rfl rfl)
theorem dX1_carryOut_8 : decode cX1_carryOut 8 = .ok (.aload_n 1, 1) := dk_43 (dk_at dksX1_carryOut_0 8 rfl rfl)
theorem dX1_carryOut_9 : decode cX1_carryOut 9 = .ok (.aload_n 2, 1) := dk_44 (dk_at dksX1_carryOut_0 9 rfl rfl)
theorem dX1_carryOut_10 : decode cX1_carryOut 10 = .ok (.invokeinterface 74 2, 5) := by decide +kernel
theorem dX1_carryOut_15 : decode cX1_carryOut 15 = .ok (.istore_n 3, 1) := dk_62 (dk_at dksX1_carryOut_0 15 rfl rfl)
theorem dX1_carryOut_16 : decode cX1_carryOut 16 = .ok (.aload_n 0, 1) := dk_42 (dk_at dksX1_carryOut_0 16 rfl rfl)
theorem dX1_carryOut_17 : decode cX1_carryOut 17 = .ok (.getfield 19, 3) := dk_180 0 19 (dk_at dksX1_carryOut_0 17 rfl rfl)
theorem dX1_carryOut_20 : decode cX1_carryOut 20 = .ok (.invokevirtual 80, 3) := dk_182 0 80 (dk_at dksX1_carryOut_0 20 rfl rfl)
theorem dX1_carryOut_23 : decode cX1_carryOut 23 = .ok (.bipush 8, 2) := dk_16 8 (dk_at dksX1_carryOut_1 0 rfl rfl)
theorem dX1_carryOut_25 : decode cX1_carryOut 25 = .ok (.if_icmp .ne 12, 3) := dk_160 0 12 (dk_at dksX1_carryOut_1 2 rfl rfl)
theorem dX1_carryOut_28 : decode cX1_carryOut 28 = .ok (.aload_n 0, 1) := dk_42 (dk_at dksX1_carryOut_1 5 rfl rfl)
theorem dX1_carryOut_29 : decode cX1_carryOut 29 = .ok (.getfield 19, 3) := dk_180 0 19 (dk_at dksX1_carryOut_1 6 rfl rfl)
theorem dX1_carryOut_32 : decode cX1_carryOut 32 = .ok (.iconst 0, 1) := dk_3 (dk_at dksX1_carryOut_1 9 rfl rfl)
theorem dX1_carryOut_33 : decode cX1_carryOut 33 = .ok (.invokevirtual 84, 3) := dk_182 0 84 (dk_at dksX1_carryOut_1 10 rfl rfl)
theorem dX1_carryOut_36 : decode cX1_carryOut 36 = .ok (.pop, 1) := dk_87 (dk_at dksX1_carryOut_1 13 rfl rfl)
theorem dX1_carryOut_37 : decode cX1_carryOut 37 = .ok (.aload_n 0, 1) := dk_42 (dk_at dksX1_carryOut_1 14 rfl rfl)
theorem dX1_carryOut_38 : decode cX1_carryOut 38 = .ok (.getfield 19, 3) := dk_180 0 19 (dk_at dksX1_carryOut_1 15 rfl rfl)
theorem dX1_carryOut_41 : decode cX1_carryOut 41 = .ok (.aload_n 0, 1) := dk_42 (dk_at dksX1_carryOut_1 18 rfl rfl)
theorem dX1_carryOut_42 : decode cX1_carryOut 42 = .ok (.getfield 10, 3) := dk_180 0 10 (dk_at dksX1_carryOut_1 19 rfl rfl)
theorem dX1_carryOut_45 : decode cX1_carryOut 45 = .ok (.invokevirtual 88, 3) := dk_182 0 88 (dk_at dksX1_carryOut_2 0 rfl rfl)
theorem dX1_carryOut_48 : decode cX1_carryOut 48 = .ok (.pop, 1) := dk_87 (dk_at dksX1_carryOut_2 3 rfl rfl)
theorem dX1_carryOut_49 : decode cX1_carryOut 49 = .ok (.aload_n 0, 1) := dk_42 (dk_at dksX1_carryOut_2 4 rfl rfl)
theorem dX1_carryOut_50 : decode cX1_carryOut 50 = .ok (.aload_n 2, 1) := dk_44 (dk_at dksX1_carryOut_2 5 rfl rfl)
theorem dX1_carryOut_51 : decode cX1_carryOut 51 = .ok (.putfield 10, 3) := dk_181 0 10 (dk_at dksX1_carryOut_2 6 rfl rfl)
theorem dX1_carryOut_54 : decode cX1_carryOut 54 = .ok (.iload_n 3, 1) := dk_29 (dk_at dksX1_carryOut_2 9 rfl rfl)
theorem dX1_carryOut_55 : decode cX1_carryOut 55 = .ok (.istore 4, 2) := dk_54 4 (dk_at dksX1_carryOut_2 10 rfl rfl)
theorem dX1_carryOut_57 : decode cX1_carryOut 57 = .ok (.aload_n 0, 1) := dk_42 (dk_at dksX1_carryOut_2 12 rfl rfl)
theorem dX1_carryOut_58 : decode cX1_carryOut 58 = .ok (.iconst (-1), 1) := dk_2 (dk_at dksX1_carryOut_2 13 rfl rfl)
theorem dX1_carryOut_59 : decode cX1_carryOut 59 = .ok (.putfield 27, 3) := dk_181 0 27 (dk_at dksX1_carryOut_2 14 rfl rfl)
theorem dX1_carryOut_62 : decode cX1_carryOut 62 = .ok (.iload 4, 2) := dk_21 4 (dk_at dksX1_carryOut_2 17 rfl rfl)
theorem dX1_carryOut_64 : decode cX1_carryOut 64 = .ok (.ireturn, 1) := dk_172 (dk_at dksX1_carryOut_2 19 rfl rfl)
theorem dX1_carryOut_65 : decode cX1_carryOut 65 = .ok (.astore_n 3, 1) := dk_78 (dk_at dksX1_carryOut_2 20 rfl rfl)
theorem dX1_carryOut_66 : decode cX1_carryOut 66 = .ok (.aload_n 0, 1) := dk_42 (dk_at dksX1_carryOut_2 21 rfl rfl)
theorem dX1_carryOut_67 : decode cX1_carryOut 67 = .ok (.aload_n 3, 1) := dk_45 (dk_at dksX1_carryOut_2 22 rfl rfl)
theorem dX1_carryOut_68 : decode cX1_carryOut 68 = .ok (.invokevirtual 92, 3) := dk_182 0 92 (dk_at dksX1_carryOut_3 0 rfl rfl)
theorem dX1_carryOut_71 : decode cX1_carryOut 71 = .ok (.new 96, 3) := dk_187 0 96 (dk_at dksX1_carryOut_3 3 rfl rfl)
theorem dX1_carryOut_74 : decode cX1_carryOut 74 = .ok (.dup, 1) := dk_89 (dk_at dksX1_carryOut_3 6 rfl rfl)
theorem dX1_carryOut_75 : decode cX1_carryOut 75 = .ok (.invokespecial 98, 3) := dk_183 0 98 (dk_at dksX1_carryOut_3 7 rfl rfl)
theorem dX1_carryOut_78 : decode cX1_carryOut 78 = .ok (.athrow, 1) := dk_191 (dk_at dksX1_carryOut_3 10 rfl rfl)
theorem dX1_carryOut_79 : decode cX1_carryOut 79 = .ok (.astore 5, 2) := dk_58 5 (dk_at dksX1_carryOut_3 11 rfl rfl)
theorem dX1_carryOut_81 : decode cX1_carryOut 81 = .ok (.aload_n 0, 1) := dk_42 (dk_at dksX1_carryOut_3 13 rfl rfl)
theorem dX1_carryOut_82 : decode cX1_carryOut 82 = .ok (.iconst (-1), 1) := dk_2 (dk_at dksX1_carryOut_3 14 rfl rfl)
theorem dX1_carryOut_83 : decode cX1_carryOut 83 = .ok (.putfield 27, 3) := dk_181 0 27 (dk_at dksX1_carryOut_3 15 rfl rfl)
theorem dX1_carryOut_86 : decode cX1_carryOut 86 = .ok (.aload 5, 2) := dk_25 5 (dk_at dksX1_carryOut_3 18 rfl rfl)
theorem dX1_carryOut_88 : decode cX1_carryOut 88 = .ok (.athrow, 1) := dk_191 (dk_at dksX1_carryOut_3 20 rfl rfl)
abbrev cX1_isPerson : ByteArray := prog_1_method_3_code
def yX1_isPerson : MethodName := ⟨RX1, "isPerson", "(I)Z"⟩
def dkwX1_isPerson_0 : List UInt8 := [26, 3, 8, 184, 0, 37, 172]
abbrev dktX1_isPerson_0 : List UInt8 := dkwX1_isPerson_0 ++ []
theorem dksX1_isPerson_0 : cX1_isPerson.data.toList.drop 0 = dktX1_isPerson_0 := by decide +kernel
theorem dX1_isPerson_0 : decode cX1_isPerson 0 = .ok (.iload_n 0, 1) := dk_26 (dk_at dksX1_isPerson_0 0 rfl rfl)
theorem dX1_isPerson_1 : decode cX1_isPerson 1 = .ok (.iconst 0, 1) := dk_3 (dk_at dksX1_isPerson_0 1 rfl rfl)
theorem dX1_isPerson_2 : decode cX1_isPerson 2 = .ok (.iconst 5, 1) := dk_8 (dk_at dksX1_isPerson_0 2 rfl rfl)
theorem dX1_isPerson_3 : decode cX1_isPerson 3 = .ok (.invokestatic 37, 3) := dk_184 0 37 (dk_at dksX1_isPerson_0 3 rfl rfl)
theorem dX1_isPerson_6 : decode cX1_isPerson 6 = .ok (.ireturn, 1) := dk_172 (dk_at dksX1_isPerson_0 6 rfl rfl)
abbrev cX1_isBetween : ByteArray := prog_1_method_2_code
def yX1_isBetween : MethodName := ⟨RX1, "isBetween", "(III)Z"⟩
def dkwX1_isBetween_0 : List UInt8 := [26, 27, 161, 0, 12, 26, 28, 163, 0, 7, 4, 167, 0, 4, 3, 172]
abbrev dktX1_isBetween_0 : List UInt8 := dkwX1_isBetween_0 ++ []
theorem dksX1_isBetween_0 : cX1_isBetween.data.toList.drop 0 = dktX1_isBetween_0 := by decide +kernel
theorem dX1_isBetween_0 : decode cX1_isBetween 0 = .ok (.iload_n 0, 1) := dk_26 (dk_at dksX1_isBetween_0 0 rfl rfl)
theorem dX1_isBetween_1 : decode cX1_isBetween 1 = .ok (.iload_n 1, 1) := dk_27 (dk_at dksX1_isBetween_0 1 rfl rfl)
theorem dX1_isBetween_2 : decode cX1_isBetween 2 = .ok (.if_icmp .lt 12, 3) := dk_161 0 12 (dk_at dksX1_isBetween_0 2 rfl rfl)
theorem dX1_isBetween_5 : decode cX1_isBetween 5 = .ok (.iload_n 0, 1) := dk_26 (dk_at dksX1_isBetween_0 5 rfl rfl)
theorem dX1_isBetween_6 : decode cX1_isBetween 6 = .ok (.iload_n 2, 1) := dk_28 (dk_at dksX1_isBetween_0 6 rfl rfl)
theorem dX1_isBetween_7 : decode cX1_isBetween 7 = .ok (.if_icmp .gt 7, 3) := dk_163 0 7 (dk_at dksX1_isBetween_0 7 rfl rfl)
theorem dX1_isBetween_10 : decode cX1_isBetween 10 = .ok (.iconst 1, 1) := dk_4 (dk_at dksX1_isBetween_0 10 rfl rfl)
theorem dX1_isBetween_11 : decode cX1_isBetween 11 = .ok (.goto 4, 3) := dk_167 0 4 (dk_at dksX1_isBetween_0 11 rfl rfl)
theorem dX1_isBetween_14 : decode cX1_isBetween 14 = .ok (.iconst 0, 1) := dk_3 (dk_at dksX1_isBetween_0 14 rfl rfl)
theorem dX1_isBetween_15 : decode cX1_isBetween 15 = .ok (.ireturn, 1) := dk_172 (dk_at dksX1_isBetween_0 15 rfl rfl)
abbrev cX1_refuse : ByteArray := prog_1_method_10_code
def yX1_refuse : MethodName := ⟨RX1, "refuse", "(ZI)V"⟩
def dkwX1_refuse_0 : List UInt8 := [26, 27, 3, 184, 0, 58, 177]
abbrev dktX1_refuse_0 : List UInt8 := dkwX1_refuse_0 ++ []
theorem dksX1_refuse_0 : cX1_refuse.data.toList.drop 0 = dktX1_refuse_0 := by decide +kernel
theorem dX1_refuse_0 : decode cX1_refuse 0 = .ok (.iload_n 0, 1) := dk_26 (dk_at dksX1_refuse_0 0 rfl rfl)
theorem dX1_refuse_1 : decode cX1_refuse 1 = .ok (.iload_n 1, 1) := dk_27 (dk_at dksX1_refuse_0 1 rfl rfl)
theorem dX1_refuse_2 : decode cX1_refuse 2 = .ok (.iconst 0, 1) := dk_3 (dk_at dksX1_refuse_0 2 rfl rfl)
theorem dX1_refuse_3 : decode cX1_refuse 3 = .ok (.invokestatic 58, 3) := dk_184 0 58 (dk_at dksX1_refuse_0 3 rfl rfl)
theorem dX1_refuse_6 : decode cX1_refuse 6 = .ok (.return_, 1) := dk_177 (dk_at dksX1_refuse_0 6 rfl rfl)
abbrev cX1_refuse_2 : ByteArray := prog_1_method_9_code
def yX1_refuse_2 : MethodName := ⟨RX1, "refuse", "(ZII)V"⟩
def dkwX1_refuse_2_0 : List UInt8 := [26, 153, 0, 13, 187, 0, 53, 89, 27, 28, 183, 0, 55, 191, 177]
abbrev dktX1_refuse_2_0 : List UInt8 := dkwX1_refuse_2_0 ++ []
theorem dksX1_refuse_2_0 : cX1_refuse_2.data.toList.drop 0 = dktX1_refuse_2_0 := by decide +kernel
theorem dX1_refuse_2_0 : decode cX1_refuse_2 0 = .ok (.iload_n 0, 1) := dk_26 (dk_at dksX1_refuse_2_0 0 rfl rfl)
theorem dX1_refuse_2_1 : decode cX1_refuse_2 1 = .ok (.ifCond .eq 13, 3) := dk_153 0 13 (dk_at dksX1_refuse_2_0 1 rfl rfl)
theorem dX1_refuse_2_4 : decode cX1_refuse_2 4 = .ok (.new 53, 3) := dk_187 0 53 (dk_at dksX1_refuse_2_0 4 rfl rfl)
theorem dX1_refuse_2_7 : decode cX1_refuse_2 7 = .ok (.dup, 1) := dk_89 (dk_at dksX1_refuse_2_0 7 rfl rfl)
theorem dX1_refuse_2_8 : decode cX1_refuse_2 8 = .ok (.iload_n 1, 1) := dk_27 (dk_at dksX1_refuse_2_0 8 rfl rfl)
theorem dX1_refuse_2_9 : decode cX1_refuse_2 9 = .ok (.iload_n 2, 1) := dk_28 (dk_at dksX1_refuse_2_0 9 rfl rfl)
theorem dX1_refuse_2_10 : decode cX1_refuse_2 10 = .ok (.invokespecial 55, 3) := dk_183 0 55 (dk_at dksX1_refuse_2_0 10 rfl rfl)
theorem dX1_refuse_2_13 : decode cX1_refuse_2 13 = .ok (.athrow, 1) := dk_191 (dk_at dksX1_refuse_2_0 13 rfl rfl)
theorem dX1_refuse_2_14 : decode cX1_refuse_2 14 = .ok (.return_, 1) := dk_177 (dk_at dksX1_refuse_2_0 14 rfl rfl)
abbrev cX1_has : ByteArray := prog_1_method_4_code
def yX1_has : MethodName := ⟨RX1, "has", "(II)Z"⟩
def dkwX1_has_0 : List UInt8 := [26, 27, 122, 4, 126, 4, 160, 0, 7, 4, 167, 0, 4, 3, 172]
abbrev dktX1_has_0 : List UInt8 := dkwX1_has_0 ++ []
theorem dksX1_has_0 : cX1_has.data.toList.drop 0 = dktX1_has_0 := by decide +kernel
theorem dX1_has_0 : decode cX1_has 0 = .ok (.iload_n 0, 1) := dk_26 (dk_at dksX1_has_0 0 rfl rfl)
theorem dX1_has_1 : decode cX1_has 1 = .ok (.iload_n 1, 1) := dk_27 (dk_at dksX1_has_0 1 rfl rfl)
theorem dX1_has_2 : decode cX1_has 2 = .ok (.ishr, 1) := dk_122 (dk_at dksX1_has_0 2 rfl rfl)
theorem dX1_has_3 : decode cX1_has 3 = .ok (.iconst 1, 1) := dk_4 (dk_at dksX1_has_0 3 rfl rfl)
theorem dX1_has_4 : decode cX1_has 4 = .ok (.iand, 1) := dk_126 (dk_at dksX1_has_0 4 rfl rfl)
theorem dX1_has_5 : decode cX1_has 5 = .ok (.iconst 1, 1) := dk_4 (dk_at dksX1_has_0 5 rfl rfl)
theorem dX1_has_6 : decode cX1_has 6 = .ok (.if_icmp .ne 7, 3) := dk_160 0 7 (dk_at dksX1_has_0 6 rfl rfl)
theorem dX1_has_9 : decode cX1_has 9 = .ok (.iconst 1, 1) := dk_4 (dk_at dksX1_has_0 9 rfl rfl)
theorem dX1_has_10 : decode cX1_has 10 = .ok (.goto 4, 3) := dk_167 0 4 (dk_at dksX1_has_0 10 rfl rfl)
theorem dX1_has_13 : decode cX1_has 13 = .ok (.iconst 0, 1) := dk_3 (dk_at dksX1_has_0 13 rfl rfl)
theorem dX1_has_14 : decode cX1_has 14 = .ok (.ireturn, 1) := dk_172 (dk_at dksX1_has_0 14 rfl rfl)
abbrev cX1_keep : ByteArray := prog_1_method_11_code
def yX1_keep : MethodName := ⟨RX1, "keep", "(LIncidentKeeper$RefusedException;)V"⟩
def dkwX1_keep_1 : List UInt8 := [177]
abbrev dktX1_keep_1 : List UInt8 := dkwX1_keep_1 ++ []
def dkwX1_keep_0 : List UInt8 := [42, 43, 180, 0, 62, 181, 0, 65, 42, 43, 180, 0, 66, 181, 0, 69, 42, 42, 180, 0, 27, 181, 0, 23]
abbrev dktX1_keep_0 : List UInt8 := dkwX1_keep_0 ++ dktX1_keep_1
theorem dksX1_keep_0 : cX1_keep.data.toList.drop 0 = dktX1_keep_0 := by decide +kernel
theorem dksX1_keep_1 : cX1_keep.data.toList.drop 24 = dktX1_keep_1 := dk_seg dksX1_keep_0 24 rfl rfl
theorem dX1_keep_0 : decode cX1_keep 0 = .ok (.aload_n 0, 1) := dk_42 (dk_at dksX1_keep_0 0 rfl rfl)
theorem dX1_keep_1 : decode cX1_keep 1 = .ok (.aload_n 1, 1) := dk_43 (dk_at dksX1_keep_0 1 rfl rfl)
theorem dX1_keep_2 : decode cX1_keep 2 = .ok (.getfield 62, 3) := dk_180 0 62 (dk_at dksX1_keep_0 2 rfl rfl)
theorem dX1_keep_5 : decode cX1_keep 5 = .ok (.putfield 65, 3) := dk_181 0 65 (dk_at dksX1_keep_0 5 rfl rfl)
theorem dX1_keep_8 : decode cX1_keep 8 = .ok (.aload_n 0, 1) := dk_42 (dk_at dksX1_keep_0 8 rfl rfl)
theorem dX1_keep_9 : decode cX1_keep 9 = .ok (.aload_n 1, 1) := dk_43 (dk_at dksX1_keep_0 9 rfl rfl)
theorem dX1_keep_10 : decode cX1_keep 10 = .ok (.getfield 66, 3) := dk_180 0 66 (dk_at dksX1_keep_0 10 rfl rfl)
theorem dX1_keep_13 : decode cX1_keep 13 = .ok (.putfield 69, 3) := dk_181 0 69 (dk_at dksX1_keep_0 13 rfl rfl)
theorem dX1_keep_16 : decode cX1_keep 16 = .ok (.aload_n 0, 1) := dk_42 (dk_at dksX1_keep_0 16 rfl rfl)
theorem dX1_keep_17 : decode cX1_keep 17 = .ok (.aload_n 0, 1) := dk_42 (dk_at dksX1_keep_0 17 rfl rfl)
theorem dX1_keep_18 : decode cX1_keep 18 = .ok (.getfield 27, 3) := dk_180 0 27 (dk_at dksX1_keep_0 18 rfl rfl)
theorem dX1_keep_21 : decode cX1_keep 21 = .ok (.putfield 23, 3) := dk_181 0 23 (dk_at dksX1_keep_0 21 rfl rfl)
theorem dX1_keep_24 : decode cX1_keep 24 = .ok (.return_, 1) := dk_177 (dk_at dksX1_keep_1 0 rfl rfl)
abbrev cX1_target : ByteArray := prog_1_method_15_code
def yX1_target : MethodName := ⟨RX1, "target", "(II)I"⟩
def dkwX1_target_0 : List UInt8 := [42, 16, 84, 27, 28, 3, 182, 0, 113, 172]
abbrev dktX1_target_0 : List UInt8 := dkwX1_target_0 ++ []
theorem dksX1_target_0 : cX1_target.data.toList.drop 0 = dktX1_target_0 := by decide +kernel
theorem dX1_target_0 : decode cX1_target 0 = .ok (.aload_n 0, 1) := dk_42 (dk_at dksX1_target_0 0 rfl rfl)
theorem dX1_target_1 : decode cX1_target 1 = .ok (.bipush 84, 2) := dk_16 84 (dk_at dksX1_target_0 1 rfl rfl)
theorem dX1_target_3 : decode cX1_target 3 = .ok (.iload_n 1, 1) := dk_27 (dk_at dksX1_target_0 3 rfl rfl)
theorem dX1_target_4 : decode cX1_target 4 = .ok (.iload_n 2, 1) := dk_28 (dk_at dksX1_target_0 4 rfl rfl)
theorem dX1_target_5 : decode cX1_target 5 = .ok (.iconst 0, 1) := dk_3 (dk_at dksX1_target_0 5 rfl rfl)
theorem dX1_target_6 : decode cX1_target 6 = .ok (.invokevirtual 113, 3) := dk_182 0 113 (dk_at dksX1_target_0 6 rfl rfl)
theorem dX1_target_9 : decode cX1_target 9 = .ok (.ireturn, 1) := dk_172 (dk_at dksX1_target_0 9 rfl rfl)
abbrev cX1_carryOut_2 : ByteArray := prog_1_method_13_code
def yX1_carryOut_2 : MethodName := ⟨RX1, "carryOut", "(CIII)I"⟩
def dkwX1_carryOut_2_0 : List UInt8 := [42, 187, 0, 99, 89, 27, 28, 29, 21, 4, 183, 0, 101, 182, 0, 104, 172]
abbrev dktX1_carryOut_2_0 : List UInt8 := dkwX1_carryOut_2_0 ++ []
theorem dksX1_carryOut_2_0 : cX1_carryOut_2.data.toList.drop 0 = dktX1_carryOut_2_0 := by decide +kernel
theorem dX1_carryOut_2_0 : decode cX1_carryOut_2 0 = .ok (.aload_n 0, 1) := dk_42 (dk_at dksX1_carryOut_2_0 0 rfl rfl)
theorem dX1_carryOut_2_1 : decode cX1_carryOut_2 1 = .ok (.new 99, 3) := dk_187 0 99 (dk_at dksX1_carryOut_2_0 1 rfl rfl)
theorem dX1_carryOut_2_4 : decode cX1_carryOut_2 4 = .ok (.dup, 1) := dk_89 (dk_at dksX1_carryOut_2_0 4 rfl rfl)
theorem dX1_carryOut_2_5 : decode cX1_carryOut_2 5 = .ok (.iload_n 1, 1) := dk_27 (dk_at dksX1_carryOut_2_0 5 rfl rfl)
theorem dX1_carryOut_2_6 : decode cX1_carryOut_2 6 = .ok (.iload_n 2, 1) := dk_28 (dk_at dksX1_carryOut_2_0 6 rfl rfl)
theorem dX1_carryOut_2_7 : decode cX1_carryOut_2 7 = .ok (.iload_n 3, 1) := dk_29 (dk_at dksX1_carryOut_2_0 7 rfl rfl)
theorem dX1_carryOut_2_8 : decode cX1_carryOut_2 8 = .ok (.iload 4, 2) := dk_21 4 (dk_at dksX1_carryOut_2_0 8 rfl rfl)
theorem dX1_carryOut_2_10 : decode cX1_carryOut_2 10 = .ok (.invokespecial 101, 3) := dk_183 0 101 (dk_at dksX1_carryOut_2_0 10 rfl rfl)
theorem dX1_carryOut_2_13 : decode cX1_carryOut_2 13 = .ok (.invokevirtual 104, 3) := dk_182 0 104 (dk_at dksX1_carryOut_2_0 13 rfl rfl)
theorem dX1_carryOut_2_16 : decode cX1_carryOut_2 16 = .ok (.ireturn, 1) := dk_172 (dk_at dksX1_carryOut_2_0 16 rfl rfl)
abbrev cX1_limit : ByteArray := prog_1_method_16_code
def yX1_limit : MethodName := ⟨RX1, "limit", "(II)I"⟩
def dkwX1_limit_0 : List UInt8 := [42, 16, 76, 27, 28, 3, 182, 0, 113, 172]
abbrev dktX1_limit_0 : List UInt8 := dkwX1_limit_0 ++ []
theorem dksX1_limit_0 : cX1_limit.data.toList.drop 0 = dktX1_limit_0 := by decide +kernel
theorem dX1_limit_0 : decode cX1_limit 0 = .ok (.aload_n 0, 1) := dk_42 (dk_at dksX1_limit_0 0 rfl rfl)
theorem dX1_limit_1 : decode cX1_limit 1 = .ok (.bipush 76, 2) := dk_16 76 (dk_at dksX1_limit_0 1 rfl rfl)
theorem dX1_limit_3 : decode cX1_limit 3 = .ok (.iload_n 1, 1) := dk_27 (dk_at dksX1_limit_0 3 rfl rfl)
theorem dX1_limit_4 : decode cX1_limit 4 = .ok (.iload_n 2, 1) := dk_28 (dk_at dksX1_limit_0 4 rfl rfl)
theorem dX1_limit_5 : decode cX1_limit 5 = .ok (.iconst 0, 1) := dk_3 (dk_at dksX1_limit_0 5 rfl rfl)
theorem dX1_limit_6 : decode cX1_limit 6 = .ok (.invokevirtual 113, 3) := dk_182 0 113 (dk_at dksX1_limit_0 6 rfl rfl)
theorem dX1_limit_9 : decode cX1_limit 9 = .ok (.ireturn, 1) := dk_172 (dk_at dksX1_limit_0 9 rfl rfl)
abbrev cX1_window : ByteArray := prog_1_method_17_code
def yX1_window : MethodName := ⟨RX1, "window", "(I)I"⟩
def dkwX1_window_0 : List UInt8 := [42, 16, 87, 27, 3, 3, 182, 0, 113, 172]
abbrev dktX1_window_0 : List UInt8 := dkwX1_window_0 ++ []
theorem dksX1_window_0 : cX1_window.data.toList.drop 0 = dktX1_window_0 := by decide +kernel
theorem dX1_window_0 : decode cX1_window 0 = .ok (.aload_n 0, 1) := dk_42 (dk_at dksX1_window_0 0 rfl rfl)
theorem dX1_window_1 : decode cX1_window 1 = .ok (.bipush 87, 2) := dk_16 87 (dk_at dksX1_window_0 1 rfl rfl)
theorem dX1_window_3 : decode cX1_window 3 = .ok (.iload_n 1, 1) := dk_27 (dk_at dksX1_window_0 3 rfl rfl)
theorem dX1_window_4 : decode cX1_window 4 = .ok (.iconst 0, 1) := dk_3 (dk_at dksX1_window_0 4 rfl rfl)
theorem dX1_window_5 : decode cX1_window 5 = .ok (.iconst 0, 1) := dk_3 (dk_at dksX1_window_0 5 rfl rfl)
theorem dX1_window_6 : decode cX1_window 6 = .ok (.invokevirtual 113, 3) := dk_182 0 113 (dk_at dksX1_window_0 6 rfl rfl)
theorem dX1_window_9 : decode cX1_window 9 = .ok (.ireturn, 1) := dk_172 (dk_at dksX1_window_0 9 rfl rfl)
abbrev cX1_open : ByteArray := prog_1_method_18_code
def yX1_open : MethodName := ⟨RX1, "open", "(II)I"⟩
def dkwX1_open_0 : List UInt8 := [42, 16, 110, 27, 28, 3, 182, 0, 113, 172]
abbrev dktX1_open_0 : List UInt8 := dkwX1_open_0 ++ []
theorem dksX1_open_0 : cX1_open.data.toList.drop 0 = dktX1_open_0 := by decide +kernel
theorem dX1_open_0 : decode cX1_open 0 = .ok (.aload_n 0, 1) := dk_42 (dk_at dksX1_open_0 0 rfl rfl)
theorem dX1_open_1 : decode cX1_open 1 = .ok (.bipush 110, 2) := dk_16 110 (dk_at dksX1_open_0 1 rfl rfl)
theorem dX1_open_3 : decode cX1_open 3 = .ok (.iload_n 1, 1) := dk_27 (dk_at dksX1_open_0 3 rfl rfl)
theorem dX1_open_4 : decode cX1_open 4 = .ok (.iload_n 2, 1) := dk_28 (dk_at dksX1_open_0 4 rfl rfl)
theorem dX1_open_5 : decode cX1_open 5 = .ok (.iconst 0, 1) := dk_3 (dk_at dksX1_open_0 5 rfl rfl)
theorem dX1_open_6 : decode cX1_open 6 = .ok (.invokevirtual 113, 3) := dk_182 0 113 (dk_at dksX1_open_0 6 rfl rfl)
theorem dX1_open_9 : decode cX1_open 9 = .ok (.ireturn, 1) := dk_172 (dk_at dksX1_open_0 9 rfl rfl)
abbrev cX1_rate : ByteArray := prog_1_method_19_code
def yX1_rate : MethodName := ⟨RX1, "rate", "(II)I"⟩
def dkwX1_rate_0 : List UInt8 := [42, 16, 118, 27, 28, 3, 182, 0, 113, 172]
abbrev dktX1_rate_0 : List UInt8 := dkwX1_rate_0 ++ []
theorem dksX1_rate_0 : cX1_rate.data.toList.drop 0 = dktX1_rate_0 := by decide +kernel
theorem dX1_rate_0 : decode cX1_rate 0 = .ok (.aload_n 0, 1) := dk_42 (dk_at dksX1_rate_0 0 rfl rfl)
theorem dX1_rate_1 : decode cX1_rate 1 = .ok (.bipush 118, 2) := dk_16 118 (dk_at dksX1_rate_0 1 rfl rfl)
theorem dX1_rate_3 : decode cX1_rate 3 = .ok (.iload_n 1, 1) := dk_27 (dk_at dksX1_rate_0 3 rfl rfl)
theorem dX1_rate_4 : decode cX1_rate 4 = .ok (.iload_n 2, 1) := dk_28 (dk_at dksX1_rate_0 4 rfl rfl)
theorem dX1_rate_5 : decode cX1_rate 5 = .ok (.iconst 0, 1) := dk_3 (dk_at dksX1_rate_0 5 rfl rfl)
theorem dX1_rate_6 : decode cX1_rate 6 = .ok (.invokevirtual 113, 3) := dk_182 0 113 (dk_at dksX1_rate_0 6 rfl rfl)
theorem dX1_rate_9 : decode cX1_rate 9 = .ok (.ireturn, 1) := dk_172 (dk_at dksX1_rate_0 9 rfl rfl)
abbrev cX1_hand : ByteArray := prog_1_method_20_code
def yX1_hand : MethodName := ⟨RX1, "hand", "(II)I"⟩
def dkwX1_hand_0 : List UInt8 := [42, 16, 104, 27, 28, 3, 182, 0, 113, 172]
abbrev dktX1_hand_0 : List UInt8 := dkwX1_hand_0 ++ []
theorem dksX1_hand_0 : cX1_hand.data.toList.drop 0 = dktX1_hand_0 := by decide +kernel
theorem dX1_hand_0 : decode cX1_hand 0 = .ok (.aload_n 0, 1) := dk_42 (dk_at dksX1_hand_0 0 rfl rfl)
theorem dX1_hand_1 : decode cX1_hand 1 = .ok (.bipush 104, 2) := dk_16 104 (dk_at dksX1_hand_0 1 rfl rfl)
theorem dX1_hand_3 : decode cX1_hand 3 = .ok (.iload_n 1, 1) := dk_27 (dk_at dksX1_hand_0 3 rfl rfl)
theorem dX1_hand_4 : decode cX1_hand 4 = .ok (.iload_n 2, 1) := dk_28 (dk_at dksX1_hand_0 4 rfl rfl)
theorem dX1_hand_5 : decode cX1_hand 5 = .ok (.iconst 0, 1) := dk_3 (dk_at dksX1_hand_0 5 rfl rfl)
theorem dX1_hand_6 : decode cX1_hand 6 = .ok (.invokevirtual 113, 3) := dk_182 0 113 (dk_at dksX1_hand_0 6 rfl rfl)
theorem dX1_hand_9 : decode cX1_hand 9 = .ok (.ireturn, 1) := dk_172 (dk_at dksX1_hand_0 9 rfl rfl)
abbrev cX1_stop : ByteArray := prog_1_method_21_code
def yX1_stop : MethodName := ⟨RX1, "stop", "(II)I"⟩
def dkwX1_stop_0 : List UInt8 := [42, 16, 115, 27, 28, 3, 182, 0, 113, 172]
abbrev dktX1_stop_0 : List UInt8 := dkwX1_stop_0 ++ []
theorem dksX1_stop_0 : cX1_stop.data.toList.drop 0 = dktX1_stop_0 := by decide +kernel
theorem dX1_stop_0 : decode cX1_stop 0 = .ok (.aload_n 0, 1) := dk_42 (dk_at dksX1_stop_0 0 rfl rfl)
theorem dX1_stop_1 : decode cX1_stop 1 = .ok (.bipush 115, 2) := dk_16 115 (dk_at dksX1_stop_0 1 rfl rfl)
theorem dX1_stop_3 : decode cX1_stop 3 = .ok (.iload_n 1, 1) := dk_27 (dk_at dksX1_stop_0 3 rfl rfl)
theorem dX1_stop_4 : decode cX1_stop 4 = .ok (.iload_n 2, 1) := dk_28 (dk_at dksX1_stop_0 4 rfl rfl)
theorem dX1_stop_5 : decode cX1_stop 5 = .ok (.iconst 0, 1) := dk_3 (dk_at dksX1_stop_0 5 rfl rfl)
theorem dX1_stop_6 : decode cX1_stop 6 = .ok (.invokevirtual 113, 3) := dk_182 0 113 (dk_at dksX1_stop_0 6 rfl rfl)
theorem dX1_stop_9 : decode cX1_stop 9 = .ok (.ireturn, 1) := dk_172 (dk_at dksX1_stop_0 9 rfl rfl)
abbrev cX1_go : ByteArray := prog_1_method_22_code
def yX1_go : MethodName := ⟨RX1, "go", "(II)I"⟩
def dkwX1_go_0 : List UInt8 := [42, 16, 103, 27, 28, 3, 182, 0, 113, 172]
abbrev dktX1_go_0 : List UInt8 := dkwX1_go_0 ++ []
theorem dksX1_go_0 : cX1_go.data.toList.drop 0 = dktX1_go_0 := by decide +kernel
theorem dX1_go_0 : decode cX1_go 0 = .ok (.aload_n 0, 1) := dk_42 (dk_at dksX1_go_0 0 rfl rfl)
theorem dX1_go_1 : decode cX1_go 1 = .ok (.bipush 103, 2) := dk_16 103 (dk_at dksX1_go_0 1 rfl rfl)
theorem dX1_go_3 : decode cX1_go 3 = .ok (.iload_n 1, 1) := dk_27 (dk_at dksX1_go_0 3 rfl rfl)
theorem dX1_go_4 : decode cX1_go 4 = .ok (.iload_n 2, 1) := dk_28 (dk_at dksX1_go_0 4 rfl rfl)
theorem dX1_go_5 : decode cX1_go 5 = .ok (.iconst 0, 1) := dk_3 (dk_at dksX1_go_0 5 rfl rfl)
theorem dX1_go_6 : decode cX1_go 6 = .ok (.invokevirtual 113, 3) := dk_182 0 113 (dk_at dksX1_go_0 6 rfl rfl)
theorem dX1_go_9 : decode cX1_go 9 = .ok (.ireturn, 1) := dk_172 (dk_at dksX1_go_0 9 rfl rfl)
abbrev cX1_resolve : ByteArray := prog_1_method_23_code
def yX1_resolve : MethodName := ⟨RX1, "resolve", "(I)I"⟩
def dkwX1_resolve_0 : List UInt8 := [42, 16, 114, 27, 3, 3, 182, 0, 113, 172]
abbrev dktX1_resolve_0 : List UInt8 := dkwX1_resolve_0 ++ []
theorem dksX1_resolve_0 : cX1_resolve.data.toList.drop 0 = dktX1_resolve_0 := by decide +kernel
theorem dX1_resolve_0 : decode cX1_resolve 0 = .ok (.aload_n 0, 1) := dk_42 (dk_at dksX1_resolve_0 0 rfl rfl)
theorem dX1_resolve_1 : decode cX1_resolve 1 = .ok (.bipush 114, 2) := dk_16 114 (dk_at dksX1_resolve_0 1 rfl rfl)
theorem dX1_resolve_3 : decode cX1_resolve 3 = .ok (.iload_n 1, 1) := dk_27 (dk_at dksX1_resolve_0 3 rfl rfl)
theorem dX1_resolve_4 : decode cX1_resolve 4 = .ok (.iconst 0, 1) := dk_3 (dk_at dksX1_resolve_0 4 rfl rfl)
theorem dX1_resolve_5 : decode cX1_resolve 5 = .ok (.iconst 0, 1) := dk_3 (dk_at dksX1_resolve_0 5 rfl rfl)
theorem dX1_resolve_6 : decode cX1_resolve 6 = .ok (.invokevirtual 113, 3) := dk_182 0 113 (dk_at dksX1_resolve_0 6 rfl rfl)
theorem dX1_resolve_9 : decode cX1_resolve 9 = .ok (.ireturn, 1) := dk_172 (dk_at dksX1_resolve_0 9 rfl rfl)
abbrev cX1_reopen : ByteArray := prog_1_method_24_code
def yX1_reopen : MethodName := ⟨RX1, "reopen", "(I)I"⟩
def dkwX1_reopen_0 : List UInt8 := [42, 16, 111, 27, 3, 3, 182, 0, 113, 172]
abbrev dktX1_reopen_0 : List UInt8 := dkwX1_reopen_0 ++ []
theorem dksX1_reopen_0 : cX1_reopen.data.toList.drop 0 = dktX1_reopen_0 := by decide +kernel
theorem dX1_reopen_0 : decode cX1_reopen 0 = .ok (.aload_n 0, 1) := dk_42 (dk_at dksX1_reopen_0 0 rfl rfl)
theorem dX1_reopen_1 : decode cX1_reopen 1 = .ok (.bipush 111, 2) := dk_16 111 (dk_at dksX1_reopen_0 1 rfl rfl)
theorem dX1_reopen_3 : decode cX1_reopen 3 = .ok (.iload_n 1, 1) := dk_27 (dk_at dksX1_reopen_0 3 rfl rfl)
theorem dX1_reopen_4 : decode cX1_reopen 4 = .ok (.iconst 0, 1) := dk_3 (dk_at dksX1_reopen_0 4 rfl rfl)
theorem dX1_reopen_5 : decode cX1_reopen 5 = .ok (.iconst 0, 1) := dk_3 (dk_at dksX1_reopen_0 5 rfl rfl)
theorem dX1_reopen_6 : decode cX1_reopen 6 = .ok (.invokevirtual 113, 3) := dk_182 0 113 (dk_at dksX1_reopen_0 6 rfl rfl)
theorem dX1_reopen_9 : decode cX1_reopen 9 = .ok (.ireturn, 1) := dk_172 (dk_at dksX1_reopen_0 9 rfl rfl)
abbrev cX1_close : ByteArray := prog_1_method_25_code
def yX1_close : MethodName := ⟨RX1, "close", "(I)I"⟩
def dkwX1_close_0 : List UInt8 := [42, 16, 99, 27, 3, 3, 182, 0, 113, 172]
abbrev dktX1_close_0 : List UInt8 := dkwX1_close_0 ++ []
theorem dksX1_close_0 : cX1_close.data.toList.drop 0 = dktX1_close_0 := by decide +kernel
theorem dX1_close_0 : decode cX1_close 0 = .ok (.aload_n 0, 1) := dk_42 (dk_at dksX1_close_0 0 rfl rfl)
theorem dX1_close_1 : decode cX1_close 1 = .ok (.bipush 99, 2) := dk_16 99 (dk_at dksX1_close_0 1 rfl rfl)
theorem dX1_close_3 : decode cX1_close 3 = .ok (.iload_n 1, 1) := dk_27 (dk_at dksX1_close_0 3 rfl rfl)
theorem dX1_close_4 : decode cX1_close 4 = .ok (.iconst 0, 1) := dk_3 (dk_at dksX1_close_0 4 rfl rfl)
theorem dX1_close_5 : decode cX1_close 5 = .ok (.iconst 0, 1) := dk_3 (dk_at dksX1_close_0 5 rfl rfl)
theorem dX1_close_6 : decode cX1_close 6 = .ok (.invokevirtual 113, 3) := dk_182 0 113 (dk_at dksX1_close_0 6 rfl rfl)
theorem dX1_close_9 : decode cX1_close 9 = .ok (.ireturn, 1) := dk_172 (dk_at dksX1_close_0 9 rfl rfl)
abbrev cX1_cause : ByteArray := prog_1_method_26_code
def yX1_cause : MethodName := ⟨RX1, "cause", "(II)I"⟩
def dkwX1_cause_0 : List UInt8 := [42, 16, 80, 27, 28, 3, 182, 0, 113, 172]
abbrev dktX1_cause_0 : List UInt8 := dkwX1_cause_0 ++ []
theorem dksX1_cause_0 : cX1_cause.data.toList.drop 0 = dktX1_cause_0 := by decide +kernel
theorem dX1_cause_0 : decode cX1_cause 0 = .ok (.aload_n 0, 1) := dk_42 (dk_at dksX1_cause_0 0 rfl rfl)
theorem dX1_cause_1 : decode cX1_cause 1 = .ok (.bipush 80, 2) := dk_16 80 (dk_at dksX1_cause_0 1 rfl rfl)
theorem dX1_cause_3 : decode cX1_cause 3 = .ok (.iload_n 1, 1) := dk_27 (dk_at dksX1_cause_0 3 rfl rfl)
theorem dX1_cause_4 : decode cX1_cause 4 = .ok (.iload_n 2, 1) := dk_28 (dk_at dksX1_cause_0 4 rfl rfl)
theorem dX1_cause_5 : decode cX1_cause 5 = .ok (.iconst 0, 1) := dk_3 (dk_at dksX1_cause_0 5 rfl rfl)
theorem dX1_cause_6 : decode cX1_cause 6 = .ok (.invokevirtual 113, 3) := dk_182 0 113 (dk_at dksX1_cause_0 6 rfl rfl)
theorem dX1_cause_9 : decode cX1_cause 9 = .ok (.ireturn, 1) := dk_172 (dk_at dksX1_cause_0 9 rfl rfl)
abbrev cX1_note : ByteArray := prog_1_method_27_code
def yX1_note : MethodName := ⟨RX1, "note", "(III)I"⟩
def dkwX1_note_0 : List UInt8 := [42, 16, 67, 27, 28, 29, 182, 0, 113, 172]
abbrev dktX1_note_0 : List UInt8 := dkwX1_note_0 ++ []
theorem dksX1_note_0 : cX1_note.data.toList.drop 0 = dktX1_note_0 := by decide +kernel
theorem dX1_note_0 : decode cX1_note 0 = .ok (.aload_n 0, 1) := dk_42 (dk_at dksX1_note_0 0 rfl rfl)
theorem dX1_note_1 : decode cX1_note 1 = .ok (.bipush 67, 2) := dk_16 67 (dk_at dksX1_note_0 1 rfl rfl)
theorem dX1_note_3 : decode cX1_note 3 = .ok (.iload_n 1, 1) := dk_27 (dk_at dksX1_note_0 3 rfl rfl)
theorem dX1_note_4 : decode cX1_note 4 = .ok (.iload_n 2, 1) := dk_28 (dk_at dksX1_note_0 4 rfl rfl)
theorem dX1_note_5 : decode cX1_note 5 = .ok (.iload_n 3, 1) := dk_29 (dk_at dksX1_note_0 5 rfl rfl)
theorem dX1_note_6 : decode cX1_note 6 = .ok (.invokevirtual 113, 3) := dk_182 0 113 (dk_at dksX1_note_0 6 rfl rfl)
theorem dX1_note_9 : decode cX1_note 9 = .ok (.ireturn, 1) := dk_172 (dk_at dksX1_note_0 9 rfl rfl)
abbrev cX1_link : ByteArray := prog_1_method_28_code
def yX1_link : MethodName := ⟨RX1, "link", "(II)I"⟩
def dkwX1_link_0 : List UInt8 := [42, 16, 75, 27, 28, 3, 182, 0, 113, 172]
abbrev dktX1_link_0 : List UInt8 := dkwX1_link_0 ++ []
theorem dksX1_link_0 : cX1_link.data.toList.drop 0 = dktX1_link_0 := by decide +kernel
theorem dX1_link_0 : decode cX1_link 0 = .ok (.aload_n 0, 1) := dk_42 (dk_at dksX1_link_0 0 rfl rfl)
theorem dX1_link_1 : decode cX1_link 1 = .ok (.bipush 75, 2) := dk_16 75 (dk_at dksX1_link_0 1 rfl rfl)
theorem dX1_link_3 : decode cX1_link 3 = .ok (.iload_n 1, 1) := dk_27 (dk_at dksX1_link_0 3 rfl rfl)
theorem dX1_link_4 : decode cX1_link 4 = .ok (.iload_n 2, 1) := dk_28 (dk_at dksX1_link_0 4 rfl rfl)
theorem dX1_link_5 : decode cX1_link 5 = .ok (.iconst 0, 1) := dk_3 (dk_at dksX1_link_0 5 rfl rfl)
theorem dX1_link_6 : decode cX1_link 6 = .ok (.invokevirtual 113, 3) := dk_182 0 113 (dk_at dksX1_link_0 6 rfl rfl)
theorem dX1_link_9 : decode cX1_link 9 = .ok (.ireturn, 1) := dk_172 (dk_at dksX1_link_0 9 rfl rfl)
abbrev cX1_review : ByteArray := prog_1_method_29_code
def yX1_review : MethodName := ⟨RX1, "review", "(I)I"⟩
def dkwX1_review_0 : List UInt8 := [42, 16, 82, 27, 3, 3, 182, 0, 113, 172]
abbrev dktX1_review_0 : List UInt8 := dkwX1_review_0 ++ []
theorem dksX1_review_0 : cX1_review.data.toList.drop 0 = dktX1_review_0 := by decide +kernel
theorem dX1_review_0 : decode cX1_review 0 = .ok (.aload_n 0, 1) := dk_42 (dk_at dksX1_review_0 0 rfl rfl)
theorem dX1_review_1 : decode cX1_review 1 = .ok (.bipush 82, 2) := dk_16 82 (dk_at dksX1_review_0 1 rfl rfl)
theorem dX1_review_3 : decode cX1_review 3 = .ok (.iload_n 1, 1) := dk_27 (dk_at dksX1_review_0 3 rfl rfl)
theorem dX1_review_4 : decode cX1_review 4 = .ok (.iconst 0, 1) := dk_3 (dk_at dksX1_review_0 4 rfl rfl)
theorem dX1_review_5 : decode cX1_review 5 = .ok (.iconst 0, 1) := dk_3 (dk_at dksX1_review_0 5 rfl rfl)
theorem dX1_review_6 : decode cX1_review 6 = .ok (.invokevirtual 113, 3) := dk_182 0 113 (dk_at dksX1_review_0 6 rfl rfl)
theorem dX1_review_9 : decode cX1_review 9 = .ok (.ireturn, 1) := dk_172 (dk_at dksX1_review_0 9 rfl rfl)
abbrev cX1_action : ByteArray := prog_1_method_30_code
def yX1_action : MethodName := ⟨RX1, "action", "(III)I"⟩
def dkwX1_action_0 : List UInt8 := [42, 16, 65, 27, 28, 29, 182, 0, 113, 172]
abbrev dktX1_action_0 : List UInt8 := dkwX1_action_0 ++ []
theorem dksX1_action_0 : cX1_action.data.toList.drop 0 = dktX1_action_0 := by decide +kernel
theorem dX1_action_0 : decode cX1_action 0 = .ok (.aload_n 0, 1) := dk_42 (dk_at dksX1_action_0 0 rfl rfl)
theorem dX1_action_1 : decode cX1_action 1 = .ok (.bipush 65, 2) := dk_16 65 (dk_at dksX1_action_0 1 rfl rfl)
theorem dX1_action_3 : decode cX1_action 3 = .ok (.iload_n 1, 1) := dk_27 (dk_at dksX1_action_0 3 rfl rfl)
theorem dX1_action_4 : decode cX1_action 4 = .ok (.iload_n 2, 1) := dk_28 (dk_at dksX1_action_0 4 rfl rfl)
theorem dX1_action_5 : decode cX1_action 5 = .ok (.iload_n 3, 1) := dk_29 (dk_at dksX1_action_0 5 rfl rfl)
theorem dX1_action_6 : decode cX1_action 6 = .ok (.invokevirtual 113, 3) := dk_182 0 113 (dk_at dksX1_action_0 6 rfl rfl)
theorem dX1_action_9 : decode cX1_action 9 = .ok (.ireturn, 1) := dk_172 (dk_at dksX1_action_0 9 rfl rfl)
abbrev cX1_finish : ByteArray := prog_1_method_31_code
def yX1_finish : MethodName := ⟨RX1, "finish", "(I)I"⟩
def dkwX1_finish_0 : List UInt8 := [42, 16, 70, 27, 3, 3, 182, 0, 113, 172]
abbrev dktX1_finish_0 : List UInt8 := dkwX1_finish_0 ++ []
theorem dksX1_finish_0 : cX1_finish.data.toList.drop 0 = dktX1_finish_0 := by decide +kernel
theorem dX1_finish_0 : decode cX1_finish 0 = .ok (.aload_n 0, 1) := dk_42 (dk_at dksX1_finish_0 0 rfl rfl)
theorem dX1_finish_1 : decode cX1_finish 1 = .ok (.bipush 70, 2) := dk_16 70 (dk_at dksX1_finish_0 1 rfl rfl)
theorem dX1_finish_3 : decode cX1_finish 3 = .ok (.iload_n 1, 1) := dk_27 (dk_at dksX1_finish_0 3 rfl rfl)
theorem dX1_finish_4 : decode cX1_finish 4 = .ok (.iconst 0, 1) := dk_3 (dk_at dksX1_finish_0 4 rfl rfl)
theorem dX1_finish_5 : decode cX1_finish 5 = .ok (.iconst 0, 1) := dk_3 (dk_at dksX1_finish_0 5 rfl rfl)
theorem dX1_finish_6 : decode cX1_finish 6 = .ok (.invokevirtual 113, 3) := dk_182 0 113 (dk_at dksX1_finish_0 6 rfl rfl)
theorem dX1_finish_9 : decode cX1_finish 9 = .ok (.ireturn, 1) := dk_172 (dk_at dksX1_finish_0 9 rfl rfl)
abbrev cX1_pass : ByteArray := prog_1_method_32_code
def yX1_pass : MethodName := ⟨RX1, "pass", "(I)I"⟩
def dkwX1_pass_0 : List UInt8 := [42, 16, 116, 27, 3, 3, 182, 0, 113, 172]
abbrev dktX1_pass_0 : List UInt8 := dkwX1_pass_0 ++ []
theorem dksX1_pass_0 : cX1_pass.data.toList.drop 0 = dktX1_pass_0 := by decide +kernel
theorem dX1_pass_0 : decode cX1_pass 0 = .ok (.aload_n 0, 1) := dk_42 (dk_at dksX1_pass_0 0 rfl rfl)
theorem dX1_pass_1 : decode cX1_pass 1 = .ok (.bipush 116, 2) := dk_16 116 (dk_at dksX1_pass_0 1 rfl rfl)
theorem dX1_pass_3 : decode cX1_pass 3 = .ok (.iload_n 1, 1) := dk_27 (dk_at dksX1_pass_0 3 rfl rfl)
theorem dX1_pass_4 : decode cX1_pass 4 = .ok (.iconst 0, 1) := dk_3 (dk_at dksX1_pass_0 4 rfl rfl)
theorem dX1_pass_5 : decode cX1_pass 5 = .ok (.iconst 0, 1) := dk_3 (dk_at dksX1_pass_0 5 rfl rfl)
theorem dX1_pass_6 : decode cX1_pass 6 = .ok (.invokevirtual 113, 3) := dk_182 0 113 (dk_at dksX1_pass_0 6 rfl rfl)
theorem dX1_pass_9 : decode cX1_pass 9 = .ok (.ireturn, 1) := dk_172 (dk_at dksX1_pass_0 9 rfl rfl)
abbrev cX1_append : ByteArray := prog_1_method_33_code
def yX1_append : MethodName := ⟨RX1, "append", "(C)I"⟩
def dkwX1_append_1 : List UInt8 := [180, 0, 116, 27, 85, 42, 89, 180, 0, 116, 4, 96, 181, 0, 116, 42, 180, 0, 116, 172]
abbrev dktX1_append_1 : List UInt8 := dkwX1_append_1 ++ []
def dkwX1_append_0 : List UInt8 := [42, 180, 0, 116, 16, 60, 162, 0, 7, 4, 167, 0, 4, 3, 184, 0, 119, 42, 180, 0, 30, 42]
abbrev dktX1_append_0 : List UInt8 := dkwX1_append_0 ++ dktX1_append_1
theorem dksX1_append_0 : cX1_append.data.toList.drop 0 = dktX1_append_0 := by decide +kernel
theorem dksX1_append_1 : cX1_append.data.toList.drop 22 = dktX1_append_1 := dk_seg dksX1_append_0 22 rfl rfl
theorem dX1_append_0 : decode cX1_append 0 = .ok (.aload_n 0, 1) := dk_42 (dk_at dksX1_append_0 0 rfl rfl)
theorem dX1_append_1 : decode cX1_append 1 = .ok (.getfield 116, 3) := dk_180 0 116 (dk_at dksX1_append_0 1 rfl rfl)
theorem dX1_append_4 : decode cX1_append 4 = .ok (.bipush 60, 2) := dk_16 60 (dk_at dksX1_append_0 4 rfl rfl)
theorem dX1_append_6 : decode cX1_append 6 = .ok (.if_icmp .ge 7, 3) := dk_162 0 7 (dk_at dksX1_append_0 6 rfl rfl)
theorem dX1_append_9 : decode cX1_append 9 = .ok (.iconst 1, 1) := dk_4 (dk_at dksX1_append_0 9 rfl rfl)
theorem dX1_append_10 : decode cX1_append 10 = .ok (.goto 4, 3) := dk_167 0 4 (dk_at dksX1_append_0 10 rfl rfl)
theorem dX1_append_13 : decode cX1_append 13 = .ok (.iconst 0, 1) := dk_3 (dk_at dksX1_append_0 13 rfl rfl)
theorem dX1_append_14 : decode cX1_append 14 = .ok (.invokestatic 119, 3) := dk_184 0 119 (dk_at dksX1_append_0 14 rfl rfl)
theorem dX1_append_17 : decode cX1_append 17 = .ok (.aload_n 0, 1) := dk_42 (dk_at dksX1_append_0 17 rfl rfl)
theorem dX1_append_18 : decode cX1_append 18 = .ok (.getfield 30, 3) := dk_180 0 30 (dk_at dksX1_append_0 18 rfl rfl)
theorem dX1_append_21 : decode cX1_append 21 = .ok (.aload_n 0, 1) := dk_42 (dk_at dksX1_append_0 21 rfl rfl)
theorem dX1_append_22 : decode cX1_append 22 = .ok (.getfield 116, 3) := dk_180 0 116 (dk_at dksX1_append_1 0 rfl rfl)
theorem dX1_append_25 : decode cX1_append 25 = .ok (.iload_n 1, 1) := dk_27 (dk_at dksX1_append_1 3 rfl rfl)
theorem dX1_append_26 : decode cX1_append 26 = .ok (.castore, 1) := dk_85 (dk_at dksX1_append_1 4 rfl rfl)
theorem dX1_append_27 : decode cX1_append 27 = .ok (.aload_n 0, 1) := dk_42 (dk_at dksX1_append_1 5 rfl rfl)
theorem dX1_append_28 : decode cX1_append 28 = .ok (.dup, 1) := dk_89 (dk_at dksX1_append_1 6 rfl rfl)
theorem dX1_append_29 : decode cX1_append 29 = .ok (.getfield 116, 3) := dk_180 0 116 (dk_at dksX1_append_1 7 rfl rfl)
theorem dX1_append_32 : decode cX1_append 32 = .ok (.iconst 1, 1) := dk_4 (dk_at dksX1_append_1 10 rfl rfl)
theorem dX1_append_33 : decode cX1_append 33 = .ok (.iadd, 1) := dk_96 (dk_at dksX1_append_1 11 rfl rfl)
theorem dX1_append_34 : decode cX1_append 34 = .ok (.putfield 116, 3) := dk_181 0 116 (dk_at dksX1_append_1 12 rfl rfl)
theorem dX1_append_37 : decode cX1_append 37 = .ok (.aload_n 0, 1) := dk_42 (dk_at dksX1_append_1 15 rfl rfl)
theorem dX1_append_38 : decode cX1_append 38 = .ok (.getfield 116, 3) := dk_180 0 116 (dk_at dksX1_append_1 16 rfl rfl)
theorem dX1_append_41 : decode cX1_append 41 = .ok (.ireturn, 1) := dk_172 (dk_at dksX1_append_1 19 rfl rfl)
abbrev cX1_requireState : ByteArray := prog_1_method_7_code
def yX1_requireState : MethodName := ⟨RX1, "requireState", "(Z)V"⟩
def dkwX1_requireState_0 : List UInt8 := [26, 154, 0, 11, 187, 0, 47, 89, 183, 0, 49, 191, 177]
abbrev dktX1_requireState_0 : List UInt8 := dkwX1_requireState_0 ++ []
theorem dksX1_requireState_0 : cX1_requireState.data.toList.drop 0 = dktX1_requireState_0 := by decide +kernel
theorem dX1_requireState_0 : decode cX1_requireState 0 = .ok (.iload_n 0, 1) := dk_26 (dk_at dksX1_requireState_0 0 rfl rfl)
theorem dX1_requireState_1 : decode cX1_requireState 1 = .ok (.ifCond .ne 11, 3) := dk_154 0 11 (dk_at dksX1_requireState_0 1 rfl rfl)
theorem dX1_requireState_4 : decode cX1_requireState 4 = .ok (.new 47, 3) := dk_187 0 47 (dk_at dksX1_requireState_0 4 rfl rfl)
theorem dX1_requireState_7 : decode cX1_requireState 7 = .ok (.dup, 1) := dk_89 (dk_at dksX1_requireState_0 7 rfl rfl)
theorem dX1_requireState_8 : decode cX1_requireState 8 = .ok (.invokespecial 49, 3) := dk_183 0 49 (dk_at dksX1_requireState_0 8 rfl rfl)
theorem dX1_requireState_11 : decode cX1_requireState 11 = .ok (.athrow, 1) := dk_191 (dk_at dksX1_requireState_0 11 rfl rfl)
theorem dX1_requireState_12 : decode cX1_requireState 12 = .ok (.return_, 1) := dk_177 (dk_at dksX1_requireState_0 12 rfl rfl)
abbrev cX1_run : ByteArray := prog_1_method_34_code
def yX1_run : MethodName := ⟨RX1, "run", "()I"⟩
def dkwX1_run_2 : List UInt8 := [42, 3, 181, 0, 116, 45, 191]
abbrev dktX1_run_2 : List UInt8 := dkwX1_run_2 ++ []
def dkwX1_run_1 : List UInt8 := [3, 181, 0, 116, 28, 172, 76, 42, 43, 180, 0, 134, 181, 0, 34, 187, 0, 44, 89, 183, 0, 46, 191, 78]
abbrev dktX1_run_1 : List UInt8 := dkwX1_run_1 ++ dktX1_run_2
def dkwX1_run_0 : List UInt8 := [187, 0, 123, 89, 42, 183, 0, 125, 182, 0, 128, 76, 42, 2, 181, 0, 34, 42, 43, 182, 0, 104, 61, 42]
abbrev dktX1_run_0 : List UInt8 := dkwX1_run_0 ++ dktX1_run_1
theorem dksX1_run_0 : cX1_run.data.toList.drop 0 = dktX1_run_0 := by decide +kernel
theorem dksX1_run_1 : cX1_run.data.toList.drop 24 = dktX1_run_1 := dk_seg dksX1_run_0 24 rfl rfl
theorem dksX1_run_2 : cX1_run.data.toList.drop 48 = dktX1_run_2 := dk_seg dksX1_run_1 24 rfl rfl
theorem dX1_run_0 : decode cX1_run 0 = .ok (.new 123, 3) := dk_187 0 123 (dk_at dksX1_run_0 0 rfl rfl)
theorem dX1_run_3 : decode cX1_run 3 = .ok (.dup, 1) := dk_89 (dk_at dksX1_run_0 3 rfl rfl)
theorem dX1_run_4 : decode cX1_run 4 = .ok (.aload_n 0, 1) := dk_42 (dk_at dksX1_run_0 4 rfl rfl)
theorem dX1_run_5 : decode cX1_run 5 = .ok (.invokespecial 125, 3) := dk_183 0 125 (dk_at dksX1_run_0 5 rfl rfl)
theorem dX1_run_8 : decode cX1_run 8 = .ok (.invokevirtual 128, 3) := dk_182 0 128 (dk_at dksX1_run_0 8 rfl rfl)
theorem dX1_run_11 : decode cX1_run 11 = .ok (.astore_n 1, 1) := dk_76 (dk_at dksX1_run_0 11 rfl rfl)
theorem dX1_run_12 : decode cX1_run 12 = .ok (.aload_n 0, 1) := dk_42 (dk_at dksX1_run_0 12 rfl rfl)
theorem dX1_run_13 : decode cX1_run 13 = .ok (.iconst (-1), 1) := dk_2 (dk_at dksX1_run_0 13 rfl rfl)
theorem dX1_run_14 : decode cX1_run 14 = .ok (.putfield 34, 3) := dk_181 0 34 (dk_at dksX1_run_0 14 rfl rfl)
theorem dX1_run_17 : decode cX1_run 17 = .ok (.aload_n 0, 1) := dk_42 (dk_at dksX1_run_0 17 rfl rfl)
theorem dX1_run_18 : decode cX1_run 18 = .ok (.aload_n 1, 1) := dk_43 (dk_at dksX1_run_0 18 rfl rfl)
theorem dX1_run_19 : decode cX1_run 19 = .ok (.invokevirtual 104, 3) := dk_182 0 104 (dk_at dksX1_run_0 19 rfl rfl)
theorem dX1_run_22 : decode cX1_run 22 = .ok (.istore_n 2, 1) := dk_61 (dk_at dksX1_run_0 22 rfl rfl)
theorem dX1_run_23 : decode cX1_run 23 = .ok (.aload_n 0, 1) := dk_42 (dk_at dksX1_run_0 23 rfl rfl)
theorem dX1_run_24 : decode cX1_run 24 = .ok (.iconst 0, 1) := dk_3 (dk_at dksX1_run_1 0 rfl rfl)
theorem dX1_run_25 : decode cX1_run 25 = .ok (.putfield 116, 3) := dk_181 0 116 (dk_at dksX1_run_1 1 rfl rfl)
theorem dX1_run_28 : decode cX1_run 28 = .ok (.iload_n 2, 1) := dk_28 (dk_at dksX1_run_1 4 rfl rfl)
theorem dX1_run_29 : decode cX1_run 29 = .ok (.ireturn, 1) := dk_172 (dk_at dksX1_run_1 5 rfl rfl)
theorem dX1_run_30 : decode cX1_run 30 = .ok (.astore_n 1, 1) := dk_76 (dk_at dksX1_run_1 6 rfl rfl)
theorem dX1_run_31 : decode cX1_run 31 = .ok (.aload_n 0, 1) := dk_42 (dk_at dksX1_run_1 7 rfl rfl)
theorem dX1_run_32 : decode cX1_run 32 = .ok (.aload_n 1, 1) := dk_43 (dk_at dksX1_run_1 8 rfl rfl)
theorem dX1_run_33 : decode cX1_run 33 = .ok (.getfield 134, 3) := dk_180 0 134 (dk_at dksX1_run_1 9 rfl rfl)
theorem dX1_run_36 : decode cX1_run 36 = .ok (.putfield 34, 3) := dk_181 0 34 (dk_at dksX1_run_1 12 rfl rfl)
theorem dX1_run_39 : decode cX1_run 39 = .ok (.new 44, 3) := dk_187 0 44 (dk_at dksX1_run_1 15 rfl rfl)
theorem dX1_run_42 : decode cX1_run 42 = .ok (.dup, 1) := dk_89 (dk_at dksX1_run_1 18 rfl rfl)
theorem dX1_run_43 : decode cX1_run 43 = .ok (.invokespecial 46, 3) := dk_183 0 46 (dk_at dksX1_run_1 19 rfl rfl)
theorem dX1_run_46 : decode cX1_run 46 = .ok (.athrow, 1) := dk_191 (dk_at dksX1_run_1 22 rfl rfl)
theorem dX1_run_47 : decode cX1_run 47 = .ok (.astore_n 3, 1) := dk_78 (dk_at dksX1_run_1 23 rfl rfl)
theorem dX1_run_48 : decode cX1_run 48 = .ok (.aload_n 0, 1) := dk_42 (dk_at dksX1_run_2 0 rfl rfl)
theorem dX1_run_49 : decode cX1_run 49 = .ok (.iconst 0, 1) := dk_3 (dk_at dksX1_run_2 1 rfl rfl)
theorem dX1_run_50 : decode cX1_run 50 = .ok (.putfield 116, 3) := dk_181 0 116 (dk_at dksX1_run_2 2 rfl rfl)
theorem dX1_run_53 : decode cX1_run 53 = .ok (.aload_n 3, 1) := dk_45 (dk_at dksX1_run_2 5 rfl rfl)
theorem dX1_run_54 : decode cX1_run 54 = .ok (.athrow, 1) := dk_191 (dk_at dksX1_run_2 6 rfl rfl)
abbrev cX1_reason : ByteArray := prog_1_method_36_code
def yX1_reason : MethodName := ⟨RX1, "reason", "(I)I"⟩
def dkwX1_reason_2 : List UInt8 := [180, 0, 23, 172]
abbrev dktX1_reason_2 : List UInt8 := dkwX1_reason_2 ++ []
def dkwX1_reason_1 : List UInt8 := [27, 154, 0, 10, 42, 180, 0, 65, 167, 0, 19, 27, 4, 160, 0, 10, 42, 180, 0, 69, 167, 0, 7, 42]
abbrev dktX1_reason_1 : List UInt8 := dkwX1_reason_1 ++ dktX1_reason_2
def dkwX1_reason_0 : List UInt8 := [27, 3, 5, 184, 0, 37, 184, 0, 137, 42, 180, 0, 65, 158, 0, 7, 4, 167, 0, 4, 3, 184, 0, 140]
abbrev dktX1_reason_0 : List UInt8 := dkwX1_reason_0 ++ dktX1_reason_1
theorem dksX1_reason_0 : cX1_reason.data.toList.drop 0 = dktX1_reason_0 := by decide +kernel
theorem dksX1_reason_1 : cX1_reason.data.toList.drop 24 = dktX1_reason_1 := dk_seg dksX1_reason_0 24 rfl rfl
theorem dksX1_reason_2 : cX1_reason.data.toList.drop 48 = dktX1_reason_2 := dk_seg dksX1_reason_1 24 rfl rfl
theorem dX1_reason_0 : decode cX1_reason 0 = .ok (.iload_n 1, 1) := dk_27 (dk_at dksX1_reason_0 0 rfl rfl)
theorem dX1_reason_1 : decode cX1_reason 1 = .ok (.iconst 0, 1) := dk_3 (dk_at dksX1_reason_0 1 rfl rfl)
theorem dX1_reason_2 : decode cX1_reason 2 = .ok (.iconst 2, 1) := dk_5 (dk_at dksX1_reason_0 2 rfl rfl)
theorem dX1_reason_3 : decode cX1_reason 3 = .ok (.invokestatic 37, 3) := dk_184 0 37 (dk_at dksX1_reason_0 3 rfl rfl)
theorem dX1_reason_6 : decode cX1_reason 6 = .ok (.invokestatic 137, 3) := dk_184 0 137 (dk_at dksX1_reason_0 6 rfl rfl)
theorem dX1_reason_9 : decode cX1_reason 9 = .ok (.aload_n 0, 1) := dk_42 (dk_at dksX1_reason_0 9 rfl rfl)
theorem dX1_reason_10 : decode cX1_reason 10 = .ok (.getfield 65, 3) := dk_180 0 65 (dk_at dksX1_reason_0 10 rfl rfl)
theorem dX1_reason_13 : decode cX1_reason 13 = .ok (.ifCond .le 7, 3) := dk_158 0 7 (dk_at dksX1_reason_0 13 rfl rfl)
theorem dX1_reason_16 : decode cX1_reason 16 = .ok (.iconst 1, 1) := dk_4 (dk_at dksX1_reason_0 16 rfl rfl)
theorem dX1_reason_17 : decode cX1_reason 17 = .ok (.goto 4, 3) := dk_167 0 4 (dk_at dksX1_reason_0 17 rfl rfl)
theorem dX1_reason_20 : decode cX1_reason 20 = .ok (.iconst 0, 1) := dk_3 (dk_at dksX1_reason_0 20 rfl rfl)
theorem dX1_reason_21 : decode cX1_reason 21 = .ok (.invokestatic 140, 3) := dk_184 0 140 (dk_at dksX1_reason_0 21 rfl rfl)
theorem dX1_reason_24 : decode cX1_reason 24 = .ok (.iload_n 1, 1) := dk_27 (dk_at dksX1_reason_1 0 rfl rfl)
theorem dX1_reason_25 : decode cX1_reason 25 = .ok (.ifCond .ne 10, 3) := dk_154 0 10 (dk_at dksX1_reason_1 1 rfl rfl)
theorem dX1_reason_28 : decode cX1_reason 28 = .ok (.aload_n 0, 1) := dk_42 (dk_at dksX1_reason_1 4 rfl rfl)
theorem dX1_reason_29 : decode cX1_reason 29 = .ok (.getfield 65, 3) := dk_180 0 65 (dk_at dksX1_reason_1 5 rfl rfl)
theorem dX1_reason_32 : decode cX1_reason 32 = .ok (.goto 19, 3) := dk_167 0 19 (dk_at dksX1_reason_1 8 rfl rfl)
theorem dX1_reason_35 : decode cX1_reason 35 = .ok (.iload_n 1, 1) := dk_27 (dk_at dksX1_reason_1 11 rfl rfl)
theorem dX1_reason_36 : decode cX1_reason 36 = .ok (.iconst 1, 1) := dk_4 (dk_at dksX1_reason_1 12 rfl rfl)
theorem dX1_reason_37 : decode cX1_reason 37 = .ok (.if_icmp .ne 10, 3) := dk_160 0 10 (dk_at dksX1_reason_1 13 rfl rfl)
theorem dX1_reason_40 : decode cX1_reason 40 = .ok (.aload_n 0, 1) := dk_42 (dk_at dksX1_reason_1 16 rfl rfl)
theorem dX1_reason_41 : decode cX1_reason 41 = .ok (.getfield 69, 3) := dk_180 0 69 (dk_at dksX1_reason_1 17 rfl rfl)
theorem dX1_reason_44 : decode cX1_reason 44 = .ok (.goto 7, 3) := dk_167 0 7 (dk_at dksX1_reason_1 20 rfl rfl)
theorem dX1_reason_47 : decode cX1_reason 47 = .ok (.aload_n 0, 1) := dk_42 (dk_at dksX1_reason_1 23 rfl rfl)
theorem dX1_reason_48 : decode cX1_reason 48 = .ok (.getfield 23, 3) := dk_180 0 23 (dk_at dksX1_reason_2 0 rfl rfl)
theorem dX1_reason_51 : decode cX1_reason 51 = .ok (.ireturn, 1) := dk_172 (dk_at dksX1_reason_2 3 rfl rfl)
abbrev cX1_requireArgument : ByteArray := prog_1_method_6_code
def yX1_requireArgument : MethodName := ⟨RX1, "requireArgument", "(Z)V"⟩
def dkwX1_requireArgument_0 : List UInt8 := [26, 154, 0, 11, 187, 0, 44, 89, 183, 0, 46, 191, 177]
abbrev dktX1_requireArgument_0 : List UInt8 := dkwX1_requireArgument_0 ++ []
theorem dksX1_requireArgument_0 : cX1_requireArgument.data.toList.drop 0 = dktX1_requireArgument_0 := by decide +kernel
theorem dX1_requireArgument_0 : decode cX1_requireArgument 0 = .ok (.iload_n 0, 1) := dk_26 (dk_at dksX1_requireArgument_0 0 rfl rfl)
theorem dX1_requireArgument_1 : decode cX1_requireArgument 1 = .ok (.ifCond .ne 11, 3) := dk_154 0 11 (dk_at dksX1_requireArgument_0 1 rfl rfl)
theorem dX1_requireArgument_4 : decode cX1_requireArgument 4 = .ok (.new 44, 3) := dk_187 0 44 (dk_at dksX1_requireArgument_0 4 rfl rfl)
theorem dX1_requireArgument_7 : decode cX1_requireArgument 7 = .ok (.dup, 1) := dk_89 (dk_at dksX1_requireArgument_0 7 rfl rfl)
theorem dX1_requireArgument_8 : decode cX1_requireArgument 8 = .ok (.invokespecial 46, 3) := dk_183 0 46 (dk_at dksX1_requireArgument_0 8 rfl rfl)
theorem dX1_requireArgument_11 : decode cX1_requireArgument 11 = .ok (.athrow, 1) := dk_191 (dk_at dksX1_requireArgument_0 11 rfl rfl)
theorem dX1_requireArgument_12 : decode cX1_requireArgument 12 = .ok (.return_, 1) := dk_177 (dk_at dksX1_requireArgument_0 12 rfl rfl)
abbrev cX1_requireElement : ByteArray := prog_1_method_8_code
def yX1_requireElement : MethodName := ⟨RX1, "requireElement", "(Z)V"⟩
def dkwX1_requireElement_0 : List UInt8 := [26, 154, 0, 11, 187, 0, 50, 89, 183, 0, 52, 191, 177]
abbrev dktX1_requireElement_0 : List UInt8 := dkwX1_requireElement_0 ++ []
theorem dksX1_requireElement_0 : cX1_requireElement.data.toList.drop 0 = dktX1_requireElement_0 := by decide +kernel
theorem dX1_requireElement_0 : decode cX1_requireElement 0 = .ok (.iload_n 0, 1) := dk_26 (dk_at dksX1_requireElement_0 0 rfl rfl)
theorem dX1_requireElement_1 : decode cX1_requireElement 1 = .ok (.ifCond .ne 11, 3) := dk_154 0 11 (dk_at dksX1_requireElement_0 1 rfl rfl)
theorem dX1_requireElement_4 : decode cX1_requireElement 4 = .ok (.new 50, 3) := dk_187 0 50 (dk_at dksX1_requireElement_0 4 rfl rfl)
theorem dX1_requireElement_7 : decode cX1_requireElement 7 = .ok (.dup, 1) := dk_89 (dk_at dksX1_requireElement_0 7 rfl rfl)
theorem dX1_requireElement_8 : decode cX1_requireElement 8 = .ok (.invokespecial 52, 3) := dk_183 0 52 (dk_at dksX1_requireElement_0 8 rfl rfl)
theorem dX1_requireElement_11 : decode cX1_requireElement 11 = .ok (.athrow, 1) := dk_191 (dk_at dksX1_requireElement_0 11 rfl rfl)
theorem dX1_requireElement_12 : decode cX1_requireElement 12 = .ok (.return_, 1) := dk_177 (dk_at dksX1_requireElement_0 12 rfl rfl)
abbrev cX1_incident : ByteArray := prog_1_method_38_code
def yX1_incident : MethodName := ⟨RX1, "incident", "(II)I"⟩
def dkwX1_incident_5 : List UInt8 := [180, 0, 199, 172]
abbrev dktX1_incident_5 : List UInt8 := dkwX1_incident_5 ++ []
def dkwX1_incident_4 : List UInt8 := [180, 0, 189, 172, 45, 180, 0, 192, 172, 45, 180, 0, 195, 153, 0, 7, 4, 167, 0, 4, 3, 172, 45]
abbrev dktX1_incident_4 : List UInt8 := dkwX1_incident_4 ++ dktX1_incident_5
def dkwX1_incident_3 : List UInt8 := [172, 45, 180, 0, 177, 172, 45, 182, 0, 180, 172, 45, 180, 0, 183, 172, 45, 180, 0, 186, 172, 45]
abbrev dktX1_incident_3 : List UInt8 := dkwX1_incident_3 ++ dktX1_incident_4
def dkwX1_incident_2 : List UInt8 := [45, 182, 0, 162, 172, 45, 180, 0, 165, 172, 45, 180, 0, 168, 172, 45, 180, 0, 171, 172, 45, 182, 0, 174]
abbrev dktX1_incident_2 : List UInt8 := dkwX1_incident_2 ++ dktX1_incident_3
def dkwX1_incident_1 : List UInt8 := [170, 0, 0, 0, 0, 0, 131, 0, 0, 0, 0, 0, 0, 0, 11, 0, 0, 0, 63, 0, 0, 0, 68, 0, 0, 0, 73, 0, 0, 0, 78, 0, 0, 0, 83, 0, 0, 0, 88, 0, 0, 0, 93, 0, 0, 0, 98, 0, 0, 0, 103, 0, 0, 0, 108, 0, 0, 0, 113, 0, 0, 0, 118]
abbrev dktX1_incident_1 : List UInt8 := dkwX1_incident_1 ++ dktX1_incident_2
def dkwX1_incident_0 : List UInt8 := [42, 27, 182, 0, 158, 78, 28, 3, 16, 12, 184, 0, 37, 184, 0, 137, 28]
abbrev dktX1_incident_0 : List UInt8 := dkwX1_incident_0 ++ dktX1_incident_1
theorem dksX1_incident_0 : cX1_incident.data.toList.drop 0 = dktX1_incident_0 := by decide +kernel
theorem dksX1_incident_1 : cX1_incident.data.toList.drop 17 = dktX1_incident_1 := dk_seg dksX1_incident_0 17 rfl rfl
theorem dksX1_incident_2 : cX1_incident.data.toList.drop 80 = dktX1_incident_2 := dk_seg dksX1_incident_1 63 rfl rfl
theorem dksX1_incident_3 : cX1_incident.data.toList.drop 104 = dktX1_incident_3 := dk_seg dksX1_incident_2 24 rfl rfl
theorem dksX1_incident_4 : cX1_incident.data.toList.drop 126 = dktX1_incident_4 := dk_seg dksX1_incident_3 22 rfl rfl
theorem dksX1_incident_5 : cX1_incident.data.toList.drop 149 = dktX1_incident_5 := dk_seg dksX1_incident_4 23 rfl rfl
theorem dX1_incident_0 : decode cX1_incident 0 = .ok (.aload_n 0, 1) := dk_42 (dk_at dksX1_incident_0 0 rfl rfl)
theorem dX1_incident_1 : decode cX1_incident 1 = .ok (.iload_n 1, 1) := dk_27 (dk_at dksX1_incident_0 1 rfl rfl)
theorem dX1_incident_2 : decode cX1_incident 2 = .ok (.invokevirtual 158, 3) := dk_182 0 158 (dk_at dksX1_incident_0 2 rfl rfl)
theorem dX1_incident_5 : decode cX1_incident 5 = .ok (.astore_n 3, 1) := dk_78 (dk_at dksX1_incident_0 5 rfl rfl)
theorem dX1_incident_6 : decode cX1_incident 6 = .ok (.iload_n 2, 1) := dk_28 (dk_at dksX1_incident_0 6 rfl rfl)
theorem dX1_incident_7 : decode cX1_incident 7 = .ok (.iconst 0, 1) := dk_3 (dk_at dksX1_incident_0 7 rfl rfl)
theorem dX1_incident_8 : decode cX1_incident 8 = .ok (.bipush 12, 2) := dk_16 12 (dk_at dksX1_incident_0 8 rfl rfl)
theorem dX1_incident_10 : decode cX1_incident 10 = .ok (.invokestatic 37, 3) := dk_184 0 37 (dk_at dksX1_incident_0 10 rfl rfl)
theorem dX1_incident_13 : decode cX1_incident 13 = .ok (.invokestatic 137, 3) := dk_184 0 137 (dk_at dksX1_incident_0 13 rfl rfl)
theorem dX1_incident_16 : decode cX1_incident 16 = .ok (.iload_n 2, 1) := dk_28 (dk_at dksX1_incident_0 16 rfl rfl)
theorem dX1_incident_17 : decode cX1_incident 17 = .ok (.tableswitch 131 0 11 #[63, 68, 73, 78, 83, 88, 93, 98, 103, 108, 113, 118], 63) := by decide +kernel
theorem dX1_incident_80 : decode cX1_incident 80 = .ok (.aload_n 3, 1) := dk_45 (dk_at dksX1_incident_2 0 rfl rfl)
theorem dX1_incident_81 : decode cX1_incident 81 = .ok (.invokevirtual 162, 3) := dk_182 0 162 (dk_at dksX1_incident_2 1 rfl rfl)
theorem dX1_incident_84 : decode cX1_incident 84 = .ok (.ireturn, 1) := dk_172 (dk_at dksX1_incident_2 4 rfl rfl)
theorem dX1_incident_85 : decode cX1_incident 85 = .ok (.aload_n 3, 1) := dk_45 (dk_at dksX1_incident_2 5 rfl rfl)
theorem dX1_incident_86 : decode cX1_incident 86 = .ok (.getfield 165, 3) := dk_180 0 165 (dk_at dksX1_incident_2 6 rfl rfl)
theorem dX1_incident_89 : decode cX1_incident 89 = .ok (.ireturn, 1) := dk_172 (dk_at dksX1_incident_2 9 rfl rfl)
theorem dX1_incident_90 : decode cX1_incident 90 = .ok (.aload_n 3, 1) := dk_45 (dk_at dksX1_incident_2 10 rfl rfl)
theorem dX1_incident_91 : decode cX1_incident 91 = .ok (.getfield 168, 3) := dk_180 0 168 (dk_at dksX1_incident_2 11 rfl rfl)
theorem dX1_incident_94 : decode cX1_incident 94 = .ok (.ireturn, 1) := dk_172 (dk_at dksX1_incident_2 14 rfl rfl)
theorem dX1_incident_95 : decode cX1_incident 95 = .ok (.aload_n 3, 1) := dk_45 (dk_at dksX1_incident_2 15 rfl rfl)
theorem dX1_incident_96 : decode cX1_incident 96 = .ok (.getfield 171, 3) := dk_180 0 171 (dk_at dksX1_incident_2 16 rfl rfl)
theorem dX1_incident_99 : decode cX1_incident 99 = .ok (.ireturn, 1) := dk_172 (dk_at dksX1_incident_2 19 rfl rfl)
theorem dX1_incident_100 : decode cX1_incident 100 = .ok (.aload_n 3, 1) := dk_45 (dk_at dksX1_incident_2 20 rfl rfl)
theorem dX1_incident_101 : decode cX1_incident 101 = .ok (.invokevirtual 174, 3) := dk_182 0 174 (dk_at dksX1_incident_2 21 rfl rfl)
theorem dX1_incident_104 : decode cX1_incident 104 = .ok (.ireturn, 1) := dk_172 (dk_at dksX1_incident_3 0 rfl rfl)
theorem dX1_incident_105 : decode cX1_incident 105 = .ok (.aload_n 3, 1) := dk_45 (dk_at dksX1_incident_3 1 rfl rfl)
theorem dX1_incident_106 : decode cX1_incident 106 = .ok (.getfield 177, 3) := dk_180 0 177 (dk_at dksX1_incident_3 2 rfl rfl)
theorem dX1_incident_109 : decode cX1_incident 109 = .ok (.ireturn, 1) := dk_172 (dk_at dksX1_incident_3 5 rfl rfl)
theorem dX1_incident_110 : decode cX1_incident 110 = .ok (.aload_n 3, 1) := dk_45 (dk_at dksX1_incident_3 6 rfl rfl)
theorem dX1_incident_111 : decode cX1_incident 111 = .ok (.invokevirtual 180, 3) := dk_182 0 180 (dk_at dksX1_incident_3 7 rfl rfl)
theorem dX1_incident_114 : decode cX1_incident 114 = .ok (.ireturn, 1) := dk_172 (dk_at dksX1_incident_3 10 rfl rfl)
theorem dX1_incident_115 : decode cX1_incident 115 = .ok (.aload_n 3, 1) := dk_45 (dk_at dksX1_incident_3 11 rfl rfl)
theorem dX1_incident_116 : decode cX1_incident 116 = .ok (.getfield 183, 3) := dk_180 0 183 (dk_at dksX1_incident_3 12 rfl rfl)
theorem dX1_incident_119 : decode cX1_incident 119 = .ok (.ireturn, 1) := dk_172 (dk_at dksX1_incident_3 15 rfl rfl)
theorem dX1_incident_120 : decode cX1_incident 120 = .ok (.aload_n 3, 1) := dk_45 (dk_at dksX1_incident_3 16 rfl rfl)
theorem dX1_incident_121 : decode cX1_incident 121 = .ok (.getfield 186, 3) := dk_180 0 186 (dk_at dksX1_incident_3 17 rfl rfl)
theorem dX1_incident_124 : decode cX1_incident 124 = .ok (.ireturn, 1) := dk_172 (dk_at dksX1_incident_3 20 rfl rfl)
theorem dX1_incident_125 : decode cX1_incident 125 = .ok (.aload_n 3, 1) := dk_45 (dk_at dksX1_incident_3 21 rfl rfl)
theorem dX1_incident_126 : decode cX1_incident 126 = .ok (.getfield 189, 3) := dk_180 0 189 (dk_at dksX1_incident_4 0 rfl rfl)
theorem dX1_incident_129 : decode cX1_incident 129 = .ok (.ireturn, 1) := dk_172 (dk_at dksX1_incident_4 3 rfl rfl)
theorem dX1_incident_130 : decode cX1_incident 130 = .ok (.aload_n 3, 1) := dk_45 (dk_at dksX1_incident_4 4 rfl rfl)
theorem dX1_incident_131 : decode cX1_incident 131 = .ok (.getfield 192, 3) := dk_180 0 192 (dk_at dksX1_incident_4 5 rfl rfl)
theorem dX1_incident_134 : decode cX1_incident 134 = .ok (.ireturn, 1) := dk_172 (dk_at dksX1_incident_4 8 rfl rfl)
theorem dX1_incident_135 : decode cX1_incident 135 = .ok (.aload_n 3, 1) := dk_45 (dk_at dksX1_incident_4 9 rfl rfl)
theorem dX1_incident_136 : decode cX1_incident 136 = .ok (.getfield 195, 3) := dk_180 0 195 (dk_at dksX1_incident_4 10 rfl rfl)
theorem dX1_incident_139 : decode cX1_incident 139 = .ok (.ifCond .eq 7, 3) := dk_153 0 7 (dk_at dksX1_incident_4 13 rfl rfl)
theorem dX1_incident_142 : decode cX1_incident 142 = .ok (.iconst 1, 1) := dk_4 (dk_at dksX1_incident_4 16 rfl rfl)
theorem dX1_incident_143 : decode cX1_incident 143 = .ok (.goto 4, 3) := dk_167 0 4 (dk_at dksX1_incident_4 17 rfl rfl)
theorem dX1_incident_146 : decode cX1_incident 146 = .ok (.iconst 0, 1) := dk_3 (dk_at dksX1_incident_4 20 rfl rfl)
theorem dX1_incident_147 : decode cX1_incident 147 = .ok (.ireturn, 1) := dk_172 (dk_at dksX1_incident_4 21 rfl rfl)
theorem dX1_incident_148 : decode cX1_incident 148 = .ok (.aload_n 3, 1) := dk_45 (dk_at dksX1_incident_4 22 rfl rfl)
theorem dX1_incident_149 : decode cX1_incident 149 = .ok (.getfield 199, 3) := dk_180 0 199 (dk_at dksX1_incident_5 0 rfl rfl)
theorem dX1_incident_152 : decode cX1_incident 152 = .ok (.ireturn, 1) := dk_172 (dk_at dksX1_incident_5 3 rfl rfl)
abbrev cX1_getIncident : ByteArray := prog_1_method_37_code
def yX1_getIncident : MethodName := ⟨RX1, "getIncident", "(I)LIncidentKeeper$Core$Incident;"⟩
def dkwX1_getIncident_1 : List UInt8 := [192, 0, 156, 176]
abbrev dktX1_getIncident_1 : List UInt8 := dkwX1_getIncident_1 ++ []
def dkwX1_getIncident_0 : List UInt8 := [42, 180, 0, 10, 27, 182, 0, 143, 184, 0, 147, 42, 180, 0, 10, 180, 0, 150, 27, 182, 0, 153]
abbrev dktX1_getIncident_0 : List UInt8 := dkwX1_getIncident_0 ++ dktX1_getIncident_1
theorem dksX1_getIncident_0 : cX1_getIncident.data.toList.drop 0 = dktX1_getIncident_0 := by decide +kernel
theorem dksX1_getIncident_1 : cX1_getIncident.data.toList.drop 22 = dktX1_getIncident_1 := dk_seg dksX1_getIncident_0 22 rfl rfl
theorem dX1_getIncident_0 : decode cX1_getIncident 0 = .ok (.aload_n 0, 1) := dk_42 (dk_at dksX1_getIncident_0 0 rfl rfl)
theorem dX1_getIncident_1 : decode cX1_getIncident 1 = .ok (.getfield 10, 3) := dk_180 0 10 (dk_at dksX1_getIncident_0 1 rfl rfl)
theorem dX1_getIncident_4 : decode cX1_getIncident 4 = .ok (.iload_n 1, 1) := dk_27 (dk_at dksX1_getIncident_0 4 rfl rfl)
theorem dX1_getIncident_5 : decode cX1_getIncident 5 = .ok (.invokevirtual 143, 3) := dk_182 0 143 (dk_at dksX1_getIncident_0 5 rfl rfl)
theorem dX1_getIncident_8 : decode cX1_getIncident 8 = .ok (.invokestatic 147, 3) := dk_184 0 147 (dk_at dksX1_getIncident_0 8 rfl rfl)
theorem dX1_getIncident_11 : decode cX1_getIncident 11 = .ok (.aload_n 0, 1) := dk_42 (dk_at dksX1_getIncident_0 11 rfl rfl)
theorem dX1_getIncident_12 : decode cX1_getIncident 12 = .ok (.getfield 10, 3) := dk_180 0 10 (dk_at dksX1_getIncident_0 12 rfl rfl)
theorem dX1_getIncident_15 : decode cX1_getIncident 15 = .ok (.getfield 150, 3) := dk_180 0 150 (dk_at dksX1_getIncident_0 15 rfl rfl)
theorem dX1_getIncident_18 : decode cX1_getIncident 18 = .ok (.iload_n 1, 1) := dk_27 (dk_at dksX1_getIncident_0 18 rfl rfl)
theorem dX1_getIncident_19 : decode cX1_getIncident 19 = .ok (.invokevirtual 153, 3) := dk_182 0 153 (dk_at dksX1_getIncident_0 19 rfl rfl)
theorem dX1_getIncident_22 : decode cX1_getIncident 22 = .ok (.checkcast 156, 3) := dk_192 0 156 (dk_at dksX1_getIncident_1 0 rfl rfl)
theorem dX1_getIncident_25 : decode cX1_getIncident 25 = .ok (.areturn, 1) := dk_176 (dk_at dksX1_getIncident_1 3 rfl rfl)
abbrev cX1_requireIndex : ByteArray := prog_1_method_5_code
def yX1_requireIndex : MethodName := ⟨RX1, "requireIndex", "(Z)V"⟩
def dkwX1_requireIndex_0 : List UInt8 := [26, 154, 0, 11, 187, 0, 41, 89, 183, 0, 43, 191, 177]
abbrev dktX1_requireIndex_0 : List UInt8 := dkwX1_requireIndex_0 ++ []
theorem dksX1_requireIndex_0 : cX1_requireIndex.data.toList.drop 0 = dktX1_requireIndex_0 := by decide +kernel
theorem dX1_requireIndex_0 : decode cX1_requireIndex 0 = .ok (.iload_n 0, 1) := dk_26 (dk_at dksX1_requireIndex_0 0 rfl rfl)
theorem dX1_requireIndex_1 : decode cX1_requireIndex 1 = .ok (.ifCond .ne 11, 3) := dk_154 0 11 (dk_at dksX1_requireIndex_0 1 rfl rfl)
theorem dX1_requireIndex_4 : decode cX1_requireIndex 4 = .ok (.new 41, 3) := dk_187 0 41 (dk_at dksX1_requireIndex_0 4 rfl rfl)
theorem dX1_requireIndex_7 : decode cX1_requireIndex 7 = .ok (.dup, 1) := dk_89 (dk_at dksX1_requireIndex_0 7 rfl rfl)
theorem dX1_requireIndex_8 : decode cX1_requireIndex 8 = .ok (.invokespecial 43, 3) := dk_183 0 43 (dk_at dksX1_requireIndex_0 8 rfl rfl)
theorem dX1_requireIndex_11 : decode cX1_requireIndex 11 = .ok (.athrow, 1) := dk_191 (dk_at dksX1_requireIndex_0 11 rfl rfl)
theorem dX1_requireIndex_12 : decode cX1_requireIndex 12 = .ok (.return_, 1) := dk_177 (dk_at dksX1_requireIndex_0 12 rfl rfl)
abbrev cX1_count : ByteArray := prog_1_method_39_code
def yX1_count : MethodName := ⟨RX1, "count", "(II)I"⟩
def dkwX1_count_1 : List UInt8 := [153, 0, 12, 45, 180, 0, 206, 28, 46, 167, 0, 4, 2, 172]
abbrev dktX1_count_1 : List UInt8 := dkwX1_count_1 ++ []
def dkwX1_count_0 : List UInt8 := [42, 27, 182, 0, 158, 78, 28, 3, 6, 184, 0, 37, 184, 0, 147, 45, 180, 0, 183, 28, 184, 0, 202]
abbrev dktX1_count_0 : List UInt8 := dkwX1_count_0 ++ dktX1_count_1
theorem dksX1_count_0 : cX1_count.data.toList.drop 0 = dktX1_count_0 := by decide +kernel
theorem dksX1_count_1 : cX1_count.data.toList.drop 23 = dktX1_count_1 := dk_seg dksX1_count_0 23 rfl rfl
theorem dX1_count_0 : decode cX1_count 0 = .ok (.aload_n 0, 1) := dk_42 (dk_at dksX1_count_0 0 rfl rfl)
theorem dX1_count_1 : decode cX1_count 1 = .ok (.iload_n 1, 1) := dk_27 (dk_at dksX1_count_0 1 rfl rfl)
theorem dX1_count_2 : decode cX1_count 2 = .ok (.invokevirtual 158, 3) := dk_182 0 158 (dk_at dksX1_count_0 2 rfl rfl)
theorem dX1_count_5 : decode cX1_count 5 = .ok (.astore_n 3, 1) := dk_78 (dk_at dksX1_count_0 5 rfl rfl)
theorem dX1_count_6 : decode cX1_count 6 = .ok (.iload_n 2, 1) := dk_28 (dk_at dksX1_count_0 6 rfl rfl)
theorem dX1_count_7 : decode cX1_count 7 = .ok (.iconst 0, 1) := dk_3 (dk_at dksX1_count_0 7 rfl rfl)
theorem dX1_count_8 : decode cX1_count 8 = .ok (.iconst 3, 1) := dk_6 (dk_at dksX1_count_0 8 rfl rfl)
theorem dX1_count_9 : decode cX1_count 9 = .ok (.invokestatic 37, 3) := dk_184 0 37 (dk_at dksX1_count_0 9 rfl rfl)
theorem dX1_count_12 : decode cX1_count 12 = .ok (.invokestatic 147, 3) := dk_184 0 147 (dk_at dksX1_count_0 12 rfl rfl)
theorem dX1_count_15 : decode cX1_count 15 = .ok (.aload_n 3, 1) := dk_45 (dk_at dksX1_count_0 15 rfl rfl)
theorem dX1_count_16 : decode cX1_count 16 = .ok (.getfield 183, 3) := dk_180 0 183 (dk_at dksX1_count_0 16 rfl rfl)
theorem dX1_count_19 : decode cX1_count 19 = .ok (.iload_n 2, 1) := dk_28 (dk_at dksX1_count_0 19 rfl rfl)
theorem dX1_count_20 : decode cX1_count 20 = .ok (.invokestatic 202, 3) := dk_184 0 202 (dk_at dksX1_count_0 20 rfl rfl)
theorem dX1_count_23 : decode cX1_count 23 = .ok (.ifCond .eq 12, 3) := dk_153 0 12 (dk_at dksX1_count_1 0 rfl rfl)
theorem dX1_count_26 : decode cX1_count 26 = .ok (.aload_n 3, 1) := dk_45 (dk_at dksX1_count_1 3 rfl rfl)
theorem dX1_count_27 : decode cX1_count 27 = .ok (.getfield 206, 3) := dk_180 0 206 (dk_at dksX1_count_1 4 rfl rfl)
theorem dX1_count_30 : decode cX1_count 30 = .ok (.iload_n 2, 1) := dk_28 (dk_at dksX1_count_1 7 rfl rfl)
theorem dX1_count_31 : decode cX1_count 31 = .ok (.iaload, 1) := dk_46 (dk_at dksX1_count_1 8 rfl rfl)
theorem dX1_count_32 : decode cX1_count 32 = .ok (.goto 4, 3) := dk_167 0 4 (dk_at dksX1_count_1 9 rfl rfl)
theorem dX1_count_35 : decode cX1_count 35 = .ok (.iconst (-1), 1) := dk_2 (dk_at dksX1_count_1 12 rfl rfl)
theorem dX1_count_36 : decode cX1_count 36 = .ok (.ireturn, 1) := dk_172 (dk_at dksX1_count_1 13 rfl rfl)
abbrev cX1_clockAgain : ByteArray := prog_1_method_40_code
def yX1_clockAgain : MethodName := ⟨RX1, "clockAgain", "(I)I"⟩
def dkwX1_clockAgain_1 : List UInt8 := [180, 0, 216, 100, 172]
abbrev dktX1_clockAgain_1 : List UInt8 := dkwX1_clockAgain_1 ++ []
def dkwX1_clockAgain_0 : List UInt8 := [42, 27, 182, 0, 158, 77, 42, 180, 0, 10, 180, 0, 210, 44, 182, 0, 174, 100, 44, 180, 0, 213, 100, 44]
abbrev dktX1_clockAgain_0 : List UInt8 := dkwX1_clockAgain_0 ++ dktX1_clockAgain_1
theorem dksX1_clockAgain_0 : cX1_clockAgain.data.toList.drop 0 = dktX1_clockAgain_0 := by decide +kernel
theorem dksX1_clockAgain_1 : cX1_clockAgain.data.toList.drop 24 = dktX1_clockAgain_1 := dk_seg dksX1_clockAgain_0 24 rfl rfl
theorem dX1_clockAgain_0 : decode cX1_clockAgain 0 = .ok (.aload_n 0, 1) := dk_42 (dk_at dksX1_clockAgain_0 0 rfl rfl)
theorem dX1_clockAgain_1 : decode cX1_clockAgain 1 = .ok (.iload_n 1, 1) := dk_27 (dk_at dksX1_clockAgain_0 1 rfl rfl)
theorem dX1_clockAgain_2 : decode cX1_clockAgain 2 = .ok (.invokevirtual 158, 3) := dk_182 0 158 (dk_at dksX1_clockAgain_0 2 rfl rfl)
theorem dX1_clockAgain_5 : decode cX1_clockAgain 5 = .ok (.astore_n 2, 1) := dk_77 (dk_at dksX1_clockAgain_0 5 rfl rfl)
theorem dX1_clockAgain_6 : decode cX1_clockAgain 6 = .ok (.aload_n 0, 1) := dk_42 (dk_at dksX1_clockAgain_0 6 rfl rfl)
theorem dX1_clockAgain_7 : decode cX1_clockAgain 7 = .ok (.getfield 10, 3) := dk_180 0 10 (dk_at dksX1_clockAgain_0 7 rfl rfl)
theorem dX1_clockAgain_10 : decode cX1_clockAgain 10 = .ok (.getfield 210, 3) := dk_180 0 210 (dk_at dksX1_clockAgain_0 10 rfl rfl)
theorem dX1_clockAgain_13 : decode cX1_clockAgain 13 = .ok (.aload_n 2, 1) := dk_44 (dk_at dksX1_clockAgain_0 13 rfl rfl)
theorem dX1_clockAgain_14 : decode cX1_clockAgain 14 = .ok (.invokevirtual 174, 3) := dk_182 0 174 (dk_at dksX1_clockAgain_0 14 rfl rfl)
theorem dX1_clockAgain_17 : decode cX1_clockAgain 17 = .ok (.isub, 1) := dk_100 (dk_at dksX1_clockAgain_0 17 rfl rfl)
theorem dX1_clockAgain_18 : decode cX1_clockAgain 18 = .ok (.aload_n 2, 1) := dk_44 (dk_at dksX1_clockAgain_0 18 rfl rfl)
theorem dX1_clockAgain_19 : decode cX1_clockAgain 19 = .ok (.getfield 213, 3) := dk_180 0 213 (dk_at dksX1_clockAgain_0 19 rfl rfl)
theorem dX1_clockAgain_22 : decode cX1_clockAgain 22 = .ok (.isub, 1) := dk_100 (dk_at dksX1_clockAgain_0 22 rfl rfl)
theorem dX1_clockAgain_23 : decode cX1_clockAgain 23 = .ok (.aload_n 2, 1) := dk_44 (dk_at dksX1_clockAgain_0 23 rfl rfl)
theorem dX1_clockAgain_24 : decode cX1_clockAgain 24 = .ok (.getfield 216, 3) := dk_180 0 216 (dk_at dksX1_clockAgain_1 0 rfl rfl)
theorem dX1_clockAgain_27 : decode cX1_clockAgain 27 = .ok (.isub, 1) := dk_100 (dk_at dksX1_clockAgain_1 3 rfl rfl)
theorem dX1_clockAgain_28 : decode cX1_clockAgain 28 = .ok (.ireturn, 1) := dk_172 (dk_at dksX1_clockAgain_1 4 rfl rfl)
abbrev cX1_tree : ByteArray := prog_1_method_41_code
def yX1_tree : MethodName := ⟨RX1, "tree", "(I)I"⟩
def dkwX1_tree_0 : List UInt8 := [42, 27, 182, 0, 158, 87, 42, 180, 0, 10, 27, 182, 0, 219, 172]
abbrev dktX1_tree_0 : List UInt8 := dkwX1_tree_0 ++ []
theorem dksX1_tree_0 : cX1_tree.data.toList.drop 0 = dktX1_tree_0 := by decide +kernel
theorem dX1_tree_0 : decode cX1_tree 0 = .ok (.aload_n 0, 1) := dk_42 (dk_at dksX1_tree_0 0 rfl rfl)
theorem dX1_tree_1 : decode cX1_tree 1 = .ok (.iload_n 1, 1) := dk_27 (dk_at dksX1_tree_0 1 rfl rfl)
theorem dX1_tree_2 : decode cX1_tree 2 = .ok (.invokevirtual 158, 3) := dk_182 0 158 (dk_at dksX1_tree_0 2 rfl rfl)
theorem dX1_tree_5 : decode cX1_tree 5 = .ok (.pop, 1) := dk_87 (dk_at dksX1_tree_0 5 rfl rfl)
theorem dX1_tree_6 : decode cX1_tree 6 = .ok (.aload_n 0, 1) := dk_42 (dk_at dksX1_tree_0 6 rfl rfl)
theorem dX1_tree_7 : decode cX1_tree 7 = .ok (.getfield 10, 3) := dk_180 0 10 (dk_at dksX1_tree_0 7 rfl rfl)
theorem dX1_tree_10 : decode cX1_tree 10 = .ok (.iload_n 1, 1) := dk_27 (dk_at dksX1_tree_0 10 rfl rfl)
theorem dX1_tree_11 : decode cX1_tree 11 = .ok (.invokevirtual 219, 3) := dk_182 0 219 (dk_at dksX1_tree_0 11 rfl rfl)
theorem dX1_tree_14 : decode cX1_tree 14 = .ok (.ireturn, 1) := dk_172 (dk_at dksX1_tree_0 14 rfl rfl)
abbrev cX1_deepest : ByteArray := prog_1_method_42_code
def yX1_deepest : MethodName := ⟨RX1, "deepest", "(I)I"⟩
def dkwX1_deepest_0 : List UInt8 := [42, 27, 182, 0, 158, 87, 42, 180, 0, 10, 27, 182, 0, 223, 172]
abbrev dktX1_deepest_0 : List UInt8 := dkwX1_deepest_0 ++ []
theorem dksX1_deepest_0 : cX1_deepest.data.toList.drop 0 = dktX1_deepest_0 := by decide +kernel
theorem dX1_deepest_0 : decode cX1_deepest 0 = .ok (.aload_n 0, 1) := dk_42 (dk_at dksX1_deepest_0 0 rfl rfl)
theorem dX1_deepest_1 : decode cX1_deepest 1 = .ok (.iload_n 1, 1) := dk_27 (dk_at dksX1_deepest_0 1 rfl rfl)
theorem dX1_deepest_2 : decode cX1_deepest 2 = .ok (.invokevirtual 158, 3) := dk_182 0 158 (dk_at dksX1_deepest_0 2 rfl rfl)
theorem dX1_deepest_5 : decode cX1_deepest 5 = .ok (.pop, 1) := dk_87 (dk_at dksX1_deepest_0 5 rfl rfl)
theorem dX1_deepest_6 : decode cX1_deepest 6 = .ok (.aload_n 0, 1) := dk_42 (dk_at dksX1_deepest_0 6 rfl rfl)
theorem dX1_deepest_7 : decode cX1_deepest 7 = .ok (.getfield 10, 3) := dk_180 0 10 (dk_at dksX1_deepest_0 7 rfl rfl)
theorem dX1_deepest_10 : decode cX1_deepest 10 = .ok (.iload_n 1, 1) := dk_27 (dk_at dksX1_deepest_0 10 rfl rfl)
theorem dX1_deepest_11 : decode cX1_deepest 11 = .ok (.invokevirtual 223, 3) := dk_182 0 223 (dk_at dksX1_deepest_0 11 rfl rfl)
theorem dX1_deepest_14 : decode cX1_deepest 14 = .ok (.ireturn, 1) := dk_172 (dk_at dksX1_deepest_0 14 rfl rfl)
abbrev cX1_treeClock : ByteArray := prog_1_method_43_code
def yX1_treeClock : MethodName := ⟨RX1, "treeClock", "(I)I"⟩
def dkwX1_treeClock_2 : List UInt8 := [192, 0, 156, 58, 4, 28, 25, 4, 180, 0, 177, 96, 61, 167, 255, 228, 28, 172]
abbrev dktX1_treeClock_2 : List UInt8 := dkwX1_treeClock_2 ++ []
def dkwX1_treeClock_1 : List UInt8 := [183, 0, 234, 182, 0, 237, 78, 45, 185, 0, 241, 1, 0, 153, 0, 25, 45, 185, 0, 247, 1, 0]
abbrev dktX1_treeClock_1 : List UInt8 := dkwX1_treeClock_1 ++ dktX1_treeClock_2
def dkwX1_treeClock_0 : List UInt8 := [42, 27, 182, 0, 158, 180, 0, 177, 61, 187, 0, 226, 89, 42, 180, 0, 10, 89, 184, 0, 228, 87, 27]
abbrev dktX1_treeClock_0 : List UInt8 := dkwX1_treeClock_0 ++ dktX1_treeClock_1
theorem dksX1_treeClock_0 : cX1_treeClock.data.toList.drop 0 = dktX1_treeClock_0 := by decide +kernel
theorem dksX1_treeClock_1 : cX1_treeClock.data.toList.drop 23 = dktX1_treeClock_1 := dk_seg dksX1_treeClock_0 23 rfl rfl
theorem dksX1_treeClock_2 : cX1_treeClock.data.toList.drop 45 = dktX1_treeClock_2 := dk_seg dksX1_treeClock_1 22 rfl rfl
theorem dX1_treeClock_0 : decode cX1_treeClock 0 = .ok (.aload_n 0, 1) := dk_42 (dk_at dksX1_treeClock_0 0 rfl rfl)
theorem dX1_treeClock_1 : decode cX1_treeClock 1 = .ok (.iload_n 1, 1) := dk_27 (dk_at dksX1_treeClock_0 1 rfl rfl)
theorem dX1_treeClock_2 : decode cX1_treeClock 2 = .ok (.invokevirtual 158, 3) := dk_182 0 158 (dk_at dksX1_treeClock_0 2 rfl rfl)
theorem dX1_treeClock_5 : decode cX1_treeClock 5 = .ok (.getfield 177, 3) := dk_180 0 177 (dk_at dksX1_treeClock_0 5 rfl rfl)
theorem dX1_treeClock_8 : decode cX1_treeClock 8 = .ok (.istore_n 2, 1) := dk_61 (dk_at dksX1_treeClock_0 8 rfl rfl)
theorem dX1_treeClock_9 : decode cX1_treeClock 9 = .ok (.new 226, 3) := dk_187 0 226 (dk_at dksX1_treeClock_0 9 rfl rfl)
theorem dX1_treeClock_12 : decode cX1_treeClock 12 = .ok (.dup, 1) := dk_89 (dk_at dksX1_treeClock_0 12 rfl rfl)
theorem dX1_treeClock_13 : decode cX1_treeClock 13 = .ok (.aload_n 0, 1) := dk_42 (dk_at dksX1_treeClock_0 13 rfl rfl)
theorem dX1_treeClock_14 : decode cX1_treeClock 14 = .ok (.getfield 10, 3) := dk_180 0 10 (dk_at dksX1_treeClock_0 14 rfl rfl)
theorem dX1_treeClock_17 : decode cX1_treeClock 17 = .ok (.dup, 1) := dk_89 (dk_at dksX1_treeClock_0 17 rfl rfl)
theorem dX1_treeClock_18 : decode cX1_treeClock 18 = .ok (.invokestatic 228, 3) := dk_184 0 228 (dk_at dksX1_treeClock_0 18 rfl rfl)
theorem dX1_treeClock_21 : decode cX1_treeClock 21 = .ok (.pop, 1) := dk_87 (dk_at dksX1_treeClock_0 21 rfl rfl)
theorem dX1_treeClock_22 : decode cX1_treeClock 22 = .ok (.iload_n 1, 1) := dk_27 (dk_at dksX1_treeClock_0 22 rfl rfl)
theorem dX1_treeClock_23 : decode cX1_treeClock 23 = .ok (.invokespecial 234, 3) := dk_183 0 234 (dk_at dksX1_treeClock_1 0 rfl rfl)
theorem dX1_treeClock_26 : decode cX1_treeClock 26 = .ok (.invokevirtual 237, 3) := dk_182 0 237 (dk_at dksX1_treeClock_1 3 rfl rfl)
theorem dX1_treeClock_29 : decode cX1_treeClock 29 = .ok (.astore_n 3, 1) := dk_78 (dk_at dksX1_treeClock_1 6 rfl rfl)
theorem dX1_treeClock_30 : decode cX1_treeClock 30 = .ok (.aload_n 3, 1) := dk_45 (dk_at dksX1_treeClock_1 7 rfl rfl)
theorem dX1_treeClock_31 : decode cX1_treeClock 31 = .ok (.invokeinterface 241 1, 5) := by decide +kernel
theorem dX1_treeClock_36 : decode cX1_treeClock 36 = .ok (.ifCond .eq 25, 3) := dk_153 0 25 (dk_at dksX1_treeClock_1 13 rfl rfl)
theorem dX1_treeClock_39 : decode cX1_treeClock 39 = .ok (.aload_n 3, 1) := dk_45 (dk_at dksX1_treeClock_1 16 rfl rfl)
theorem dX1_treeClock_40 : decode cX1_treeClock 40 = .ok (.invokeinterface 247 1, 5) := by decide +kernel
theorem dX1_treeClock_45 : decode cX1_treeClock 45 = .ok (.checkcast 156, 3) := dk_192 0 156 (dk_at dksX1_treeClock_2 0 rfl rfl)
theorem dX1_treeClock_48 : decode cX1_treeClock 48 = .ok (.astore 4, 2) := dk_58 4 (dk_at dksX1_treeClock_2 3 rfl rfl)
theorem dX1_treeClock_50 : decode cX1_treeClock 50 = .ok (.iload_n 2, 1) := dk_28 (dk_at dksX1_treeClock_2 5 rfl rfl)
theorem dX1_treeClock_51 : decode cX1_treeClock 51 = .ok (.aload 4, 2) := dk_25 4 (dk_at dksX1_treeClock_2 6 rfl rfl)
theorem dX1_treeClock_53 : decode cX1_treeClock 53 = .ok (.getfield 177, 3) := dk_180 0 177 (dk_at dksX1_treeClock_2 8 rfl rfl)
theorem dX1_treeClock_56 : decode cX1_treeClock 56 = .ok (.iadd, 1) := dk_96 (dk_at dksX1_treeClock_2 11 rfl rfl)
theorem dX1_treeClock_57 : decode cX1_treeClock 57 = .ok (.istore_n 2, 1) := dk_61 (dk_at dksX1_treeClock_2 12 rfl rfl)
theorem dX1_treeClock_58 : decode cX1_treeClock 58 = .ok (.goto (-28), 3) := dk_167 255 228 (dk_at dksX1_treeClock_2 13 rfl rfl)
theorem dX1_treeClock_61 : decode cX1_treeClock 61 = .ok (.iload_n 2, 1) := dk_28 (dk_at dksX1_treeClock_2 16 rfl rfl)
theorem dX1_treeClock_62 : decode cX1_treeClock 62 = .ok (.ireturn, 1) := dk_172 (dk_at dksX1_treeClock_2 17 rfl rfl)
abbrev cX1_suspects : ByteArray := prog_1_method_44_code
def yX1_suspects : MethodName := ⟨RX1, "suspects", "(I)I"⟩
def dkwX1_suspects_2 : List UInt8 := [153, 0, 10, 4, 21, 4, 120, 167, 0, 4, 3, 128, 62, 132, 4, 1, 167, 255, 205, 29, 172]
abbrev dktX1_suspects_2 : List UInt8 := dkwX1_suspects_2 ++ []
def dkwX1_suspects_1 : List UInt8 := [162, 0, 42, 29, 44, 42, 180, 0, 10, 180, 0, 251, 21, 4, 182, 0, 153, 192, 0, 254, 182, 1, 0]
abbrev dktX1_suspects_1 : List UInt8 := dkwX1_suspects_1 ++ dktX1_suspects_2
def dkwX1_suspects_0 : List UInt8 := [42, 27, 182, 0, 158, 77, 3, 62, 3, 54, 4, 21, 4, 42, 180, 0, 10, 180, 0, 251, 182, 0, 80]
abbrev dktX1_suspects_0 : List UInt8 := dkwX1_suspects_0 ++ dktX1_suspects_1
theorem dksX1_suspects_0 : cX1_suspects.data.toList.drop 0 = dktX1_suspects_0 := by decide +kernel
theorem dksX1_suspects_1 : cX1_suspects.data.toList.drop 23 = dktX1_suspects_1 := dk_seg dksX1_suspects_0 23 rfl rfl
theorem dksX1_suspects_2 : cX1_suspects.data.toList.drop 46 = dktX1_suspects_2 := dk_seg dksX1_suspects_1 23 rfl rfl
theorem dX1_suspects_0 : decode cX1_suspects 0 = .ok (.aload_n 0, 1) := dk_42 (dk_at dksX1_suspects_0 0 rfl rfl)
theorem dX1_suspects_1 : decode cX1_suspects 1 = .ok (.iload_n 1, 1) := dk_27 (dk_at dksX1_suspects_0 1 rfl rfl)
theorem dX1_suspects_2 : decode cX1_suspects 2 = .ok (.invokevirtual 158, 3) := dk_182 0 158 (dk_at dksX1_suspects_0 2 rfl rfl)
theorem dX1_suspects_5 : decode cX1_suspects 5 = .ok (.astore_n 2, 1) := dk_77 (dk_at dksX1_suspects_0 5 rfl rfl)
theorem dX1_suspects_6 : decode cX1_suspects 6 = .ok (.iconst 0, 1) := dk_3 (dk_at dksX1_suspects_0 6 rfl rfl)
theorem dX1_suspects_7 : decode cX1_suspects 7 = .ok (.istore_n 3, 1) := dk_62 (dk_at dksX1_suspects_0 7 rfl rfl)
theorem dX1_suspects_8 : decode cX1_suspects 8 = .ok (.iconst 0, 1) := dk_3 (dk_at dksX1_suspects_0 8 rfl rfl)
theorem dX1_suspects_9 : decode cX1_suspects 9 = .ok (.istore 4, 2) := dk_54 4 (dk_at dksX1_suspects_0 9 rfl rfl)
theorem dX1_suspects_11 : decode cX1_suspects 11 = .ok (.iload 4, 2) := dk_21 4 (dk_at dksX1_suspects_0 11 rfl rfl)
theorem dX1_suspects_13 : decode cX1_suspects 13 = .ok (.aload_n 0, 1) := dk_42 (dk_at dksX1_suspects_0 13 rfl rfl)
theorem dX1_suspects_14 : decode cX1_suspects 14 = .ok (.getfield 10, 3) := dk_180 0 10 (dk_at dksX1_suspects_0 14 rfl rfl)
theorem dX1_suspects_17 : decode cX1_suspects 17 = .ok (.getfield 251, 3) := dk_180 0 251 (dk_at dksX1_suspects_0 17 rfl rfl)
theorem dX1_suspects_20 : decode cX1_suspects 20 = .ok (.invokevirtual 80, 3) := dk_182 0 80 (dk_at dksX1_suspects_0 20 rfl rfl)
theorem dX1_suspects_23 : decode cX1_suspects 23 = .ok (.if_icmp .ge 42, 3) := dk_162 0 42 (dk_at dksX1_suspects_1 0 rfl rfl)
theorem dX1_suspects_26 : decode cX1_suspects 26 = .ok (.iload_n 3, 1) := dk_29 (dk_at dksX1_suspects_1 3 rfl rfl)
theorem dX1_suspects_27 : decode cX1_suspects 27 = .ok (.aload_n 2, 1) := dk_44 (dk_at dksX1_suspects_1 4 rfl rfl)
theorem dX1_suspects_28 : decode cX1_suspects 28 = .ok (.aload_n 0, 1) := dk_42 (dk_at dksX1_suspects_1 5 rfl rfl)
theorem dX1_suspects_29 : decode cX1_suspects 29 = .ok (.getfield 10, 3) := dk_180 0 10 (dk_at dksX1_suspects_1 6 rfl rfl)
theorem dX1_suspects_32 : decode cX1_suspects 32 = .ok (.getfield 251, 3) := dk_180 0 251 (dk_at dksX1_suspects_1 9 rfl rfl)
theorem dX1_suspects_35 : decode cX1_suspects 35 = .ok (.iload 4, 2) := dk_21 4 (dk_at dksX1_suspects_1 12 rfl rfl)
theorem dX1_suspects_37 : decode cX1_suspects 37 = .ok (.invokevirtual 153, 3) := dk_182 0 153 (dk_at dksX1_suspects_1 14 rfl rfl)
theorem dX1_suspects_40 : decode cX1_suspects 40 = .ok (.checkcast 254, 3) := dk_192 0 254 (dk_at dksX1_suspects_1 17 rfl rfl)
theorem dX1_suspects_43 : decode cX1_suspects 43 = .ok (.invokevirtual 256, 3) := dk_182 1 0 (dk_at dksX1_suspects_1 20 rfl rfl)
theorem dX1_suspects_46 : decode cX1_suspects 46 = .ok (.ifCond .eq 10, 3) := dk_153 0 10 (dk_at dksX1_suspects_2 0 rfl rfl)
theorem dX1_suspects_49 : decode cX1_suspects 49 = .ok (.iconst 1, 1) := dk_4 (dk_at dksX1_suspects_2 3 rfl rfl)
theorem dX1_suspects_50 : decode cX1_suspects 50 = .ok (.iload 4, 2) := dk_21 4 (dk_at dksX1_suspects_2 4 rfl rfl)
theorem dX1_suspects_52 : decode cX1_suspects 52 = .ok (.ishl, 1) := dk_120 (dk_at dksX1_suspects_2 6 rfl rfl)
theorem dX1_suspects_53 : decode cX1_suspects 53 = .ok (.goto 4, 3) := dk_167 0 4 (dk_at dksX1_suspects_2 7 rfl rfl)
theorem dX1_suspects_56 : decode cX1_suspects 56 = .ok (.iconst 0, 1) := dk_3 (dk_at dksX1_suspects_2 10 rfl rfl)
theorem dX1_suspects_57 : decode cX1_suspects 57 = .ok (.ior, 1) := dk_128 (dk_at dksX1_suspects_2 11 rfl rfl)
theorem dX1_suspects_58 : decode cX1_suspects 58 = .ok (.istore_n 3, 1) := dk_62 (dk_at dksX1_suspects_2 12 rfl rfl)
theorem dX1_suspects_59 : decode cX1_suspects 59 = .ok (.iinc 4 1, 3) := dk_132 4 1 (dk_at dksX1_suspects_2 13 rfl rfl)
theorem dX1_suspects_62 : decode cX1_suspects 62 = .ok (.goto (-51), 3) := dk_167 255 205 (dk_at dksX1_suspects_2 16 rfl rfl)
theorem dX1_suspects_65 : decode cX1_suspects 65 = .ok (.iload_n 3, 1) := dk_29 (dk_at dksX1_suspects_2 19 rfl rfl)
theorem dX1_suspects_66 : decode cX1_suspects 66 = .ok (.ireturn, 1) := dk_172 (dk_at dksX1_suspects_2 20 rfl rfl)
abbrev cX1_likeliest : ByteArray := prog_1_method_45_code
def yX1_likeliest : MethodName := ⟨RX1, "likeliest", "(I)I"⟩
def dkwX1_likeliest_5 : List UInt8 := [29, 172]
abbrev dktX1_likeliest_5 : List UInt8 := dkwX1_likeliest_5 ++ []
def dkwX1_likeliest_4 : List UInt8 := [167, 0, 4, 29, 62, 132, 4, 1, 167, 255, 167, 29, 2, 159, 0, 7, 4, 167, 0, 4, 3, 184, 0, 140]
abbrev dktX1_likeliest_4 : List UInt8 := dkwX1_likeliest_4 ++ dktX1_likeliest_5
def dkwX1_likeliest_3 : List UInt8 := [167, 0, 4, 3, 54, 5, 28, 21, 4, 184, 0, 202, 153, 0, 13, 21, 5, 153, 0, 8, 21, 4]
abbrev dktX1_likeliest_3 : List UInt8 := dkwX1_likeliest_3 ++ dktX1_likeliest_4
def dkwX1_likeliest_2 : List UInt8 := [182, 1, 7, 42, 180, 0, 10, 180, 0, 251, 29, 182, 0, 153, 192, 0, 254, 182, 1, 7, 161, 0, 7, 4]
abbrev dktX1_likeliest_2 : List UInt8 := dkwX1_likeliest_2 ++ dktX1_likeliest_3
def dkwX1_likeliest_1 : List UInt8 := [162, 0, 80, 29, 2, 159, 0, 41, 42, 180, 0, 10, 180, 0, 251, 21, 4, 182, 0, 153, 192, 0, 254]
abbrev dktX1_likeliest_1 : List UInt8 := dkwX1_likeliest_1 ++ dktX1_likeliest_2
def dkwX1_likeliest_0 : List UInt8 := [42, 27, 182, 1, 4, 61, 2, 62, 3, 54, 4, 21, 4, 42, 180, 0, 10, 180, 0, 251, 182, 0, 80]
abbrev dktX1_likeliest_0 : List UInt8 := dkwX1_likeliest_0 ++ dktX1_likeliest_1
theorem dksX1_likeliest_0 : cX1_likeliest.data.toList.drop 0 = dktX1_likeliest_0 := by decide +kernel
theorem dksX1_likeliest_1 : cX1_likeliest.data.toList.drop 23 = dktX1_likeliest_1 := dk_seg dksX1_likeliest_0 23 rfl rfl
theorem dksX1_likeliest_2 : cX1_likeliest.data.toList.drop 46 = dktX1_likeliest_2 := dk_seg dksX1_likeliest_1 23 rfl rfl
theorem dksX1_likeliest_3 : cX1_likeliest.data.toList.drop 70 = dktX1_likeliest_3 := dk_seg dksX1_likeliest_2 24 rfl rfl
theorem dksX1_likeliest_4 : cX1_likeliest.data.toList.drop 92 = dktX1_likeliest_4 := dk_seg dksX1_likeliest_3 22 rfl rfl
theorem dksX1_likeliest_5 : cX1_likeliest.data.toList.drop 116 = dktX1_likeliest_5 := dk_seg dksX1_likeliest_4 24 rfl rfl
theorem dX1_likeliest_0 : decode cX1_likeliest 0 = .ok (.aload_n 0, 1) := dk_42 (dk_at dksX1_likeliest_0 0 rfl rfl)
theorem dX1_likeliest_1 : decode cX1_likeliest 1 = .ok (.iload_n 1, 1) := dk_27 (dk_at dksX1_likeliest_0 1 rfl rfl)
theorem dX1_likeliest_2 : decode cX1_likeliest 2 = .ok (.invokevirtual 260, 3) := dk_182 1 4 (dk_at dksX1_likeliest_0 2 rfl rfl)
theorem dX1_likeliest_5 : decode cX1_likeliest 5 = .ok (.istore_n 2, 1) := dk_61 (dk_at dksX1_likeliest_0 5 rfl rfl)
theorem dX1_likeliest_6 : decode cX1_likeliest 6 = .ok (.iconst (-1), 1) := dk_2 (dk_at dksX1_likeliest_0 6 rfl rfl)
theorem dX1_likeliest_7 : decode cX1_likeliest 7 = .ok (.istore_n 3, 1) := dk_62 (dk_at dksX1_likeliest_0 7 rfl rfl)
theorem dX1_likeliest_8 : decode cX1_likeliest 8 = .ok (.iconst 0, 1) := dk_3 (dk_at dksX1_likeliest_0 8 rfl rfl)
theorem dX1_likeliest_9 : decode cX1_likeliest 9 = .ok (.istore 4, 2) := dk_54 4 (dk_at dksX1_likeliest_0 9 rfl rfl)
theorem dX1_likeliest_11 : decode cX1_likeliest 11 = .ok (.iload 4, 2) := dk_21 4 (dk_at dksX1_likeliest_0 11 rfl rfl)
theorem dX1_likeliest_13 : decode cX1_likeliest 13 = .ok (.aload_n 0, 1) := dk_42 (dk_at dksX1_likeliest_0 13 rfl rfl)
theorem dX1_likeliest_14 : decode cX1_likeliest 14 = .ok (.getfield 10, 3) := dk_180 0 10 (dk_at dksX1_likeliest_0 14 rfl rfl)
theorem dX1_likeliest_17 : decode cX1_likeliest 17 = .ok (.getfield 251, 3) := dk_180 0 251 (dk_at dksX1_likeliest_0 17 rfl rfl)
theorem dX1_likeliest_20 : decode cX1_likeliest 20 = .ok (.invokevirtual 80, 3) := dk_182 0 80 (dk_at dksX1_likeliest_0 20 rfl rfl)
theorem dX1_likeliest_23 : decode cX1_likeliest 23 = .ok (.if_icmp .ge 80, 3) := dk_162 0 80 (dk_at dksX1_likeliest_1 0 rfl rfl)
theorem dX1_likeliest_26 : decode cX1_likeliest 26 = .ok (.iload_n 3, 1) := dk_29 (dk_at dksX1_likeliest_1 3 rfl rfl)
theorem dX1_likeliest_27 : decode cX1_likeliest 27 = .ok (.iconst (-1), 1) := dk_2 (dk_at dksX1_likeliest_1 4 rfl rfl)
theorem dX1_likeliest_28 : decode cX1_likeliest 28 = .ok (.if_icmp .eq 41, 3) := dk_159 0 41 (dk_at dksX1_likeliest_1 5 rfl rfl)
theorem dX1_likeliest_31 : decode cX1_likeliest 31 = .ok (.aload_n 0, 1) := dk_42 (dk_at dksX1_likeliest_1 8 rfl rfl)
theorem dX1_likeliest_32 : decode cX1_likeliest 32 = .ok (.getfield 10, 3) := dk_180 0 10 (dk_at dksX1_likeliest_1 9 rfl rfl)
theorem dX1_likeliest_35 : decode cX1_likeliest 35 = .ok (.getfield 251, 3) := dk_180 0 251 (dk_at dksX1_likeliest_1 12 rfl rfl)
theorem dX1_likeliest_38 : decode cX1_likeliest 38 = .ok (.iload 4, 2) := dk_21 4 (dk_at dksX1_likeliest_1 15 rfl rfl)
theorem dX1_likeliest_40 : decode cX1_likeliest 40 = .ok (.invokevirtual 153, 3) := dk_182 0 153 (dk_at dksX1_likeliest_1 17 rfl rfl)
theorem dX1_likeliest_43 : decode cX1_likeliest 43 = .ok (.checkcast 254, 3) := dk_192 0 254 (dk_at dksX1_likeliest_1 20 rfl rfl)
theorem dX1_likeliest_46 : decode cX1_likeliest 46 = .ok (.invokevirtual 263, 3) := dk_182 1 7 (dk_at dksX1_likeliest_2 0 rfl rfl)
theorem dX1_likeliest_49 : decode cX1_likeliest 49 = .ok (.aload_n 0, 1) := dk_42 (dk_at dksX1_likeliest_2 3 rfl rfl)
theorem dX1_likeliest_50 : decode cX1_likeliest 50 = .ok (.getfield 10, 3) := dk_180 0 10 (dk_at dksX1_likeliest_2 4 rfl rfl)
theorem dX1_likeliest_53 : decode cX1_likeliest 53 = .ok (.getfield 251, 3) := dk_180 0 251 (dk_at dksX1_likeliest_2 7 rfl rfl)
theorem dX1_likeliest_56 : decode cX1_likeliest 56 = .ok (.iload_n 3, 1) := dk_29 (dk_at dksX1_likeliest_2 10 rfl rfl)
theorem dX1_likeliest_57 : decode cX1_likeliest 57 = .ok (.invokevirtual 153, 3) := dk_182 0 153 (dk_at dksX1_likeliest_2 11 rfl rfl)
theorem dX1_likeliest_60 : decode cX1_likeliest 60 = .ok (.checkcast 254, 3) := dk_192 0 254 (dk_at dksX1_likeliest_2 14 rfl rfl)
theorem dX1_likeliest_63 : decode cX1_likeliest 63 = .ok (.invokevirtual 263, 3) := dk_182 1 7 (dk_at dksX1_likeliest_2 17 rfl rfl)
theorem dX1_likeliest_66 : decode cX1_likeliest 66 = .ok (.if_icmp .lt 7, 3) := dk_161 0 7 (dk_at dksX1_likeliest_2 20 rfl rfl)
theorem dX1_likeliest_69 : decode cX1_likeliest 69 = .ok (.iconst 1, 1) := dk_4 (dk_at dksX1_likeliest_2 23 rfl rfl)
theorem dX1_likeliest_70 : decode cX1_likeliest 70 = .ok (.goto 4, 3) := dk_167 0 4 (dk_at dksX1_likeliest_3 0 rfl rfl)
theorem dX1_likeliest_73 : decode cX1_likeliest 73 = .ok (.iconst 0, 1) := dk_3 (dk_at dksX1_likeliest_3 3 rfl rfl)
theorem dX1_likeliest_74 : decode cX1_likeliest 74 = .ok (.istore 5, 2) := dk_54 5 (dk_at dksX1_likeliest_3 4 rfl rfl)
theorem dX1_likeliest_76 : decode cX1_likeliest 76 = .ok (.iload_n 2, 1) := dk_28 (dk_at dksX1_likeliest_3 6 rfl rfl)
theorem dX1_likeliest_77 : decode cX1_likeliest 77 = .ok (.iload 4, 2) := dk_21 4 (dk_at dksX1_likeliest_3 7 rfl rfl)
theorem dX1_likeliest_79 : decode cX1_likeliest 79 = .ok (.invokestatic 202, 3) := dk_184 0 202 (dk_at dksX1_likeliest_3 9 rfl rfl)
theorem dX1_likeliest_82 : decode cX1_likeliest 82 = .ok (.ifCond .eq 13, 3) := dk_153 0 13 (dk_at dksX1_likeliest_3 12 rfl rfl)
theorem dX1_likeliest_85 : decode cX1_likeliest 85 = .ok (.iload 5, 2) := dk_21 5 (dk_at dksX1_likeliest_3 15 rfl rfl)
theorem dX1_likeliest_87 : decode cX1_likeliest 87 = .ok (.ifCond .eq 8, 3) := dk_153 0 8 (dk_at dksX1_likeliest_3 17 rfl rfl)
theorem dX1_likeliest_90 : decode cX1_likeliest 90 = .ok (.iload 4, 2) := dk_21 4 (dk_at dksX1_likeliest_3 20 rfl rfl)
theorem dX1_likeliest_92 : decode cX1_likeliest 92 = .ok (.goto 4, 3) := dk_167 0 4 (dk_at dksX1_likeliest_4 0 rfl rfl)
theorem dX1_likeliest_95 : decode cX1_likeliest 95 = .ok (.iload_n 3, 1) := dk_29 (dk_at dksX1_likeliest_4 3 rfl rfl)
theorem dX1_likeliest_96 : decode cX1_likeliest 96 = .ok (.istore_n 3, 1) := dk_62 (dk_at dksX1_likeliest_4 4 rfl rfl)
theorem dX1_likeliest_97 : decode cX1_likeliest 97 = .ok (.iinc 4 1, 3) := dk_132 4 1 (dk_at dksX1_likeliest_4 5 rfl rfl)
theorem dX1_likeliest_100 : decode cX1_likeliest 100 = .ok (.goto (-89), 3) := dk_167 255 167 (dk_at dksX1_likeliest_4 8 rfl rfl)
theorem dX1_likeliest_103 : decode cX1_likeliest 103 = .ok (.iload_n 3, 1) := dk_29 (dk_at dksX1_likeliest_4 11 rfl rfl)
theorem dX1_likeliest_104 : decode cX1_likeliest 104 = .ok (.iconst (-1), 1) := dk_2 (dk_at dksX1_likeliest_4 12 rfl rfl)
theorem dX1_likeliest_105 : decode cX1_likeliest 105 = .ok (.if_icmp .eq 7, 3) := dk_159 0 7 (dk_at dksX1_likeliest_4 13 rfl rfl)
theorem dX1_likeliest_108 : decode cX1_likeliest 108 = .ok (.iconst 1, 1) := dk_4 (dk_at dksX1_likeliest_4 16 rfl rfl)
theorem dX1_likeliest_109 : decode cX1_likeliest 109 = .ok (.goto 4, 3) := dk_167 0 4 (dk_at dksX1_likeliest_4 17 rfl rfl)
theorem dX1_likeliest_112 : decode cX1_likeliest 112 = .ok (.iconst 0, 1) := dk_3 (dk_at dksX1_likeliest_4 20 rfl rfl)
theorem dX1_likeliest_113 : decode cX1_likeliest 113 = .ok (.invokestatic 140, 3) := dk_184 0 140 (dk_at dksX1_likeliest_4 21 rfl rfl)
theorem dX1_likeliest_116 : decode cX1_likeliest 116 = .ok (.iload_n 3, 1) := dk_29 (dk_at dksX1_likeliest_5 0 rfl rfl)
theorem dX1_likeliest_117 : decode cX1_likeliest 117 = .ok (.ireturn, 1) := dk_172 (dk_at dksX1_likeliest_5 1 rfl rfl)
abbrev cX1_next : ByteArray := prog_1_method_47_code
def yX1_next : MethodName := ⟨RX1, "next", "()I"⟩
def dkwX1_next_3 : List UInt8 := [167, 0, 4, 3, 184, 0, 140, 43, 180, 1, 15, 172]
abbrev dktX1_next_3 : List UInt8 := dkwX1_next_3 ++ []
def dkwX1_next_2 : List UInt8 := [184, 1, 11, 153, 0, 7, 45, 167, 0, 4, 43, 76, 132, 2, 1, 167, 255, 199, 43, 198, 0, 7, 4]
abbrev dktX1_next_2 : List UInt8 := dkwX1_next_2 ++ dktX1_next_3
def dkwX1_next_1 : List UInt8 := [180, 0, 150, 28, 182, 0, 153, 192, 0, 156, 78, 45, 182, 1, 8, 153, 0, 19, 43, 198, 0, 11, 45, 43]
abbrev dktX1_next_1 : List UInt8 := dkwX1_next_1 ++ dktX1_next_2
def dkwX1_next_0 : List UInt8 := [1, 76, 3, 61, 28, 42, 180, 0, 10, 180, 0, 150, 182, 0, 80, 162, 0, 49, 42, 180, 0, 10]
abbrev dktX1_next_0 : List UInt8 := dkwX1_next_0 ++ dktX1_next_1
theorem dksX1_next_0 : cX1_next.data.toList.drop 0 = dktX1_next_0 := by decide +kernel
theorem dksX1_next_1 : cX1_next.data.toList.drop 22 = dktX1_next_1 := dk_seg dksX1_next_0 22 rfl rfl
theorem dksX1_next_2 : cX1_next.data.toList.drop 46 = dktX1_next_2 := dk_seg dksX1_next_1 24 rfl rfl
theorem dksX1_next_3 : cX1_next.data.toList.drop 69 = dktX1_next_3 := dk_seg dksX1_next_2 23 rfl rfl
theorem dX1_next_0 : decode cX1_next 0 = .ok (.aconst_null, 1) := dk_1 (dk_at dksX1_next_0 0 rfl rfl)
theorem dX1_next_1 : decode cX1_next 1 = .ok (.astore_n 1, 1) := dk_76 (dk_at dksX1_next_0 1 rfl rfl)
theorem dX1_next_2 : decode cX1_next 2 = .ok (.iconst 0, 1) := dk_3 (dk_at dksX1_next_0 2 rfl rfl)
theorem dX1_next_3 : decode cX1_next 3 = .ok (.istore_n 2, 1) := dk_61 (dk_at dksX1_next_0 3 rfl rfl)
theorem dX1_next_4 : decode cX1_next 4 = .ok (.iload_n 2, 1) := dk_28 (dk_at dksX1_next_0 4 rfl rfl)
theorem dX1_next_5 : decode cX1_next 5 = .ok (.aload_n 0, 1) := dk_42 (dk_at dksX1_next_0 5 rfl rfl)
theorem dX1_next_6 : decode cX1_next 6 = .ok (.getfield 10, 3) := dk_180 0 10 (dk_at dksX1_next_0 6 rfl rfl)
theorem dX1_next_9 : decode cX1_next 9 = .ok (.getfield 150, 3) := dk_180 0 150 (dk_at dksX1_next_0 9 rfl rfl)
theorem dX1_next_12 : decode cX1_next 12 = .ok (.invokevirtual 80, 3) := dk_182 0 80 (dk_at dksX1_next_0 12 rfl rfl)
theorem dX1_next_15 : decode cX1_next 15 = .ok (.if_icmp .ge 49, 3) := dk_162 0 49 (dk_at dksX1_next_0 15 rfl rfl)
theorem dX1_next_18 : decode cX1_next 18 = .ok (.aload_n 0, 1) := dk_42 (dk_at dksX1_next_0 18 rfl rfl)
theorem dX1_next_19 : decode cX1_next 19 = .ok (.getfield 10, 3) := dk_180 0 10 (dk_at dksX1_next_0 19 rfl rfl)
theorem dX1_next_22 : decode cX1_next 22 = .ok (.getfield 150, 3) := dk_180 0 150 (dk_at dksX1_next_1 0 rfl rfl)
theorem dX1_next_25 : decode cX1_next 25 = .ok (.iload_n 2, 1) := dk_28 (dk_at dksX1_next_1 3 rfl rfl)
theorem dX1_next_26 : decode cX1_next 26 = .ok (.invokevirtual 153, 3) := dk_182 0 153 (dk_at dksX1_next_1 4 rfl rfl)
theorem dX1_next_29 : decode cX1_next 29 = .ok (.checkcast 156, 3) := dk_192 0 156 (dk_at dksX1_next_1 7 rfl rfl)
theorem dX1_next_32 : decode cX1_next 32 = .ok (.astore_n 3, 1) := dk_78 (dk_at dksX1_next_1 10 rfl rfl)
theorem dX1_next_33 : decode cX1_next 33 = .ok (.aload_n 3, 1) := dk_45 (dk_at dksX1_next_1 11 rfl rfl)
theorem dX1_next_34 : decode cX1_next 34 = .ok (.invokevirtual 264, 3) := dk_182 1 8 (dk_at dksX1_next_1 12 rfl rfl)
theorem dX1_next_37 : decode cX1_next 37 = .ok (.ifCond .eq 19, 3) := dk_153 0 19 (dk_at dksX1_next_1 15 rfl rfl)
theorem dX1_next_40 : decode cX1_next 40 = .ok (.aload_n 1, 1) := dk_43 (dk_at dksX1_next_1 18 rfl rfl)
theorem dX1_next_41 : decode cX1_next 41 = .ok (.ifnull 11, 3) := dk_198 0 11 (dk_at dksX1_next_1 19 rfl rfl)
theorem dX1_next_44 : decode cX1_next 44 = .ok (.aload_n 3, 1) := dk_45 (dk_at dksX1_next_1 22 rfl rfl)
theorem dX1_next_45 : decode cX1_next 45 = .ok (.aload_n 1, 1) := dk_43 (dk_at dksX1_next_1 23 rfl rfl)
theorem dX1_next_46 : decode cX1_next 46 = .ok (.invokestatic 267, 3) := dk_184 1 11 (dk_at dksX1_next_2 0 rfl rfl)
theorem dX1_next_49 : decode cX1_next 49 = .ok (.ifCond .eq 7, 3) := dk_153 0 7 (dk_at dksX1_next_2 3 rfl rfl)
theorem dX1_next_52 : decode cX1_next 52 = .ok (.aload_n 3, 1) := dk_45 (dk_at dksX1_next_2 6 rfl rfl)
theorem dX1_next_53 : decode cX1_next 53 = .ok (.goto 4, 3) := dk_167 0 4 (dk_at dksX1_next_2 7 rfl rfl)
theorem dX1_next_56 : decode cX1_next 56 = .ok (.aload_n 1, 1) := dk_43 (dk_at dksX1_next_2 10 rfl rfl)
theorem dX1_next_57 : decode cX1_next 57 = .ok (.astore_n 1, 1) := dk_76 (dk_at dksX1_next_2 11 rfl rfl)
theorem dX1_next_58 : decode cX1_next 58 = .ok (.iinc 2 1, 3) := dk_132 2 1 (dk_at dksX1_next_2 12 rfl rfl)
theorem dX1_next_61 : decode cX1_next 61 = .ok (.goto (-57), 3) := dk_167 255 199 (dk_at dksX1_next_2 15 rfl rfl)
theorem dX1_next_64 : decode cX1_next 64 = .ok (.aload_n 1, 1) := dk_43 (dk_at dksX1_next_2 18 rfl rfl)
theorem dX1_next_65 : decode cX1_next 65 = .ok (.ifnull 7, 3) := dk_198 0 7 (dk_at dksX1_next_2 19 rfl rfl)
theorem dX1_next_68 : decode cX1_next 68 = .ok (.iconst 1, 1) := dk_4 (dk_at dksX1_next_2 22 rfl rfl)
theorem dX1_next_69 : decode cX1_next 69 = .ok (.goto 4, 3) := dk_167 0 4 (dk_at dksX1_next_3 0 rfl rfl)
theorem dX1_next_72 : decode cX1_next 72 = .ok (.iconst 0, 1) := dk_3 (dk_at dksX1_next_3 3 rfl rfl)
theorem dX1_next_73 : decode cX1_next 73 = .ok (.invokestatic 140, 3) := dk_184 0 140 (dk_at dksX1_next_3 4 rfl rfl)
theorem dX1_next_76 : decode cX1_next 76 = .ok (.aload_n 1, 1) := dk_43 (dk_at dksX1_next_3 7 rfl rfl)
theorem dX1_next_77 : decode cX1_next 77 = .ok (.getfield 271, 3) := dk_180 1 15 (dk_at dksX1_next_3 8 rfl rfl)
theorem dX1_next_80 : decode cX1_next 80 = .ok (.ireturn, 1) := dk_172 (dk_at dksX1_next_3 11 rfl rfl)
abbrev cX1_isMoreUrgent : ByteArray := prog_1_method_46_code
def yX1_isMoreUrgent : MethodName := ⟨RX1, "isMoreUrgent", "(LIncidentKeeper$Core$Incident;LIncidentKeeper$Core$Incident;)Z"⟩
def dkwX1_isMoreUrgent_1 : List UInt8 := [167, 0, 23, 3, 167, 0, 19, 42, 182, 0, 180, 43, 182, 0, 180, 164, 0, 7, 4, 167, 0, 4, 3, 172]
abbrev dktX1_isMoreUrgent_1 : List UInt8 := dkwX1_isMoreUrgent_1 ++ []
def dkwX1_isMoreUrgent_0 : List UInt8 := [42, 180, 0, 165, 43, 180, 0, 165, 159, 0, 22, 42, 180, 0, 165, 43, 180, 0, 165, 162, 0, 7, 4]
abbrev dktX1_isMoreUrgent_0 : List UInt8 := dkwX1_isMoreUrgent_0 ++ dktX1_isMoreUrgent_1
theorem dksX1_isMoreUrgent_0 : cX1_isMoreUrgent.data.toList.drop 0 = dktX1_isMoreUrgent_0 := by decide +kernel
theorem dksX1_isMoreUrgent_1 : cX1_isMoreUrgent.data.toList.drop 23 = dktX1_isMoreUrgent_1 := dk_seg dksX1_isMoreUrgent_0 23 rfl rfl
theorem dX1_isMoreUrgent_0 : decode cX1_isMoreUrgent 0 = .ok (.aload_n 0, 1) := dk_42 (dk_at dksX1_isMoreUrgent_0 0 rfl rfl)
theorem dX1_isMoreUrgent_1 : decode cX1_isMoreUrgent 1 = .ok (.getfield 165, 3) := dk_180 0 165 (dk_at dksX1_isMoreUrgent_0 1 rfl rfl)
theorem dX1_isMoreUrgent_4 : decode cX1_isMoreUrgent 4 = .ok (.aload_n 1, 1) := dk_43 (dk_at dksX1_isMoreUrgent_0 4 rfl rfl)
theorem dX1_isMoreUrgent_5 : decode cX1_isMoreUrgent 5 = .ok (.getfield 165, 3) := dk_180 0 165 (dk_at dksX1_isMoreUrgent_0 5 rfl rfl)
theorem dX1_isMoreUrgent_8 : decode cX1_isMoreUrgent 8 = .ok (.if_icmp .eq 22, 3) := dk_159 0 22 (dk_at dksX1_isMoreUrgent_0 8 rfl rfl)
theorem dX1_isMoreUrgent_11 : decode cX1_isMoreUrgent 11 = .ok (.aload_n 0, 1) := dk_42 (dk_at dksX1_isMoreUrgent_0 11 rfl rfl)
theorem dX1_isMoreUrgent_12 : decode cX1_isMoreUrgent 12 = .ok (.getfield 165, 3) := dk_180 0 165 (dk_at dksX1_isMoreUrgent_0 12 rfl rfl)
theorem dX1_isMoreUrgent_15 : decode cX1_isMoreUrgent 15 = .ok (.aload_n 1, 1) := dk_43 (dk_at dksX1_isMoreUrgent_0 15 rfl rfl)
theorem dX1_isMoreUrgent_16 : decode cX1_isMoreUrgent 16 = .ok (.getfield 165, 3) := dk_180 0 165 (dk_at dksX1_isMoreUrgent_0 16 rfl rfl)
theorem dX1_isMoreUrgent_19 : decode cX1_isMoreUrgent 19 = .ok (.if_icmp .ge 7, 3) := dk_162 0 7 (dk_at dksX1_isMoreUrgent_0 19 rfl rfl)
theorem dX1_isMoreUrgent_22 : decode cX1_isMoreUrgent 22 = .ok (.iconst 1, 1) := dk_4 (dk_at dksX1_isMoreUrgent_0 22 rfl rfl)
theorem dX1_isMoreUrgent_23 : decode cX1_isMoreUrgent 23 = .ok (.goto 23, 3) := dk_167 0 23 (dk_at dksX1_isMoreUrgent_1 0 rfl rfl)
theorem dX1_isMoreUrgent_26 : decode cX1_isMoreUrgent 26 = .ok (.iconst 0, 1) := dk_3 (dk_at dksX1_isMoreUrgent_1 3 rfl rfl)
theorem dX1_isMoreUrgent_27 : decode cX1_isMoreUrgent 27 = .ok (.goto 19, 3) := dk_167 0 19 (dk_at dksX1_isMoreUrgent_1 4 rfl rfl)
theorem dX1_isMoreUrgent_30 : decode cX1_isMoreUrgent 30 = .ok (.aload_n 0, 1) := dk_42 (dk_at dksX1_isMoreUrgent_1 7 rfl rfl)
theorem dX1_isMoreUrgent_31 : decode cX1_isMoreUrgent 31 = .ok (.invokevirtual 180, 3) := dk_182 0 180 (dk_at dksX1_isMoreUrgent_1 8 rfl rfl)
theorem dX1_isMoreUrgent_34 : decode cX1_isMoreUrgent 34 = .ok (.aload_n 1, 1) := dk_43 (dk_at dksX1_isMoreUrgent_1 11 rfl rfl)
theorem dX1_isMoreUrgent_35 : decode cX1_isMoreUrgent 35 = .ok (.invokevirtual 180, 3) := dk_182 0 180 (dk_at dksX1_isMoreUrgent_1 12 rfl rfl)
theorem dX1_isMoreUrgent_38 : decode cX1_isMoreUrgent 38 = .ok (.if_icmp .le 7, 3) := dk_164 0 7 (dk_at dksX1_isMoreUrgent_1 15 rfl rfl)
theorem dX1_isMoreUrgent_41 : decode cX1_isMoreUrgent 41 = .ok (.iconst 1, 1) := dk_4 (dk_at dksX1_isMoreUrgent_1 18 rfl rfl)
theorem dX1_isMoreUrgent_42 : decode cX1_isMoreUrgent 42 = .ok (.goto 4, 3) := dk_167 0 4 (dk_at dksX1_isMoreUrgent_1 19 rfl rfl)
theorem dX1_isMoreUrgent_45 : decode cX1_isMoreUrgent 45 = .ok (.iconst 0, 1) := dk_3 (dk_at dksX1_isMoreUrgent_1 22 rfl rfl)
theorem dX1_isMoreUrgent_46 : decode cX1_isMoreUrgent 46 = .ok (.ireturn, 1) := dk_172 (dk_at dksX1_isMoreUrgent_1 23 rfl rfl)
abbrev cX1_risesIn : ByteArray := prog_1_method_48_code
def yX1_risesIn : MethodName := ⟨RX1, "risesIn", "(I)I"⟩
def dkwX1_risesIn_8 : List UInt8 := [187, 0, 50, 89, 183, 0, 52, 191]
abbrev dktX1_risesIn_8 : List UInt8 := dkwX1_risesIn_8 ++ []
def dkwX1_risesIn_7 : List UInt8 := [21, 7, 120, 2, 130, 167, 0, 4, 2, 126, 62, 132, 7, 1, 167, 255, 182, 132, 6, 1, 167, 255, 143]
abbrev dktX1_risesIn_7 : List UInt8 := dkwX1_risesIn_7 ++ dktX1_risesIn_8
def dkwX1_risesIn_6 : List UInt8 := [180, 1, 31, 21, 7, 46, 161, 0, 7, 4, 167, 0, 4, 3, 54, 8, 29, 21, 8, 153, 0, 12, 4]
abbrev dktX1_risesIn_6 : List UInt8 := dkwX1_risesIn_6 ++ dktX1_risesIn_7
def dkwX1_risesIn_5 : List UInt8 := [96, 79, 42, 180, 0, 10, 180, 1, 31, 21, 7, 46, 158, 0, 25, 25, 4, 21, 7, 46, 42, 180, 0, 10]
abbrev dktX1_risesIn_5 : List UInt8 := dkwX1_risesIn_5 ++ dktX1_risesIn_6
def dkwX1_risesIn_4 : List UInt8 := [21, 5, 154, 0, 6, 21, 6, 172, 3, 54, 7, 21, 7, 7, 162, 0, 74, 25, 4, 21, 7, 92, 46, 4]
abbrev dktX1_risesIn_4 : List UInt8 := dkwX1_risesIn_4 ++ dktX1_risesIn_5
def dkwX1_risesIn_3 : List UInt8 := [54, 6, 21, 6, 17, 7, 208, 162, 0, 111, 21, 5, 29, 154, 0, 7, 4, 167, 0, 4, 3, 100, 54, 5]
abbrev dktX1_risesIn_3 : List UInt8 := dkwX1_risesIn_3 ++ dktX1_risesIn_4
def dkwX1_risesIn_2 : List UInt8 := [180, 0, 10, 180, 1, 22, 44, 180, 0, 165, 4, 100, 46, 44, 182, 0, 180, 100, 184, 1, 25, 54, 5, 4]
abbrev dktX1_risesIn_2 : List UInt8 := dkwX1_risesIn_2 ++ dktX1_risesIn_3
def dkwX1_risesIn_1 : List UInt8 := [3, 184, 0, 140, 44, 180, 0, 183, 62, 44, 180, 0, 206, 182, 1, 18, 192, 1, 19, 58, 4, 4, 42]
abbrev dktX1_risesIn_1 : List UInt8 := dkwX1_risesIn_1 ++ dktX1_risesIn_2
def dkwX1_risesIn_0 : List UInt8 := [42, 27, 182, 0, 158, 77, 44, 182, 1, 8, 153, 0, 14, 44, 180, 0, 195, 154, 0, 7, 4, 167, 0, 4]
abbrev dktX1_risesIn_0 : List UInt8 := dkwX1_risesIn_0 ++ dktX1_risesIn_1
theorem dksX1_risesIn_0 : cX1_risesIn.data.toList.drop 0 = dktX1_risesIn_0 := by decide +kernel
theorem dksX1_risesIn_1 : cX1_risesIn.data.toList.drop 24 = dktX1_risesIn_1 := dk_seg dksX1_risesIn_0 24 rfl rfl
theorem dksX1_risesIn_2 : cX1_risesIn.data.toList.drop 47 = dktX1_risesIn_2 := dk_seg dksX1_risesIn_1 23 rfl rfl
theorem dksX1_risesIn_3 : cX1_risesIn.data.toList.drop 71 = dktX1_risesIn_3 := dk_seg dksX1_risesIn_2 24 rfl rfl
theorem dksX1_risesIn_4 : cX1_risesIn.data.toList.drop 95 = dktX1_risesIn_4 := dk_seg dksX1_risesIn_3 24 rfl rfl
theorem dksX1_risesIn_5 : cX1_risesIn.data.toList.drop 119 = dktX1_risesIn_5 := dk_seg dksX1_risesIn_4 24 rfl rfl
theorem dksX1_risesIn_6 : cX1_risesIn.data.toList.drop 143 = dktX1_risesIn_6 := dk_seg dksX1_risesIn_5 24 rfl rfl
theorem dksX1_risesIn_7 : cX1_risesIn.data.toList.drop 166 = dktX1_risesIn_7 := dk_seg dksX1_risesIn_6 23 rfl rfl
theorem dksX1_risesIn_8 : cX1_risesIn.data.toList.drop 189 = dktX1_risesIn_8 := dk_seg dksX1_risesIn_7 23 rfl rfl
theorem dX1_risesIn_0 : decode cX1_risesIn 0 = .ok (.aload_n 0, 1) := dk_42 (dk_at dksX1_risesIn_0 0 rfl rfl)
theorem dX1_risesIn_1 : decode cX1_risesIn 1 = .ok (.iload_n 1, 1) := dk_27 (dk_at dksX1_risesIn_0 1 rfl rfl)
theorem dX1_risesIn_2 : decode cX1_risesIn 2 = .ok (.invokevirtual 158, 3) := dk_182 0 158 (dk_at dksX1_risesIn_0 2 rfl rfl)
theorem dX1_risesIn_5 : decode cX1_risesIn 5 = .ok (.astore_n 2, 1) := dk_77 (dk_at dksX1_risesIn_0 5 rfl rfl)
theorem dX1_risesIn_6 : decode cX1_risesIn 6 = .ok (.aload_n 2, 1) := dk_44 (dk_at dksX1_risesIn_0 6 rfl rfl)
theorem dX1_risesIn_7 : decode cX1_risesIn 7 = .ok (.invokevirtual 264, 3) := dk_182 1 8 (dk_at dksX1_risesIn_0 7 rfl rfl)
theorem dX1_risesIn_10 : decode cX1_risesIn 10 = .ok (.ifCond .eq 14, 3) := dk_153 0 14 (dk_at dksX1_risesIn_0 10 rfl rfl)
theorem dX1_risesIn_13 : decode cX1_risesIn 13 = .ok (.aload_n 2, 1) := dk_44 (dk_at dksX1_risesIn_0 13 rfl rfl)
theorem dX1_risesIn_14 : decode cX1_risesIn 14 = .ok (.getfield 195, 3) := dk_180 0 195 (dk_at dksX1_risesIn_0 14 rfl rfl)
theorem dX1_risesIn_17 : decode cX1_risesIn 17 = .ok (.ifCond .ne 7, 3) := dk_154 0 7 (dk_at dksX1_risesIn_0 17 rfl rfl)
theorem dX1_risesIn_20 : decode cX1_risesIn 20 = .ok (.iconst 1, 1) := dk_4 (dk_at dksX1_risesIn_0 20 rfl rfl)
theorem dX1_risesIn_21 : decode cX1_risesIn 21 = .ok (.goto 4, 3) := dk_167 0 4 (dk_at dksX1_risesIn_0 21 rfl rfl)
theorem dX1_risesIn_24 : decode cX1_risesIn 24 = .ok (.iconst 0, 1) := dk_3 (dk_at dksX1_risesIn_1 0 rfl rfl)
theorem dX1_risesIn_25 : decode cX1_risesIn 25 = .ok (.invokestatic 140, 3) := dk_184 0 140 (dk_at dksX1_risesIn_1 1 rfl rfl)
theorem dX1_risesIn_28 : decode cX1_risesIn 28 = .ok (.aload_n 2, 1) := dk_44 (dk_at dksX1_risesIn_1 4 rfl rfl)
theorem dX1_risesIn_29 : decode cX1_risesIn 29 = .ok (.getfield 183, 3) := dk_180 0 183 (dk_at dksX1_risesIn_1 5 rfl rfl)
theorem dX1_risesIn_32 : decode cX1_risesIn 32 = .ok (.istore_n 3, 1) := dk_62 (dk_at dksX1_risesIn_1 8 rfl rfl)
theorem dX1_risesIn_33 : decode cX1_risesIn 33 = .ok (.aload_n 2, 1) := dk_44 (dk_at dksX1_risesIn_1 9 rfl rfl)
theorem dX1_risesIn_34 : decode cX1_risesIn 34 = .ok (.getfield 206, 3) := dk_180 0 206 (dk_at dksX1_risesIn_1 10 rfl rfl)
theorem dX1_risesIn_37 : decode cX1_risesIn 37 = .ok (.invokevirtual 274, 3) := dk_182 1 18 (dk_at dksX1_risesIn_1 13 rfl rfl)
theorem dX1_risesIn_40 : decode cX1_risesIn 40 = .ok (.checkcast 275, 3) := dk_192 1 19 (dk_at dksX1_risesIn_1 16 rfl rfl)
theorem dX1_risesIn_43 : decode cX1_risesIn 43 = .ok (.astore 4, 2) := dk_58 4 (dk_at dksX1_risesIn_1 19 rfl rfl)
theorem dX1_risesIn_45 : decode cX1_risesIn 45 = .ok (.iconst 1, 1) := dk_4 (dk_at dksX1_risesIn_1 21 rfl rfl)
theorem dX1_risesIn_46 : decode cX1_risesIn 46 = .ok (.aload_n 0, 1) := dk_42 (dk_at dksX1_risesIn_1 22 rfl rfl)
theorem dX1_risesIn_47 : decode cX1_risesIn 47 = .ok (.getfield 10, 3) := dk_180 0 10 (dk_at dksX1_risesIn_2 0 rfl rfl)
theorem dX1_risesIn_50 : decode cX1_risesIn 50 = .ok (.getfield 278, 3) := dk_180 1 22 (dk_at dksX1_risesIn_2 3 rfl rfl)
theorem dX1_risesIn_53 : decode cX1_risesIn 53 = .ok (.aload_n 2, 1) := dk_44 (dk_at dksX1_risesIn_2 6 rfl rfl)
theorem dX1_risesIn_54 : decode cX1_risesIn 54 = .ok (.getfield 165, 3) := dk_180 0 165 (dk_at dksX1_risesIn_2 7 rfl rfl)
theorem dX1_risesIn_57 : decode cX1_risesIn 57 = .ok (.iconst 1, 1) := dk_4 (dk_at dksX1_risesIn_2 10 rfl rfl)
theorem dX1_risesIn_58 : decode cX1_risesIn 58 = .ok (.isub, 1) := dk_100 (dk_at dksX1_risesIn_2 11 rfl rfl)
theorem dX1_risesIn_59 : decode cX1_risesIn 59 = .ok (.iaload, 1) := dk_46 (dk_at dksX1_risesIn_2 12 rfl rfl)
theorem dX1_risesIn_60 : decode cX1_risesIn 60 = .ok (.aload_n 2, 1) := dk_44 (dk_at dksX1_risesIn_2 13 rfl rfl)
theorem dX1_risesIn_61 : decode cX1_risesIn 61 = .ok (.invokevirtual 180, 3) := dk_182 0 180 (dk_at dksX1_risesIn_2 14 rfl rfl)
theorem dX1_risesIn_64 : decode cX1_risesIn 64 = .ok (.isub, 1) := dk_100 (dk_at dksX1_risesIn_2 17 rfl rfl)
theorem dX1_risesIn_65 : decode cX1_risesIn 65 = .ok (.invokestatic 281, 3) := dk_184 1 25 (dk_at dksX1_risesIn_2 18 rfl rfl)
theorem dX1_risesIn_68 : decode cX1_risesIn 68 = .ok (.istore 5, 2) := dk_54 5 (dk_at dksX1_risesIn_2 21 rfl rfl)
theorem dX1_risesIn_70 : decode cX1_risesIn 70 = .ok (.iconst 1, 1) := dk_4 (dk_at dksX1_risesIn_2 23 rfl rfl)
theorem dX1_risesIn_71 : decode cX1_risesIn 71 = .ok (.istore 6, 2) := dk_54 6 (dk_at dksX1_risesIn_3 0 rfl rfl)
theorem dX1_risesIn_73 : decode cX1_risesIn 73 = .ok (.iload 6, 2) := dk_21 6 (dk_at dksX1_risesIn_3 2 rfl rfl)
theorem dX1_risesIn_75 : decode cX1_risesIn 75 = .ok (.sipush 2000, 3) := dk_17 7 208 (dk_at dksX1_risesIn_3 4 rfl rfl)
theorem dX1_risesIn_78 : decode cX1_risesIn 78 = .ok (.if_icmp .ge 111, 3) := dk_162 0 111 (dk_at dksX1_risesIn_3 7 rfl rfl)
theorem dX1_risesIn_81 : decode cX1_risesIn 81 = .ok (.iload 5, 2) := dk_21 5 (dk_at dksX1_risesIn_3 10 rfl rfl)
theorem dX1_risesIn_83 : decode cX1_risesIn 83 = .ok (.iload_n 3, 1) := dk_29 (dk_at dksX1_risesIn_3 12 rfl rfl)
theorem dX1_risesIn_84 : decode cX1_risesIn 84 = .ok (.ifCond .ne 7, 3) := dk_154 0 7 (dk_at dksX1_risesIn_3 13 rfl rfl)
theorem dX1_risesIn_87 : decode cX1_risesIn 87 = .ok (.iconst 1, 1) := dk_4 (dk_at dksX1_risesIn_3 16 rfl rfl)
theorem dX1_risesIn_88 : decode cX1_risesIn 88 = .ok (.goto 4, 3) := dk_167 0 4 (dk_at dksX1_risesIn_3 17 rfl rfl)
theorem dX1_risesIn_91 : decode cX1_risesIn 91 = .ok (.iconst 0, 1) := dk_3 (dk_at dksX1_risesIn_3 20 rfl rfl)
theorem dX1_risesIn_92 : decode cX1_risesIn 92 = .ok (.isub, 1) := dk_100 (dk_at dksX1_risesIn_3 21 rfl rfl)
theorem dX1_risesIn_93 : decode cX1_risesIn 93 = .ok (.istore 5, 2) := dk_54 5 (dk_at dksX1_risesIn_3 22 rfl rfl)
theorem dX1_risesIn_95 : decode cX1_risesIn 95 = .ok (.iload 5, 2) := dk_21 5 (dk_at dksX1_risesIn_4 0 rfl rfl)
theorem dX1_risesIn_97 : decode cX1_risesIn 97 = .ok (.ifCond .ne 6, 3) := dk_154 0 6 (dk_at dksX1_risesIn_4 2 rfl rfl)
theorem dX1_risesIn_100 : decode cX1_risesIn 100 = .ok (.iload 6, 2) := dk_21 6 (dk_at dksX1_risesIn_4 5 rfl rfl)
theorem dX1_risesIn_102 : decode cX1_risesIn 102 = .ok (.ireturn, 1) := dk_172 (dk_at dksX1_risesIn_4 7 rfl rfl)
theorem dX1_risesIn_103 : decode cX1_risesIn 103 = .ok (.iconst 0, 1) := dk_3 (dk_at dksX1_risesIn_4 8 rfl rfl)
theorem dX1_risesIn_104 : decode cX1_risesIn 104 = .ok (.istore 7, 2) := dk_54 7 (dk_at dksX1_risesIn_4 9 rfl rfl)
theorem dX1_risesIn_106 : decode cX1_risesIn 106 = .ok (.iload 7, 2) := dk_21 7 (dk_at dksX1_risesIn_4 11 rfl rfl)
theorem dX1_risesIn_108 : decode cX1_risesIn 108 = .ok (.iconst 4, 1) := dk_7 (dk_at dksX1_risesIn_4 13 rfl rfl)
theorem dX1_risesIn_109 : decode cX1_risesIn 109 = .ok (.if_icmp .ge 74, 3) := dk_162 0 74 (dk_at dksX1_risesIn_4 14 rfl rfl)
theorem dX1_risesIn_112 : decode cX1_risesIn 112 = .ok (.aload 4, 2) := dk_25 4 (dk_at dksX1_risesIn_4 17 rfl rfl)
theorem dX1_risesIn_114 : decode cX1_risesIn 114 = .ok (.iload 7, 2) := dk_21 7 (dk_at dksX1_risesIn_4 19 rfl rfl)
theorem dX1_risesIn_116 : decode cX1_risesIn 116 = .ok (.dup2, 1) := dk_92 (dk_at dksX1_risesIn_4 21 rfl rfl)
theorem dX1_risesIn_117 : decode cX1_risesIn 117 = .ok (.iaload, 1) := dk_46 (dk_at dksX1_risesIn_4 22 rfl rfl)
theorem dX1_risesIn_118 : decode cX1_risesIn 118 = .ok (.iconst 1, 1) := dk_4 (dk_at dksX1_risesIn_4 23 rfl rfl)
theorem dX1_risesIn_119 : decode cX1_risesIn 119 = .ok (.iadd, 1) := dk_96 (dk_at dksX1_risesIn_5 0 rfl rfl)
theorem dX1_risesIn_120 : decode cX1_risesIn 120 = .ok (.iastore, 1) := dk_79 (dk_at dksX1_risesIn_5 1 rfl rfl)
theorem dX1_risesIn_121 : decode cX1_risesIn 121 = .ok (.aload_n 0, 1) := dk_42 (dk_at dksX1_risesIn_5 2 rfl rfl)
theorem dX1_risesIn_122 : decode cX1_risesIn 122 = .ok (.getfield 10, 3) := dk_180 0 10 (dk_at dksX1_risesIn_5 3 rfl rfl)
theorem dX1_risesIn_125 : decode cX1_risesIn 125 = .ok (.getfield 287, 3) := dk_180 1 31 (dk_at dksX1_risesIn_5 6 rfl rfl)
theorem dX1_risesIn_128 : decode cX1_risesIn 128 = .ok (.iload 7, 2) := dk_21 7 (dk_at dksX1_risesIn_5 9 rfl rfl)
theorem dX1_risesIn_130 : decode cX1_risesIn 130 = .ok (.iaload, 1) := dk_46 (dk_at dksX1_risesIn_5 11 rfl rfl)
theorem dX1_risesIn_131 : decode cX1_risesIn 131 = .ok (.ifCond .le 25, 3) := dk_158 0 25 (dk_at dksX1_risesIn_5 12 rfl rfl)
theorem dX1_risesIn_134 : decode cX1_risesIn 134 = .ok (.aload 4, 2) := dk_25 4 (dk_at dksX1_risesIn_5 15 rfl rfl)
theorem dX1_risesIn_136 : decode cX1_risesIn 136 = .ok (.iload 7, 2) := dk_21 7 (dk_at dksX1_risesIn_5 17 rfl rfl)
theorem dX1_risesIn_138 : decode cX1_risesIn 138 = .ok (.iaload, 1) := dk_46 (dk_at dksX1_risesIn_5 19 rfl rfl)
theorem dX1_risesIn_139 : decode cX1_risesIn 139 = .ok (.aload_n 0, 1) := dk_42 (dk_at dksX1_risesIn_5 20 rfl rfl)
theorem dX1_risesIn_140 : decode cX1_risesIn 140 = .ok (.getfield 10, 3) := dk_180 0 10 (dk_at dksX1_risesIn_5 21 rfl rfl)
theorem dX1_risesIn_143 : decode cX1_risesIn 143 = .ok (.getfield 287, 3) := dk_180 1 31 (dk_at dksX1_risesIn_6 0 rfl rfl)
theorem dX1_risesIn_146 : decode cX1_risesIn 146 = .ok (.iload 7, 2) := dk_21 7 (dk_at dksX1_risesIn_6 3 rfl rfl)
theorem dX1_risesIn_148 : decode cX1_risesIn 148 = .ok (.iaload, 1) := dk_46 (dk_at dksX1_risesIn_6 5 rfl rfl)
theorem dX1_risesIn_149 : decode cX1_risesIn 149 = .ok (.if_icmp .lt 7, 3) := dk_161 0 7 (dk_at dksX1_risesIn_6 6 rfl rfl)
theorem dX1_risesIn_152 : decode cX1_risesIn 152 = .ok (.iconst 1, 1) := dk_4 (dk_at dksX1_risesIn_6 9 rfl rfl)
theorem dX1_risesIn_153 : decode cX1_risesIn 153 = .ok (.goto 4, 3) := dk_167 0 4 (dk_at dksX1_risesIn_6 10 rfl rfl)
theorem dX1_risesIn_156 : decode cX1_risesIn 156 = .ok (.iconst 0, 1) := dk_3 (dk_at dksX1_risesIn_6 13 rfl rfl)
theorem dX1_risesIn_157 : decode cX1_risesIn 157 = .ok (.istore 8, 2) := dk_54 8 (dk_at dksX1_risesIn_6 14 rfl rfl)
theorem dX1_risesIn_159 : decode cX1_risesIn 159 = .ok (.iload_n 3, 1) := dk_29 (dk_at dksX1_risesIn_6 16 rfl rfl)
theorem dX1_risesIn_160 : decode cX1_risesIn 160 = .ok (.iload 8, 2) := dk_21 8 (dk_at dksX1_risesIn_6 17 rfl rfl)
theorem dX1_risesIn_162 : decode cX1_risesIn 162 = .ok (.ifCond .eq 12, 3) := dk_153 0 12 (dk_at dksX1_risesIn_6 19 rfl rfl)
theorem dX1_risesIn_165 : decode cX1_risesIn 165 = .ok (.iconst 1, 1) := dk_4 (dk_at dksX1_risesIn_6 22 rfl rfl)
theorem dX1_risesIn_166 : decode cX1_risesIn 166 = .ok (.iload 7, 2) := dk_21 7 (dk_at dksX1_risesIn_7 0 rfl rfl)
theorem dX1_risesIn_168 : decode cX1_risesIn 168 = .ok (.ishl, 1) := dk_120 (dk_at dksX1_risesIn_7 2 rfl rfl)
theorem dX1_risesIn_169 : decode cX1_risesIn 169 = .ok (.iconst (-1), 1) := dk_2 (dk_at dksX1_risesIn_7 3 rfl rfl)
theorem dX1_risesIn_170 : decode cX1_risesIn 170 = .ok (.ixor, 1) := dk_130 (dk_at dksX1_risesIn_7 4 rfl rfl)
theorem dX1_risesIn_171 : decode cX1_risesIn 171 = .ok (.goto 4, 3) := dk_167 0 4 (dk_at dksX1_risesIn_7 5 rfl rfl)
theorem dX1_risesIn_174 : decode cX1_risesIn 174 = .ok (.iconst (-1), 1) := dk_2 (dk_at dksX1_risesIn_7 8 rfl rfl)
theorem dX1_risesIn_175 : decode cX1_risesIn 175 = .ok (.iand, 1) := dk_126 (dk_at dksX1_risesIn_7 9 rfl rfl)
theorem dX1_risesIn_176 : decode cX1_risesIn 176 = .ok (.istore_n 3, 1) := dk_62 (dk_at dksX1_risesIn_7 10 rfl rfl)
theorem dX1_risesIn_177 : decode cX1_risesIn 177 = .ok (.iinc 7 1, 3) := dk_132 7 1 (dk_at dksX1_risesIn_7 11 rfl rfl)
theorem dX1_risesIn_180 : decode cX1_risesIn 180 = .ok (.goto (-74), 3) := dk_167 255 182 (dk_at dksX1_risesIn_7 14 rfl rfl)
theorem dX1_risesIn_183 : decode cX1_risesIn 183 = .ok (.iinc 6 1, 3) := dk_132 6 1 (dk_at dksX1_risesIn_7 17 rfl rfl)
theorem dX1_risesIn_186 : decode cX1_risesIn 186 = .ok (.goto (-113), 3) := dk_167 255 143 (dk_at dksX1_risesIn_7 20 rfl rfl)
theorem dX1_risesIn_189 : decode cX1_risesIn 189 = .ok (.new 50, 3) := dk_187 0 50 (dk_at dksX1_risesIn_8 0 rfl rfl)
theorem dX1_risesIn_192 : decode cX1_risesIn 192 = .ok (.dup, 1) := dk_89 (dk_at dksX1_risesIn_8 3 rfl rfl)
theorem dX1_risesIn_193 : decode cX1_risesIn 193 = .ok (.invokespecial 52, 3) := dk_183 0 52 (dk_at dksX1_risesIn_8 4 rfl rfl)
theorem dX1_risesIn_196 : decode cX1_risesIn 196 = .ok (.athrow, 1) := dk_191 (dk_at dksX1_risesIn_8 7 rfl rfl)
abbrev cX1_person : ByteArray := prog_1_method_49_code
def yX1_person : MethodName := ⟨RX1, "person", "(II)I"⟩
def dkwX1_person_6 : List UInt8 := [96, 62, 132, 4, 1, 167, 255, 192, 29, 172, 42, 180, 0, 10, 27, 182, 1, 57, 172]
abbrev dktX1_person_6 : List UInt8 := dkwX1_person_6 ++ []
def dkwX1_person_5 : List UInt8 := [180, 1, 48, 27, 160, 0, 19, 25, 5, 180, 1, 51, 154, 0, 11, 25, 5, 180, 1, 54, 167, 0, 4, 3]
abbrev dktX1_person_5 : List UInt8 := dkwX1_person_5 ++ dktX1_person_6
def dkwX1_person_4 : List UInt8 := [162, 0, 55, 42, 180, 0, 10, 180, 1, 43, 21, 4, 182, 0, 153, 192, 1, 46, 58, 5, 29, 25, 5]
abbrev dktX1_person_4 : List UInt8 := dkwX1_person_4 ++ dktX1_person_5
def dkwX1_person_3 : List UInt8 := [167, 0, 4, 3, 172, 3, 62, 3, 54, 4, 21, 4, 42, 180, 0, 10, 180, 1, 43, 182, 0, 80]
abbrev dktX1_person_3 : List UInt8 := dkwX1_person_3 ++ dktX1_person_4
def dkwX1_person_2 : List UInt8 := [42, 180, 0, 10, 27, 182, 1, 37, 172, 42, 180, 0, 10, 180, 1, 40, 27, 184, 0, 202, 153, 0, 7, 4]
abbrev dktX1_person_2 : List UInt8 := dkwX1_person_2 ++ dktX1_person_3
def dkwX1_person_1 : List UInt8 := [170, 0, 0, 0, 0, 0, 130, 0, 0, 0, 0, 0, 0, 0, 2, 0, 0, 0, 27, 0, 0, 0, 36, 0, 0, 0, 56]
abbrev dktX1_person_1 : List UInt8 := dkwX1_person_1 ++ dktX1_person_2
def dkwX1_person_0 : List UInt8 := [27, 184, 1, 34, 184, 0, 147, 28, 3, 6, 184, 0, 37, 184, 0, 137, 28]
abbrev dktX1_person_0 : List UInt8 := dkwX1_person_0 ++ dktX1_person_1
theorem dksX1_person_0 : cX1_person.data.toList.drop 0 = dktX1_person_0 := by decide +kernel
theorem dksX1_person_1 : cX1_person.data.toList.drop 17 = dktX1_person_1 := dk_seg dksX1_person_0 17 rfl rfl
theorem dksX1_person_2 : cX1_person.data.toList.drop 44 = dktX1_person_2 := dk_seg dksX1_person_1 27 rfl rfl
theorem dksX1_person_3 : cX1_person.data.toList.drop 68 = dktX1_person_3 := dk_seg dksX1_person_2 24 rfl rfl
theorem dksX1_person_4 : cX1_person.data.toList.drop 90 = dktX1_person_4 := dk_seg dksX1_person_3 22 rfl rfl
theorem dksX1_person_5 : cX1_person.data.toList.drop 113 = dktX1_person_5 := dk_seg dksX1_person_4 23 rfl rfl
theorem dksX1_person_6 : cX1_person.data.toList.drop 137 = dktX1_person_6 := dk_seg dksX1_person_5 24 rfl rfl
theorem dX1_person_0 : decode cX1_person 0 = .ok (.iload_n 1, 1) := dk_27 (dk_at dksX1_person_0 0 rfl rfl)
theorem dX1_person_1 : decode cX1_person 1 = .ok (.invokestatic 290, 3) := dk_184 1 34 (dk_at dksX1_person_0 1 rfl rfl)
theorem dX1_person_4 : decode cX1_person 4 = .ok (.invokestatic 147, 3) := dk_184 0 147 (dk_at dksX1_person_0 4 rfl rfl)
theorem dX1_person_7 : decode cX1_person 7 = .ok (.iload_n 2, 1) := dk_28 (dk_at dksX1_person_0 7 rfl rfl)
theorem dX1_person_8 : decode cX1_person 8 = .ok (.iconst 0, 1) := dk_3 (dk_at dksX1_person_0 8 rfl rfl)
theorem dX1_person_9 : decode cX1_person 9 = .ok (.iconst 3, 1) := dk_6 (dk_at dksX1_person_0 9 rfl rfl)
theorem dX1_person_10 : decode cX1_person 10 = .ok (.invokestatic 37, 3) := dk_184 0 37 (dk_at dksX1_person_0 10 rfl rfl)
theorem dX1_person_13 : decode cX1_person 13 = .ok (.invokestatic 137, 3) := dk_184 0 137 (dk_at dksX1_person_0 13 rfl rfl)
theorem dX1_person_16 : decode cX1_person 16 = .ok (.iload_n 2, 1) := dk_28 (dk_at dksX1_person_0 16 rfl rfl)
theorem dX1_person_17 : decode cX1_person 17 = .ok (.tableswitch 130 0 2 #[27, 36, 56], 27) := by decide +kernel
theorem dX1_person_44 : decode cX1_person 44 = .ok (.aload_n 0, 1) := dk_42 (dk_at dksX1_person_2 0 rfl rfl)
theorem dX1_person_45 : decode cX1_person 45 = .ok (.getfield 10, 3) := dk_180 0 10 (dk_at dksX1_person_2 1 rfl rfl)
theorem dX1_person_48 : decode cX1_person 48 = .ok (.iload_n 1, 1) := dk_27 (dk_at dksX1_person_2 4 rfl rfl)
theorem dX1_person_49 : decode cX1_person 49 = .ok (.invokevirtual 293, 3) := dk_182 1 37 (dk_at dksX1_person_2 5 rfl rfl)
theorem dX1_person_52 : decode cX1_person 52 = .ok (.ireturn, 1) := dk_172 (dk_at dksX1_person_2 8 rfl rfl)
theorem dX1_person_53 : decode cX1_person 53 = .ok (.aload_n 0, 1) := dk_42 (dk_at dksX1_person_2 9 rfl rfl)
theorem dX1_person_54 : decode cX1_person 54 = .ok (.getfield 10, 3) := dk_180 0 10 (dk_at dksX1_person_2 10 rfl rfl)
theorem dX1_person_57 : decode cX1_person 57 = .ok (.getfield 296, 3) := dk_180 1 40 (dk_at dksX1_person_2 13 rfl rfl)
theorem dX1_person_60 : decode cX1_person 60 = .ok (.iload_n 1, 1) := dk_27 (dk_at dksX1_person_2 16 rfl rfl)
theorem dX1_person_61 : decode cX1_person 61 = .ok (.invokestatic 202, 3) := dk_184 0 202 (dk_at dksX1_person_2 17 rfl rfl)
theorem dX1_person_64 : decode cX1_person 64 = .ok (.ifCond .eq 7, 3) := dk_153 0 7 (dk_at dksX1_person_2 20 rfl rfl)
theorem dX1_person_67 : decode cX1_person 67 = .ok (.iconst 1, 1) := dk_4 (dk_at dksX1_person_2 23 rfl rfl)
theorem dX1_person_68 : decode cX1_person 68 = .ok (.goto 4, 3) := dk_167 0 4 (dk_at dksX1_person_3 0 rfl rfl)
theorem dX1_person_71 : decode cX1_person 71 = .ok (.iconst 0, 1) := dk_3 (dk_at dksX1_person_3 3 rfl rfl)
theorem dX1_person_72 : decode cX1_person 72 = .ok (.ireturn, 1) := dk_172 (dk_at dksX1_person_3 4 rfl rfl)
theorem dX1_person_73 : decode cX1_person 73 = .ok (.iconst 0, 1) := dk_3 (dk_at dksX1_person_3 5 rfl rfl)
theorem dX1_person_74 : decode cX1_person 74 = .ok (.istore_n 3, 1) := dk_62 (dk_at dksX1_person_3 6 rfl rfl)
theorem dX1_person_75 : decode cX1_person 75 = .ok (.iconst 0, 1) := dk_3 (dk_at dksX1_person_3 7 rfl rfl)
theorem dX1_person_76 : decode cX1_person 76 = .ok (.istore 4, 2) := dk_54 4 (dk_at dksX1_person_3 8 rfl rfl)
theorem dX1_person_78 : decode cX1_person 78 = .ok (.iload 4, 2) := dk_21 4 (dk_at dksX1_person_3 10 rfl rfl)
theorem dX1_person_80 : decode cX1_person 80 = .ok (.aload_n 0, 1) := dk_42 (dk_at dksX1_person_3 12 rfl rfl)
theorem dX1_person_81 : decode cX1_person 81 = .ok (.getfield 10, 3) := dk_180 0 10 (dk_at dksX1_person_3 13 rfl rfl)
theorem dX1_person_84 : decode cX1_person 84 = .ok (.getfield 299, 3) := dk_180 1 43 (dk_at dksX1_person_3 16 rfl rfl)
theorem dX1_person_87 : decode cX1_person 87 = .ok (.invokevirtual 80, 3) := dk_182 0 80 (dk_at dksX1_person_3 19 rfl rfl)
theorem dX1_person_90 : decode cX1_person 90 = .ok (.if_icmp .ge 55, 3) := dk_162 0 55 (dk_at dksX1_person_4 0 rfl rfl)
theorem dX1_person_93 : decode cX1_person 93 = .ok (.aload_n 0, 1) := dk_42 (dk_at dksX1_person_4 3 rfl rfl)
theorem dX1_person_94 : decode cX1_person 94 = .ok (.getfield 10, 3) := dk_180 0 10 (dk_at dksX1_person_4 4 rfl rfl)
theorem dX1_person_97 : decode cX1_person 97 = .ok (.getfield 299, 3) := dk_180 1 43 (dk_at dksX1_person_4 7 rfl rfl)
theorem dX1_person_100 : decode cX1_person 100 = .ok (.iload 4, 2) := dk_21 4 (dk_at dksX1_person_4 10 rfl rfl)
theorem dX1_person_102 : decode cX1_person 102 = .ok (.invokevirtual 153, 3) := dk_182 0 153 (dk_at dksX1_person_4 12 rfl rfl)
theorem dX1_person_105 : decode cX1_person 105 = .ok (.checkcast 302, 3) := dk_192 1 46 (dk_at dksX1_person_4 15 rfl rfl)
theorem dX1_person_108 : decode cX1_person 108 = .ok (.astore 5, 2) := dk_58 5 (dk_at dksX1_person_4 18 rfl rfl)
theorem dX1_person_110 : decode cX1_person 110 = .ok (.iload_n 3, 1) := dk_29 (dk_at dksX1_person_4 20 rfl rfl)
theorem dX1_person_111 : decode cX1_person 111 = .ok (.aload 5, 2) := dk_25 5 (dk_at dksX1_person_4 21 rfl rfl)
theorem dX1_person_113 : decode cX1_person 113 = .ok (.getfield 304, 3) := dk_180 1 48 (dk_at dksX1_person_5 0 rfl rfl)
theorem dX1_person_116 : decode cX1_person 116 = .ok (.iload_n 1, 1) := dk_27 (dk_at dksX1_person_5 3 rfl rfl)
theorem dX1_person_117 : decode cX1_person 117 = .ok (.if_icmp .ne 19, 3) := dk_160 0 19 (dk_at dksX1_person_5 4 rfl rfl)
theorem dX1_person_120 : decode cX1_person 120 = .ok (.aload 5, 2) := dk_25 5 (dk_at dksX1_person_5 7 rfl rfl)
theorem dX1_person_122 : decode cX1_person 122 = .ok (.getfield 307, 3) := dk_180 1 51 (dk_at dksX1_person_5 9 rfl rfl)
theorem dX1_person_125 : decode cX1_person 125 = .ok (.ifCond .ne 11, 3) := dk_154 0 11 (dk_at dksX1_person_5 12 rfl rfl)
theorem dX1_person_128 : decode cX1_person 128 = .ok (.aload 5, 2) := dk_25 5 (dk_at dksX1_person_5 15 rfl rfl)
theorem dX1_person_130 : decode cX1_person 130 = .ok (.getfield 310, 3) := dk_180 1 54 (dk_at dksX1_person_5 17 rfl rfl)
theorem dX1_person_133 : decode cX1_person 133 = .ok (.goto 4, 3) := dk_167 0 4 (dk_at dksX1_person_5 20 rfl rfl)
theorem dX1_person_136 : decode cX1_person 136 = .ok (.iconst 0, 1) := dk_3 (dk_at dksX1_person_5 23 rfl rfl)
theorem dX1_person_137 : decode cX1_person 137 = .ok (.iadd, 1) := dk_96 (dk_at dksX1_person_6 0 rfl rfl)
theorem dX1_person_138 : decode cX1_person 138 = .ok (.istore_n 3, 1) := dk_62 (dk_at dksX1_person_6 1 rfl rfl)
theorem dX1_person_139 : decode cX1_person 139 = .ok (.iinc 4 1, 3) := dk_132 4 1 (dk_at dksX1_person_6 2 rfl rfl)
theorem dX1_person_142 : decode cX1_person 142 = .ok (.goto (-64), 3) := dk_167 255 192 (dk_at dksX1_person_6 5 rfl rfl)
theorem dX1_person_145 : decode cX1_person 145 = .ok (.iload_n 3, 1) := dk_29 (dk_at dksX1_person_6 8 rfl rfl)
theorem dX1_person_146 : decode cX1_person 146 = .ok (.ireturn, 1) := dk_172 (dk_at dksX1_person_6 9 rfl rfl)
theorem dX1_person_147 : decode cX1_person 147 = .ok (.aload_n 0, 1) := dk_42 (dk_at dksX1_person_6 10 rfl rfl)
theorem dX1_person_148 : decode cX1_person 148 = .ok (.getfield 10, 3) := dk_180 0 10 (dk_at dksX1_person_6 11 rfl rfl)
theorem dX1_person_151 : decode cX1_person 151 = .ok (.iload_n 1, 1) := dk_27 (dk_at dksX1_person_6 14 rfl rfl)
theorem dX1_person_152 : decode cX1_person 152 = .ok (.invokevirtual 313, 3) := dk_182 1 57 (dk_at dksX1_person_6 15 rfl rfl)
theorem dX1_person_155 : decode cX1_person 155 = .ok (.ireturn, 1) := dk_172 (dk_at dksX1_person_6 18 rfl rfl)
abbrev cX1_reviewOf : ByteArray := prog_1_method_50_code
def yX1_reviewOf : MethodName := ⟨RX1, "reviewOf", "(II)I"⟩
def dkwX1_reviewOf_5 : List UInt8 := [28, 154, 0, 15, 42, 180, 0, 10, 180, 1, 64, 27, 46, 167, 0, 4, 29, 172]
abbrev dktX1_reviewOf_5 : List UInt8 := dkwX1_reviewOf_5 ++ []
def dkwX1_reviewOf_4 : List UInt8 := [160, 0, 11, 25, 5, 180, 1, 54, 167, 0, 8, 4, 167, 0, 4, 3, 96, 62, 132, 4, 1, 167, 255, 166]
abbrev dktX1_reviewOf_4 : List UInt8 := dkwX1_reviewOf_4 ++ dktX1_reviewOf_5
def dkwX1_reviewOf_3 : List UInt8 := [25, 5, 180, 1, 51, 153, 0, 7, 4, 167, 0, 4, 3, 54, 6, 29, 21, 6, 153, 0, 20, 28, 6]
abbrev dktX1_reviewOf_3 : List UInt8 := dkwX1_reviewOf_3 ++ dktX1_reviewOf_4
def dkwX1_reviewOf_2 : List UInt8 := [21, 4, 182, 0, 153, 192, 1, 46, 58, 5, 25, 5, 180, 1, 63, 27, 160, 0, 20, 28, 5, 160, 0, 11]
abbrev dktX1_reviewOf_2 : List UInt8 := dkwX1_reviewOf_2 ++ dktX1_reviewOf_3
def dkwX1_reviewOf_1 : List UInt8 := [54, 4, 21, 4, 42, 180, 0, 10, 180, 1, 43, 182, 0, 80, 162, 0, 81, 42, 180, 0, 10, 180, 1, 43]
abbrev dktX1_reviewOf_1 : List UInt8 := dkwX1_reviewOf_1 ++ dktX1_reviewOf_2
def dkwX1_reviewOf_0 : List UInt8 := [42, 180, 0, 10, 27, 182, 1, 60, 184, 0, 147, 28, 3, 6, 184, 0, 37, 184, 0, 137, 3, 62, 3]
abbrev dktX1_reviewOf_0 : List UInt8 := dkwX1_reviewOf_0 ++ dktX1_reviewOf_1
theorem dksX1_reviewOf_0 : cX1_reviewOf.data.toList.drop 0 = dktX1_reviewOf_0 := by decide +kernel
theorem dksX1_reviewOf_1 : cX1_reviewOf.data.toList.drop 23 = dktX1_reviewOf_1 := dk_seg dksX1_reviewOf_0 23 rfl rfl
theorem dksX1_reviewOf_2 : cX1_reviewOf.data.toList.drop 47 = dktX1_reviewOf_2 := dk_seg dksX1_reviewOf_1 24 rfl rfl
theorem dksX1_reviewOf_3 : cX1_reviewOf.data.toList.drop 71 = dktX1_reviewOf_3 := dk_seg dksX1_reviewOf_2 24 rfl rfl
theorem dksX1_reviewOf_4 : cX1_reviewOf.data.toList.drop 94 = dktX1_reviewOf_4 := dk_seg dksX1_reviewOf_3 23 rfl rfl
theorem dksX1_reviewOf_5 : cX1_reviewOf.data.toList.drop 118 = dktX1_reviewOf_5 := dk_seg dksX1_reviewOf_4 24 rfl rfl
theorem dX1_reviewOf_0 : decode cX1_reviewOf 0 = .ok (.aload_n 0, 1) := dk_42 (dk_at dksX1_reviewOf_0 0 rfl rfl)
theorem dX1_reviewOf_1 : decode cX1_reviewOf 1 = .ok (.getfield 10, 3) := dk_180 0 10 (dk_at dksX1_reviewOf_0 1 rfl rfl)
theorem dX1_reviewOf_4 : decode cX1_reviewOf 4 = .ok (.iload_n 1, 1) := dk_27 (dk_at dksX1_reviewOf_0 4 rfl rfl)
theorem dX1_reviewOf_5 : decode cX1_reviewOf 5 = .ok (.invokevirtual 316, 3) := dk_182 1 60 (dk_at dksX1_reviewOf_0 5 rfl rfl)
theorem dX1_reviewOf_8 : decode cX1_reviewOf 8 = .ok (.invokestatic 147, 3) := dk_184 0 147 (dk_at dksX1_reviewOf_0 8 rfl rfl)
theorem dX1_reviewOf_11 : decode cX1_reviewOf 11 = .ok (.iload_n 2, 1) := dk_28 (dk_at dksX1_reviewOf_0 11 rfl rfl)
theorem dX1_reviewOf_12 : decode cX1_reviewOf 12 = .ok (.iconst 0, 1) := dk_3 (dk_at dksX1_reviewOf_0 12 rfl rfl)
theorem dX1_reviewOf_13 : decode cX1_reviewOf 13 = .ok (.iconst 3, 1) := dk_6 (dk_at dksX1_reviewOf_0 13 rfl rfl)
theorem dX1_reviewOf_14 : decode cX1_reviewOf 14 = .ok (.invokestatic 37, 3) := dk_184 0 37 (dk_at dksX1_reviewOf_0 14 rfl rfl)
theorem dX1_reviewOf_17 : decode cX1_reviewOf 17 = .ok (.invokestatic 137, 3) := dk_184 0 137 (dk_at dksX1_reviewOf_0 17 rfl rfl)
theorem dX1_reviewOf_20 : decode cX1_reviewOf 20 = .ok (.iconst 0, 1) := dk_3 (dk_at dksX1_reviewOf_0 20 rfl rfl)
theorem dX1_reviewOf_21 : decode cX1_reviewOf 21 = .ok (.istore_n 3, 1) := dk_62 (dk_at dksX1_reviewOf_0 21 rfl rfl)
theorem dX1_reviewOf_22 : decode cX1_reviewOf 22 = .ok (.iconst 0, 1) := dk_3 (dk_at dksX1_reviewOf_0 22 rfl rfl)
theorem dX1_reviewOf_23 : decode cX1_reviewOf 23 = .ok (.istore 4, 2) := dk_54 4 (dk_at dksX1_reviewOf_1 0 rfl rfl)
theorem dX1_reviewOf_25 : decode cX1_reviewOf 25 = .ok (.iload 4, 2) := dk_21 4 (dk_at dksX1_reviewOf_1 2 rfl rfl)
theorem dX1_reviewOf_27 : decode cX1_reviewOf 27 = .ok (.aload_n 0, 1) := dk_42 (dk_at dksX1_reviewOf_1 4 rfl rfl)
theorem dX1_reviewOf_28 : decode cX1_reviewOf 28 = .ok (.getfield 10, 3) := dk_180 0 10 (dk_at dksX1_reviewOf_1 5 rfl rfl)
theorem dX1_reviewOf_31 : decode cX1_reviewOf 31 = .ok (.getfield 299, 3) := dk_180 1 43 (dk_at dksX1_reviewOf_1 8 rfl rfl)
theorem dX1_reviewOf_34 : decode cX1_reviewOf 34 = .ok (.invokevirtual 80, 3) := dk_182 0 80 (dk_at dksX1_reviewOf_1 11 rfl rfl)
theorem dX1_reviewOf_37 : decode cX1_reviewOf 37 = .ok (.if_icmp .ge 81, 3) := dk_162 0 81 (dk_at dksX1_reviewOf_1 14 rfl rfl)
theorem dX1_reviewOf_40 : decode cX1_reviewOf 40 = .ok (.aload_n 0, 1) := dk_42 (dk_at dksX1_reviewOf_1 17 rfl rfl)
theorem dX1_reviewOf_41 : decode cX1_reviewOf 41 = .ok (.getfield 10, 3) := dk_180 0 10 (dk_at dksX1_reviewOf_1 18 rfl rfl)
theorem dX1_reviewOf_44 : decode cX1_reviewOf 44 = .ok (.getfield 299, 3) := dk_180 1 43 (dk_at dksX1_reviewOf_1 21 rfl rfl)
theorem dX1_reviewOf_47 : decode cX1_reviewOf 47 = .ok (.iload 4, 2) := dk_21 4 (dk_at dksX1_reviewOf_2 0 rfl rfl)
theorem dX1_reviewOf_49 : decode cX1_reviewOf 49 = .ok (.invokevirtual 153, 3) := dk_182 0 153 (dk_at dksX1_reviewOf_2 2 rfl rfl)
theorem dX1_reviewOf_52 : decode cX1_reviewOf 52 = .ok (.checkcast 302, 3) := dk_192 1 46 (dk_at dksX1_reviewOf_2 5 rfl rfl)
theorem dX1_reviewOf_55 : decode cX1_reviewOf 55 = .ok (.astore 5, 2) := dk_58 5 (dk_at dksX1_reviewOf_2 8 rfl rfl)
theorem dX1_reviewOf_57 : decode cX1_reviewOf 57 = .ok (.aload 5, 2) := dk_25 5 (dk_at dksX1_reviewOf_2 10 rfl rfl)
theorem dX1_reviewOf_59 : decode cX1_reviewOf 59 = .ok (.getfield 319, 3) := dk_180 1 63 (dk_at dksX1_reviewOf_2 12 rfl rfl)
theorem dX1_reviewOf_62 : decode cX1_reviewOf 62 = .ok (.iload_n 1, 1) := dk_27 (dk_at dksX1_reviewOf_2 15 rfl rfl)
theorem dX1_reviewOf_63 : decode cX1_reviewOf 63 = .ok (.if_icmp .ne 20, 3) := dk_160 0 20 (dk_at dksX1_reviewOf_2 16 rfl rfl)
theorem dX1_reviewOf_66 : decode cX1_reviewOf 66 = .ok (.iload_n 2, 1) := dk_28 (dk_at dksX1_reviewOf_2 19 rfl rfl)
theorem dX1_reviewOf_67 : decode cX1_reviewOf 67 = .ok (.iconst 2, 1) := dk_5 (dk_at dksX1_reviewOf_2 20 rfl rfl)
theorem dX1_reviewOf_68 : decode cX1_reviewOf 68 = .ok (.if_icmp .ne 11, 3) := dk_160 0 11 (dk_at dksX1_reviewOf_2 21 rfl rfl)
theorem dX1_reviewOf_71 : decode cX1_reviewOf 71 = .ok (.aload 5, 2) := dk_25 5 (dk_at dksX1_reviewOf_3 0 rfl rfl)
theorem dX1_reviewOf_73 : decode cX1_reviewOf 73 = .ok (.getfield 307, 3) := dk_180 1 51 (dk_at dksX1_reviewOf_3 2 rfl rfl)
theorem dX1_reviewOf_76 : decode cX1_reviewOf 76 = .ok (.ifCond .eq 7, 3) := dk_153 0 7 (dk_at dksX1_reviewOf_3 5 rfl rfl)
theorem dX1_reviewOf_79 : decode cX1_reviewOf 79 = .ok (.iconst 1, 1) := dk_4 (dk_at dksX1_reviewOf_3 8 rfl rfl)
theorem dX1_reviewOf_80 : decode cX1_reviewOf 80 = .ok (.goto 4, 3) := dk_167 0 4 (dk_at dksX1_reviewOf_3 9 rfl rfl)
theorem dX1_reviewOf_83 : decode cX1_reviewOf 83 = .ok (.iconst 0, 1) := dk_3 (dk_at dksX1_reviewOf_3 12 rfl rfl)
theorem dX1_reviewOf_84 : decode cX1_reviewOf 84 = .ok (.istore 6, 2) := dk_54 6 (dk_at dksX1_reviewOf_3 13 rfl rfl)
theorem dX1_reviewOf_86 : decode cX1_reviewOf 86 = .ok (.iload_n 3, 1) := dk_29 (dk_at dksX1_reviewOf_3 15 rfl rfl)
theorem dX1_reviewOf_87 : decode cX1_reviewOf 87 = .ok (.iload 6, 2) := dk_21 6 (dk_at dksX1_reviewOf_3 16 rfl rfl)
theorem dX1_reviewOf_89 : decode cX1_reviewOf 89 = .ok (.ifCond .eq 20, 3) := dk_153 0 20 (dk_at dksX1_reviewOf_3 18 rfl rfl)
theorem dX1_reviewOf_92 : decode cX1_reviewOf 92 = .ok (.iload_n 2, 1) := dk_28 (dk_at dksX1_reviewOf_3 21 rfl rfl)
theorem dX1_reviewOf_93 : decode cX1_reviewOf 93 = .ok (.iconst 3, 1) := dk_6 (dk_at dksX1_reviewOf_3 22 rfl rfl)
theorem dX1_reviewOf_94 : decode cX1_reviewOf 94 = .ok (.if_icmp .ne 11, 3) := dk_160 0 11 (dk_at dksX1_reviewOf_4 0 rfl rfl)
theorem dX1_reviewOf_97 : decode cX1_reviewOf 97 = .ok (.aload 5, 2) := dk_25 5 (dk_at dksX1_reviewOf_4 3 rfl rfl)
theorem dX1_reviewOf_99 : decode cX1_reviewOf 99 = .ok (.getfield 310, 3) := dk_180 1 54 (dk_at dksX1_reviewOf_4 5 rfl rfl)
theorem dX1_reviewOf_102 : decode cX1_reviewOf 102 = .ok (.goto 8, 3) := dk_167 0 8 (dk_at dksX1_reviewOf_4 8 rfl rfl)
theorem dX1_reviewOf_105 : decode cX1_reviewOf 105 = .ok (.iconst 1, 1) := dk_4 (dk_at dksX1_reviewOf_4 11 rfl rfl)
theorem dX1_reviewOf_106 : decode cX1_reviewOf 106 = .ok (.goto 4, 3) := dk_167 0 4 (dk_at dksX1_reviewOf_4 12 rfl rfl)
theorem dX1_reviewOf_109 : decode cX1_reviewOf 109 = .ok (.iconst 0, 1) := dk_3 (dk_at dksX1_reviewOf_4 15 rfl rfl)
theorem dX1_reviewOf_110 : decode cX1_reviewOf 110 = .ok (.iadd, 1) := dk_96 (dk_at dksX1_reviewOf_4 16 rfl rfl)
theorem dX1_reviewOf_111 : decode cX1_reviewOf 111 = .ok (.istore_n 3, 1) := dk_62 (dk_at dksX1_reviewOf_4 17 rfl rfl)
theorem dX1_reviewOf_112 : decode cX1_reviewOf 112 = .ok (.iinc 4 1, 3) := dk_132 4 1 (dk_at dksX1_reviewOf_4 18 rfl rfl)
theorem dX1_reviewOf_115 : decode cX1_reviewOf 115 = .ok (.goto (-90), 3) := dk_167 255 166 (dk_at dksX1_reviewOf_4 21 rfl rfl)
theorem dX1_reviewOf_118 : decode cX1_reviewOf 118 = .ok (.iload_n 2, 1) := dk_28 (dk_at dksX1_reviewOf_5 0 rfl rfl)
theorem dX1_reviewOf_119 : decode cX1_reviewOf 119 = .ok (.ifCond .ne 15, 3) := dk_154 0 15 (dk_at dksX1_reviewOf_5 1 rfl rfl)
theorem dX1_reviewOf_122 : decode cX1_reviewOf 122 = .ok (.aload_n 0, 1) := dk_42 (dk_at dksX1_reviewOf_5 4 rfl rfl)
theorem dX1_reviewOf_123 : decode cX1_reviewOf 123 = .ok (.getfield 10, 3) := dk_180 0 10 (dk_at dksX1_reviewOf_5 5 rfl rfl)
theorem dX1_reviewOf_126 : decode cX1_reviewOf 126 = .ok (.getfield 320, 3) := dk_180 1 64 (dk_at dksX1_reviewOf_5 8 rfl rfl)
theorem dX1_reviewOf_129 : decode cX1_reviewOf 129 = .ok (.iload_n 1, 1) := dk_27 (dk_at dksX1_reviewOf_5 11 rfl rfl)
theorem dX1_reviewOf_130 : decode cX1_reviewOf 130 = .ok (.iaload, 1) := dk_46 (dk_at dksX1_reviewOf_5 12 rfl rfl)
theorem dX1_reviewOf_131 : decode cX1_reviewOf 131 = .ok (.goto 4, 3) := dk_167 0 4 (dk_at dksX1_reviewOf_5 13 rfl rfl)
theorem dX1_reviewOf_134 : decode cX1_reviewOf 134 = .ok (.iload_n 3, 1) := dk_29 (dk_at dksX1_reviewOf_5 16 rfl rfl)
theorem dX1_reviewOf_135 : decode cX1_reviewOf 135 = .ok (.ireturn, 1) := dk_172 (dk_at dksX1_reviewOf_5 17 rfl rfl)
abbrev cX1_event : ByteArray := prog_1_method_51_code
def yX1_event : MethodName := ⟨RX1, "event", "(II)I"⟩
def dkwX1_event_3 : List UInt8 := [160, 0, 10, 45, 180, 1, 78, 167, 0, 7, 45, 180, 1, 81, 172]
abbrev dktX1_event_3 : List UInt8 := dkwX1_event_3 ++ []
def dkwX1_event_2 : List UInt8 := [154, 0, 10, 45, 180, 1, 72, 167, 0, 31, 28, 4, 160, 0, 10, 45, 180, 1, 75, 167, 0, 19, 28, 5]
abbrev dktX1_event_2 : List UInt8 := dkwX1_event_2 ++ dktX1_event_3
def dkwX1_event_1 : List UInt8 := [184, 0, 37, 184, 0, 137, 42, 180, 0, 10, 180, 1, 67, 27, 182, 0, 153, 192, 1, 70, 78, 28]
abbrev dktX1_event_1 : List UInt8 := dkwX1_event_1 ++ dktX1_event_2
def dkwX1_event_0 : List UInt8 := [27, 3, 42, 180, 0, 10, 180, 1, 67, 182, 0, 80, 4, 100, 184, 0, 37, 184, 0, 140, 28, 3, 6]
abbrev dktX1_event_0 : List UInt8 := dkwX1_event_0 ++ dktX1_event_1
theorem dksX1_event_0 : cX1_event.data.toList.drop 0 = dktX1_event_0 := by decide +kernel
theorem dksX1_event_1 : cX1_event.data.toList.drop 23 = dktX1_event_1 := dk_seg dksX1_event_0 23 rfl rfl
theorem dksX1_event_2 : cX1_event.data.toList.drop 45 = dktX1_event_2 := dk_seg dksX1_event_1 22 rfl rfl
theorem dksX1_event_3 : cX1_event.data.toList.drop 69 = dktX1_event_3 := dk_seg dksX1_event_2 24 rfl rfl
theorem dX1_event_0 : decode cX1_event 0 = .ok (.iload_n 1, 1) := dk_27 (dk_at dksX1_event_0 0 rfl rfl)
theorem dX1_event_1 : decode cX1_event 1 = .ok (.iconst 0, 1) := dk_3 (dk_at dksX1_event_0 1 rfl rfl)
theorem dX1_event_2 : decode cX1_event 2 = .ok (.aload_n 0, 1) := dk_42 (dk_at dksX1_event_0 2 rfl rfl)
theorem dX1_event_3 : decode cX1_event 3 = .ok (.getfield 10, 3) := dk_180 0 10 (dk_at dksX1_event_0 3 rfl rfl)
theorem dX1_event_6 : decode cX1_event 6 = .ok (.getfield 323, 3) := dk_180 1 67 (dk_at dksX1_event_0 6 rfl rfl)
theorem dX1_event_9 : decode cX1_event 9 = .ok (.invokevirtual 80, 3) := dk_182 0 80 (dk_at dksX1_event_0 9 rfl rfl)
theorem dX1_event_12 : decode cX1_event 12 = .ok (.iconst 1, 1) := dk_4 (dk_at dksX1_event_0 12 rfl rfl)
theorem dX1_event_13 : decode cX1_event 13 = .ok (.isub, 1) := dk_100 (dk_at dksX1_event_0 13 rfl rfl)
theorem dX1_event_14 : decode cX1_event 14 = .ok (.invokestatic 37, 3) := dk_184 0 37 (dk_at dksX1_event_0 14 rfl rfl)
theorem dX1_event_17 : decode cX1_event 17 = .ok (.invokestatic 140, 3) := dk_184 0 140 (dk_at dksX1_event_0 17 rfl rfl)
theorem dX1_event_20 : decode cX1_event 20 = .ok (.iload_n 2, 1) := dk_28 (dk_at dksX1_event_0 20 rfl rfl)
theorem dX1_event_21 : decode cX1_event 21 = .ok (.iconst 0, 1) := dk_3 (dk_at dksX1_event_0 21 rfl rfl)
theorem dX1_event_22 : decode cX1_event 22 = .ok (.iconst 3, 1) := dk_6 (dk_at dksX1_event_0 22 rfl rfl)
theorem dX1_event_23 : decode cX1_event 23 = .ok (.invokestatic 37, 3) := dk_184 0 37 (dk_at dksX1_event_1 0 rfl rfl)
theorem dX1_event_26 : decode cX1_event 26 = .ok (.invokestatic 137, 3) := dk_184 0 137 (dk_at dksX1_event_1 3 rfl rfl)
theorem dX1_event_29 : decode cX1_event 29 = .ok (.aload_n 0, 1) := dk_42 (dk_at dksX1_event_1 6 rfl rfl)
theorem dX1_event_30 : decode cX1_event 30 = .ok (.getfield 10, 3) := dk_180 0 10 (dk_at dksX1_event_1 7 rfl rfl)
theorem dX1_event_33 : decode cX1_event 33 = .ok (.getfield 323, 3) := dk_180 1 67 (dk_at dksX1_event_1 10 rfl rfl)
theorem dX1_event_36 : decode cX1_event 36 = .ok (.iload_n 1, 1) := dk_27 (dk_at dksX1_event_1 13 rfl rfl)
theorem dX1_event_37 : decode cX1_event 37 = .ok (.invokevirtual 153, 3) := dk_182 0 153 (dk_at dksX1_event_1 14 rfl rfl)
theorem dX1_event_40 : decode cX1_event 40 = .ok (.checkcast 326, 3) := dk_192 1 70 (dk_at dksX1_event_1 17 rfl rfl)
theorem dX1_event_43 : decode cX1_event 43 = .ok (.astore_n 3, 1) := dk_78 (dk_at dksX1_event_1 20 rfl rfl)
theorem dX1_event_44 : decode cX1_event 44 = .ok (.iload_n 2, 1) := dk_28 (dk_at dksX1_event_1 21 rfl rfl)
theorem dX1_event_45 : decode cX1_event 45 = .ok (.ifCond .ne 10, 3) := dk_154 0 10 (dk_at dksX1_event_2 0 rfl rfl)
theorem dX1_event_48 : decode cX1_event 48 = .ok (.aload_n 3, 1) := dk_45 (dk_at dksX1_event_2 3 rfl rfl)
theorem dX1_event_49 : decode cX1_event 49 = .ok (.getfield 328, 3) := dk_180 1 72 (dk_at dksX1_event_2 4 rfl rfl)
theorem dX1_event_52 : decode cX1_event 52 = .ok (.goto 31, 3) := dk_167 0 31 (dk_at dksX1_event_2 7 rfl rfl)
theorem dX1_event_55 : decode cX1_event 55 = .ok (.iload_n 2, 1) := dk_28 (dk_at dksX1_event_2 10 rfl rfl)
theorem dX1_event_56 : decode cX1_event 56 = .ok (.iconst 1, 1) := dk_4 (dk_at dksX1_event_2 11 rfl rfl)
theorem dX1_event_57 : decode cX1_event 57 = .ok (.if_icmp .ne 10, 3) := dk_160 0 10 (dk_at dksX1_event_2 12 rfl rfl)
theorem dX1_event_60 : decode cX1_event 60 = .ok (.aload_n 3, 1) := dk_45 (dk_at dksX1_event_2 15 rfl rfl)
theorem dX1_event_61 : decode cX1_event 61 = .ok (.getfield 331, 3) := dk_180 1 75 (dk_at dksX1_event_2 16 rfl rfl)
theorem dX1_event_64 : decode cX1_event 64 = .ok (.goto 19, 3) := dk_167 0 19 (dk_at dksX1_event_2 19 rfl rfl)
theorem dX1_event_67 : decode cX1_event 67 = .ok (.iload_n 2, 1) := dk_28 (dk_at dksX1_event_2 22 rfl rfl)
theorem dX1_event_68 : decode cX1_event 68 = .ok (.iconst 2, 1) := dk_5 (dk_at dksX1_event_2 23 rfl rfl)
theorem dX1_event_69 : decode cX1_event 69 = .ok (.if_icmp .ne 10, 3) := dk_160 0 10 (dk_at dksX1_event_3 0 rfl rfl)
theorem dX1_event_72 : decode cX1_event 72 = .ok (.aload_n 3, 1) := dk_45 (dk_at dksX1_event_3 3 rfl rfl)
theorem dX1_event_73 : decode cX1_event 73 = .ok (.getfield 334, 3) := dk_180 1 78 (dk_at dksX1_event_3 4 rfl rfl)
theorem dX1_event_76 : decode cX1_event 76 = .ok (.goto 7, 3) := dk_167 0 7 (dk_at dksX1_event_3 7 rfl rfl)
theorem dX1_event_79 : decode cX1_event 79 = .ok (.aload_n 3, 1) := dk_45 (dk_at dksX1_event_3 10 rfl rfl)
theorem dX1_event_80 : decode cX1_event 80 = .ok (.getfield 337, 3) := dk_180 1 81 (dk_at dksX1_event_3 11 rfl rfl)
theorem dX1_event_83 : decode cX1_event 83 = .ok (.ireturn, 1) := dk_172 (dk_at dksX1_event_3 14 rfl rfl)
abbrev cX1_letter : ByteArray := prog_1_method_52_code
def yX1_letter : MethodName := ⟨RX1, "letter", "(I)C"⟩
def dkwX1_letter_1 : List UInt8 := [180, 0, 171, 182, 1, 88, 172]
abbrev dktX1_letter_1 : List UInt8 := dkwX1_letter_1 ++ []
def dkwX1_letter_0 : List UInt8 := [42, 27, 182, 0, 158, 77, 44, 180, 0, 195, 153, 0, 9, 19, 1, 84, 167, 0, 6, 19, 1, 86, 44]
abbrev dktX1_letter_0 : List UInt8 := dkwX1_letter_0 ++ dktX1_letter_1
theorem dksX1_letter_0 : cX1_letter.data.toList.drop 0 = dktX1_letter_0 := by decide +kernel
theorem dksX1_letter_1 : cX1_letter.data.toList.drop 23 = dktX1_letter_1 := dk_seg dksX1_letter_0 23 rfl rfl
theorem dX1_letter_0 : decode cX1_letter 0 = .ok (.aload_n 0, 1) := dk_42 (dk_at dksX1_letter_0 0 rfl rfl)
theorem dX1_letter_1 : decode cX1_letter 1 = .ok (.iload_n 1, 1) := dk_27 (dk_at dksX1_letter_0 1 rfl rfl)
theorem dX1_letter_2 : decode cX1_letter 2 = .ok (.invokevirtual 158, 3) := dk_182 0 158 (dk_at dksX1_letter_0 2 rfl rfl)
theorem dX1_letter_5 : decode cX1_letter 5 = .ok (.astore_n 2, 1) := dk_77 (dk_at dksX1_letter_0 5 rfl rfl)
theorem dX1_letter_6 : decode cX1_letter 6 = .ok (.aload_n 2, 1) := dk_44 (dk_at dksX1_letter_0 6 rfl rfl)
theorem dX1_letter_7 : decode cX1_letter 7 = .ok (.getfield 195, 3) := dk_180 0 195 (dk_at dksX1_letter_0 7 rfl rfl)
theorem dX1_letter_10 : decode cX1_letter 10 = .ok (.ifCond .eq 9, 3) := dk_153 0 9 (dk_at dksX1_letter_0 10 rfl rfl)
theorem dX1_letter_13 : decode cX1_letter 13 = .ok (.ldc_w 340, 3) := dk_19 1 84 (dk_at dksX1_letter_0 13 rfl rfl)
theorem dX1_letter_16 : decode cX1_letter 16 = .ok (.goto 6, 3) := dk_167 0 6 (dk_at dksX1_letter_0 16 rfl rfl)
theorem dX1_letter_19 : decode cX1_letter 19 = .ok (.ldc_w 342, 3) := dk_19 1 86 (dk_at dksX1_letter_0 19 rfl rfl)
theorem dX1_letter_22 : decode cX1_letter 22 = .ok (.aload_n 2, 1) := dk_44 (dk_at dksX1_letter_0 22 rfl rfl)
theorem dX1_letter_23 : decode cX1_letter 23 = .ok (.getfield 171, 3) := dk_180 0 171 (dk_at dksX1_letter_1 0 rfl rfl)
theorem dX1_letter_26 : decode cX1_letter 26 = .ok (.invokevirtual 344, 3) := dk_182 1 88 (dk_at dksX1_letter_1 3 rfl rfl)
theorem dX1_letter_29 : decode cX1_letter 29 = .ok (.ireturn, 1) := dk_172 (dk_at dksX1_letter_1 6 rfl rfl)
abbrev cX1_stoppedShare : ByteArray := prog_1_method_53_code
def yX1_stoppedShare : MethodName := ⟨RX1, "stoppedShare", "(I)F"⟩
def dkwX1_stoppedShare_1 : List UInt8 := [183, 1, 96, 191, 44, 180, 0, 213, 134, 42, 180, 0, 10, 180, 0, 210, 44, 182, 0, 174, 100, 134, 110, 174]
abbrev dktX1_stoppedShare_1 : List UInt8 := dkwX1_stoppedShare_1 ++ []
def dkwX1_stoppedShare_0 : List UInt8 := [42, 27, 182, 0, 158, 77, 44, 182, 0, 174, 42, 180, 0, 10, 180, 0, 210, 160, 0, 11, 187, 1, 94, 89]
abbrev dktX1_stoppedShare_0 : List UInt8 := dkwX1_stoppedShare_0 ++ dktX1_stoppedShare_1
theorem dksX1_stoppedShare_0 : cX1_stoppedShare.data.toList.drop 0 = dktX1_stoppedShare_0 := by decide +kernel
theorem dksX1_stoppedShare_1 : cX1_stoppedShare.data.toList.drop 24 = dktX1_stoppedShare_1 := dk_seg dksX1_stoppedShare_0 24 rfl rfl
theorem dX1_stoppedShare_0 : decode cX1_stoppedShare 0 = .ok (.aload_n 0, 1) := dk_42 (dk_at dksX1_stoppedShare_0 0 rfl rfl)
theorem dX1_stoppedShare_1 : decode cX1_stoppedShare 1 = .ok (.iload_n 1, 1) := dk_27 (dk_at dksX1_stoppedShare_0 1 rfl rfl)
theorem dX1_stoppedShare_2 : decode cX1_stoppedShare 2 = .ok (.invokevirtual 158, 3) := dk_182 0 158 (dk_at dksX1_stoppedShare_0 2 rfl rfl)
theorem dX1_stoppedShare_5 : decode cX1_stoppedShare 5 = .ok (.astore_n 2, 1) := dk_77 (dk_at dksX1_stoppedShare_0 5 rfl rfl)
theorem dX1_stoppedShare_6 : decode cX1_stoppedShare 6 = .ok (.aload_n 2, 1) := dk_44 (dk_at dksX1_stoppedShare_0 6 rfl rfl)
theorem dX1_stoppedShare_7 : decode cX1_stoppedShare 7 = .ok (.invokevirtual 174, 3) := dk_182 0 174 (dk_at dksX1_stoppedShare_0 7 rfl rfl)
theorem dX1_stoppedShare_10 : decode cX1_stoppedShare 10 = .ok (.aload_n 0, 1) := dk_42 (dk_at dksX1_stoppedShare_0 10 rfl rfl)
theorem dX1_stoppedShare_11 : decode cX1_stoppedShare 11 = .ok (.getfield 10, 3) := dk_180 0 10 (dk_at dksX1_stoppedShare_0 11 rfl rfl)
theorem dX1_stoppedShare_14 : decode cX1_stoppedShare 14 = .ok (.getfield 210, 3) := dk_180 0 210 (dk_at dksX1_stoppedShare_0 14 rfl rfl)
theorem dX1_stoppedShare_17 : decode cX1_stoppedShare 17 = .ok (.if_icmp .ne 11, 3) := dk_160 0 11 (dk_at dksX1_stoppedShare_0 17 rfl rfl)
theorem dX1_stoppedShare_20 : decode cX1_stoppedShare 20 = .ok (.new 350, 3) := dk_187 1 94 (dk_at dksX1_stoppedShare_0 20 rfl rfl)
theorem dX1_stoppedShare_23 : decode cX1_stoppedShare 23 = .ok (.dup, 1) := dk_89 (dk_at dksX1_stoppedShare_0 23 rfl rfl)
theorem dX1_stoppedShare_24 : decode cX1_stoppedShare 24 = .ok (.invokespecial 352, 3) := dk_183 1 96 (dk_at dksX1_stoppedShare_1 0 rfl rfl)
theorem dX1_stoppedShare_27 : decode cX1_stoppedShare 27 = .ok (.athrow, 1) := dk_191 (dk_at dksX1_stoppedShare_1 3 rfl rfl)
theorem dX1_stoppedShare_28 : decode cX1_stoppedShare 28 = .ok (.aload_n 2, 1) := dk_44 (dk_at dksX1_stoppedShare_1 4 rfl rfl)
theorem dX1_stoppedShare_29 : decode cX1_stoppedShare 29 = .ok (.getfield 213, 3) := dk_180 0 213 (dk_at dksX1_stoppedShare_1 5 rfl rfl)
theorem dX1_stoppedShare_32 : decode cX1_stoppedShare 32 = .ok (.i2f, 1) := dk_134 (dk_at dksX1_stoppedShare_1 8 rfl rfl)
theorem dX1_stoppedShare_33 : decode cX1_stoppedShare 33 = .ok (.aload_n 0, 1) := dk_42 (dk_at dksX1_stoppedShare_1 9 rfl rfl)
theorem dX1_stoppedShare_34 : decode cX1_stoppedShare 34 = .ok (.getfield 10, 3) := dk_180 0 10 (dk_at dksX1_stoppedShare_1 10 rfl rfl)
theorem dX1_stoppedShare_37 : decode cX1_stoppedShare 37 = .ok (.getfield 210, 3) := dk_180 0 210 (dk_at dksX1_stoppedShare_1 13 rfl rfl)
theorem dX1_stoppedShare_40 : decode cX1_stoppedShare 40 = .ok (.aload_n 2, 1) := dk_44 (dk_at dksX1_stoppedShare_1 16 rfl rfl)
theorem dX1_stoppedShare_41 : decode cX1_stoppedShare 41 = .ok (.invokevirtual 174, 3) := dk_182 0 174 (dk_at dksX1_stoppedShare_1 17 rfl rfl)
theorem dX1_stoppedShare_44 : decode cX1_stoppedShare 44 = .ok (.isub, 1) := dk_100 (dk_at dksX1_stoppedShare_1 20 rfl rfl)
theorem dX1_stoppedShare_45 : decode cX1_stoppedShare 45 = .ok (.i2f, 1) := dk_134 (dk_at dksX1_stoppedShare_1 21 rfl rfl)
theorem dX1_stoppedShare_46 : decode cX1_stoppedShare 46 = .ok (.fdiv, 1) := dk_110 (dk_at dksX1_stoppedShare_1 22 rfl rfl)
theorem dX1_stoppedShare_47 : decode cX1_stoppedShare 47 = .ok (.freturn, 1) := dk_174 (dk_at dksX1_stoppedShare_1 23 rfl rfl)
abbrev cX1_meanClock : ByteArray := prog_1_method_54_code
def yX1_meanClock : MethodName := ⟨RX1, "meanClock", "()D"⟩
def dkwX1_meanClock_4 : List UInt8 := [111, 175]
abbrev dktX1_meanClock_4 : List UInt8 := dkwX1_meanClock_4 ++ []
def dkwX1_meanClock_3 : List UInt8 := [96, 61, 132, 3, 1, 167, 255, 187, 28, 154, 0, 11, 187, 1, 94, 89, 183, 1, 96, 191, 27, 135, 28, 135]
abbrev dktX1_meanClock_3 : List UInt8 := dkwX1_meanClock_3 ++ dktX1_meanClock_4
def dkwX1_meanClock_2 : List UInt8 := [167, 0, 8, 25, 4, 180, 0, 177, 96, 60, 28, 25, 4, 182, 1, 8, 153, 0, 7, 3, 167, 0, 4, 4]
abbrev dktX1_meanClock_2 : List UInt8 := dkwX1_meanClock_2 ++ dktX1_meanClock_3
def dkwX1_meanClock_1 : List UInt8 := [180, 0, 150, 29, 182, 0, 153, 192, 0, 156, 58, 4, 27, 25, 4, 182, 1, 8, 153, 0, 7, 3]
abbrev dktX1_meanClock_1 : List UInt8 := dkwX1_meanClock_1 ++ dktX1_meanClock_2
def dkwX1_meanClock_0 : List UInt8 := [3, 60, 3, 61, 3, 62, 29, 42, 180, 0, 10, 180, 0, 150, 182, 0, 80, 162, 0, 61, 42, 180, 0, 10]
abbrev dktX1_meanClock_0 : List UInt8 := dkwX1_meanClock_0 ++ dktX1_meanClock_1
theorem dksX1_meanClock_0 : cX1_meanClock.data.toList.drop 0 = dktX1_meanClock_0 := by decide +kernel
theorem dksX1_meanClock_1 : cX1_meanClock.data.toList.drop 24 = dktX1_meanClock_1 := dk_seg dksX1_meanClock_0 24 rfl rfl
theorem dksX1_meanClock_2 : cX1_meanClock.data.toList.drop 46 = dktX1_meanClock_2 := dk_seg dksX1_meanClock_1 22 rfl rfl
theorem dksX1_meanClock_3 : cX1_meanClock.data.toList.drop 70 = dktX1_meanClock_3 := dk_seg dksX1_meanClock_2 24 rfl rfl
theorem dksX1_meanClock_4 : cX1_meanClock.data.toList.drop 94 = dktX1_meanClock_4 := dk_seg dksX1_meanClock_3 24 rfl rfl
theorem dX1_meanClock_0 : decode cX1_meanClock 0 = .ok (.iconst 0, 1) := dk_3 (dk_at dksX1_meanClock_0 0 rfl rfl)
theorem dX1_meanClock_1 : decode cX1_meanClock 1 = .ok (.istore_n 1, 1) := dk_60 (dk_at dksX1_meanClock_0 1 rfl rfl)
theorem dX1_meanClock_2 : decode cX1_meanClock 2 = .ok (.iconst 0, 1) := dk_3 (dk_at dksX1_meanClock_0 2 rfl rfl)
theorem dX1_meanClock_3 : decode cX1_meanClock 3 = .ok (.istore_n 2, 1) := dk_61 (dk_at dksX1_meanClock_0 3 rfl rfl)
theorem dX1_meanClock_4 : decode cX1_meanClock 4 = .ok (.iconst 0, 1) := dk_3 (dk_at dksX1_meanClock_0 4 rfl rfl)
theorem dX1_meanClock_5 : decode cX1_meanClock 5 = .ok (.istore_n 3, 1) := dk_62 (dk_at dksX1_meanClock_0 5 rfl rfl)
theorem dX1_meanClock_6 : decode cX1_meanClock 6 = .ok (.iload_n 3, 1) := dk_29 (dk_at dksX1_meanClock_0 6 rfl rfl)
theorem dX1_meanClock_7 : decode cX1_meanClock 7 = .ok (.aload_n 0, 1) := dk_42 (dk_at dksX1_meanClock_0 7 rfl rfl)
theorem dX1_meanClock_8 : decode cX1_meanClock 8 = .ok (.getfield 10, 3) := dk_180 0 10 (dk_at dksX1_meanClock_0 8 rfl rfl)
theorem dX1_meanClock_11 : decode cX1_meanClock 11 = .ok (.getfield 150, 3) := dk_180 0 150 (dk_at dksX1_meanClock_0 11 rfl rfl)
theorem dX1_meanClock_14 : decode cX1_meanClock 14 = .ok (.invokevirtual 80, 3) := dk_182 0 80 (dk_at dksX1_meanClock_0 14 rfl rfl)
theorem dX1_meanClock_17 : decode cX1_meanClock 17 = .ok (.if_icmp .ge 61, 3) := dk_162 0 61 (dk_at dksX1_meanClock_0 17 rfl rfl)
theorem dX1_meanClock_20 : decode cX1_meanClock 20 = .ok (.aload_n 0, 1) := dk_42 (dk_at dksX1_meanClock_0 20 rfl rfl)
theorem dX1_meanClock_21 : decode cX1_meanClock 21 = .ok (.getfield 10, 3) := dk_180 0 10 (dk_at dksX1_meanClock_0 21 rfl rfl)
theorem dX1_meanClock_24 : decode cX1_meanClock 24 = .ok (.getfield 150, 3) := dk_180 0 150 (dk_at dksX1_meanClock_1 0 rfl rfl)
theorem dX1_meanClock_27 : decode cX1_meanClock 27 = .ok (.iload_n 3, 1) := dk_29 (dk_at dksX1_meanClock_1 3 rfl rfl)
theorem dX1_meanClock_28 : decode cX1_meanClock 28 = .ok (.invokevirtual 153, 3) := dk_182 0 153 (dk_at dksX1_meanClock_1 4 rfl rfl)
theorem dX1_meanClock_31 : decode cX1_meanClock 31 = .ok (.checkcast 156, 3) := dk_192 0 156 (dk_at dksX1_meanClock_1 7 rfl rfl)
theorem dX1_meanClock_34 : decode cX1_meanClock 34 = .ok (.astore 4, 2) := dk_58 4 (dk_at dksX1_meanClock_1 10 rfl rfl)
theorem dX1_meanClock_36 : decode cX1_meanClock 36 = .ok (.iload_n 1, 1) := dk_27 (dk_at dksX1_meanClock_1 12 rfl rfl)
theorem dX1_meanClock_37 : decode cX1_meanClock 37 = .ok (.aload 4, 2) := dk_25 4 (dk_at dksX1_meanClock_1 13 rfl rfl)
theorem dX1_meanClock_39 : decode cX1_meanClock 39 = .ok (.invokevirtual 264, 3) := dk_182 1 8 (dk_at dksX1_meanClock_1 15 rfl rfl)
theorem dX1_meanClock_42 : decode cX1_meanClock 42 = .ok (.ifCond .eq 7, 3) := dk_153 0 7 (dk_at dksX1_meanClock_1 18 rfl rfl)
theorem dX1_meanClock_45 : decode cX1_meanClock 45 = .ok (.iconst 0, 1) := dk_3 (dk_at dksX1_meanClock_1 21 rfl rfl)
theorem dX1_meanClock_46 : decode cX1_meanClock 46 = .ok (.goto 8, 3) := dk_167 0 8 (dk_at dksX1_meanClock_2 0 rfl rfl)
theorem dX1_meanClock_49 : decode cX1_meanClock 49 = .ok (.aload 4, 2) := dk_25 4 (dk_at dksX1_meanClock_2 3 rfl rfl)
theorem dX1_meanClock_51 : decode cX1_meanClock 51 = .ok (.getfield 177, 3) := dk_180 0 177 (dk_at dksX1_meanClock_2 5 rfl rfl)
theorem dX1_meanClock_54 : decode cX1_meanClock 54 = .ok (.iadd, 1) := dk_96 (dk_at dksX1_meanClock_2 8 rfl rfl)
theorem dX1_meanClock_55 : decode cX1_meanClock 55 = .ok (.istore_n 1, 1) := dk_60 (dk_at dksX1_meanClock_2 9 rfl rfl)
theorem dX1_meanClock_56 : decode cX1_meanClock 56 = .ok (.iload_n 2, 1) := dk_28 (dk_at dksX1_meanClock_2 10 rfl rfl)
theorem dX1_meanClock_57 : decode cX1_meanClock 57 = .ok (.aload 4, 2) := dk_25 4 (dk_at dksX1_meanClock_2 11 rfl rfl)
theorem dX1_meanClock_59 : decode cX1_meanClock 59 = .ok (.invokevirtual 264, 3) := dk_182 1 8 (dk_at dksX1_meanClock_2 13 rfl rfl)
theorem dX1_meanClock_62 : decode cX1_meanClock 62 = .ok (.ifCond .eq 7, 3) := dk_153 0 7 (dk_at dksX1_meanClock_2 16 rfl rfl)
theorem dX1_meanClock_65 : decode cX1_meanClock 65 = .ok (.iconst 0, 1) := dk_3 (dk_at dksX1_meanClock_2 19 rfl rfl)
theorem dX1_meanClock_66 : decode cX1_meanClock 66 = .ok (.goto 4, 3) := dk_167 0 4 (dk_at dksX1_meanClock_2 20 rfl rfl)
theorem dX1_meanClock_69 : decode cX1_meanClock 69 = .ok (.iconst 1, 1) := dk_4 (dk_at dksX1_meanClock_2 23 rfl rfl)
theorem dX1_meanClock_70 : decode cX1_meanClock 70 = .ok (.iadd, 1) := dk_96 (dk_at dksX1_meanClock_3 0 rfl rfl)
theorem dX1_meanClock_71 : decode cX1_meanClock 71 = .ok (.istore_n 2, 1) := dk_61 (dk_at dksX1_meanClock_3 1 rfl rfl)
theorem dX1_meanClock_72 : decode cX1_meanClock 72 = .ok (.iinc 3 1, 3) := dk_132 3 1 (dk_at dksX1_meanClock_3 2 rfl rfl)
theorem dX1_meanClock_75 : decode cX1_meanClock 75 = .ok (.goto (-69), 3) := dk_167 255 187 (dk_at dksX1_meanClock_3 5 rfl rfl)
theorem dX1_meanClock_78 : decode cX1_meanClock 78 = .ok (.iload_n 2, 1) := dk_28 (dk_at dksX1_meanClock_3 8 rfl rfl)
theorem dX1_meanClock_79 : decode cX1_meanClock 79 = .ok (.ifCond .ne 11, 3) := dk_154 0 11 (dk_at dksX1_meanClock_3 9 rfl rfl)
theorem dX1_meanClock_82 : decode cX1_meanClock 82 = .ok (.new 350, 3) := dk_187 1 94 (dk_at dksX1_meanClock_3 12 rfl rfl)
theorem dX1_meanClock_85 : decode cX1_meanClock 85 = .ok (.dup, 1) := dk_89 (dk_at dksX1_meanClock_3 15 rfl rfl)
theorem dX1_meanClock_86 : decode cX1_meanClock 86 = .ok (.invokespecial 352, 3) := dk_183 1 96 (dk_at dksX1_meanClock_3 16 rfl rfl)
theorem dX1_meanClock_89 : decode cX1_meanClock 89 = .ok (.athrow, 1) := dk_191 (dk_at dksX1_meanClock_3 19 rfl rfl)
theorem dX1_meanClock_90 : decode cX1_meanClock 90 = .ok (.iload_n 1, 1) := dk_27 (dk_at dksX1_meanClock_3 20 rfl rfl)
theorem dX1_meanClock_91 : decode cX1_meanClock 91 = .ok (.i2d, 1) := dk_135 (dk_at dksX1_meanClock_3 21 rfl rfl)
theorem dX1_meanClock_92 : decode cX1_meanClock 92 = .ok (.iload_n 2, 1) := dk_28 (dk_at dksX1_meanClock_3 22 rfl rfl)
theorem dX1_meanClock_93 : decode cX1_meanClock 93 = .ok (.i2d, 1) := dk_135 (dk_at dksX1_meanClock_3 23 rfl rfl)
theorem dX1_meanClock_94 : decode cX1_meanClock 94 = .ok (.ddiv, 1) := dk_111 (dk_at dksX1_meanClock_4 0 rfl rfl)
theorem dX1_meanClock_95 : decode cX1_meanClock 95 = .ok (.dreturn, 1) := dk_175 (dk_at dksX1_meanClock_4 1 rfl rfl)
abbrev cX1_account : ByteArray := prog_1_method_57_code
def yX1_account : MethodName := ⟨RX1, "account", "(I)I"⟩
def dkwX1_account_7 : List UInt8 := [46, 167, 0, 15, 42, 180, 0, 10, 180, 1, 31, 27, 16, 19, 100, 46, 172]
abbrev dktX1_account_7 : List UInt8 := dkwX1_account_7 ++ []
def dkwX1_account_6 : List UInt8 := [180, 0, 10, 180, 1, 109, 172, 27, 16, 19, 162, 0, 18, 42, 180, 0, 10, 180, 1, 22, 27, 16, 15, 100]
abbrev dktX1_account_6 : List UInt8 := dkwX1_account_6 ++ dktX1_account_7
def dkwX1_account_5 : List UInt8 := [180, 0, 10, 180, 1, 67, 182, 0, 80, 172, 42, 180, 0, 19, 182, 0, 80, 172, 42, 180, 0, 116, 172, 42]
abbrev dktX1_account_5 : List UInt8 := dkwX1_account_5 ++ dktX1_account_6
def dkwX1_account_4 : List UInt8 := [180, 0, 10, 180, 1, 103, 172, 42, 180, 0, 10, 180, 1, 43, 182, 0, 80, 172, 42, 182, 1, 106, 172, 42]
abbrev dktX1_account_4 : List UInt8 := dkwX1_account_4 ++ dktX1_account_5
def dkwX1_account_3 : List UInt8 := [5, 100, 182, 1, 97, 172, 42, 182, 1, 100, 172, 42, 180, 0, 10, 180, 0, 251, 182, 0, 80, 172, 42]
abbrev dktX1_account_3 : List UInt8 := dkwX1_account_3 ++ dktX1_account_4
def dkwX1_account_2 : List UInt8 := [42, 180, 0, 10, 180, 0, 210, 172, 42, 180, 0, 10, 180, 0, 150, 182, 0, 80, 172, 42, 180, 0, 10, 27]
abbrev dktX1_account_2 : List UInt8 := dkwX1_account_2 ++ dktX1_account_3
def dkwX1_account_1 : List UInt8 := [170, 0, 0, 0, 175, 0, 0, 0, 0, 0, 0, 0, 14, 0, 0, 0, 73, 0, 0, 0, 81, 0, 0, 0, 92, 0, 0, 0, 92, 0, 0, 0, 92, 0, 0, 0, 92, 0, 0, 0, 103, 0, 0, 0, 108, 0, 0, 0, 119, 0, 0, 0, 127, 0, 0, 0, 138, 0, 0, 0, 143, 0, 0, 0, 154, 0, 0, 0, 162, 0, 0, 0, 167]
abbrev dktX1_account_1 : List UInt8 := dkwX1_account_1 ++ dktX1_account_2
def dkwX1_account_0 : List UInt8 := [27, 3, 16, 22, 184, 0, 37, 184, 0, 137, 27]
abbrev dktX1_account_0 : List UInt8 := dkwX1_account_0 ++ dktX1_account_1
theorem dksX1_account_0 : cX1_account.data.toList.drop 0 = dktX1_account_0 := by decide +kernel
theorem dksX1_account_1 : cX1_account.data.toList.drop 11 = dktX1_account_1 := dk_seg dksX1_account_0 11 rfl rfl
theorem dksX1_account_2 : cX1_account.data.toList.drop 84 = dktX1_account_2 := dk_seg dksX1_account_1 73 rfl rfl
theorem dksX1_account_3 : cX1_account.data.toList.drop 108 = dktX1_account_3 := dk_seg dksX1_account_2 24 rfl rfl
theorem dksX1_account_4 : cX1_account.data.toList.drop 131 = dktX1_account_4 := dk_seg dksX1_account_3 23 rfl rfl
theorem dksX1_account_5 : cX1_account.data.toList.drop 155 = dktX1_account_5 := dk_seg dksX1_account_4 24 rfl rfl
theorem dksX1_account_6 : cX1_account.data.toList.drop 179 = dktX1_account_6 := dk_seg dksX1_account_5 24 rfl rfl
theorem dksX1_account_7 : cX1_account.data.toList.drop 203 = dktX1_account_7 := dk_seg dksX1_account_6 24 rfl rfl
theorem dX1_account_0 : decode cX1_account 0 = .ok (.iload_n 1, 1) := dk_27 (dk_at dksX1_account_0 0 rfl rfl)
theorem dX1_account_1 : decode cX1_account 1 = .ok (.iconst 0, 1) := dk_3 (dk_at dksX1_account_0 1 rfl rfl)
theorem dX1_account_2 : decode cX1_account 2 = .ok (.bipush 22, 2) := dk_16 22 (dk_at dksX1_account_0 2 rfl rfl)
theorem dX1_account_4 : decode cX1_account 4 = .ok (.invokestatic 37, 3) := dk_184 0 37 (dk_at dksX1_account_0 4 rfl rfl)
theorem dX1_account_7 : decode cX1_account 7 = .ok (.invokestatic 137, 3) := dk_184 0 137 (dk_at dksX1_account_0 7 rfl rfl)
theorem dX1_account_10 : decode cX1_account 10 = .ok (.iload_n 1, 1) := dk_27 (dk_at dksX1_account_0 10 rfl rfl)
theorem dX1_account_11 : decode cX1_account 11 = .ok (.tableswitch 175 0 14 #[73, 81, 92, 92, 92, 92, 103, 108, 119, 127, 138, 143, 154, 162, 167], 73) := by decide +kernel
theorem dX1_account_84 : decode cX1_account 84 = .ok (.aload_n 0, 1) := dk_42 (dk_at dksX1_account_2 0 rfl rfl)
theorem dX1_account_85 : decode cX1_account 85 = .ok (.getfield 10, 3) := dk_180 0 10 (dk_at dksX1_account_2 1 rfl rfl)
theorem dX1_account_88 : decode cX1_account 88 = .ok (.getfield 210, 3) := dk_180 0 210 (dk_at dksX1_account_2 4 rfl rfl)
theorem dX1_account_91 : decode cX1_account 91 = .ok (.ireturn, 1) := dk_172 (dk_at dksX1_account_2 7 rfl rfl)
theorem dX1_account_92 : decode cX1_account 92 = .ok (.aload_n 0, 1) := dk_42 (dk_at dksX1_account_2 8 rfl rfl)
theorem dX1_account_93 : decode cX1_account 93 = .ok (.getfield 10, 3) := dk_180 0 10 (dk_at dksX1_account_2 9 rfl rfl)
theorem dX1_account_96 : decode cX1_account 96 = .ok (.getfield 150, 3) := dk_180 0 150 (dk_at dksX1_account_2 12 rfl rfl)
theorem dX1_account_99 : decode cX1_account 99 = .ok (.invokevirtual 80, 3) := dk_182 0 80 (dk_at dksX1_account_2 15 rfl rfl)
theorem dX1_account_102 : decode cX1_account 102 = .ok (.ireturn, 1) := dk_172 (dk_at dksX1_account_2 18 rfl rfl)
theorem dX1_account_103 : decode cX1_account 103 = .ok (.aload_n 0, 1) := dk_42 (dk_at dksX1_account_2 19 rfl rfl)
theorem dX1_account_104 : decode cX1_account 104 = .ok (.getfield 10, 3) := dk_180 0 10 (dk_at dksX1_account_2 20 rfl rfl)
theorem dX1_account_107 : decode cX1_account 107 = .ok (.iload_n 1, 1) := dk_27 (dk_at dksX1_account_2 23 rfl rfl)
theorem dX1_account_108 : decode cX1_account 108 = .ok (.iconst 2, 1) := dk_5 (dk_at dksX1_account_3 0 rfl rfl)
theorem dX1_account_109 : decode cX1_account 109 = .ok (.isub, 1) := dk_100 (dk_at dksX1_account_3 1 rfl rfl)
theorem dX1_account_110 : decode cX1_account 110 = .ok (.invokevirtual 353, 3) := dk_182 1 97 (dk_at dksX1_account_3 2 rfl rfl)
theorem dX1_account_113 : decode cX1_account 113 = .ok (.ireturn, 1) := dk_172 (dk_at dksX1_account_3 5 rfl rfl)
theorem dX1_account_114 : decode cX1_account 114 = .ok (.aload_n 0, 1) := dk_42 (dk_at dksX1_account_3 6 rfl rfl)
theorem dX1_account_115 : decode cX1_account 115 = .ok (.invokevirtual 356, 3) := dk_182 1 100 (dk_at dksX1_account_3 7 rfl rfl)
theorem dX1_account_118 : decode cX1_account 118 = .ok (.ireturn, 1) := dk_172 (dk_at dksX1_account_3 10 rfl rfl)
theorem dX1_account_119 : decode cX1_account 119 = .ok (.aload_n 0, 1) := dk_42 (dk_at dksX1_account_3 11 rfl rfl)
theorem dX1_account_120 : decode cX1_account 120 = .ok (.getfield 10, 3) := dk_180 0 10 (dk_at dksX1_account_3 12 rfl rfl)
theorem dX1_account_123 : decode cX1_account 123 = .ok (.getfield 251, 3) := dk_180 0 251 (dk_at dksX1_account_3 15 rfl rfl)
theorem dX1_account_126 : decode cX1_account 126 = .ok (.invokevirtual 80, 3) := dk_182 0 80 (dk_at dksX1_account_3 18 rfl rfl)
theorem dX1_account_129 : decode cX1_account 129 = .ok (.ireturn, 1) := dk_172 (dk_at dksX1_account_3 21 rfl rfl)
theorem dX1_account_130 : decode cX1_account 130 = .ok (.aload_n 0, 1) := dk_42 (dk_at dksX1_account_3 22 rfl rfl)
theorem dX1_account_131 : decode cX1_account 131 = .ok (.getfield 10, 3) := dk_180 0 10 (dk_at dksX1_account_4 0 rfl rfl)
theorem dX1_account_134 : decode cX1_account 134 = .ok (.getfield 359, 3) := dk_180 1 103 (dk_at dksX1_account_4 3 rfl rfl)
theorem dX1_account_137 : decode cX1_account 137 = .ok (.ireturn, 1) := dk_172 (dk_at dksX1_account_4 6 rfl rfl)
theorem dX1_account_138 : decode cX1_account 138 = .ok (.aload_n 0, 1) := dk_42 (dk_at dksX1_account_4 7 rfl rfl)
theorem dX1_account_139 : decode cX1_account 139 = .ok (.getfield 10, 3) := dk_180 0 10 (dk_at dksX1_account_4 8 rfl rfl)
theorem dX1_account_142 : decode cX1_account 142 = .ok (.getfield 299, 3) := dk_180 1 43 (dk_at dksX1_account_4 11 rfl rfl)
theorem dX1_account_145 : decode cX1_account 145 = .ok (.invokevirtual 80, 3) := dk_182 0 80 (dk_at dksX1_account_4 14 rfl rfl)
theorem dX1_account_148 : decode cX1_account 148 = .ok (.ireturn, 1) := dk_172 (dk_at dksX1_account_4 17 rfl rfl)
theorem dX1_account_149 : decode cX1_account 149 = .ok (.aload_n 0, 1) := dk_42 (dk_at dksX1_account_4 18 rfl rfl)
theorem dX1_account_150 : decode cX1_account 150 = .ok (.invokevirtual 362, 3) := dk_182 1 106 (dk_at dksX1_account_4 19 rfl rfl)
theorem dX1_account_153 : decode cX1_account 153 = .ok (.ireturn, 1) := dk_172 (dk_at dksX1_account_4 22 rfl rfl)
theorem dX1_account_154 : decode cX1_account 154 = .ok (.aload_n 0, 1) := dk_42 (dk_at dksX1_account_4 23 rfl rfl)
theorem dX1_account_155 : decode cX1_account 155 = .ok (.getfield 10, 3) := dk_180 0 10 (dk_at dksX1_account_5 0 rfl rfl)
theorem dX1_account_158 : decode cX1_account 158 = .ok (.getfield 323, 3) := dk_180 1 67 (dk_at dksX1_account_5 3 rfl rfl)
theorem dX1_account_161 : decode cX1_account 161 = .ok (.invokevirtual 80, 3) := dk_182 0 80 (dk_at dksX1_account_5 6 rfl rfl)
theorem dX1_account_164 : decode cX1_account 164 = .ok (.ireturn, 1) := dk_172 (dk_at dksX1_account_5 9 rfl rfl)
theorem dX1_account_165 : decode cX1_account 165 = .ok (.aload_n 0, 1) := dk_42 (dk_at dksX1_account_5 10 rfl rfl)
theorem dX1_account_166 : decode cX1_account 166 = .ok (.getfield 19, 3) := dk_180 0 19 (dk_at dksX1_account_5 11 rfl rfl)
theorem dX1_account_169 : decode cX1_account 169 = .ok (.invokevirtual 80, 3) := dk_182 0 80 (dk_at dksX1_account_5 14 rfl rfl)
theorem dX1_account_172 : decode cX1_account 172 = .ok (.ireturn, 1) := dk_172 (dk_at dksX1_account_5 17 rfl rfl)
theorem dX1_account_173 : decode cX1_account 173 = .ok (.aload_n 0, 1) := dk_42 (dk_at dksX1_account_5 18 rfl rfl)
theorem dX1_account_174 : decode cX1_account 174 = .ok (.getfield 116, 3) := dk_180 0 116 (dk_at dksX1_account_5 19 rfl rfl)
theorem dX1_account_177 : decode cX1_account 177 = .ok (.ireturn, 1) := dk_172 (dk_at dksX1_account_5 22 rfl rfl)
theorem dX1_account_178 : decode cX1_account 178 = .ok (.aload_n 0, 1) := dk_42 (dk_at dksX1_account_5 23 rfl rfl)
theorem dX1_account_179 : decode cX1_account 179 = .ok (.getfield 10, 3) := dk_180 0 10 (dk_at dksX1_account_6 0 rfl rfl)
theorem dX1_account_182 : decode cX1_account 182 = .ok (.getfield 365, 3) := dk_180 1 109 (dk_at dksX1_account_6 3 rfl rfl)
theorem dX1_account_185 : decode cX1_account 185 = .ok (.ireturn, 1) := dk_172 (dk_at dksX1_account_6 6 rfl rfl)
theorem dX1_account_186 : decode cX1_account 186 = .ok (.iload_n 1, 1) := dk_27 (dk_at dksX1_account_6 7 rfl rfl)
theorem dX1_account_187 : decode cX1_account 187 = .ok (.bipush 19, 2) := dk_16 19 (dk_at dksX1_account_6 8 rfl rfl)
theorem dX1_account_189 : decode cX1_account 189 = .ok (.if_icmp .ge 18, 3) := dk_162 0 18 (dk_at dksX1_account_6 10 rfl rfl)
theorem dX1_account_192 : decode cX1_account 192 = .ok (.aload_n 0, 1) := dk_42 (dk_at dksX1_account_6 13 rfl rfl)
theorem dX1_account_193 : decode cX1_account 193 = .ok (.getfield 10, 3) := dk_180 0 10 (dk_at dksX1_account_6 14 rfl rfl)
theorem dX1_account_196 : decode cX1_account 196 = .ok (.getfield 278, 3) := dk_180 1 22 (dk_at dksX1_account_6 17 rfl rfl)
theorem dX1_account_199 : decode cX1_account 199 = .ok (.iload_n 1, 1) := dk_27 (dk_at dksX1_account_6 20 rfl rfl)
theorem dX1_account_200 : decode cX1_account 200 = .ok (.bipush 15, 2) := dk_16 15 (dk_at dksX1_account_6 21 rfl rfl)
theorem dX1_account_202 : decode cX1_account 202 = .ok (.isub, 1) := dk_100 (dk_at dksX1_account_6 23 rfl rfl)
theorem dX1_account_203 : decode cX1_account 203 = .ok (.iaload, 1) := dk_46 (dk_at dksX1_account_7 0 rfl rfl)
theorem dX1_account_204 : decode cX1_account 204 = .ok (.goto 15, 3) := dk_167 0 15 (dk_at dksX1_account_7 1 rfl rfl)
theorem dX1_account_207 : decode cX1_account 207 = .ok (.aload_n 0, 1) := dk_42 (dk_at dksX1_account_7 4 rfl rfl)
theorem dX1_account_208 : decode cX1_account 208 = .ok (.getfield 10, 3) := dk_180 0 10 (dk_at dksX1_account_7 5 rfl rfl)
theorem dX1_account_211 : decode cX1_account 211 = .ok (.getfield 287, 3) := dk_180 1 31 (dk_at dksX1_account_7 8 rfl rfl)
theorem dX1_account_214 : decode cX1_account 214 = .ok (.iload_n 1, 1) := dk_27 (dk_at dksX1_account_7 11 rfl rfl)
theorem dX1_account_215 : decode cX1_account 215 = .ok (.bipush 19, 2) := dk_16 19 (dk_at dksX1_account_7 12 rfl rfl)
theorem dX1_account_217 : decode cX1_account 217 = .ok (.isub, 1) := dk_100 (dk_at dksX1_account_7 14 rfl rfl)
theorem dX1_account_218 : decode cX1_account 218 = .ok (.iaload, 1) := dk_46 (dk_at dksX1_account_7 15 rfl rfl)
theorem dX1_account_219 : decode cX1_account 219 = .ok (.ireturn, 1) := dk_172 (dk_at dksX1_account_7 16 rfl rfl)
abbrev cX1_overdue : ByteArray := prog_1_method_55_code
def yX1_overdue : MethodName := ⟨RX1, "overdue", "()I"⟩
def dkwX1_overdue_2 : List UInt8 := [132, 2, 1, 167, 255, 211, 27, 172]
abbrev dktX1_overdue_2 : List UInt8 := dkwX1_overdue_2 ++ []
def dkwX1_overdue_1 : List UInt8 := [180, 0, 150, 28, 182, 0, 153, 192, 0, 156, 180, 0, 195, 153, 0, 7, 4, 167, 0, 4, 3, 96, 60]
abbrev dktX1_overdue_1 : List UInt8 := dkwX1_overdue_1 ++ dktX1_overdue_2
def dkwX1_overdue_0 : List UInt8 := [3, 60, 3, 61, 28, 42, 180, 0, 10, 180, 0, 150, 182, 0, 80, 162, 0, 37, 27, 42, 180, 0, 10]
abbrev dktX1_overdue_0 : List UInt8 := dkwX1_overdue_0 ++ dktX1_overdue_1
theorem dksX1_overdue_0 : cX1_overdue.data.toList.drop 0 = dktX1_overdue_0 := by decide +kernel
theorem dksX1_overdue_1 : cX1_overdue.data.toList.drop 23 = dktX1_overdue_1 := dk_seg dksX1_overdue_0 23 rfl rfl
theorem dksX1_overdue_2 : cX1_overdue.data.toList.drop 46 = dktX1_overdue_2 := dk_seg dksX1_overdue_1 23 rfl rfl
theorem dX1_overdue_0 : decode cX1_overdue 0 = .ok (.iconst 0, 1) := dk_3 (dk_at dksX1_overdue_0 0 rfl rfl)
theorem dX1_overdue_1 : decode cX1_overdue 1 = .ok (.istore_n 1, 1) := dk_60 (dk_at dksX1_overdue_0 1 rfl rfl)
theorem dX1_overdue_2 : decode cX1_overdue 2 = .ok (.iconst 0, 1) := dk_3 (dk_at dksX1_overdue_0 2 rfl rfl)
theorem dX1_overdue_3 : decode cX1_overdue 3 = .ok (.istore_n 2, 1) := dk_61 (dk_at dksX1_overdue_0 3 rfl rfl)
theorem dX1_overdue_4 : decode cX1_overdue 4 = .ok (.iload_n 2, 1) := dk_28 (dk_at dksX1_overdue_0 4 rfl rfl)
theorem dX1_overdue_5 : decode cX1_overdue 5 = .ok (.aload_n 0, 1) := dk_42 (dk_at dksX1_overdue_0 5 rfl rfl)
theorem dX1_overdue_6 : decode cX1_overdue 6 = .ok (.getfield 10, 3) := dk_180 0 10 (dk_at dksX1_overdue_0 6 rfl rfl)
theorem dX1_overdue_9 : decode cX1_overdue 9 = .ok (.getfield 150, 3) := dk_180 0 150 (dk_at dksX1_overdue_0 9 rfl rfl)
theorem dX1_overdue_12 : decode cX1_overdue 12 = .ok (.invokevirtual 80, 3) := dk_182 0 80 (dk_at dksX1_overdue_0 12 rfl rfl)
theorem dX1_overdue_15 : decode cX1_overdue 15 = .ok (.if_icmp .ge 37, 3) := dk_162 0 37 (dk_at dksX1_overdue_0 15 rfl rfl)
theorem dX1_overdue_18 : decode cX1_overdue 18 = .ok (.iload_n 1, 1) := dk_27 (dk_at dksX1_overdue_0 18 rfl rfl)
theorem dX1_overdue_19 : decode cX1_overdue 19 = .ok (.aload_n 0, 1) := dk_42 (dk_at dksX1_overdue_0 19 rfl rfl)
theorem dX1_overdue_20 : decode cX1_overdue 20 = .ok (.getfield 10, 3) := dk_180 0 10 (dk_at dksX1_overdue_0 20 rfl rfl)
theorem dX1_overdue_23 : decode cX1_overdue 23 = .ok (.getfield 150, 3) := dk_180 0 150 (dk_at dksX1_overdue_1 0 rfl rfl)
theorem dX1_overdue_26 : decode cX1_overdue 26 = .ok (.iload_n 2, 1) := dk_28 (dk_at dksX1_overdue_1 3 rfl rfl)
theorem dX1_overdue_27 : decode cX1_overdue 27 = .ok (.invokevirtual 153, 3) := dk_182 0 153 (dk_at dksX1_overdue_1 4 rfl rfl)
theorem dX1_overdue_30 : decode cX1_overdue 30 = .ok (.checkcast 156, 3) := dk_192 0 156 (dk_at dksX1_overdue_1 7 rfl rfl)
theorem dX1_overdue_33 : decode cX1_overdue 33 = .ok (.getfield 195, 3) := dk_180 0 195 (dk_at dksX1_overdue_1 10 rfl rfl)
theorem dX1_overdue_36 : decode cX1_overdue 36 = .ok (.ifCond .eq 7, 3) := dk_153 0 7 (dk_at dksX1_overdue_1 13 rfl rfl)
theorem dX1_overdue_39 : decode cX1_overdue 39 = .ok (.iconst 1, 1) := dk_4 (dk_at dksX1_overdue_1 16 rfl rfl)
theorem dX1_overdue_40 : decode cX1_overdue 40 = .ok (.goto 4, 3) := dk_167 0 4 (dk_at dksX1_overdue_1 17 rfl rfl)
theorem dX1_overdue_43 : decode cX1_overdue 43 = .ok (.iconst 0, 1) := dk_3 (dk_at dksX1_overdue_1 20 rfl rfl)
theorem dX1_overdue_44 : decode cX1_overdue 44 = .ok (.iadd, 1) := dk_96 (dk_at dksX1_overdue_1 21 rfl rfl)
theorem dX1_overdue_45 : decode cX1_overdue 45 = .ok (.istore_n 1, 1) := dk_60 (dk_at dksX1_overdue_1 22 rfl rfl)
theorem dX1_overdue_46 : decode cX1_overdue 46 = .ok (.iinc 2 1, 3) := dk_132 2 1 (dk_at dksX1_overdue_2 0 rfl rfl)
theorem dX1_overdue_49 : decode cX1_overdue 49 = .ok (.goto (-45), 3) := dk_167 255 211 (dk_at dksX1_overdue_2 3 rfl rfl)
theorem dX1_overdue_52 : decode cX1_overdue 52 = .ok (.iload_n 1, 1) := dk_27 (dk_at dksX1_overdue_2 6 rfl rfl)
theorem dX1_overdue_53 : decode cX1_overdue 53 = .ok (.ireturn, 1) := dk_172 (dk_at dksX1_overdue_2 7 rfl rfl)
abbrev cX1_done : ByteArray := prog_1_method_56_code
def yX1_done : MethodName := ⟨RX1, "done", "()I"⟩
def dkwX1_done_2 : List UInt8 := [132, 2, 1, 167, 255, 211, 27, 172]
abbrev dktX1_done_2 : List UInt8 := dkwX1_done_2 ++ []
def dkwX1_done_1 : List UInt8 := [180, 1, 43, 28, 182, 0, 153, 192, 1, 46, 180, 1, 51, 153, 0, 7, 4, 167, 0, 4, 3, 96, 60]
abbrev dktX1_done_1 : List UInt8 := dkwX1_done_1 ++ dktX1_done_2
def dkwX1_done_0 : List UInt8 := [3, 60, 3, 61, 28, 42, 180, 0, 10, 180, 1, 43, 182, 0, 80, 162, 0, 37, 27, 42, 180, 0, 10]
abbrev dktX1_done_0 : List UInt8 := dkwX1_done_0 ++ dktX1_done_1
theorem dksX1_done_0 : cX1_done.data.toList.drop 0 = dktX1_done_0 := by decide +kernel
theorem dksX1_done_1 : cX1_done.data.toList.drop 23 = dktX1_done_1 := dk_seg dksX1_done_0 23 rfl rfl
theorem dksX1_done_2 : cX1_done.data.toList.drop 46 = dktX1_done_2 := dk_seg dksX1_done_1 23 rfl rfl
theorem dX1_done_0 : decode cX1_done 0 = .ok (.iconst 0, 1) := dk_3 (dk_at dksX1_done_0 0 rfl rfl)
theorem dX1_done_1 : decode cX1_done 1 = .ok (.istore_n 1, 1) := dk_60 (dk_at dksX1_done_0 1 rfl rfl)
theorem dX1_done_2 : decode cX1_done 2 = .ok (.iconst 0, 1) := dk_3 (dk_at dksX1_done_0 2 rfl rfl)
theorem dX1_done_3 : decode cX1_done 3 = .ok (.istore_n 2, 1) := dk_61 (dk_at dksX1_done_0 3 rfl rfl)
theorem dX1_done_4 : decode cX1_done 4 = .ok (.iload_n 2, 1) := dk_28 (dk_at dksX1_done_0 4 rfl rfl)
theorem dX1_done_5 : decode cX1_done 5 = .ok (.aload_n 0, 1) := dk_42 (dk_at dksX1_done_0 5 rfl rfl)
theorem dX1_done_6 : decode cX1_done 6 = .ok (.getfield 10, 3) := dk_180 0 10 (dk_at dksX1_done_0 6 rfl rfl)
theorem dX1_done_9 : decode cX1_done 9 = .ok (.getfield 299, 3) := dk_180 1 43 (dk_at dksX1_done_0 9 rfl rfl)
theorem dX1_done_12 : decode cX1_done 12 = .ok (.invokevirtual 80, 3) := dk_182 0 80 (dk_at dksX1_done_0 12 rfl rfl)
theorem dX1_done_15 : decode cX1_done 15 = .ok (.if_icmp .ge 37, 3) := dk_162 0 37 (dk_at dksX1_done_0 15 rfl rfl)
theorem dX1_done_18 : decode cX1_done 18 = .ok (.iload_n 1, 1) := dk_27 (dk_at dksX1_done_0 18 rfl rfl)
theorem dX1_done_19 : decode cX1_done 19 = .ok (.aload_n 0, 1) := dk_42 (dk_at dksX1_done_0 19 rfl rfl)
theorem dX1_done_20 : decode cX1_done 20 = .ok (.getfield 10, 3) := dk_180 0 10 (dk_at dksX1_done_0 20 rfl rfl)
theorem dX1_done_23 : decode cX1_done 23 = .ok (.getfield 299, 3) := dk_180 1 43 (dk_at dksX1_done_1 0 rfl rfl)
theorem dX1_done_26 : decode cX1_done 26 = .ok (.iload_n 2, 1) := dk_28 (dk_at dksX1_done_1 3 rfl rfl)
theorem dX1_done_27 : decode cX1_done 27 = .ok (.invokevirtual 153, 3) := dk_182 0 153 (dk_at dksX1_done_1 4 rfl rfl)
theorem dX1_done_30 : decode cX1_done 30 = .ok (.checkcast 302, 3) := dk_192 1 46 (dk_at dksX1_done_1 7 rfl rfl)
theorem dX1_done_33 : decode cX1_done 33 = .ok (.getfield 307, 3) := dk_180 1 51 (dk_at dksX1_done_1 10 rfl rfl)
theorem dX1_done_36 : decode cX1_done 36 = .ok (.ifCond .eq 7, 3) := dk_153 0 7 (dk_at dksX1_done_1 13 rfl rfl)
theorem dX1_done_39 : decode cX1_done 39 = .ok (.iconst 1, 1) := dk_4 (dk_at dksX1_done_1 16 rfl rfl)
theorem dX1_done_40 : decode cX1_done 40 = .ok (.goto 4, 3) := dk_167 0 4 (dk_at dksX1_done_1 17 rfl rfl)
theorem dX1_done_43 : decode cX1_done 43 = .ok (.iconst 0, 1) := dk_3 (dk_at dksX1_done_1 20 rfl rfl)
theorem dX1_done_44 : decode cX1_done 44 = .ok (.iadd, 1) := dk_96 (dk_at dksX1_done_1 21 rfl rfl)
theorem dX1_done_45 : decode cX1_done 45 = .ok (.istore_n 1, 1) := dk_60 (dk_at dksX1_done_1 22 rfl rfl)
theorem dX1_done_46 : decode cX1_done 46 = .ok (.iinc 2 1, 3) := dk_132 2 1 (dk_at dksX1_done_2 0 rfl rfl)
theorem dX1_done_49 : decode cX1_done 49 = .ok (.goto (-45), 3) := dk_167 255 211 (dk_at dksX1_done_2 3 rfl rfl)
theorem dX1_done_52 : decode cX1_done 52 = .ok (.iload_n 1, 1) := dk_27 (dk_at dksX1_done_2 6 rfl rfl)
theorem dX1_done_53 : decode cX1_done 53 = .ok (.ireturn, 1) := dk_172 (dk_at dksX1_done_2 7 rfl rfl)
abbrev cX1_undo : ByteArray := prog_1_method_58_code
def yX1_undo : MethodName := ⟨RX1, "undo", "()I"⟩
def dkwX1_undo_2 : List UInt8 := [172]
abbrev dktX1_undo_2 : List UInt8 := dkwX1_undo_2 ++ []
def dkwX1_undo_1 : List UInt8 := [180, 0, 19, 182, 0, 80, 4, 100, 182, 0, 84, 192, 0, 7, 181, 0, 10, 42, 180, 0, 19, 182, 0, 80]
abbrev dktX1_undo_1 : List UInt8 := dkwX1_undo_1 ++ dktX1_undo_2
def dkwX1_undo_0 : List UInt8 := [42, 180, 0, 19, 182, 1, 112, 154, 0, 7, 4, 167, 0, 4, 3, 184, 0, 119, 42, 42, 180, 0, 19, 42]
abbrev dktX1_undo_0 : List UInt8 := dkwX1_undo_0 ++ dktX1_undo_1
theorem dksX1_undo_0 : cX1_undo.data.toList.drop 0 = dktX1_undo_0 := by decide +kernel
theorem dksX1_undo_1 : cX1_undo.data.toList.drop 24 = dktX1_undo_1 := dk_seg dksX1_undo_0 24 rfl rfl
theorem dksX1_undo_2 : cX1_undo.data.toList.drop 48 = dktX1_undo_2 := dk_seg dksX1_undo_1 24 rfl rfl
theorem dX1_undo_0 : decode cX1_undo 0 = .ok (.aload_n 0, 1) := dk_42 (dk_at dksX1_undo_0 0 rfl rfl)
theorem dX1_undo_1 : decode cX1_undo 1 = .ok (.getfield 19, 3) := dk_180 0 19 (dk_at dksX1_undo_0 1 rfl rfl)
theorem dX1_undo_4 : decode cX1_undo 4 = .ok (.invokevirtual 368, 3) := dk_182 1 112 (dk_at dksX1_undo_0 4 rfl rfl)
theorem dX1_undo_7 : decode cX1_undo 7 = .ok (.ifCond .ne 7, 3) := dk_154 0 7 (dk_at dksX1_undo_0 7 rfl rfl)
theorem dX1_undo_10 : decode cX1_undo 10 = .ok (.iconst 1, 1) := dk_4 (dk_at dksX1_undo_0 10 rfl rfl)
theorem dX1_undo_11 : decode cX1_undo 11 = .ok (.goto 4, 3) := dk_167 0 4 (dk_at dksX1_undo_0 11 rfl rfl)
theorem dX1_undo_14 : decode cX1_undo 14 = .ok (.iconst 0, 1) := dk_3 (dk_at dksX1_undo_0 14 rfl rfl)
theorem dX1_undo_15 : decode cX1_undo 15 = .ok (.invokestatic 119, 3) := dk_184 0 119 (dk_at dksX1_undo_0 15 rfl rfl)
theorem dX1_undo_18 : decode cX1_undo 18 = .ok (.aload_n 0, 1) := dk_42 (dk_at dksX1_undo_0 18 rfl rfl)
theorem dX1_undo_19 : decode cX1_undo 19 = .ok (.aload_n 0, 1) := dk_42 (dk_at dksX1_undo_0 19 rfl rfl)
theorem dX1_undo_20 : decode cX1_undo 20 = .ok (.getfield 19, 3) := dk_180 0 19 (dk_at dksX1_undo_0 20 rfl rfl)
theorem dX1_undo_23 : decode cX1_undo 23 = .ok (.aload_n 0, 1) := dk_42 (dk_at dksX1_undo_0 23 rfl rfl)
theorem dX1_undo_24 : decode cX1_undo 24 = .ok (.getfield 19, 3) := dk_180 0 19 (dk_at dksX1_undo_1 0 rfl rfl)
theorem dX1_undo_27 : decode cX1_undo 27 = .ok (.invokevirtual 80, 3) := dk_182 0 80 (dk_at dksX1_undo_1 3 rfl rfl)
theorem dX1_undo_30 : decode cX1_undo 30 = .ok (.iconst 1, 1) := dk_4 (dk_at dksX1_undo_1 6 rfl rfl)
theorem dX1_undo_31 : decode cX1_undo 31 = .ok (.isub, 1) := dk_100 (dk_at dksX1_undo_1 7 rfl rfl)
theorem dX1_undo_32 : decode cX1_undo 32 = .ok (.invokevirtual 84, 3) := dk_182 0 84 (dk_at dksX1_undo_1 8 rfl rfl)
theorem dX1_undo_35 : decode cX1_undo 35 = .ok (.checkcast 7, 3) := dk_192 0 7 (dk_at dksX1_undo_1 11 rfl rfl)
theorem dX1_undo_38 : decode cX1_undo 38 = .ok (.putfield 10, 3) := dk_181 0 10 (dk_at dksX1_undo_1 14 rfl rfl)
theorem dX1_undo_41 : decode cX1_undo 41 = .ok (.aload_n 0, 1) := dk_42 (dk_at dksX1_undo_1 17 rfl rfl)
theorem dX1_undo_42 : decode cX1_undo 42 = .ok (.getfield 19, 3) := dk_180 0 19 (dk_at dksX1_undo_1 18 rfl rfl)
theorem dX1_undo_45 : decode cX1_undo 45 = .ok (.invokevirtual 80, 3) := dk_182 0 80 (dk_at dksX1_undo_1 21 rfl rfl)
theorem dX1_undo_48 : decode cX1_undo 48 = .ok (.ireturn, 1) := dk_172 (dk_at dksX1_undo_2 0 rfl rfl)
abbrev cX1_restore : ByteArray := prog_1_method_60_code
def yX1_restore : MethodName := ⟨RX1, "restore", "()I"⟩
def dkwX1_restore_1 : List UInt8 := [181, 0, 10, 42, 180, 0, 19, 182, 1, 118, 42, 180, 0, 10, 180, 0, 150, 182, 0, 80, 172]
abbrev dktX1_restore_1 : List UInt8 := dkwX1_restore_1 ++ []
def dkwX1_restore_0 : List UInt8 := [42, 180, 1, 115, 198, 0, 7, 4, 167, 0, 4, 3, 184, 0, 119, 42, 42, 180, 1, 115, 182, 0, 70]
abbrev dktX1_restore_0 : List UInt8 := dkwX1_restore_0 ++ dktX1_restore_1
theorem dksX1_restore_0 : cX1_restore.data.toList.drop 0 = dktX1_restore_0 := by decide +kernel
theorem dksX1_restore_1 : cX1_restore.data.toList.drop 23 = dktX1_restore_1 := dk_seg dksX1_restore_0 23 rfl rfl
theorem dX1_restore_0 : decode cX1_restore 0 = .ok (.aload_n 0, 1) := dk_42 (dk_at dksX1_restore_0 0 rfl rfl)
theorem dX1_restore_1 : decode cX1_restore 1 = .ok (.getfield 371, 3) := dk_180 1 115 (dk_at dksX1_restore_0 1 rfl rfl)
theorem dX1_restore_4 : decode cX1_restore 4 = .ok (.ifnull 7, 3) := dk_198 0 7 (dk_at dksX1_restore_0 4 rfl rfl)
theorem dX1_restore_7 : decode cX1_restore 7 = .ok (.iconst 1, 1) := dk_4 (dk_at dksX1_restore_0 7 rfl rfl)
theorem dX1_restore_8 : decode cX1_restore 8 = .ok (.goto 4, 3) := dk_167 0 4 (dk_at dksX1_restore_0 8 rfl rfl)
theorem dX1_restore_11 : decode cX1_restore 11 = .ok (.iconst 0, 1) := dk_3 (dk_at dksX1_restore_0 11 rfl rfl)
theorem dX1_restore_12 : decode cX1_restore 12 = .ok (.invokestatic 119, 3) := dk_184 0 119 (dk_at dksX1_restore_0 12 rfl rfl)
theorem dX1_restore_15 : decode cX1_restore 15 = .ok (.aload_n 0, 1) := dk_42 (dk_at dksX1_restore_0 15 rfl rfl)
theorem dX1_restore_16 : decode cX1_restore 16 = .ok (.aload_n 0, 1) := dk_42 (dk_at dksX1_restore_0 16 rfl rfl)
theorem dX1_restore_17 : decode cX1_restore 17 = .ok (.getfield 371, 3) := dk_180 1 115 (dk_at dksX1_restore_0 17 rfl rfl)
theorem dX1_restore_20 : decode cX1_restore 20 = .ok (.invokevirtual 70, 3) := dk_182 0 70 (dk_at dksX1_restore_0 20 rfl rfl)
theorem dX1_restore_23 : decode cX1_restore 23 = .ok (.putfield 10, 3) := dk_181 0 10 (dk_at dksX1_restore_1 0 rfl rfl)
theorem dX1_restore_26 : decode cX1_restore 26 = .ok (.aload_n 0, 1) := dk_42 (dk_at dksX1_restore_1 3 rfl rfl)
theorem dX1_restore_27 : decode cX1_restore 27 = .ok (.getfield 19, 3) := dk_180 0 19 (dk_at dksX1_restore_1 4 rfl rfl)
theorem dX1_restore_30 : decode cX1_restore 30 = .ok (.invokevirtual 374, 3) := dk_182 1 118 (dk_at dksX1_restore_1 7 rfl rfl)
theorem dX1_restore_33 : decode cX1_restore 33 = .ok (.aload_n 0, 1) := dk_42 (dk_at dksX1_restore_1 10 rfl rfl)
theorem dX1_restore_34 : decode cX1_restore 34 = .ok (.getfield 10, 3) := dk_180 0 10 (dk_at dksX1_restore_1 11 rfl rfl)
theorem dX1_restore_37 : decode cX1_restore 37 = .ok (.getfield 150, 3) := dk_180 0 150 (dk_at dksX1_restore_1 14 rfl rfl)
theorem dX1_restore_40 : decode cX1_restore 40 = .ok (.invokevirtual 80, 3) := dk_182 0 80 (dk_at dksX1_restore_1 17 rfl rfl)
theorem dX1_restore_43 : decode cX1_restore 43 = .ok (.ireturn, 1) := dk_172 (dk_at dksX1_restore_1 20 rfl rfl)
theorem q65 : (Jvm.Cond.initialized "IncidentKeeper") ∈ lw_all := lw_g (lw_at lw_m1 1 rfl) rfl
theorem q105 : (Jvm.Cond.instantiable "IncidentKeeper" (10 : Nat)) ∈ lw_all := lw_g (lw_at lw_m1 41 rfl) rfl
theorem q107 : (Jvm.Cond.instanceMethod ({ cls := "IncidentKeeper", name := "<init>", desc := "()V" } : Jvm.MethodName)) ∈ lw_all := lw_g (lw_at lw_m1 43 rfl) rfl
theorem q108 : (Jvm.Cond.code ({ cls := "IncidentKeeper", name := "<init>", desc := "()V" } : Jvm.MethodName) prog_1_method_1_code (1 : Nat) (Option.none : Option Jvm.ClassFile.FieldType)) ∈ lw_all := lw_g (lw_at lw_m1 44 rfl) rfl
theorem q109 : (Jvm.Cond.methodLink "IncidentKeeper" (1 : Nat) ({ cls := "java/lang/Object", name := "<init>", desc := "()V" } : Jvm.MethodName)) ∈ lw_all := lw_g (lw_at lw_m1 45 rfl) rfl
theorem q112 : (Jvm.Cond.classLink "IncidentKeeper" (7 : Nat) "IncidentKeeper$Core") ∈ lw_all := lw_g (lw_at lw_m1 48 rfl) rfl
theorem q114 : (Jvm.Cond.methodLinkNest "IncidentKeeper" (9 : Nat) ({ cls := "IncidentKeeper$Core", name := "<init>", desc := "()V" } : Jvm.MethodName) "IncidentKeeper") ∈ lw_tbl := lw_at lw_m1 50 rfl
theorem q147 : (Jvm.Cond.fieldLinkNest "IncidentKeeper" (150 : Nat) "IncidentKeeper$Core" "incidents" "Ljava/util/ArrayList;" "IncidentKeeper") ∈ lw_tbl := lw_at lw_m1 83 rfl
theorem q149 : (Jvm.Cond.fieldLinkNest "IncidentKeeper" (251 : Nat) "IncidentKeeper$Core" "changes" "Ljava/util/ArrayList;" "IncidentKeeper") ∈ lw_tbl := lw_at lw_m1 85 rfl
theorem q151 : (Jvm.Cond.fieldLinkNest "IncidentKeeper" (299 : Nat) "IncidentKeeper$Core" "actions" "Ljava/util/ArrayList;" "IncidentKeeper") ∈ lw_tbl := lw_at lw_m1 87 rfl
theorem q153 : (Jvm.Cond.fieldLinkNest "IncidentKeeper" (323 : Nat) "IncidentKeeper$Core" "events" "Ljava/util/ArrayList;" "IncidentKeeper") ∈ lw_tbl := lw_at lw_m1 89 rfl
theorem q155 : (Jvm.Cond.fieldLinkNest "IncidentKeeper" (320 : Nat) "IncidentKeeper$Core" "reviews" "[I" "IncidentKeeper") ∈ lw_tbl := lw_at lw_m1 91 rfl
theorem q158 : (Jvm.Cond.fieldLinkNest "IncidentKeeper" (278 : Nat) "IncidentKeeper$Core" "targets" "[I" "IncidentKeeper") ∈ lw_tbl := lw_at lw_m1 94 rfl
theorem q161 : (Jvm.Cond.fieldLinkNest "IncidentKeeper" (287 : Nat) "IncidentKeeper$Core" "limits" "[I" "IncidentKeeper") ∈ lw_tbl := lw_at lw_m1 97 rfl
theorem q163 : (Jvm.Cond.fieldLinkNest "IncidentKeeper" (359 : Nat) "IncidentKeeper$Core" "reviewCount" "I" "IncidentKeeper") ∈ lw_tbl := lw_at lw_m1 99 rfl
theorem q165 : (Jvm.Cond.fieldLinkNest "IncidentKeeper" (296 : Nat) "IncidentKeeper$Core" "onDuty" "I" "IncidentKeeper") ∈ lw_tbl := lw_at lw_m1 101 rfl
theorem q168 : (Jvm.Cond.fieldLinkNest "IncidentKeeper" (365 : Nat) "IncidentKeeper$Core" "window" "I" "IncidentKeeper") ∈ lw_tbl := lw_at lw_m1 104 rfl
theorem q170 : (Jvm.Cond.fieldLinkNest "IncidentKeeper" (210 : Nat) "IncidentKeeper$Core" "now" "I" "IncidentKeeper") ∈ lw_tbl := lw_at lw_m1 106 rfl
theorem q195 : (Jvm.Cond.classLink "IncidentKeeper" (16 : Nat) "java/util/ArrayList") ∈ lw_all := lw_g (lw_at lw_m1 131 rfl) rfl
theorem q196 : (Jvm.Cond.methodLink "IncidentKeeper" (18 : Nat) ({ cls := "java/util/ArrayList", name := "<init>", desc := "()V" } : Jvm.MethodName)) ∈ lw_all := lw_g (lw_at lw_m1 132 rfl) rfl
theorem q197 : (Jvm.Cond.fieldLink "IncidentKeeper" (10 : Nat) "IncidentKeeper" "core" "LIncidentKeeper$Core;") ∈ lw_all := lw_g (lw_at lw_m1 133 rfl) rfl
theorem q198 : (Jvm.Cond.fieldLink "IncidentKeeper" (19 : Nat) "IncidentKeeper" "before" "Ljava/util/ArrayList;") ∈ lw_all := lw_g (lw_at lw_m1 134 rfl) rfl
theorem q199 : (Jvm.Cond.fieldLink "IncidentKeeper" (371 : Nat) "IncidentKeeper" "saved" "LIncidentKeeper$Core;") ∈ lw_all := lw_g (lw_at lw_m1 135 rfl) rfl
theorem q200 : (Jvm.Cond.fieldLink "IncidentKeeper" (65 : Nat) "IncidentKeeper" "reason" "I") ∈ lw_all := lw_g (lw_at lw_m1 136 rfl) rfl
theorem q201 : (Jvm.Cond.fieldLink "IncidentKeeper" (69 : Nat) "IncidentKeeper" "detail" "I") ∈ lw_all := lw_g (lw_at lw_m1 137 rfl) rfl
theorem q202 : (Jvm.Cond.fieldLink "IncidentKeeper" (23 : Nat) "IncidentKeeper" "entry" "I") ∈ lw_all := lw_g (lw_at lw_m1 138 rfl) rfl
theorem q203 : (Jvm.Cond.fieldLink "IncidentKeeper" (27 : Nat) "IncidentKeeper" "nextEntry" "I") ∈ lw_all := lw_g (lw_at lw_m1 139 rfl) rfl
theorem q205 : (Jvm.Cond.fieldLink "IncidentKeeper" (30 : Nat) "IncidentKeeper" "text" "[C") ∈ lw_all := lw_g (lw_at lw_m1 141 rfl) rfl
theorem q208 : (Jvm.Cond.fieldLink "IncidentKeeper" (116 : Nat) "IncidentKeeper" "textLength" "I") ∈ lw_all := lw_g (lw_at lw_m1 144 rfl) rfl
theorem q209 : (Jvm.Cond.fieldLink "IncidentKeeper" (34 : Nat) "IncidentKeeper" "fault" "I") ∈ lw_all := lw_g (lw_at lw_m1 145 rfl) rfl
theorem q210 : (Jvm.Cond.lays "IncidentKeeper" "IncidentKeeper" "core" "LIncidentKeeper$Core;") ∈ lw_all := lw_g (lw_at lw_m1 146 rfl) rfl
theorem q211 : (Jvm.Cond.soleField "IncidentKeeper" "core") ∈ lw_all := lw_g (lw_at lw_m1 147 rfl) rfl
theorem q212 : (Jvm.Cond.laysFinal "IncidentKeeper" "IncidentKeeper" "before" "Ljava/util/ArrayList;") ∈ lw_all := lw_g (lw_at lw_m1 148 rfl) rfl
theorem q213 : (Jvm.Cond.soleField "IncidentKeeper" "before") ∈ lw_all := lw_g (lw_at lw_m1 149 rfl) rfl
theorem q214 : (Jvm.Cond.lays "IncidentKeeper" "IncidentKeeper" "saved" "LIncidentKeeper$Core;") ∈ lw_all := lw_g (lw_at lw_m1 150 rfl) rfl
theorem q215 : (Jvm.Cond.soleField "IncidentKeeper" "saved") ∈ lw_all := lw_g (lw_at lw_m1 151 rfl) rfl
theorem q216 : (Jvm.Cond.lays "IncidentKeeper" "IncidentKeeper" "reason" "I") ∈ lw_all := lw_g (lw_at lw_m1 152 rfl) rfl
theorem q217 : (Jvm.Cond.soleField "IncidentKeeper" "reason") ∈ lw_all := lw_g (lw_at lw_m1 153 rfl) rfl
theorem q218 : (Jvm.Cond.lays "IncidentKeeper" "IncidentKeeper" "detail" "I") ∈ lw_all := lw_g (lw_at lw_m1 154 rfl) rfl
theorem q219 : (Jvm.Cond.soleField "IncidentKeeper" "detail") ∈ lw_all := lw_g (lw_at lw_m1 155 rfl) rfl
theorem q220 : (Jvm.Cond.lays "IncidentKeeper" "IncidentKeeper" "entry" "I") ∈ lw_all := lw_g (lw_at lw_m1 156 rfl) rfl
theorem q221 : (Jvm.Cond.soleField "IncidentKeeper" "entry") ∈ lw_all := lw_g (lw_at lw_m1 157 rfl) rfl
theorem q222 : (Jvm.Cond.lays "IncidentKeeper" "IncidentKeeper" "nextEntry" "I") ∈ lw_all := lw_g (lw_at lw_m1 158 rfl) rfl
theorem q223 : (Jvm.Cond.soleField "IncidentKeeper" "nextEntry") ∈ lw_all := lw_g (lw_at lw_m1 159 rfl) rfl
theorem q224 : (Jvm.Cond.laysFinal "IncidentKeeper" "IncidentKeeper" "text" "[C") ∈ lw_all := lw_g (lw_at lw_m1 160 rfl) rfl
theorem q225 : (Jvm.Cond.soleField "IncidentKeeper" "text") ∈ lw_all := lw_g (lw_at lw_m1 161 rfl) rfl
theorem q226 : (Jvm.Cond.lays "IncidentKeeper" "IncidentKeeper" "textLength" "I") ∈ lw_all := lw_g (lw_at lw_m1 162 rfl) rfl
theorem q227 : (Jvm.Cond.soleField "IncidentKeeper" "textLength") ∈ lw_all := lw_g (lw_at lw_m1 163 rfl) rfl
theorem q228 : (Jvm.Cond.lays "IncidentKeeper" "IncidentKeeper" "fault" "I") ∈ lw_all := lw_g (lw_at lw_m1 164 rfl) rfl
theorem q229 : (Jvm.Cond.soleField "IncidentKeeper" "fault") ∈ lw_all := lw_g (lw_at lw_m1 165 rfl) rfl
theorem q230 : (Jvm.Cond.superclass "IncidentKeeper" "java/lang/Object") ∈ lw_all := lw_g (lw_at lw_m1 166 rfl) rfl
theorem q233 : (Jvm.Cond.instanceMethod ({ cls := "IncidentKeeper", name := "faultPosition", desc := "()I" } : Jvm.MethodName)) ∈ lw_all := lw_g (lw_at lw_m1 169 rfl) rfl
theorem q234 : (Jvm.Cond.selects "IncidentKeeper" ({ cls := "IncidentKeeper", name := "faultPosition", desc := "()I" } : Jvm.MethodName) ({ cls := "IncidentKeeper", name := "faultPosition", desc := "()I" } : Jvm.MethodName)) ∈ lw_all := lw_g (lw_at lw_m1 170 rfl) rfl
theorem q235 : (Jvm.Cond.code ({ cls := "IncidentKeeper", name := "faultPosition", desc := "()I" } : Jvm.MethodName) prog_1_method_35_code (1 : Nat) (Option.some Jvm.ClassFile.FieldType.int)) ∈ lw_all := lw_g (lw_at lw_m1 171 rfl) rfl
theorem q237 : (Jvm.Cond.instanceMethod ({ cls := "IncidentKeeper", name := "save", desc := "()I" } : Jvm.MethodName)) ∈ lw_all := lw_g (lw_at lw_m1 173 rfl) rfl
theorem q238 : (Jvm.Cond.selects "IncidentKeeper" ({ cls := "IncidentKeeper", name := "save", desc := "()I" } : Jvm.MethodName) ({ cls := "IncidentKeeper", name := "save", desc := "()I" } : Jvm.MethodName)) ∈ lw_all := lw_g (lw_at lw_m1 174 rfl) rfl
theorem q239 : (Jvm.Cond.code ({ cls := "IncidentKeeper", name := "save", desc := "()I" } : Jvm.MethodName) prog_1_method_59_code (1 : Nat) (Option.some Jvm.ClassFile.FieldType.int)) ∈ lw_all := lw_g (lw_at lw_m1 175 rfl) rfl
theorem q240 : (Jvm.Cond.methodLink "IncidentKeeper" (70 : Nat) ({ cls := "IncidentKeeper$Core", name := "copy", desc := "()LIncidentKeeper$Core;" } : Jvm.MethodName)) ∈ lw_all := lw_g (lw_at lw_m1 176 rfl) rfl
theorem q291 : (Jvm.Cond.fieldLinkNest "IncidentKeeper" (271 : Nat) "IncidentKeeper$Core$Incident" "number" "I" "IncidentKeeper") ∈ lw_tbl := lw_at lw_m1 227 rfl
theorem q294 : (Jvm.Cond.fieldLinkNest "IncidentKeeper" (206 : Nat) "IncidentKeeper$Core$Incident" "counts" "[I" "IncidentKeeper") ∈ lw_tbl := lw_at lw_m1 230 rfl
theorem q297 : (Jvm.Cond.fieldLinkNest "IncidentKeeper" (165 : Nat) "IncidentKeeper$Core$Incident" "severity" "I" "IncidentKeeper") ∈ lw_tbl := lw_at lw_m1 233 rfl
theorem q300 : (Jvm.Cond.fieldLinkNest "IncidentKeeper" (168 : Nat) "IncidentKeeper$Core$Incident" "holder" "I" "IncidentKeeper") ∈ lw_tbl := lw_at lw_m1 236 rfl
theorem q303 : (Jvm.Cond.fieldLinkNest "IncidentKeeper" (183 : Nat) "IncidentKeeper$Core$Incident" "causes" "I" "IncidentKeeper") ∈ lw_tbl := lw_at lw_m1 239 rfl
theorem q306 : (Jvm.Cond.fieldLinkNest "IncidentKeeper" (171 : Nat) "IncidentKeeper$Core$Incident" "state" "I" "IncidentKeeper") ∈ lw_tbl := lw_at lw_m2 2 rfl
theorem q309 : (Jvm.Cond.fieldLinkNest "IncidentKeeper" (177 : Nat) "IncidentKeeper$Core$Incident" "clock" "I" "IncidentKeeper") ∈ lw_tbl := lw_at lw_m2 5 rfl
theorem q312 : (Jvm.Cond.fieldLinkNest "IncidentKeeper" (213 : Nat) "IncidentKeeper$Core$Incident" "stopped" "I" "IncidentKeeper") ∈ lw_tbl := lw_at lw_m2 8 rfl
theorem q315 : (Jvm.Cond.fieldLinkNest "IncidentKeeper" (216 : Nat) "IncidentKeeper$Core$Incident" "idle" "I" "IncidentKeeper") ∈ lw_tbl := lw_at lw_m2 11 rfl
theorem q319 : (Jvm.Cond.fieldLinkNest "IncidentKeeper" (186 : Nat) "IncidentKeeper$Core$Incident" "parent" "I" "IncidentKeeper") ∈ lw_tbl := lw_at lw_m2 15 rfl
theorem q322 : (Jvm.Cond.fieldLinkNest "IncidentKeeper" (189 : Nat) "IncidentKeeper$Core$Incident" "change" "I" "IncidentKeeper") ∈ lw_tbl := lw_at lw_m2 18 rfl
theorem q325 : (Jvm.Cond.fieldLinkNest "IncidentKeeper" (192 : Nat) "IncidentKeeper$Core$Incident" "review" "I" "IncidentKeeper") ∈ lw_tbl := lw_at lw_m2 21 rfl
theorem q327 : (Jvm.Cond.fieldLinkNest "IncidentKeeper" (199 : Nat) "IncidentKeeper$Core$Incident" "handovers" "I" "IncidentKeeper") ∈ lw_tbl := lw_at lw_m2 23 rfl
theorem q329 : (Jvm.Cond.fieldLinkNest "IncidentKeeper" (195 : Nat) "IncidentKeeper$Core$Incident" "isOverdue" "Z" "IncidentKeeper") ∈ lw_tbl := lw_at lw_m2 25 rfl
theorem q402 : (Jvm.Cond.selects "IncidentKeeper" ({ cls := "java/lang/Object", name := "getClass", desc := "()Ljava/lang/Class;" } : Jvm.MethodName) ({ cls := "java/lang/Object", name := "getClass", desc := "()Ljava/lang/Class;" } : Jvm.MethodName)) ∈ lw_all := lw_g (lw_at lw_m2 98 rfl) rfl
theorem q458 : (Jvm.Cond.fieldLinkNest "IncidentKeeper" (319 : Nat) "IncidentKeeper$Action" "review" "I" "IncidentKeeper") ∈ lw_tbl := lw_at lw_m2 154 rfl
theorem q460 : (Jvm.Cond.fieldLinkNest "IncidentKeeper" (304 : Nat) "IncidentKeeper$Action" "person" "I" "IncidentKeeper") ∈ lw_tbl := lw_at lw_m2 156 rfl
theorem q462 : (Jvm.Cond.fieldLinkNest "IncidentKeeper" (310 : Nat) "IncidentKeeper$Action" "weight" "I" "IncidentKeeper") ∈ lw_tbl := lw_at lw_m2 158 rfl
theorem q465 : (Jvm.Cond.fieldLinkNest "IncidentKeeper" (307 : Nat) "IncidentKeeper$Action" "isDone" "Z" "IncidentKeeper") ∈ lw_tbl := lw_at lw_m2 161 rfl
theorem q477 : (Jvm.Cond.methodLink "IncidentKeeper" (80 : Nat) ({ cls := "java/util/ArrayList", name := "size", desc := "()I" } : Jvm.MethodName)) ∈ lw_all := lw_g (lw_at lw_m2 173 rfl) rfl
theorem q483 : (Jvm.Cond.instanceMethod ({ cls := "IncidentKeeper", name := "duty", desc := "(IZ)I" } : Jvm.MethodName)) ∈ lw_all := lw_g (lw_at lw_m2 179 rfl) rfl
theorem q484 : (Jvm.Cond.selects "IncidentKeeper" ({ cls := "IncidentKeeper", name := "duty", desc := "(IZ)I" } : Jvm.MethodName) ({ cls := "IncidentKeeper", name := "duty", desc := "(IZ)I" } : Jvm.MethodName)) ∈ lw_all := lw_g (lw_at lw_m2 180 rfl) rfl
theorem q485 : (Jvm.Cond.code ({ cls := "IncidentKeeper", name := "duty", desc := "(IZ)I" } : Jvm.MethodName) prog_1_method_14_code (3 : Nat) (Option.some Jvm.ClassFile.FieldType.int)) ∈ lw_all := lw_g (lw_at lw_m2 181 rfl) rfl
theorem q486 : (Jvm.Cond.classLink "IncidentKeeper" (108 : Nat) "IncidentKeeper$1") ∈ lw_all := lw_g (lw_at lw_m2 182 rfl) rfl
theorem q488 : (Jvm.Cond.methodLink "IncidentKeeper" (110 : Nat) ({ cls := "IncidentKeeper$1", name := "<init>", desc := "(LIncidentKeeper;IZ)V" } : Jvm.MethodName)) ∈ lw_all := lw_g (lw_at lw_m2 184 rfl) rfl
theorem q502 : (Jvm.Cond.methodLink "IncidentKeeper" (104 : Nat) ({ cls := "IncidentKeeper", name := "carryOut", desc := "(LIncidentKeeper$Work;)I" } : Jvm.MethodName)) ∈ lw_all := lw_g (lw_at lw_m2 198 rfl) rfl
theorem q503 : (Jvm.Cond.privateMethod ({ cls := "IncidentKeeper", name := "carryOut", desc := "(LIncidentKeeper$Work;)I" } : Jvm.MethodName)) ∈ lw_tbl := lw_at lw_m2 199 rfl
theorem q504 : (Jvm.Cond.instanceMethod ({ cls := "IncidentKeeper", name := "carryOut", desc := "(LIncidentKeeper$Work;)I" } : Jvm.MethodName)) ∈ lw_all := lw_g (lw_at lw_m2 200 rfl) rfl
theorem q505 : (Jvm.Cond.codeWith ({ cls := "IncidentKeeper", name := "carryOut", desc := "(LIncidentKeeper$Work;)I" } : Jvm.MethodName) prog_1_method_12_code (6 : Nat) (Option.some Jvm.ClassFile.FieldType.int) [((8 : Nat), (57 : Nat), (65 : Nat), (53 : Nat)), ((8 : Nat), (57 : Nat), (79 : Nat), (0 : Nat)), ((65 : Nat), (81 : Nat), (79 : Nat), (0 : Nat))]) ∈ lw_all := lw_g (lw_at lw_m2 201 rfl) rfl
theorem q506 : (Jvm.Cond.classLink "IncidentKeeper" (53 : Nat) "IncidentKeeper$RefusedException") ∈ lw_all := lw_g (lw_at lw_m2 202 rfl) rfl
theorem q507 : (Jvm.Cond.interfaceEntry "IncidentKeeper" (74 : Nat)) ∈ lw_tbl := lw_at lw_m2 203 rfl
theorem q508 : (Jvm.Cond.methodLink "IncidentKeeper" (74 : Nat) ({ cls := "IncidentKeeper$Work", name := "with", desc := "(LIncidentKeeper$Core;)I" } : Jvm.MethodName)) ∈ lw_all := lw_g (lw_at lw_m2 204 rfl) rfl
theorem q522 : (Jvm.Cond.static ({ cls := "IncidentKeeper", name := "isPerson", desc := "(I)Z" } : Jvm.MethodName)) ∈ lw_all := lw_g (lw_at lw_m2 218 rfl) rfl
theorem q523 : (Jvm.Cond.code ({ cls := "IncidentKeeper", name := "isPerson", desc := "(I)Z" } : Jvm.MethodName) prog_1_method_3_code (1 : Nat) (Option.some Jvm.ClassFile.FieldType.boolean)) ∈ lw_all := lw_g (lw_at lw_m2 219 rfl) rfl
theorem q524 : (Jvm.Cond.methodLink "IncidentKeeper" (37 : Nat) ({ cls := "IncidentKeeper", name := "isBetween", desc := "(III)Z" } : Jvm.MethodName)) ∈ lw_all := lw_g (lw_at lw_m2 220 rfl) rfl
theorem q525 : (Jvm.Cond.static ({ cls := "IncidentKeeper", name := "isBetween", desc := "(III)Z" } : Jvm.MethodName)) ∈ lw_all := lw_g (lw_at lw_m2 221 rfl) rfl
theorem q526 : (Jvm.Cond.code ({ cls := "IncidentKeeper", name := "isBetween", desc := "(III)Z" } : Jvm.MethodName) prog_1_method_2_code (3 : Nat) (Option.some Jvm.ClassFile.FieldType.boolean)) ∈ lw_all := lw_g (lw_at lw_m2 222 rfl) rfl
theorem q528 : (Jvm.Cond.static ({ cls := "IncidentKeeper", name := "refuse", desc := "(ZI)V" } : Jvm.MethodName)) ∈ lw_all := lw_g (lw_at lw_m2 224 rfl) rfl
theorem q529 : (Jvm.Cond.code ({ cls := "IncidentKeeper", name := "refuse", desc := "(ZI)V" } : Jvm.MethodName) prog_1_method_10_code (2 : Nat) (Option.none : Option Jvm.ClassFile.FieldType)) ∈ lw_all := lw_g (lw_at lw_m2 225 rfl) rfl
theorem q530 : (Jvm.Cond.methodLink "IncidentKeeper" (58 : Nat) ({ cls := "IncidentKeeper", name := "refuse", desc := "(ZII)V" } : Jvm.MethodName)) ∈ lw_all := lw_g (lw_at lw_m2 226 rfl) rfl
theorem q531 : (Jvm.Cond.static ({ cls := "IncidentKeeper", name := "refuse", desc := "(ZII)V" } : Jvm.MethodName)) ∈ lw_all := lw_g (lw_at lw_m2 227 rfl) rfl
theorem q532 : (Jvm.Cond.code ({ cls := "IncidentKeeper", name := "refuse", desc := "(ZII)V" } : Jvm.MethodName) prog_1_method_9_code (3 : Nat) (Option.none : Option Jvm.ClassFile.FieldType)) ∈ lw_all := lw_g (lw_at lw_m2 228 rfl) rfl
theorem q577 : (Jvm.Cond.methodLink "IncidentKeeper" (55 : Nat) ({ cls := "IncidentKeeper$RefusedException", name := "<init>", desc := "(II)V" } : Jvm.MethodName)) ∈ lw_all := lw_g (lw_at lw_m3 33 rfl) rfl
theorem q587 : (Jvm.Cond.fieldLinkNest "IncidentKeeper" (62 : Nat) "IncidentKeeper$RefusedException" "reason" "I" "IncidentKeeper") ∈ lw_tbl := lw_at lw_m3 43 rfl
theorem q589 : (Jvm.Cond.fieldLinkNest "IncidentKeeper" (66 : Nat) "IncidentKeeper$RefusedException" "detail" "I" "IncidentKeeper") ∈ lw_tbl := lw_at lw_m3 45 rfl
theorem q608 : (Jvm.Cond.static ({ cls := "IncidentKeeper", name := "has", desc := "(II)Z" } : Jvm.MethodName)) ∈ lw_all := lw_g (lw_at lw_m3 64 rfl) rfl
theorem q609 : (Jvm.Cond.code ({ cls := "IncidentKeeper", name := "has", desc := "(II)Z" } : Jvm.MethodName) prog_1_method_4_code (2 : Nat) (Option.some Jvm.ClassFile.FieldType.boolean)) ∈ lw_all := lw_g (lw_at lw_m3 65 rfl) rfl
theorem q645 : (Jvm.Cond.fieldLinkNest "IncidentKeeper" (328 : Nat) "IncidentKeeper$Event" "minute" "I" "IncidentKeeper") ∈ lw_tbl := lw_at lw_m3 101 rfl
theorem q647 : (Jvm.Cond.fieldLinkNest "IncidentKeeper" (331 : Nat) "IncidentKeeper$Event" "kind" "I" "IncidentKeeper") ∈ lw_tbl := lw_at lw_m3 103 rfl
theorem q649 : (Jvm.Cond.fieldLinkNest "IncidentKeeper" (334 : Nat) "IncidentKeeper$Event" "incident" "I" "IncidentKeeper") ∈ lw_tbl := lw_at lw_m3 105 rfl
theorem q651 : (Jvm.Cond.fieldLinkNest "IncidentKeeper" (337 : Nat) "IncidentKeeper$Event" "more" "I" "IncidentKeeper") ∈ lw_tbl := lw_at lw_m3 107 rfl
theorem q954 : (Jvm.Cond.methodLink "IncidentKeeper" (84 : Nat) ({ cls := "java/util/ArrayList", name := "remove", desc := "(I)Ljava/lang/Object;" } : Jvm.MethodName)) ∈ lw_all := lw_g (lw_at lw_m4 170 rfl) rfl
theorem q955 : (Jvm.Cond.methodLink "IncidentKeeper" (88 : Nat) ({ cls := "java/util/ArrayList", name := "add", desc := "(Ljava/lang/Object;)Z" } : Jvm.MethodName)) ∈ lw_all := lw_g (lw_at lw_m4 171 rfl) rfl
theorem q956 : (Jvm.Cond.methodLink "IncidentKeeper" (92 : Nat) ({ cls := "IncidentKeeper", name := "keep", desc := "(LIncidentKeeper$RefusedException;)V" } : Jvm.MethodName)) ∈ lw_all := lw_g (lw_at lw_m4 172 rfl) rfl
theorem q957 : (Jvm.Cond.privateMethod ({ cls := "IncidentKeeper", name := "keep", desc := "(LIncidentKeeper$RefusedException;)V" } : Jvm.MethodName)) ∈ lw_tbl := lw_at lw_m4 173 rfl
theorem q958 : (Jvm.Cond.instanceMethod ({ cls := "IncidentKeeper", name := "keep", desc := "(LIncidentKeeper$RefusedException;)V" } : Jvm.MethodName)) ∈ lw_all := lw_g (lw_at lw_m4 174 rfl) rfl
theorem q959 : (Jvm.Cond.code ({ cls := "IncidentKeeper", name := "keep", desc := "(LIncidentKeeper$RefusedException;)V" } : Jvm.MethodName) prog_1_method_11_code (2 : Nat) (Option.none : Option Jvm.ClassFile.FieldType)) ∈ lw_all := lw_g (lw_at lw_m4 175 rfl) rfl
theorem q960 : (Jvm.Cond.classLink "IncidentKeeper" (96 : Nat) "java/lang/UnsupportedOperationException") ∈ lw_all := lw_g (lw_at lw_m4 176 rfl) rfl
theorem q971 : (Jvm.Cond.methodLink "IncidentKeeper" (98 : Nat) ({ cls := "java/lang/UnsupportedOperationException", name := "<init>", desc := "()V" } : Jvm.MethodName)) ∈ lw_all := lw_g (lw_at lw_m4 187 rfl) rfl
theorem q987 : (Jvm.Cond.instanceMethod ({ cls := "IncidentKeeper", name := "target", desc := "(II)I" } : Jvm.MethodName)) ∈ lw_all := lw_g (lw_at lw_m4 203 rfl) rfl
theorem q988 : (Jvm.Cond.selects "IncidentKeeper" ({ cls := "IncidentKeeper", name := "target", desc := "(II)I" } : Jvm.MethodName) ({ cls := "IncidentKeeper", name := "target", desc := "(II)I" } : Jvm.MethodName)) ∈ lw_all := lw_g (lw_at lw_m4 204 rfl) rfl
theorem q989 : (Jvm.Cond.code ({ cls := "IncidentKeeper", name := "target", desc := "(II)I" } : Jvm.MethodName) prog_1_method_15_code (3 : Nat) (Option.some Jvm.ClassFile.FieldType.int)) ∈ lw_all := lw_g (lw_at lw_m4 205 rfl) rfl
theorem q990 : (Jvm.Cond.methodLink "IncidentKeeper" (113 : Nat) ({ cls := "IncidentKeeper", name := "carryOut", desc := "(CIII)I" } : Jvm.MethodName)) ∈ lw_all := lw_g (lw_at lw_m4 206 rfl) rfl
theorem q991 : (Jvm.Cond.privateMethod ({ cls := "IncidentKeeper", name := "carryOut", desc := "(CIII)I" } : Jvm.MethodName)) ∈ lw_tbl := lw_at lw_m4 207 rfl
theorem q992 : (Jvm.Cond.instanceMethod ({ cls := "IncidentKeeper", name := "carryOut", desc := "(CIII)I" } : Jvm.MethodName)) ∈ lw_all := lw_g (lw_at lw_m4 208 rfl) rfl
theorem q993 : (Jvm.Cond.code ({ cls := "IncidentKeeper", name := "carryOut", desc := "(CIII)I" } : Jvm.MethodName) prog_1_method_13_code (5 : Nat) (Option.some Jvm.ClassFile.FieldType.int)) ∈ lw_all := lw_g (lw_at lw_m4 209 rfl) rfl
theorem q994 : (Jvm.Cond.classLink "IncidentKeeper" (99 : Nat) "IncidentKeeper$Call") ∈ lw_all := lw_g (lw_at lw_m4 210 rfl) rfl
theorem q995 : (Jvm.Cond.methodLink "IncidentKeeper" (101 : Nat) ({ cls := "IncidentKeeper$Call", name := "<init>", desc := "(CIII)V" } : Jvm.MethodName)) ∈ lw_all := lw_g (lw_at lw_m4 211 rfl) rfl
theorem q1016 : (Jvm.Cond.instanceMethod ({ cls := "IncidentKeeper", name := "limit", desc := "(II)I" } : Jvm.MethodName)) ∈ lw_all := lw_g (lw_at lw_m4 232 rfl) rfl
theorem q1017 : (Jvm.Cond.selects "IncidentKeeper" ({ cls := "IncidentKeeper", name := "limit", desc := "(II)I" } : Jvm.MethodName) ({ cls := "IncidentKeeper", name := "limit", desc := "(II)I" } : Jvm.MethodName)) ∈ lw_all := lw_g (lw_at lw_m4 233 rfl) rfl
theorem q1018 : (Jvm.Cond.code ({ cls := "IncidentKeeper", name := "limit", desc := "(II)I" } : Jvm.MethodName) prog_1_method_16_code (3 : Nat) (Option.some Jvm.ClassFile.FieldType.int)) ∈ lw_all := lw_g (lw_at lw_m4 234 rfl) rfl
theorem q1023 : (Jvm.Cond.instanceMethod ({ cls := "IncidentKeeper", name := "window", desc := "(I)I" } : Jvm.MethodName)) ∈ lw_all := lw_g (lw_at lw_m4 239 rfl) rfl
theorem q1024 : (Jvm.Cond.selects "IncidentKeeper" ({ cls := "IncidentKeeper", name := "window", desc := "(I)I" } : Jvm.MethodName) ({ cls := "IncidentKeeper", name := "window", desc := "(I)I" } : Jvm.MethodName)) ∈ lw_all := lw_g (lw_at lw_m5 0 rfl) rfl
theorem q1025 : (Jvm.Cond.code ({ cls := "IncidentKeeper", name := "window", desc := "(I)I" } : Jvm.MethodName) prog_1_method_17_code (2 : Nat) (Option.some Jvm.ClassFile.FieldType.int)) ∈ lw_all := lw_g (lw_at lw_m5 1 rfl) rfl
theorem q1030 : (Jvm.Cond.instanceMethod ({ cls := "IncidentKeeper", name := "open", desc := "(II)I" } : Jvm.MethodName)) ∈ lw_all := lw_g (lw_at lw_m5 6 rfl) rfl
theorem q1031 : (Jvm.Cond.selects "IncidentKeeper" ({ cls := "IncidentKeeper", name := "open", desc := "(II)I" } : Jvm.MethodName) ({ cls := "IncidentKeeper", name := "open", desc := "(II)I" } : Jvm.MethodName)) ∈ lw_all := lw_g (lw_at lw_m5 7 rfl) rfl
theorem q1032 : (Jvm.Cond.code ({ cls := "IncidentKeeper", name := "open", desc := "(II)I" } : Jvm.MethodName) prog_1_method_18_code (3 : Nat) (Option.some Jvm.ClassFile.FieldType.int)) ∈ lw_all := lw_g (lw_at lw_m5 8 rfl) rfl
theorem q1037 : (Jvm.Cond.instanceMethod ({ cls := "IncidentKeeper", name := "rate", desc := "(II)I" } : Jvm.MethodName)) ∈ lw_all := lw_g (lw_at lw_m5 13 rfl) rfl
theorem q1038 : (Jvm.Cond.selects "IncidentKeeper" ({ cls := "IncidentKeeper", name := "rate", desc := "(II)I" } : Jvm.MethodName) ({ cls := "IncidentKeeper", name := "rate", desc := "(II)I" } : Jvm.MethodName)) ∈ lw_all := lw_g (lw_at lw_m5 14 rfl) rfl
theorem q1039 : (Jvm.Cond.code ({ cls := "IncidentKeeper", name := "rate", desc := "(II)I" } : Jvm.MethodName) prog_1_method_19_code (3 : Nat) (Option.some Jvm.ClassFile.FieldType.int)) ∈ lw_all := lw_g (lw_at lw_m5 15 rfl) rfl
theorem q1044 : (Jvm.Cond.instanceMethod ({ cls := "IncidentKeeper", name := "hand", desc := "(II)I" } : Jvm.MethodName)) ∈ lw_all := lw_g (lw_at lw_m5 20 rfl) rfl
theorem q1045 : (Jvm.Cond.selects "IncidentKeeper" ({ cls := "IncidentKeeper", name := "hand", desc := "(II)I" } : Jvm.MethodName) ({ cls := "IncidentKeeper", name := "hand", desc := "(II)I" } : Jvm.MethodName)) ∈ lw_all := lw_g (lw_at lw_m5 21 rfl) rfl
theorem q1046 : (Jvm.Cond.code ({ cls := "IncidentKeeper", name := "hand", desc := "(II)I" } : Jvm.MethodName) prog_1_method_20_code (3 : Nat) (Option.some Jvm.ClassFile.FieldType.int)) ∈ lw_all := lw_g (lw_at lw_m5 22 rfl) rfl
theorem q1051 : (Jvm.Cond.instanceMethod ({ cls := "IncidentKeeper", name := "stop", desc := "(II)I" } : Jvm.MethodName)) ∈ lw_all := lw_g (lw_at lw_m5 27 rfl) rfl
theorem q1052 : (Jvm.Cond.selects "IncidentKeeper" ({ cls := "IncidentKeeper", name := "stop", desc := "(II)I" } : Jvm.MethodName) ({ cls := "IncidentKeeper", name := "stop", desc := "(II)I" } : Jvm.MethodName)) ∈ lw_all := lw_g (lw_at lw_m5 28 rfl) rfl
theorem q1053 : (Jvm.Cond.code ({ cls := "IncidentKeeper", name := "stop", desc := "(II)I" } : Jvm.MethodName) prog_1_method_21_code (3 : Nat) (Option.some Jvm.ClassFile.FieldType.int)) ∈ lw_all := lw_g (lw_at lw_m5 29 rfl) rfl
theorem q1058 : (Jvm.Cond.instanceMethod ({ cls := "IncidentKeeper", name := "go", desc := "(II)I" } : Jvm.MethodName)) ∈ lw_all := lw_g (lw_at lw_m5 34 rfl) rfl
theorem q1059 : (Jvm.Cond.selects "IncidentKeeper" ({ cls := "IncidentKeeper", name := "go", desc := "(II)I" } : Jvm.MethodName) ({ cls := "IncidentKeeper", name := "go", desc := "(II)I" } : Jvm.MethodName)) ∈ lw_all := lw_g (lw_at lw_m5 35 rfl) rfl
theorem q1060 : (Jvm.Cond.code ({ cls := "IncidentKeeper", name := "go", desc := "(II)I" } : Jvm.MethodName) prog_1_method_22_code (3 : Nat) (Option.some Jvm.ClassFile.FieldType.int)) ∈ lw_all := lw_g (lw_at lw_m5 36 rfl) rfl
theorem q1065 : (Jvm.Cond.instanceMethod ({ cls := "IncidentKeeper", name := "resolve", desc := "(I)I" } : Jvm.MethodName)) ∈ lw_all := lw_g (lw_at lw_m5 41 rfl) rfl
theorem q1066 : (Jvm.Cond.selects "IncidentKeeper" ({ cls := "IncidentKeeper", name := "resolve", desc := "(I)I" } : Jvm.MethodName) ({ cls := "IncidentKeeper", name := "resolve", desc := "(I)I" } : Jvm.MethodName)) ∈ lw_all := lw_g (lw_at lw_m5 42 rfl) rfl
theorem q1067 : (Jvm.Cond.code ({ cls := "IncidentKeeper", name := "resolve", desc := "(I)I" } : Jvm.MethodName) prog_1_method_23_code (2 : Nat) (Option.some Jvm.ClassFile.FieldType.int)) ∈ lw_all := lw_g (lw_at lw_m5 43 rfl) rfl
theorem q1072 : (Jvm.Cond.instanceMethod ({ cls := "IncidentKeeper", name := "reopen", desc := "(I)I" } : Jvm.MethodName)) ∈ lw_all := lw_g (lw_at lw_m5 48 rfl) rfl
theorem q1073 : (Jvm.Cond.selects "IncidentKeeper" ({ cls := "IncidentKeeper", name := "reopen", desc := "(I)I" } : Jvm.MethodName) ({ cls := "IncidentKeeper", name := "reopen", desc := "(I)I" } : Jvm.MethodName)) ∈ lw_all := lw_g (lw_at lw_m5 49 rfl) rfl
theorem q1074 : (Jvm.Cond.code ({ cls := "IncidentKeeper", name := "reopen", desc := "(I)I" } : Jvm.MethodName) prog_1_method_24_code (2 : Nat) (Option.some Jvm.ClassFile.FieldType.int)) ∈ lw_all := lw_g (lw_at lw_m5 50 rfl) rfl
theorem q1079 : (Jvm.Cond.instanceMethod ({ cls := "IncidentKeeper", name := "close", desc := "(I)I" } : Jvm.MethodName)) ∈ lw_all := lw_g (lw_at lw_m5 55 rfl) rfl
theorem q1080 : (Jvm.Cond.selects "IncidentKeeper" ({ cls := "IncidentKeeper", name := "close", desc := "(I)I" } : Jvm.MethodName) ({ cls := "IncidentKeeper", name := "close", desc := "(I)I" } : Jvm.MethodName)) ∈ lw_all := lw_g (lw_at lw_m5 56 rfl) rfl
theorem q1081 : (Jvm.Cond.code ({ cls := "IncidentKeeper", name := "close", desc := "(I)I" } : Jvm.MethodName) prog_1_method_25_code (2 : Nat) (Option.some Jvm.ClassFile.FieldType.int)) ∈ lw_all := lw_g (lw_at lw_m5 57 rfl) rfl
theorem q1086 : (Jvm.Cond.instanceMethod ({ cls := "IncidentKeeper", name := "cause", desc := "(II)I" } : Jvm.MethodName)) ∈ lw_all := lw_g (lw_at lw_m5 62 rfl) rfl
theorem q1087 : (Jvm.Cond.selects "IncidentKeeper" ({ cls := "IncidentKeeper", name := "cause", desc := "(II)I" } : Jvm.MethodName) ({ cls := "IncidentKeeper", name := "cause", desc := "(II)I" } : Jvm.MethodName)) ∈ lw_all := lw_g (lw_at lw_m5 63 rfl) rfl
theorem q1088 : (Jvm.Cond.code ({ cls := "IncidentKeeper", name := "cause", desc := "(II)I" } : Jvm.MethodName) prog_1_method_26_code (3 : Nat) (Option.some Jvm.ClassFile.FieldType.int)) ∈ lw_all := lw_g (lw_at lw_m5 64 rfl) rfl
theorem q1093 : (Jvm.Cond.instanceMethod ({ cls := "IncidentKeeper", name := "note", desc := "(III)I" } : Jvm.MethodName)) ∈ lw_all := lw_g (lw_at lw_m5 69 rfl) rfl
theorem q1094 : (Jvm.Cond.selects "IncidentKeeper" ({ cls := "IncidentKeeper", name := "note", desc := "(III)I" } : Jvm.MethodName) ({ cls := "IncidentKeeper", name := "note", desc := "(III)I" } : Jvm.MethodName)) ∈ lw_all := lw_g (lw_at lw_m5 70 rfl) rfl
theorem q1095 : (Jvm.Cond.code ({ cls := "IncidentKeeper", name := "note", desc := "(III)I" } : Jvm.MethodName) prog_1_method_27_code (4 : Nat) (Option.some Jvm.ClassFile.FieldType.int)) ∈ lw_all := lw_g (lw_at lw_m5 71 rfl) rfl
theorem q1100 : (Jvm.Cond.instanceMethod ({ cls := "IncidentKeeper", name := "link", desc := "(II)I" } : Jvm.MethodName)) ∈ lw_all := lw_g (lw_at lw_m5 76 rfl) rfl
theorem q1101 : (Jvm.Cond.selects "IncidentKeeper" ({ cls := "IncidentKeeper", name := "link", desc := "(II)I" } : Jvm.MethodName) ({ cls := "IncidentKeeper", name := "link", desc := "(II)I" } : Jvm.MethodName)) ∈ lw_all := lw_g (lw_at lw_m5 77 rfl) rfl
theorem q1102 : (Jvm.Cond.code ({ cls := "IncidentKeeper", name := "link", desc := "(II)I" } : Jvm.MethodName) prog_1_method_28_code (3 : Nat) (Option.some Jvm.ClassFile.FieldType.int)) ∈ lw_all := lw_g (lw_at lw_m5 78 rfl) rfl
theorem q1107 : (Jvm.Cond.instanceMethod ({ cls := "IncidentKeeper", name := "review", desc := "(I)I" } : Jvm.MethodName)) ∈ lw_all := lw_g (lw_at lw_m5 83 rfl) rfl
theorem q1108 : (Jvm.Cond.selects "IncidentKeeper" ({ cls := "IncidentKeeper", name := "review", desc := "(I)I" } : Jvm.MethodName) ({ cls := "IncidentKeeper", name := "review", desc := "(I)I" } : Jvm.MethodName)) ∈ lw_all := lw_g (lw_at lw_m5 84 rfl) rfl
theorem q1109 : (Jvm.Cond.code ({ cls := "IncidentKeeper", name := "review", desc := "(I)I" } : Jvm.MethodName) prog_1_method_29_code (2 : Nat) (Option.some Jvm.ClassFile.FieldType.int)) ∈ lw_all := lw_g (lw_at lw_m5 85 rfl) rfl
theorem q1114 : (Jvm.Cond.instanceMethod ({ cls := "IncidentKeeper", name := "action", desc := "(III)I" } : Jvm.MethodName)) ∈ lw_all := lw_g (lw_at lw_m5 90 rfl) rfl
theorem q1115 : (Jvm.Cond.selects "IncidentKeeper" ({ cls := "IncidentKeeper", name := "action", desc := "(III)I" } : Jvm.MethodName) ({ cls := "IncidentKeeper", name := "action", desc := "(III)I" } : Jvm.MethodName)) ∈ lw_all := lw_g (lw_at lw_m5 91 rfl) rfl
theorem q1116 : (Jvm.Cond.code ({ cls := "IncidentKeeper", name := "action", desc := "(III)I" } : Jvm.MethodName) prog_1_method_30_code (4 : Nat) (Option.some Jvm.ClassFile.FieldType.int)) ∈ lw_all := lw_g (lw_at lw_m5 92 rfl) rfl
theorem q1121 : (Jvm.Cond.instanceMethod ({ cls := "IncidentKeeper", name := "finish", desc := "(I)I" } : Jvm.MethodName)) ∈ lw_all := lw_g (lw_at lw_m5 97 rfl) rfl
theorem q1122 : (Jvm.Cond.selects "IncidentKeeper" ({ cls := "IncidentKeeper", name := "finish", desc := "(I)I" } : Jvm.MethodName) ({ cls := "IncidentKeeper", name := "finish", desc := "(I)I" } : Jvm.MethodName)) ∈ lw_all := lw_g (lw_at lw_m5 98 rfl) rfl
theorem q1123 : (Jvm.Cond.code ({ cls := "IncidentKeeper", name := "finish", desc := "(I)I" } : Jvm.MethodName) prog_1_method_31_code (2 : Nat) (Option.some Jvm.ClassFile.FieldType.int)) ∈ lw_all := lw_g (lw_at lw_m5 99 rfl) rfl
theorem q1128 : (Jvm.Cond.instanceMethod ({ cls := "IncidentKeeper", name := "pass", desc := "(I)I" } : Jvm.MethodName)) ∈ lw_all := lw_g (lw_at lw_m5 104 rfl) rfl
theorem q1129 : (Jvm.Cond.selects "IncidentKeeper" ({ cls := "IncidentKeeper", name := "pass", desc := "(I)I" } : Jvm.MethodName) ({ cls := "IncidentKeeper", name := "pass", desc := "(I)I" } : Jvm.MethodName)) ∈ lw_all := lw_g (lw_at lw_m5 105 rfl) rfl
theorem q1130 : (Jvm.Cond.code ({ cls := "IncidentKeeper", name := "pass", desc := "(I)I" } : Jvm.MethodName) prog_1_method_32_code (2 : Nat) (Option.some Jvm.ClassFile.FieldType.int)) ∈ lw_all := lw_g (lw_at lw_m5 106 rfl) rfl
theorem q1136 : (Jvm.Cond.instanceMethod ({ cls := "IncidentKeeper", name := "append", desc := "(C)I" } : Jvm.MethodName)) ∈ lw_all := lw_g (lw_at lw_m5 112 rfl) rfl
theorem q1137 : (Jvm.Cond.selects "IncidentKeeper" ({ cls := "IncidentKeeper", name := "append", desc := "(C)I" } : Jvm.MethodName) ({ cls := "IncidentKeeper", name := "append", desc := "(C)I" } : Jvm.MethodName)) ∈ lw_all := lw_g (lw_at lw_m5 113 rfl) rfl
theorem q1138 : (Jvm.Cond.code ({ cls := "IncidentKeeper", name := "append", desc := "(C)I" } : Jvm.MethodName) prog_1_method_33_code (2 : Nat) (Option.some Jvm.ClassFile.FieldType.int)) ∈ lw_all := lw_g (lw_at lw_m5 114 rfl) rfl
theorem q1139 : (Jvm.Cond.methodLink "IncidentKeeper" (119 : Nat) ({ cls := "IncidentKeeper", name := "requireState", desc := "(Z)V" } : Jvm.MethodName)) ∈ lw_all := lw_g (lw_at lw_m5 115 rfl) rfl
theorem q1140 : (Jvm.Cond.static ({ cls := "IncidentKeeper", name := "requireState", desc := "(Z)V" } : Jvm.MethodName)) ∈ lw_all := lw_g (lw_at lw_m5 116 rfl) rfl
theorem q1141 : (Jvm.Cond.code ({ cls := "IncidentKeeper", name := "requireState", desc := "(Z)V" } : Jvm.MethodName) prog_1_method_7_code (1 : Nat) (Option.none : Option Jvm.ClassFile.FieldType)) ∈ lw_all := lw_g (lw_at lw_m5 117 rfl) rfl
theorem q1142 : (Jvm.Cond.classLink "IncidentKeeper" (47 : Nat) "java/lang/IllegalStateException") ∈ lw_all := lw_g (lw_at lw_m5 118 rfl) rfl
theorem q1151 : (Jvm.Cond.methodLink "IncidentKeeper" (49 : Nat) ({ cls := "java/lang/IllegalStateException", name := "<init>", desc := "()V" } : Jvm.MethodName)) ∈ lw_all := lw_g (lw_at lw_m5 127 rfl) rfl
theorem q1162 : (Jvm.Cond.instanceMethod ({ cls := "IncidentKeeper", name := "run", desc := "()I" } : Jvm.MethodName)) ∈ lw_all := lw_g (lw_at lw_m5 138 rfl) rfl
theorem q1163 : (Jvm.Cond.selects "IncidentKeeper" ({ cls := "IncidentKeeper", name := "run", desc := "()I" } : Jvm.MethodName) ({ cls := "IncidentKeeper", name := "run", desc := "()I" } : Jvm.MethodName)) ∈ lw_all := lw_g (lw_at lw_m5 139 rfl) rfl
theorem q1164 : (Jvm.Cond.codeWith ({ cls := "IncidentKeeper", name := "run", desc := "()I" } : Jvm.MethodName) prog_1_method_34_code (4 : Nat) (Option.some Jvm.ClassFile.FieldType.int) [((0 : Nat), (23 : Nat), (30 : Nat), (132 : Nat)), ((0 : Nat), (23 : Nat), (47 : Nat), (0 : Nat)), ((30 : Nat), (48 : Nat), (47 : Nat), (0 : Nat))]) ∈ lw_all := lw_g (lw_at lw_m5 140 rfl) rfl
theorem q1165 : (Jvm.Cond.classLink "IncidentKeeper" (132 : Nat) "IncidentKeeper$FaultException") ∈ lw_all := lw_g (lw_at lw_m5 141 rfl) rfl
theorem q1166 : (Jvm.Cond.classLink "IncidentKeeper" (123 : Nat) "IncidentKeeper$Reader") ∈ lw_all := lw_g (lw_at lw_m5 142 rfl) rfl
theorem q1168 : (Jvm.Cond.methodLinkNest "IncidentKeeper" (125 : Nat) ({ cls := "IncidentKeeper$Reader", name := "<init>", desc := "(LIncidentKeeper;)V" } : Jvm.MethodName) "IncidentKeeper") ∈ lw_tbl := lw_at lw_m5 144 rfl
theorem q1184 : (Jvm.Cond.methodLink "IncidentKeeper" (128 : Nat) ({ cls := "IncidentKeeper$Reader", name := "readAll", desc := "()LIncidentKeeper$Reader;" } : Jvm.MethodName)) ∈ lw_all := lw_g (lw_at lw_m5 160 rfl) rfl
theorem q1293 : (Jvm.Cond.fieldLinkNest "IncidentKeeper" (134 : Nat) "IncidentKeeper$FaultException" "position" "I" "IncidentKeeper") ∈ lw_tbl := lw_at lw_m6 29 rfl
theorem q1322 : (Jvm.Cond.classLink "IncidentKeeper" (44 : Nat) "java/lang/IllegalArgumentException") ∈ lw_all := lw_g (lw_at lw_m6 58 rfl) rfl
theorem q1331 : (Jvm.Cond.methodLink "IncidentKeeper" (46 : Nat) ({ cls := "java/lang/IllegalArgumentException", name := "<init>", desc := "()V" } : Jvm.MethodName)) ∈ lw_all := lw_g (lw_at lw_m6 67 rfl) rfl
theorem q1342 : (Jvm.Cond.instanceMethod ({ cls := "IncidentKeeper", name := "reason", desc := "(I)I" } : Jvm.MethodName)) ∈ lw_all := lw_g (lw_at lw_m6 78 rfl) rfl
theorem q1343 : (Jvm.Cond.selects "IncidentKeeper" ({ cls := "IncidentKeeper", name := "reason", desc := "(I)I" } : Jvm.MethodName) ({ cls := "IncidentKeeper", name := "reason", desc := "(I)I" } : Jvm.MethodName)) ∈ lw_all := lw_g (lw_at lw_m6 79 rfl) rfl
theorem q1344 : (Jvm.Cond.code ({ cls := "IncidentKeeper", name := "reason", desc := "(I)I" } : Jvm.MethodName) prog_1_method_36_code (2 : Nat) (Option.some Jvm.ClassFile.FieldType.int)) ∈ lw_all := lw_g (lw_at lw_m6 80 rfl) rfl
theorem q1345 : (Jvm.Cond.methodLink "IncidentKeeper" (137 : Nat) ({ cls := "IncidentKeeper", name := "requireArgument", desc := "(Z)V" } : Jvm.MethodName)) ∈ lw_all := lw_g (lw_at lw_m6 81 rfl) rfl
theorem q1346 : (Jvm.Cond.static ({ cls := "IncidentKeeper", name := "requireArgument", desc := "(Z)V" } : Jvm.MethodName)) ∈ lw_all := lw_g (lw_at lw_m6 82 rfl) rfl
theorem q1347 : (Jvm.Cond.code ({ cls := "IncidentKeeper", name := "requireArgument", desc := "(Z)V" } : Jvm.MethodName) prog_1_method_6_code (1 : Nat) (Option.none : Option Jvm.ClassFile.FieldType)) ∈ lw_all := lw_g (lw_at lw_m6 83 rfl) rfl
theorem q1348 : (Jvm.Cond.methodLink "IncidentKeeper" (140 : Nat) ({ cls := "IncidentKeeper", name := "requireElement", desc := "(Z)V" } : Jvm.MethodName)) ∈ lw_all := lw_g (lw_at lw_m6 84 rfl) rfl
theorem q1349 : (Jvm.Cond.static ({ cls := "IncidentKeeper", name := "requireElement", desc := "(Z)V" } : Jvm.MethodName)) ∈ lw_all := lw_g (lw_at lw_m6 85 rfl) rfl
theorem q1350 : (Jvm.Cond.code ({ cls := "IncidentKeeper", name := "requireElement", desc := "(Z)V" } : Jvm.MethodName) prog_1_method_8_code (1 : Nat) (Option.none : Option Jvm.ClassFile.FieldType)) ∈ lw_all := lw_g (lw_at lw_m6 86 rfl) rfl
theorem q1351 : (Jvm.Cond.classLink "IncidentKeeper" (50 : Nat) "java/util/NoSuchElementException") ∈ lw_all := lw_g (lw_at lw_m6 87 rfl) rfl
theorem q1360 : (Jvm.Cond.methodLink "IncidentKeeper" (52 : Nat) ({ cls := "java/util/NoSuchElementException", name := "<init>", desc := "()V" } : Jvm.MethodName)) ∈ lw_all := lw_g (lw_at lw_m6 96 rfl) rfl
theorem q1402 : (Jvm.Cond.instanceMethod ({ cls := "IncidentKeeper", name := "incident", desc := "(II)I" } : Jvm.MethodName)) ∈ lw_all := lw_g (lw_at lw_m6 138 rfl) rfl
theorem q1403 : (Jvm.Cond.selects "IncidentKeeper" ({ cls := "IncidentKeeper", name := "incident", desc := "(II)I" } : Jvm.MethodName) ({ cls := "IncidentKeeper", name := "incident", desc := "(II)I" } : Jvm.MethodName)) ∈ lw_all := lw_g (lw_at lw_m6 139 rfl) rfl
theorem q1404 : (Jvm.Cond.code ({ cls := "IncidentKeeper", name := "incident", desc := "(II)I" } : Jvm.MethodName) prog_1_method_38_code (4 : Nat) (Option.some Jvm.ClassFile.FieldType.int)) ∈ lw_all := lw_g (lw_at lw_m6 140 rfl) rfl
theorem q1405 : (Jvm.Cond.methodLink "IncidentKeeper" (158 : Nat) ({ cls := "IncidentKeeper", name := "getIncident", desc := "(I)LIncidentKeeper$Core$Incident;" } : Jvm.MethodName)) ∈ lw_all := lw_g (lw_at lw_m6 141 rfl) rfl
theorem q1406 : (Jvm.Cond.privateMethod ({ cls := "IncidentKeeper", name := "getIncident", desc := "(I)LIncidentKeeper$Core$Incident;" } : Jvm.MethodName)) ∈ lw_tbl := lw_at lw_m6 142 rfl
theorem q1407 : (Jvm.Cond.instanceMethod ({ cls := "IncidentKeeper", name := "getIncident", desc := "(I)LIncidentKeeper$Core$Incident;" } : Jvm.MethodName)) ∈ lw_all := lw_g (lw_at lw_m6 143 rfl) rfl
theorem q1408 : (Jvm.Cond.code ({ cls := "IncidentKeeper", name := "getIncident", desc := "(I)LIncidentKeeper$Core$Incident;" } : Jvm.MethodName) prog_1_method_37_code (2 : Nat) (Option.some (Jvm.ClassFile.FieldType.object "IncidentKeeper$Core$Incident"))) ∈ lw_all := lw_g (lw_at lw_m6 144 rfl) rfl
theorem q1409 : (Jvm.Cond.methodLink "IncidentKeeper" (143 : Nat) ({ cls := "IncidentKeeper$Core", name := "hasIncident", desc := "(I)Z" } : Jvm.MethodName)) ∈ lw_all := lw_g (lw_at lw_m6 145 rfl) rfl
theorem q1410 : (Jvm.Cond.methodLink "IncidentKeeper" (147 : Nat) ({ cls := "IncidentKeeper", name := "requireIndex", desc := "(Z)V" } : Jvm.MethodName)) ∈ lw_all := lw_g (lw_at lw_m6 146 rfl) rfl
theorem q1411 : (Jvm.Cond.static ({ cls := "IncidentKeeper", name := "requireIndex", desc := "(Z)V" } : Jvm.MethodName)) ∈ lw_all := lw_g (lw_at lw_m6 147 rfl) rfl
theorem q1412 : (Jvm.Cond.code ({ cls := "IncidentKeeper", name := "requireIndex", desc := "(Z)V" } : Jvm.MethodName) prog_1_method_5_code (1 : Nat) (Option.none : Option Jvm.ClassFile.FieldType)) ∈ lw_all := lw_g (lw_at lw_m6 148 rfl) rfl
theorem q1413 : (Jvm.Cond.classLink "IncidentKeeper" (41 : Nat) "java/lang/IndexOutOfBoundsException") ∈ lw_all := lw_g (lw_at lw_m6 149 rfl) rfl
theorem q1422 : (Jvm.Cond.methodLink "IncidentKeeper" (43 : Nat) ({ cls := "java/lang/IndexOutOfBoundsException", name := "<init>", desc := "()V" } : Jvm.MethodName)) ∈ lw_all := lw_g (lw_at lw_m6 158 rfl) rfl
theorem q1428 : (Jvm.Cond.methodLink "IncidentKeeper" (153 : Nat) ({ cls := "java/util/ArrayList", name := "get", desc := "(I)Ljava/lang/Object;" } : Jvm.MethodName)) ∈ lw_all := lw_g (lw_at lw_m6 164 rfl) rfl
theorem q1429 : (Jvm.Cond.classLink "IncidentKeeper" (156 : Nat) "IncidentKeeper$Core$Incident") ∈ lw_all := lw_g (lw_at lw_m6 165 rfl) rfl
theorem q1430 : (Jvm.Cond.methodLink "IncidentKeeper" (162 : Nat) ({ cls := "IncidentKeeper$Core$Incident", name := "system", desc := "()I" } : Jvm.MethodName)) ∈ lw_all := lw_g (lw_at lw_m6 166 rfl) rfl
theorem q1431 : (Jvm.Cond.methodLink "IncidentKeeper" (174 : Nat) ({ cls := "IncidentKeeper$Core$Incident", name := "first", desc := "()I" } : Jvm.MethodName)) ∈ lw_all := lw_g (lw_at lw_m6 167 rfl) rfl
theorem q1432 : (Jvm.Cond.methodLink "IncidentKeeper" (180 : Nat) ({ cls := "IncidentKeeper$Core$Incident", name := "age", desc := "()I" } : Jvm.MethodName)) ∈ lw_all := lw_g (lw_at lw_m6 168 rfl) rfl
theorem q1437 : (Jvm.Cond.instanceMethod ({ cls := "IncidentKeeper", name := "count", desc := "(II)I" } : Jvm.MethodName)) ∈ lw_all := lw_g (lw_at lw_m6 173 rfl) rfl
theorem q1438 : (Jvm.Cond.selects "IncidentKeeper" ({ cls := "IncidentKeeper", name := "count", desc := "(II)I" } : Jvm.MethodName) ({ cls := "IncidentKeeper", name := "count", desc := "(II)I" } : Jvm.MethodName)) ∈ lw_all := lw_g (lw_at lw_m6 174 rfl) rfl
theorem q1439 : (Jvm.Cond.code ({ cls := "IncidentKeeper", name := "count", desc := "(II)I" } : Jvm.MethodName) prog_1_method_39_code (4 : Nat) (Option.some Jvm.ClassFile.FieldType.int)) ∈ lw_all := lw_g (lw_at lw_m6 175 rfl) rfl
theorem q1440 : (Jvm.Cond.methodLink "IncidentKeeper" (202 : Nat) ({ cls := "IncidentKeeper", name := "has", desc := "(II)Z" } : Jvm.MethodName)) ∈ lw_all := lw_g (lw_at lw_m6 176 rfl) rfl
theorem q1445 : (Jvm.Cond.instanceMethod ({ cls := "IncidentKeeper", name := "clockAgain", desc := "(I)I" } : Jvm.MethodName)) ∈ lw_all := lw_g (lw_at lw_m6 181 rfl) rfl
theorem q1446 : (Jvm.Cond.selects "IncidentKeeper" ({ cls := "IncidentKeeper", name := "clockAgain", desc := "(I)I" } : Jvm.MethodName) ({ cls := "IncidentKeeper", name := "clockAgain", desc := "(I)I" } : Jvm.MethodName)) ∈ lw_all := lw_g (lw_at lw_m6 182 rfl) rfl
theorem q1447 : (Jvm.Cond.code ({ cls := "IncidentKeeper", name := "clockAgain", desc := "(I)I" } : Jvm.MethodName) prog_1_method_40_code (3 : Nat) (Option.some Jvm.ClassFile.FieldType.int)) ∈ lw_all := lw_g (lw_at lw_m6 183 rfl) rfl
theorem q1452 : (Jvm.Cond.instanceMethod ({ cls := "IncidentKeeper", name := "tree", desc := "(I)I" } : Jvm.MethodName)) ∈ lw_all := lw_g (lw_at lw_m6 188 rfl) rfl
theorem q1453 : (Jvm.Cond.selects "IncidentKeeper" ({ cls := "IncidentKeeper", name := "tree", desc := "(I)I" } : Jvm.MethodName) ({ cls := "IncidentKeeper", name := "tree", desc := "(I)I" } : Jvm.MethodName)) ∈ lw_all := lw_g (lw_at lw_m6 189 rfl) rfl
theorem q1454 : (Jvm.Cond.code ({ cls := "IncidentKeeper", name := "tree", desc := "(I)I" } : Jvm.MethodName) prog_1_method_41_code (2 : Nat) (Option.some Jvm.ClassFile.FieldType.int)) ∈ lw_all := lw_g (lw_at lw_m6 190 rfl) rfl
theorem q1455 : (Jvm.Cond.methodLink "IncidentKeeper" (219 : Nat) ({ cls := "IncidentKeeper$Core", name := "tree", desc := "(I)I" } : Jvm.MethodName)) ∈ lw_all := lw_g (lw_at lw_m6 191 rfl) rfl
theorem q1460 : (Jvm.Cond.instanceMethod ({ cls := "IncidentKeeper", name := "deepest", desc := "(I)I" } : Jvm.MethodName)) ∈ lw_all := lw_g (lw_at lw_m6 196 rfl) rfl
theorem q1461 : (Jvm.Cond.selects "IncidentKeeper" ({ cls := "IncidentKeeper", name := "deepest", desc := "(I)I" } : Jvm.MethodName) ({ cls := "IncidentKeeper", name := "deepest", desc := "(I)I" } : Jvm.MethodName)) ∈ lw_all := lw_g (lw_at lw_m6 197 rfl) rfl
theorem q1462 : (Jvm.Cond.code ({ cls := "IncidentKeeper", name := "deepest", desc := "(I)I" } : Jvm.MethodName) prog_1_method_42_code (2 : Nat) (Option.some Jvm.ClassFile.FieldType.int)) ∈ lw_all := lw_g (lw_at lw_m6 198 rfl) rfl
theorem q1463 : (Jvm.Cond.methodLink "IncidentKeeper" (223 : Nat) ({ cls := "IncidentKeeper$Core", name := "deepest", desc := "(I)I" } : Jvm.MethodName)) ∈ lw_all := lw_g (lw_at lw_m6 199 rfl) rfl
theorem q1473 : (Jvm.Cond.instanceMethod ({ cls := "IncidentKeeper", name := "treeClock", desc := "(I)I" } : Jvm.MethodName)) ∈ lw_all := lw_g (lw_at lw_m6 209 rfl) rfl
theorem q1474 : (Jvm.Cond.selects "IncidentKeeper" ({ cls := "IncidentKeeper", name := "treeClock", desc := "(I)I" } : Jvm.MethodName) ({ cls := "IncidentKeeper", name := "treeClock", desc := "(I)I" } : Jvm.MethodName)) ∈ lw_all := lw_g (lw_at lw_m6 210 rfl) rfl
theorem q1475 : (Jvm.Cond.code ({ cls := "IncidentKeeper", name := "treeClock", desc := "(I)I" } : Jvm.MethodName) prog_1_method_43_code (5 : Nat) (Option.some Jvm.ClassFile.FieldType.int)) ∈ lw_all := lw_g (lw_at lw_m6 211 rfl) rfl
theorem q1476 : (Jvm.Cond.classLink "IncidentKeeper" (226 : Nat) "IncidentKeeper$Core$Descendants") ∈ lw_all := lw_g (lw_at lw_m6 212 rfl) rfl
theorem q1477 : (Jvm.Cond.methodLink "IncidentKeeper" (228 : Nat) ({ cls := "java/util/Objects", name := "requireNonNull", desc := "(Ljava/lang/Object;)Ljava/lang/Object;" } : Jvm.MethodName)) ∈ lw_all := lw_g (lw_at lw_m6 213 rfl) rfl
theorem q1480 : (Jvm.Cond.methodLink "IncidentKeeper" (234 : Nat) ({ cls := "IncidentKeeper$Core$Descendants", name := "<init>", desc := "(LIncidentKeeper$Core;I)V" } : Jvm.MethodName)) ∈ lw_all := lw_g (lw_at lw_m6 216 rfl) rfl
theorem q1481 : (Jvm.Cond.methodLink "IncidentKeeper" (237 : Nat) ({ cls := "IncidentKeeper$Core$Descendants", name := "iterator", desc := "()Ljava/util/Iterator;" } : Jvm.MethodName)) ∈ lw_all := lw_g (lw_at lw_m6 217 rfl) rfl
theorem q1482 : (Jvm.Cond.interfaceEntry "IncidentKeeper" (241 : Nat)) ∈ lw_tbl := lw_at lw_m6 218 rfl
theorem q1483 : (Jvm.Cond.methodLink "IncidentKeeper" (241 : Nat) ({ cls := "java/util/Iterator", name := "hasNext", desc := "()Z" } : Jvm.MethodName)) ∈ lw_all := lw_g (lw_at lw_m6 219 rfl) rfl
theorem q1484 : (Jvm.Cond.interfaceEntry "IncidentKeeper" (247 : Nat)) ∈ lw_tbl := lw_at lw_m6 220 rfl
theorem q1485 : (Jvm.Cond.methodLink "IncidentKeeper" (247 : Nat) ({ cls := "java/util/Iterator", name := "next", desc := "()Ljava/lang/Object;" } : Jvm.MethodName)) ∈ lw_all := lw_g (lw_at lw_m6 221 rfl) rfl
theorem q1490 : (Jvm.Cond.instanceMethod ({ cls := "IncidentKeeper", name := "suspects", desc := "(I)I" } : Jvm.MethodName)) ∈ lw_all := lw_g (lw_at lw_m6 226 rfl) rfl
theorem q1491 : (Jvm.Cond.selects "IncidentKeeper" ({ cls := "IncidentKeeper", name := "suspects", desc := "(I)I" } : Jvm.MethodName) ({ cls := "IncidentKeeper", name := "suspects", desc := "(I)I" } : Jvm.MethodName)) ∈ lw_all := lw_g (lw_at lw_m6 227 rfl) rfl
theorem q1492 : (Jvm.Cond.code ({ cls := "IncidentKeeper", name := "suspects", desc := "(I)I" } : Jvm.MethodName) prog_1_method_44_code (5 : Nat) (Option.some Jvm.ClassFile.FieldType.int)) ∈ lw_all := lw_g (lw_at lw_m6 228 rfl) rfl
theorem q1493 : (Jvm.Cond.classLink "IncidentKeeper" (254 : Nat) "IncidentKeeper$Change") ∈ lw_all := lw_g (lw_at lw_m6 229 rfl) rfl
theorem q1494 : (Jvm.Cond.methodLink "IncidentKeeper" (256 : Nat) ({ cls := "IncidentKeeper$Core$Incident", name := "isSuspected", desc := "(LIncidentKeeper$Change;)Z" } : Jvm.MethodName)) ∈ lw_all := lw_g (lw_at lw_m6 230 rfl) rfl
theorem q1499 : (Jvm.Cond.instanceMethod ({ cls := "IncidentKeeper", name := "likeliest", desc := "(I)I" } : Jvm.MethodName)) ∈ lw_all := lw_g (lw_at lw_m6 235 rfl) rfl
theorem q1500 : (Jvm.Cond.selects "IncidentKeeper" ({ cls := "IncidentKeeper", name := "likeliest", desc := "(I)I" } : Jvm.MethodName) ({ cls := "IncidentKeeper", name := "likeliest", desc := "(I)I" } : Jvm.MethodName)) ∈ lw_all := lw_g (lw_at lw_m6 236 rfl) rfl
theorem q1501 : (Jvm.Cond.code ({ cls := "IncidentKeeper", name := "likeliest", desc := "(I)I" } : Jvm.MethodName) prog_1_method_45_code (6 : Nat) (Option.some Jvm.ClassFile.FieldType.int)) ∈ lw_all := lw_g (lw_at lw_m6 237 rfl) rfl
theorem q1502 : (Jvm.Cond.methodLink "IncidentKeeper" (260 : Nat) ({ cls := "IncidentKeeper", name := "suspects", desc := "(I)I" } : Jvm.MethodName)) ∈ lw_all := lw_g (lw_at lw_m6 238 rfl) rfl
theorem q1503 : (Jvm.Cond.methodLink "IncidentKeeper" (263 : Nat) ({ cls := "IncidentKeeper$Change", name := "first", desc := "()I" } : Jvm.MethodName)) ∈ lw_all := lw_g (lw_at lw_m6 239 rfl) rfl
theorem q1508 : (Jvm.Cond.instanceMethod ({ cls := "IncidentKeeper", name := "next", desc := "()I" } : Jvm.MethodName)) ∈ lw_all := lw_g (lw_at lw_m7 4 rfl) rfl
theorem q1509 : (Jvm.Cond.selects "IncidentKeeper" ({ cls := "IncidentKeeper", name := "next", desc := "()I" } : Jvm.MethodName) ({ cls := "IncidentKeeper", name := "next", desc := "()I" } : Jvm.MethodName)) ∈ lw_all := lw_g (lw_at lw_m7 5 rfl) rfl
theorem q1510 : (Jvm.Cond.code ({ cls := "IncidentKeeper", name := "next", desc := "()I" } : Jvm.MethodName) prog_1_method_47_code (4 : Nat) (Option.some Jvm.ClassFile.FieldType.int)) ∈ lw_all := lw_g (lw_at lw_m7 6 rfl) rfl
theorem q1511 : (Jvm.Cond.methodLink "IncidentKeeper" (264 : Nat) ({ cls := "IncidentKeeper$Core$Incident", name := "isActive", desc := "()Z" } : Jvm.MethodName)) ∈ lw_all := lw_g (lw_at lw_m7 7 rfl) rfl
theorem q1512 : (Jvm.Cond.methodLink "IncidentKeeper" (267 : Nat) ({ cls := "IncidentKeeper", name := "isMoreUrgent", desc := "(LIncidentKeeper$Core$Incident;LIncidentKeeper$Core$Incident;)Z" } : Jvm.MethodName)) ∈ lw_all := lw_g (lw_at lw_m7 8 rfl) rfl
theorem q1513 : (Jvm.Cond.static ({ cls := "IncidentKeeper", name := "isMoreUrgent", desc := "(LIncidentKeeper$Core$Incident;LIncidentKeeper$Core$Incident;)Z" } : Jvm.MethodName)) ∈ lw_all := lw_g (lw_at lw_m7 9 rfl) rfl
theorem q1514 : (Jvm.Cond.code ({ cls := "IncidentKeeper", name := "isMoreUrgent", desc := "(LIncidentKeeper$Core$Incident;LIncidentKeeper$Core$Incident;)Z" } : Jvm.MethodName) prog_1_method_46_code (2 : Nat) (Option.some Jvm.ClassFile.FieldType.boolean)) ∈ lw_all := lw_g (lw_at lw_m7 10 rfl) rfl
theorem q1519 : (Jvm.Cond.instanceMethod ({ cls := "IncidentKeeper", name := "risesIn", desc := "(I)I" } : Jvm.MethodName)) ∈ lw_all := lw_g (lw_at lw_m7 15 rfl) rfl
theorem q1520 : (Jvm.Cond.selects "IncidentKeeper" ({ cls := "IncidentKeeper", name := "risesIn", desc := "(I)I" } : Jvm.MethodName) ({ cls := "IncidentKeeper", name := "risesIn", desc := "(I)I" } : Jvm.MethodName)) ∈ lw_all := lw_g (lw_at lw_m7 16 rfl) rfl
theorem q1521 : (Jvm.Cond.code ({ cls := "IncidentKeeper", name := "risesIn", desc := "(I)I" } : Jvm.MethodName) prog_1_method_48_code (9 : Nat) (Option.some Jvm.ClassFile.FieldType.int)) ∈ lw_all := lw_g (lw_at lw_m7 17 rfl) rfl
theorem q1522 : (Jvm.Cond.methodLink "IncidentKeeper" (274 : Nat) ({ cls := "[I", name := "clone", desc := "()Ljava/lang/Object;" } : Jvm.MethodName)) ∈ lw_all := lw_g (lw_at lw_m7 18 rfl) rfl
theorem q1528 : (Jvm.Cond.classLink "IncidentKeeper" (275 : Nat) "[I") ∈ lw_all := lw_g (lw_at lw_m7 24 rfl) rfl
theorem q1529 : (Jvm.Cond.methodLink "IncidentKeeper" (281 : Nat) ({ cls := "java/lang/Math", name := "max", desc := "(II)I" } : Jvm.MethodName)) ∈ lw_all := lw_g (lw_at lw_m7 25 rfl) rfl
theorem q1534 : (Jvm.Cond.instanceMethod ({ cls := "IncidentKeeper", name := "person", desc := "(II)I" } : Jvm.MethodName)) ∈ lw_all := lw_g (lw_at lw_m7 30 rfl) rfl
theorem q1535 : (Jvm.Cond.selects "IncidentKeeper" ({ cls := "IncidentKeeper", name := "person", desc := "(II)I" } : Jvm.MethodName) ({ cls := "IncidentKeeper", name := "person", desc := "(II)I" } : Jvm.MethodName)) ∈ lw_all := lw_g (lw_at lw_m7 31 rfl) rfl
theorem q1536 : (Jvm.Cond.code ({ cls := "IncidentKeeper", name := "person", desc := "(II)I" } : Jvm.MethodName) prog_1_method_49_code (6 : Nat) (Option.some Jvm.ClassFile.FieldType.int)) ∈ lw_all := lw_g (lw_at lw_m7 32 rfl) rfl
theorem q1537 : (Jvm.Cond.methodLink "IncidentKeeper" (290 : Nat) ({ cls := "IncidentKeeper", name := "isPerson", desc := "(I)Z" } : Jvm.MethodName)) ∈ lw_all := lw_g (lw_at lw_m7 33 rfl) rfl
theorem q1538 : (Jvm.Cond.methodLink "IncidentKeeper" (293 : Nat) ({ cls := "IncidentKeeper$Core", name := "load", desc := "(I)I" } : Jvm.MethodName)) ∈ lw_all := lw_g (lw_at lw_m7 34 rfl) rfl
theorem q1539 : (Jvm.Cond.classLink "IncidentKeeper" (302 : Nat) "IncidentKeeper$Action") ∈ lw_all := lw_g (lw_at lw_m7 35 rfl) rfl
theorem q1540 : (Jvm.Cond.methodLink "IncidentKeeper" (313 : Nat) ({ cls := "IncidentKeeper$Core", name := "heldBy", desc := "(I)I" } : Jvm.MethodName)) ∈ lw_all := lw_g (lw_at lw_m7 36 rfl) rfl
theorem q1548 : (Jvm.Cond.instanceMethod ({ cls := "IncidentKeeper", name := "reviewOf", desc := "(II)I" } : Jvm.MethodName)) ∈ lw_all := lw_g (lw_at lw_m7 44 rfl) rfl
theorem q1549 : (Jvm.Cond.selects "IncidentKeeper" ({ cls := "IncidentKeeper", name := "reviewOf", desc := "(II)I" } : Jvm.MethodName) ({ cls := "IncidentKeeper", name := "reviewOf", desc := "(II)I" } : Jvm.MethodName)) ∈ lw_all := lw_g (lw_at lw_m7 45 rfl) rfl
theorem q1550 : (Jvm.Cond.code ({ cls := "IncidentKeeper", name := "reviewOf", desc := "(II)I" } : Jvm.MethodName) prog_1_method_50_code (7 : Nat) (Option.some Jvm.ClassFile.FieldType.int)) ∈ lw_all := lw_g (lw_at lw_m7 46 rfl) rfl
theorem q1551 : (Jvm.Cond.methodLink "IncidentKeeper" (316 : Nat) ({ cls := "IncidentKeeper$Core", name := "hasReview", desc := "(I)Z" } : Jvm.MethodName)) ∈ lw_all := lw_g (lw_at lw_m7 47 rfl) rfl
theorem q1556 : (Jvm.Cond.instanceMethod ({ cls := "IncidentKeeper", name := "event", desc := "(II)I" } : Jvm.MethodName)) ∈ lw_all := lw_g (lw_at lw_m7 52 rfl) rfl
theorem q1557 : (Jvm.Cond.selects "IncidentKeeper" ({ cls := "IncidentKeeper", name := "event", desc := "(II)I" } : Jvm.MethodName) ({ cls := "IncidentKeeper", name := "event", desc := "(II)I" } : Jvm.MethodName)) ∈ lw_all := lw_g (lw_at lw_m7 53 rfl) rfl
theorem q1558 : (Jvm.Cond.code ({ cls := "IncidentKeeper", name := "event", desc := "(II)I" } : Jvm.MethodName) prog_1_method_51_code (4 : Nat) (Option.some Jvm.ClassFile.FieldType.int)) ∈ lw_all := lw_g (lw_at lw_m7 54 rfl) rfl
theorem q1559 : (Jvm.Cond.classLink "IncidentKeeper" (326 : Nat) "IncidentKeeper$Event") ∈ lw_all := lw_g (lw_at lw_m7 55 rfl) rfl
theorem q1564 : (Jvm.Cond.instanceMethod ({ cls := "IncidentKeeper", name := "letter", desc := "(I)C" } : Jvm.MethodName)) ∈ lw_all := lw_g (lw_at lw_m7 60 rfl) rfl
theorem q1565 : (Jvm.Cond.selects "IncidentKeeper" ({ cls := "IncidentKeeper", name := "letter", desc := "(I)C" } : Jvm.MethodName) ({ cls := "IncidentKeeper", name := "letter", desc := "(I)C" } : Jvm.MethodName)) ∈ lw_all := lw_g (lw_at lw_m7 61 rfl) rfl
theorem q1566 : (Jvm.Cond.code ({ cls := "IncidentKeeper", name := "letter", desc := "(I)C" } : Jvm.MethodName) prog_1_method_52_code (3 : Nat) (Option.some Jvm.ClassFile.FieldType.char)) ∈ lw_all := lw_g (lw_at lw_m7 62 rfl) rfl
theorem q1567 : (Jvm.Cond.stringRef "IncidentKeeper" (340 : Nat) "osRC") ∈ lw_tbl := lw_at lw_m7 63 rfl
theorem q1568 : (Jvm.Cond.stringRef "IncidentKeeper" (342 : Nat) "OSRC") ∈ lw_tbl := lw_at lw_m7 64 rfl
theorem q1569 : (Jvm.Cond.methodLink "IncidentKeeper" (344 : Nat) ({ cls := "java/lang/String", name := "charAt", desc := "(I)C" } : Jvm.MethodName)) ∈ lw_all := lw_g (lw_at lw_m7 65 rfl) rfl
theorem q1605 : (Jvm.Cond.instanceMethod ({ cls := "IncidentKeeper", name := "stoppedShare", desc := "(I)F" } : Jvm.MethodName)) ∈ lw_all := lw_g (lw_at lw_m7 101 rfl) rfl
theorem q1606 : (Jvm.Cond.selects "IncidentKeeper" ({ cls := "IncidentKeeper", name := "stoppedShare", desc := "(I)F" } : Jvm.MethodName) ({ cls := "IncidentKeeper", name := "stoppedShare", desc := "(I)F" } : Jvm.MethodName)) ∈ lw_all := lw_g (lw_at lw_m7 102 rfl) rfl
theorem q1607 : (Jvm.Cond.code ({ cls := "IncidentKeeper", name := "stoppedShare", desc := "(I)F" } : Jvm.MethodName) prog_1_method_53_code (3 : Nat) (Option.some Jvm.ClassFile.FieldType.float)) ∈ lw_all := lw_g (lw_at lw_m7 103 rfl) rfl
theorem q1608 : (Jvm.Cond.classLink "IncidentKeeper" (350 : Nat) "java/lang/ArithmeticException") ∈ lw_all := lw_g (lw_at lw_m7 104 rfl) rfl
theorem q1609 : (Jvm.Cond.methodLink "IncidentKeeper" (352 : Nat) ({ cls := "java/lang/ArithmeticException", name := "<init>", desc := "()V" } : Jvm.MethodName)) ∈ lw_all := lw_g (lw_at lw_m7 105 rfl) rfl
theorem q1617 : (Jvm.Cond.instanceMethod ({ cls := "IncidentKeeper", name := "meanClock", desc := "()D" } : Jvm.MethodName)) ∈ lw_all := lw_g (lw_at lw_m7 113 rfl) rfl
theorem q1618 : (Jvm.Cond.selects "IncidentKeeper" ({ cls := "IncidentKeeper", name := "meanClock", desc := "()D" } : Jvm.MethodName) ({ cls := "IncidentKeeper", name := "meanClock", desc := "()D" } : Jvm.MethodName)) ∈ lw_all := lw_g (lw_at lw_m7 114 rfl) rfl
theorem q1619 : (Jvm.Cond.code ({ cls := "IncidentKeeper", name := "meanClock", desc := "()D" } : Jvm.MethodName) prog_1_method_54_code (5 : Nat) (Option.some Jvm.ClassFile.FieldType.double)) ∈ lw_all := lw_g (lw_at lw_m7 115 rfl) rfl
theorem q1624 : (Jvm.Cond.instanceMethod ({ cls := "IncidentKeeper", name := "account", desc := "(I)I" } : Jvm.MethodName)) ∈ lw_all := lw_g (lw_at lw_m7 120 rfl) rfl
theorem q1625 : (Jvm.Cond.selects "IncidentKeeper" ({ cls := "IncidentKeeper", name := "account", desc := "(I)I" } : Jvm.MethodName) ({ cls := "IncidentKeeper", name := "account", desc := "(I)I" } : Jvm.MethodName)) ∈ lw_all := lw_g (lw_at lw_m7 121 rfl) rfl
theorem q1626 : (Jvm.Cond.code ({ cls := "IncidentKeeper", name := "account", desc := "(I)I" } : Jvm.MethodName) prog_1_method_57_code (2 : Nat) (Option.some Jvm.ClassFile.FieldType.int)) ∈ lw_all := lw_g (lw_at lw_m7 122 rfl) rfl
theorem q1627 : (Jvm.Cond.methodLink "IncidentKeeper" (353 : Nat) ({ cls := "IncidentKeeper$Core", name := "inState", desc := "(I)I" } : Jvm.MethodName)) ∈ lw_all := lw_g (lw_at lw_m7 123 rfl) rfl
theorem q1628 : (Jvm.Cond.methodLink "IncidentKeeper" (356 : Nat) ({ cls := "IncidentKeeper", name := "overdue", desc := "()I" } : Jvm.MethodName)) ∈ lw_all := lw_g (lw_at lw_m7 124 rfl) rfl
theorem q1629 : (Jvm.Cond.privateMethod ({ cls := "IncidentKeeper", name := "overdue", desc := "()I" } : Jvm.MethodName)) ∈ lw_tbl := lw_at lw_m7 125 rfl
theorem q1630 : (Jvm.Cond.instanceMethod ({ cls := "IncidentKeeper", name := "overdue", desc := "()I" } : Jvm.MethodName)) ∈ lw_all := lw_g (lw_at lw_m7 126 rfl) rfl
theorem q1631 : (Jvm.Cond.code ({ cls := "IncidentKeeper", name := "overdue", desc := "()I" } : Jvm.MethodName) prog_1_method_55_code (3 : Nat) (Option.some Jvm.ClassFile.FieldType.int)) ∈ lw_all := lw_g (lw_at lw_m7 127 rfl) rfl
theorem q1632 : (Jvm.Cond.methodLink "IncidentKeeper" (362 : Nat) ({ cls := "IncidentKeeper", name := "done", desc := "()I" } : Jvm.MethodName)) ∈ lw_all := lw_g (lw_at lw_m7 128 rfl) rfl
theorem q1633 : (Jvm.Cond.privateMethod ({ cls := "IncidentKeeper", name := "done", desc := "()I" } : Jvm.MethodName)) ∈ lw_tbl := lw_at lw_m7 129 rfl
theorem q1634 : (Jvm.Cond.instanceMethod ({ cls := "IncidentKeeper", name := "done", desc := "()I" } : Jvm.MethodName)) ∈ lw_all := lw_g (lw_at lw_m7 130 rfl) rfl
theorem q1635 : (Jvm.Cond.code ({ cls := "IncidentKeeper", name := "done", desc := "()I" } : Jvm.MethodName) prog_1_method_56_code (3 : Nat) (Option.some Jvm.ClassFile.FieldType.int)) ∈ lw_all := lw_g (lw_at lw_m7 131 rfl) rfl
theorem q1640 : (Jvm.Cond.instanceMethod ({ cls := "IncidentKeeper", name := "undo", desc := "()I" } : Jvm.MethodName)) ∈ lw_all := lw_g (lw_at lw_m7 136 rfl) rfl
theorem q1641 : (Jvm.Cond.selects "IncidentKeeper" ({ cls := "IncidentKeeper", name := "undo", desc := "()I" } : Jvm.MethodName) ({ cls := "IncidentKeeper", name := "undo", desc := "()I" } : Jvm.MethodName)) ∈ lw_all := lw_g (lw_at lw_m7 137 rfl) rfl
theorem q1642 : (Jvm.Cond.code ({ cls := "IncidentKeeper", name := "undo", desc := "()I" } : Jvm.MethodName) prog_1_method_58_code (1 : Nat) (Option.some Jvm.ClassFile.FieldType.int)) ∈ lw_all := lw_g (lw_at lw_m7 138 rfl) rfl
theorem q1643 : (Jvm.Cond.methodLink "IncidentKeeper" (368 : Nat) ({ cls := "java/util/ArrayList", name := "isEmpty", desc := "()Z" } : Jvm.MethodName)) ∈ lw_all := lw_g (lw_at lw_m7 139 rfl) rfl
theorem q1651 : (Jvm.Cond.instanceMethod ({ cls := "IncidentKeeper", name := "restore", desc := "()I" } : Jvm.MethodName)) ∈ lw_all := lw_g (lw_at lw_m7 147 rfl) rfl
theorem q1652 : (Jvm.Cond.selects "IncidentKeeper" ({ cls := "IncidentKeeper", name := "restore", desc := "()I" } : Jvm.MethodName) ({ cls := "IncidentKeeper", name := "restore", desc := "()I" } : Jvm.MethodName)) ∈ lw_all := lw_g (lw_at lw_m7 148 rfl) rfl
theorem q1653 : (Jvm.Cond.code ({ cls := "IncidentKeeper", name := "restore", desc := "()I" } : Jvm.MethodName) prog_1_method_60_code (1 : Nat) (Option.some Jvm.ClassFile.FieldType.int)) ∈ lw_all := lw_g (lw_at lw_m7 149 rfl) rfl
theorem q1654 : (Jvm.Cond.methodLink "IncidentKeeper" (374 : Nat) ({ cls := "java/util/ArrayList", name := "clear", desc := "()V" } : Jvm.MethodName)) ∈ lw_all := lw_g (lw_at lw_m7 150 rfl) rfl
theorem q2064 : (Jvm.Cond.castable "IncidentKeeper" "java/lang/Object") ∈ lw_tbl := lw_at lw_m9 80 rfl
theorem in_X1 : ∀ w ∈ wsX10, w ∈ lw_all := lw_in wsX10 [210, 212, 214, 216, 218, 220, 222, 224, 226, 228] (by decide +kernel) (by decide +kernel)
