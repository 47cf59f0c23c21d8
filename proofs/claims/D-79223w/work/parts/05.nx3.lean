/-! IncidentKeeperModel -/
set_option maxRecDepth 100000
def RX3 : String := "IncidentKeeperModel"
def TX3 : u_T := fun k => match k with
  | 0 => ("IncidentKeeperModel", "g", "[I", true)
  | 1 => ("IncidentKeeperModel", "kept", "[I", true)
  | 2 => ("IncidentKeeperModel", "before", "[I", true)
  | 3 => ("IncidentKeeperModel", "hasKept", "Z", false)
  | 4 => ("IncidentKeeperModel", "isTextNow", "Z", false)
  | 5 => ("IncidentKeeperModel", "past", "[I", true)
  | 6 => ("IncidentKeeperModel", "pasts", "I", false)
  | 7 => ("IncidentKeeperModel", "reason", "I", false)
  | 8 => ("IncidentKeeperModel", "detail", "I", false)
  | 9 => ("IncidentKeeperModel", "entry", "I", false)
  | 10 => ("IncidentKeeperModel", "thrown", "I", false)
  | 11 => ("IncidentKeeperModel", "tried", "[I", true)
  | 12 => ("IncidentKeeperModel", "text", "[I", true)
  | 13 => ("IncidentKeeperModel", "length", "I", false)
  | 14 => ("IncidentKeeperModel", "spot", "I", false)
  | 15 => ("IncidentKeeperModel", "wrong", "I", false)
  | 16 => ("IncidentKeeperModel", "told", "[I", true)
  | 17 => ("IncidentKeeperModel", "tolds", "I", false)
  | _ => ("IncidentKeeperModel", "deep", "[I", true)
def tyX3 : Nat → FieldType := fun k => match k with
  | 0 => .array .int
  | 1 => .array .int
  | 2 => .array .int
  | 3 => .boolean
  | 4 => .boolean
  | 5 => .array .int
  | 6 => .int
  | 7 => .int
  | 8 => .int
  | 9 => .int
  | 10 => .int
  | 11 => .array .int
  | 12 => .array .int
  | 13 => .int
  | 14 => .int
  | 15 => .int
  | 16 => .array .int
  | 17 => .int
  | _ => .array .int
abbrev wsX30 : List Cond := u_ws RX3 TX3 19
set_option maxRecDepth 100000 in
theorem nmX3 : ∀ a, a < 19 → ∀ b, b < 19 → a ≠ b → (TX3 a).2.1 ≠ (TX3 b).2.1 := by decide +kernel
set_option maxRecDepth 100000 in
theorem tyX3_ok : ∀ k, k < 19 → parseFieldDescriptor (TX3 k).2.2.1 = some (tyX3 k) := by decide +kernel
abbrev cX3_init : ByteArray := prog_18_method_1_code
def yX3_init : MethodName := ⟨RX3, "<init>", "()V"⟩
def dkwX3_init_5 : List UInt8 := [42, 180, 0, 7, 8, 17, 1, 224, 79, 42, 180, 0, 7, 16, 10, 16, 30, 79, 177]
abbrev dktX3_init_5 : List UInt8 := dkwX3_init_5 ++ []
def dkwX3_init_4 : List UInt8 := [180, 0, 7, 5, 16, 15, 79, 42, 180, 0, 7, 6, 16, 60, 79, 42, 180, 0, 7, 7, 17, 0, 240, 79]
abbrev dktX3_init_4 : List UInt8 := dkwX3_init_4 ++ dktX3_init_5
def dkwX3_init_3 : List UInt8 := [17, 0, 128, 188, 10, 181, 0, 35, 42, 16, 16, 188, 10, 181, 0, 38, 42, 180, 0, 7, 4, 6, 79, 42]
abbrev dktX3_init_3 : List UInt8 := dkwX3_init_3 ++ dktX3_init_4
def dkwX3_init_2 : List UInt8 := [17, 2, 188, 188, 10, 181, 0, 26, 42, 16, 60, 188, 10, 181, 0, 29, 42, 2, 181, 0, 32, 42]
abbrev dktX3_init_2 : List UInt8 := dkwX3_init_2 ++ dktX3_init_3
def dkwX3_init_1 : List UInt8 := [17, 2, 188, 188, 10, 181, 0, 16, 42, 17, 21, 224, 188, 10, 181, 0, 19, 42, 2, 181, 0, 22, 42]
abbrev dktX3_init_1 : List UInt8 := dkwX3_init_1 ++ dktX3_init_2
def dkwX3_init_0 : List UInt8 := [42, 183, 0, 1, 42, 17, 2, 188, 188, 10, 181, 0, 7, 42, 17, 2, 188, 188, 10, 181, 0, 13, 42]
abbrev dktX3_init_0 : List UInt8 := dkwX3_init_0 ++ dktX3_init_1
theorem dksX3_init_0 : cX3_init.data.toList.drop 0 = dktX3_init_0 := by decide +kernel
theorem dksX3_init_1 : cX3_init.data.toList.drop 23 = dktX3_init_1 := dk_seg dksX3_init_0 23 rfl rfl
theorem dksX3_init_2 : cX3_init.data.toList.drop 46 = dktX3_init_2 := dk_seg dksX3_init_1 23 rfl rfl
theorem dksX3_init_3 : cX3_init.data.toList.drop 68 = dktX3_init_3 := dk_seg dksX3_init_2 22 rfl rfl
theorem dksX3_init_4 : cX3_init.data.toList.drop 92 = dktX3_init_4 := dk_seg dksX3_init_3 24 rfl rfl
theorem dksX3_init_5 : cX3_init.data.toList.drop 116 = dktX3_init_5 := dk_seg dksX3_init_4 24 rfl rfl
theorem dX3_init_0 : decode cX3_init 0 = .ok (.aload_n 0, 1) := dk_42 (dk_at dksX3_init_0 0 rfl rfl)
theorem dX3_init_1 : decode cX3_init 1 = .ok (.invokespecial 1, 3) := dk_183 0 1 (dk_at dksX3_init_0 1 rfl rfl)
theorem dX3_init_4 : decode cX3_init 4 = .ok (.aload_n 0, 1) := dk_42 (dk_at dksX3_init_0 4 rfl rfl)
theorem dX3_init_5 : decode cX3_init 5 = .ok (.sipush 700, 3) := dk_17 2 188 (dk_at dksX3_init_0 5 rfl rfl)
theorem dX3_init_8 : decode cX3_init 8 = .ok (.newarray .int, 2) := dk_188_10 (dk_at dksX3_init_0 8 rfl rfl)
theorem dX3_init_10 : decode cX3_init 10 = .ok (.putfield 7, 3) := dk_181 0 7 (dk_at dksX3_init_0 10 rfl rfl)
theorem dX3_init_13 : decode cX3_init 13 = .ok (.aload_n 0, 1) := dk_42 (dk_at dksX3_init_0 13 rfl rfl)
theorem dX3_init_14 : decode cX3_init 14 = .ok (.sipush 700, 3) := dk_17 2 188 (dk_at dksX3_init_0 14 rfl rfl)
theorem dX3_init_17 : decode cX3_init 17 = .ok (.newarray .int, 2) := dk_188_10 (dk_at dksX3_init_0 17 rfl rfl)
theorem dX3_init_19 : decode cX3_init 19 = .ok (.putfield 13, 3) := dk_181 0 13 (dk_at dksX3_init_0 19 rfl rfl)
theorem dX3_init_22 : decode cX3_init 22 = .ok (.aload_n 0, 1) := dk_42 (dk_at dksX3_init_0 22 rfl rfl)
theorem dX3_init_23 : decode cX3_init 23 = .ok (.sipush 700, 3) := dk_17 2 188 (dk_at dksX3_init_1 0 rfl rfl)
theorem dX3_init_26 : decode cX3_init 26 = .ok (.newarray .int, 2) := dk_188_10 (dk_at dksX3_init_1 3 rfl rfl)
theorem dX3_init_28 : decode cX3_init 28 = .ok (.putfield 16, 3) := dk_181 0 16 (dk_at dksX3_init_1 5 rfl rfl)
theorem dX3_init_31 : decode cX3_init 31 = .ok (.aload_n 0, 1) := dk_42 (dk_at dksX3_init_1 8 rfl rfl)
theorem dX3_init_32 : decode cX3_init 32 = .ok (.sipush 5600, 3) := dk_17 21 224 (dk_at dksX3_init_1 9 rfl rfl)
theorem dX3_init_35 : decode cX3_init 35 = .ok (.newarray .int, 2) := dk_188_10 (dk_at dksX3_init_1 12 rfl rfl)
theorem dX3_init_37 : decode cX3_init 37 = .ok (.putfield 19, 3) := dk_181 0 19 (dk_at dksX3_init_1 14 rfl rfl)
theorem dX3_init_40 : decode cX3_init 40 = .ok (.aload_n 0, 1) := dk_42 (dk_at dksX3_init_1 17 rfl rfl)
theorem dX3_init_41 : decode cX3_init 41 = .ok (.iconst (-1), 1) := dk_2 (dk_at dksX3_init_1 18 rfl rfl)
theorem dX3_init_42 : decode cX3_init 42 = .ok (.putfield 22, 3) := dk_181 0 22 (dk_at dksX3_init_1 19 rfl rfl)
theorem dX3_init_45 : decode cX3_init 45 = .ok (.aload_n 0, 1) := dk_42 (dk_at dksX3_init_1 22 rfl rfl)
theorem dX3_init_46 : decode cX3_init 46 = .ok (.sipush 700, 3) := dk_17 2 188 (dk_at dksX3_init_2 0 rfl rfl)
theorem dX3_init_49 : decode cX3_init 49 = .ok (.newarray .int, 2) := dk_188_10 (dk_at dksX3_init_2 3 rfl rfl)
theorem dX3_init_51 : decode cX3_init 51 = .ok (.putfield 26, 3) := dk_181 0 26 (dk_at dksX3_init_2 5 rfl rfl)
theorem dX3_init_54 : decode cX3_init 54 = .ok (.aload_n 0, 1) := dk_42 (dk_at dksX3_init_2 8 rfl rfl)
theorem dX3_init_55 : decode cX3_init 55 = .ok (.bipush 60, 2) := dk_16 60 (dk_at dksX3_init_2 9 rfl rfl)
theorem dX3_init_57 : decode cX3_init 57 = .ok (.newarray .int, 2) := dk_188_10 (dk_at dksX3_init_2 11 rfl rfl)
theorem dX3_init_59 : decode cX3_init 59 = .ok (.putfield 29, 3) := dk_181 0 29 (dk_at dksX3_init_2 13 rfl rfl)
theorem dX3_init_62 : decode cX3_init 62 = .ok (.aload_n 0, 1) := dk_42 (dk_at dksX3_init_2 16 rfl rfl)
theorem dX3_init_63 : decode cX3_init 63 = .ok (.iconst (-1), 1) := dk_2 (dk_at dksX3_init_2 17 rfl rfl)
theorem dX3_init_64 : decode cX3_init 64 = .ok (.putfield 32, 3) := dk_181 0 32 (dk_at dksX3_init_2 18 rfl rfl)
theorem dX3_init_67 : decode cX3_init 67 = .ok (.aload_n 0, 1) := dk_42 (dk_at dksX3_init_2 21 rfl rfl)
theorem dX3_init_68 : decode cX3_init 68 = .ok (.sipush 128, 3) := dk_17 0 128 (dk_at dksX3_init_3 0 rfl rfl)
theorem dX3_init_71 : decode cX3_init 71 = .ok (.newarray .int, 2) := dk_188_10 (dk_at dksX3_init_3 3 rfl rfl)
theorem dX3_init_73 : decode cX3_init 73 = .ok (.putfield 35, 3) := dk_181 0 35 (dk_at dksX3_init_3 5 rfl rfl)
theorem dX3_init_76 : decode cX3_init 76 = .ok (.aload_n 0, 1) := dk_42 (dk_at dksX3_init_3 8 rfl rfl)
theorem dX3_init_77 : decode cX3_init 77 = .ok (.bipush 16, 2) := dk_16 16 (dk_at dksX3_init_3 9 rfl rfl)
theorem dX3_init_79 : decode cX3_init 79 = .ok (.newarray .int, 2) := dk_188_10 (dk_at dksX3_init_3 11 rfl rfl)
theorem dX3_init_81 : decode cX3_init 81 = .ok (.putfield 38, 3) := dk_181 0 38 (dk_at dksX3_init_3 13 rfl rfl)
theorem dX3_init_84 : decode cX3_init 84 = .ok (.aload_n 0, 1) := dk_42 (dk_at dksX3_init_3 16 rfl rfl)
theorem dX3_init_85 : decode cX3_init 85 = .ok (.getfield 7, 3) := dk_180 0 7 (dk_at dksX3_init_3 17 rfl rfl)
theorem dX3_init_88 : decode cX3_init 88 = .ok (.iconst 1, 1) := dk_4 (dk_at dksX3_init_3 20 rfl rfl)
theorem dX3_init_89 : decode cX3_init 89 = .ok (.iconst 3, 1) := dk_6 (dk_at dksX3_init_3 21 rfl rfl)
theorem dX3_init_90 : decode cX3_init 90 = .ok (.iastore, 1) := dk_79 (dk_at dksX3_init_3 22 rfl rfl)
theorem dX3_init_91 : decode cX3_init 91 = .ok (.aload_n 0, 1) := dk_42 (dk_at dksX3_init_3 23 rfl rfl)
theorem dX3_init_92 : decode cX3_init 92 = .ok (.getfield 7, 3) := dk_180 0 7 (dk_at dksX3_init_4 0 rfl rfl)
theorem dX3_init_95 : decode cX3_init 95 = .ok (.iconst 2, 1) := dk_5 (dk_at dksX3_init_4 3 rfl rfl)
theorem dX3_init_96 : decode cX3_init 96 = .ok (.bipush 15, 2) := dk_16 15 (dk_at dksX3_init_4 4 rfl rfl)
theorem dX3_init_98 : decode cX3_init 98 = .ok (.iastore, 1) := dk_79 (dk_at dksX3_init_4 6 rfl rfl)
theorem dX3_init_99 : decode cX3_init 99 = .ok (.aload_n 0, 1) := dk_42 (dk_at dksX3_init_4 7 rfl rfl)
theorem dX3_init_100 : decode cX3_init 100 = .ok (.getfield 7, 3) := dk_180 0 7 (dk_at dksX3_init_4 8 rfl rfl)
theorem dX3_init_103 : decode cX3_init 103 = .ok (.iconst 3, 1) := dk_6 (dk_at dksX3_init_4 11 rfl rfl)
theorem dX3_init_104 : decode cX3_init 104 = .ok (.bipush 60, 2) := dk_16 60 (dk_at dksX3_init_4 12 rfl rfl)
theorem dX3_init_106 : decode cX3_init 106 = .ok (.iastore, 1) := dk_79 (dk_at dksX3_init_4 14 rfl rfl)
theorem dX3_init_107 : decode cX3_init 107 = .ok (.aload_n 0, 1) := dk_42 (dk_at dksX3_init_4 15 rfl rfl)
theorem dX3_init_108 : decode cX3_init 108 = .ok (.getfield 7, 3) := dk_180 0 7 (dk_at dksX3_init_4 16 rfl rfl)
theorem dX3_init_111 : decode cX3_init 111 = .ok (.iconst 4, 1) := dk_7 (dk_at dksX3_init_4 19 rfl rfl)
theorem dX3_init_112 : decode cX3_init 112 = .ok (.sipush 240, 3) := dk_17 0 240 (dk_at dksX3_init_4 20 rfl rfl)
theorem dX3_init_115 : decode cX3_init 115 = .ok (.iastore, 1) := dk_79 (dk_at dksX3_init_4 23 rfl rfl)
theorem dX3_init_116 : decode cX3_init 116 = .ok (.aload_n 0, 1) := dk_42 (dk_at dksX3_init_5 0 rfl rfl)
theorem dX3_init_117 : decode cX3_init 117 = .ok (.getfield 7, 3) := dk_180 0 7 (dk_at dksX3_init_5 1 rfl rfl)
theorem dX3_init_120 : decode cX3_init 120 = .ok (.iconst 5, 1) := dk_8 (dk_at dksX3_init_5 4 rfl rfl)
theorem dX3_init_121 : decode cX3_init 121 = .ok (.sipush 480, 3) := dk_17 1 224 (dk_at dksX3_init_5 5 rfl rfl)
theorem dX3_init_124 : decode cX3_init 124 = .ok (.iastore, 1) := dk_79 (dk_at dksX3_init_5 8 rfl rfl)
theorem dX3_init_125 : decode cX3_init 125 = .ok (.aload_n 0, 1) := dk_42 (dk_at dksX3_init_5 9 rfl rfl)
theorem dX3_init_126 : decode cX3_init 126 = .ok (.getfield 7, 3) := dk_180 0 7 (dk_at dksX3_init_5 10 rfl rfl)
theorem dX3_init_129 : decode cX3_init 129 = .ok (.bipush 10, 2) := dk_16 10 (dk_at dksX3_init_5 13 rfl rfl)
theorem dX3_init_131 : decode cX3_init 131 = .ok (.bipush 30, 2) := dk_16 30 (dk_at dksX3_init_5 15 rfl rfl)
theorem dX3_init_133 : decode cX3_init 133 = .ok (.iastore, 1) := dk_79 (dk_at dksX3_init_5 17 rfl rfl)
theorem dX3_init_134 : decode cX3_init 134 = .ok (.return_, 1) := dk_177 (dk_at dksX3_init_5 18 rfl rfl)
abbrev cX3_thrown : ByteArray := prog_18_method_2_code
def yX3_thrown : MethodName := ⟨RX3, "thrown", "()I"⟩
theorem dX3_thrown_0 : decode cX3_thrown 0 = .ok (.aload_n 0, 1) := by decide +kernel
theorem dX3_thrown_1 : decode cX3_thrown 1 = .ok (.getfield 41, 3) := by decide +kernel
theorem dX3_thrown_4 : decode cX3_thrown 4 = .ok (.ireturn, 1) := by decide +kernel
abbrev cX3_undo : ByteArray := prog_18_method_9_code
def yX3_undo : MethodName := ⟨RX3, "undo", "()I"⟩
def dkwX3_undo_2 : List UInt8 := [180, 0, 7, 3, 184, 0, 57, 42, 180, 0, 54, 172]
abbrev dktX3_undo_2 : List UInt8 := dkwX3_undo_2 ++ []
def dkwX3_undo_1 : List UInt8 := [172, 42, 89, 180, 0, 54, 4, 100, 181, 0, 54, 42, 180, 0, 19, 17, 2, 188, 42, 180, 0, 54, 104, 42]
abbrev dktX3_undo_1 : List UInt8 := dkwX3_undo_1 ++ dktX3_undo_2
def dkwX3_undo_0 : List UInt8 := [42, 42, 180, 0, 54, 154, 0, 7, 4, 167, 0, 4, 3, 181, 0, 41, 42, 180, 0, 41, 158, 0, 5, 3]
abbrev dktX3_undo_0 : List UInt8 := dkwX3_undo_0 ++ dktX3_undo_1
theorem dksX3_undo_0 : cX3_undo.data.toList.drop 0 = dktX3_undo_0 := by decide +kernel
theorem dksX3_undo_1 : cX3_undo.data.toList.drop 24 = dktX3_undo_1 := dk_seg dksX3_undo_0 24 rfl rfl
theorem dksX3_undo_2 : cX3_undo.data.toList.drop 48 = dktX3_undo_2 := dk_seg dksX3_undo_1 24 rfl rfl
theorem dX3_undo_0 : decode cX3_undo 0 = .ok (.aload_n 0, 1) := dk_42 (dk_at dksX3_undo_0 0 rfl rfl)
theorem dX3_undo_1 : decode cX3_undo 1 = .ok (.aload_n 0, 1) := dk_42 (dk_at dksX3_undo_0 1 rfl rfl)
theorem dX3_undo_2 : decode cX3_undo 2 = .ok (.getfield 54, 3) := dk_180 0 54 (dk_at dksX3_undo_0 2 rfl rfl)
theorem dX3_undo_5 : decode cX3_undo 5 = .ok (.ifCond .ne 7, 3) := dk_154 0 7 (dk_at dksX3_undo_0 5 rfl rfl)
theorem dX3_undo_8 : decode cX3_undo 8 = .ok (.iconst 1, 1) := dk_4 (dk_at dksX3_undo_0 8 rfl rfl)
theorem dX3_undo_9 : decode cX3_undo 9 = .ok (.goto 4, 3) := dk_167 0 4 (dk_at dksX3_undo_0 9 rfl rfl)
theorem dX3_undo_12 : decode cX3_undo 12 = .ok (.iconst 0, 1) := dk_3 (dk_at dksX3_undo_0 12 rfl rfl)
theorem dX3_undo_13 : decode cX3_undo 13 = .ok (.putfield 41, 3) := dk_181 0 41 (dk_at dksX3_undo_0 13 rfl rfl)
theorem dX3_undo_16 : decode cX3_undo 16 = .ok (.aload_n 0, 1) := dk_42 (dk_at dksX3_undo_0 16 rfl rfl)
theorem dX3_undo_17 : decode cX3_undo 17 = .ok (.getfield 41, 3) := dk_180 0 41 (dk_at dksX3_undo_0 17 rfl rfl)
theorem dX3_undo_20 : decode cX3_undo 20 = .ok (.ifCond .le 5, 3) := dk_158 0 5 (dk_at dksX3_undo_0 20 rfl rfl)
theorem dX3_undo_23 : decode cX3_undo 23 = .ok (.iconst 0, 1) := dk_3 (dk_at dksX3_undo_0 23 rfl rfl)
theorem dX3_undo_24 : decode cX3_undo 24 = .ok (.ireturn, 1) := dk_172 (dk_at dksX3_undo_1 0 rfl rfl)
theorem dX3_undo_25 : decode cX3_undo 25 = .ok (.aload_n 0, 1) := dk_42 (dk_at dksX3_undo_1 1 rfl rfl)
theorem dX3_undo_26 : decode cX3_undo 26 = .ok (.dup, 1) := dk_89 (dk_at dksX3_undo_1 2 rfl rfl)
theorem dX3_undo_27 : decode cX3_undo 27 = .ok (.getfield 54, 3) := dk_180 0 54 (dk_at dksX3_undo_1 3 rfl rfl)
theorem dX3_undo_30 : decode cX3_undo 30 = .ok (.iconst 1, 1) := dk_4 (dk_at dksX3_undo_1 6 rfl rfl)
theorem dX3_undo_31 : decode cX3_undo 31 = .ok (.isub, 1) := dk_100 (dk_at dksX3_undo_1 7 rfl rfl)
theorem dX3_undo_32 : decode cX3_undo 32 = .ok (.putfield 54, 3) := dk_181 0 54 (dk_at dksX3_undo_1 8 rfl rfl)
theorem dX3_undo_35 : decode cX3_undo 35 = .ok (.aload_n 0, 1) := dk_42 (dk_at dksX3_undo_1 11 rfl rfl)
theorem dX3_undo_36 : decode cX3_undo 36 = .ok (.getfield 19, 3) := dk_180 0 19 (dk_at dksX3_undo_1 12 rfl rfl)
theorem dX3_undo_39 : decode cX3_undo 39 = .ok (.sipush 700, 3) := dk_17 2 188 (dk_at dksX3_undo_1 15 rfl rfl)
theorem dX3_undo_42 : decode cX3_undo 42 = .ok (.aload_n 0, 1) := dk_42 (dk_at dksX3_undo_1 18 rfl rfl)
theorem dX3_undo_43 : decode cX3_undo 43 = .ok (.getfield 54, 3) := dk_180 0 54 (dk_at dksX3_undo_1 19 rfl rfl)
theorem dX3_undo_46 : decode cX3_undo 46 = .ok (.imul, 1) := dk_104 (dk_at dksX3_undo_1 22 rfl rfl)
theorem dX3_undo_47 : decode cX3_undo 47 = .ok (.aload_n 0, 1) := dk_42 (dk_at dksX3_undo_1 23 rfl rfl)
theorem dX3_undo_48 : decode cX3_undo 48 = .ok (.getfield 7, 3) := dk_180 0 7 (dk_at dksX3_undo_2 0 rfl rfl)
theorem dX3_undo_51 : decode cX3_undo 51 = .ok (.iconst 0, 1) := dk_3 (dk_at dksX3_undo_2 3 rfl rfl)
theorem dX3_undo_52 : decode cX3_undo 52 = .ok (.invokestatic 57, 3) := dk_184 0 57 (dk_at dksX3_undo_2 4 rfl rfl)
theorem dX3_undo_55 : decode cX3_undo 55 = .ok (.aload_n 0, 1) := dk_42 (dk_at dksX3_undo_2 7 rfl rfl)
theorem dX3_undo_56 : decode cX3_undo 56 = .ok (.getfield 54, 3) := dk_180 0 54 (dk_at dksX3_undo_2 8 rfl rfl)
theorem dX3_undo_59 : decode cX3_undo 59 = .ok (.ireturn, 1) := dk_172 (dk_at dksX3_undo_2 11 rfl rfl)
abbrev cX3_copies : ByteArray := prog_18_method_6_code
def yX3_copies : MethodName := ⟨RX3, "copies", "([II[II)V"⟩
def dkwX3_copies_1 : List UInt8 := [132, 4, 1, 167, 255, 233, 177]
abbrev dktX3_copies_1 : List UInt8 := dkwX3_copies_1 ++ []
def dkwX3_copies_0 : List UInt8 := [3, 54, 4, 21, 4, 17, 2, 188, 162, 0, 21, 44, 29, 21, 4, 96, 42, 27, 21, 4, 96, 46, 79]
abbrev dktX3_copies_0 : List UInt8 := dkwX3_copies_0 ++ dktX3_copies_1
theorem dksX3_copies_0 : cX3_copies.data.toList.drop 0 = dktX3_copies_0 := by decide +kernel
theorem dksX3_copies_1 : cX3_copies.data.toList.drop 23 = dktX3_copies_1 := dk_seg dksX3_copies_0 23 rfl rfl
theorem dX3_copies_0 : decode cX3_copies 0 = .ok (.iconst 0, 1) := dk_3 (dk_at dksX3_copies_0 0 rfl rfl)
theorem dX3_copies_1 : decode cX3_copies 1 = .ok (.istore 4, 2) := dk_54 4 (dk_at dksX3_copies_0 1 rfl rfl)
theorem dX3_copies_3 : decode cX3_copies 3 = .ok (.iload 4, 2) := dk_21 4 (dk_at dksX3_copies_0 3 rfl rfl)
theorem dX3_copies_5 : decode cX3_copies 5 = .ok (.sipush 700, 3) := dk_17 2 188 (dk_at dksX3_copies_0 5 rfl rfl)
theorem dX3_copies_8 : decode cX3_copies 8 = .ok (.if_icmp .ge 21, 3) := dk_162 0 21 (dk_at dksX3_copies_0 8 rfl rfl)
theorem dX3_copies_11 : decode cX3_copies 11 = .ok (.aload_n 2, 1) := dk_44 (dk_at dksX3_copies_0 11 rfl rfl)
theorem dX3_copies_12 : decode cX3_copies 12 = .ok (.iload_n 3, 1) := dk_29 (dk_at dksX3_copies_0 12 rfl rfl)
theorem dX3_copies_13 : decode cX3_copies 13 = .ok (.iload 4, 2) := dk_21 4 (dk_at dksX3_copies_0 13 rfl rfl)
theorem dX3_copies_15 : decode cX3_copies 15 = .ok (.iadd, 1) := dk_96 (dk_at dksX3_copies_0 15 rfl rfl)
theorem dX3_copies_16 : decode cX3_copies 16 = .ok (.aload_n 0, 1) := dk_42 (dk_at dksX3_copies_0 16 rfl rfl)
theorem dX3_copies_17 : decode cX3_copies 17 = .ok (.iload_n 1, 1) := dk_27 (dk_at dksX3_copies_0 17 rfl rfl)
theorem dX3_copies_18 : decode cX3_copies 18 = .ok (.iload 4, 2) := dk_21 4 (dk_at dksX3_copies_0 18 rfl rfl)
theorem dX3_copies_20 : decode cX3_copies 20 = .ok (.iadd, 1) := dk_96 (dk_at dksX3_copies_0 20 rfl rfl)
theorem dX3_copies_21 : decode cX3_copies 21 = .ok (.iaload, 1) := dk_46 (dk_at dksX3_copies_0 21 rfl rfl)
theorem dX3_copies_22 : decode cX3_copies 22 = .ok (.iastore, 1) := dk_79 (dk_at dksX3_copies_0 22 rfl rfl)
theorem dX3_copies_23 : decode cX3_copies 23 = .ok (.iinc 4 1, 3) := dk_132 4 1 (dk_at dksX3_copies_1 0 rfl rfl)
theorem dX3_copies_26 : decode cX3_copies 26 = .ok (.goto (-23), 3) := dk_167 255 233 (dk_at dksX3_copies_1 3 rfl rfl)
theorem dX3_copies_29 : decode cX3_copies 29 = .ok (.return_, 1) := dk_177 (dk_at dksX3_copies_1 6 rfl rfl)
abbrev cX3_save : ByteArray := prog_18_method_10_code
def yX3_save : MethodName := ⟨RX3, "save", "()I"⟩
def dkwX3_save_1 : List UInt8 := [180, 0, 7, 16, 11, 46, 172]
abbrev dktX3_save_1 : List UInt8 := dkwX3_save_1 ++ []
def dkwX3_save_0 : List UInt8 := [42, 3, 181, 0, 41, 42, 4, 181, 0, 69, 42, 180, 0, 7, 3, 42, 180, 0, 13, 3, 184, 0, 57, 42]
abbrev dktX3_save_0 : List UInt8 := dkwX3_save_0 ++ dktX3_save_1
theorem dksX3_save_0 : cX3_save.data.toList.drop 0 = dktX3_save_0 := by decide +kernel
theorem dksX3_save_1 : cX3_save.data.toList.drop 24 = dktX3_save_1 := dk_seg dksX3_save_0 24 rfl rfl
theorem dX3_save_0 : decode cX3_save 0 = .ok (.aload_n 0, 1) := dk_42 (dk_at dksX3_save_0 0 rfl rfl)
theorem dX3_save_1 : decode cX3_save 1 = .ok (.iconst 0, 1) := dk_3 (dk_at dksX3_save_0 1 rfl rfl)
theorem dX3_save_2 : decode cX3_save 2 = .ok (.putfield 41, 3) := dk_181 0 41 (dk_at dksX3_save_0 2 rfl rfl)
theorem dX3_save_5 : decode cX3_save 5 = .ok (.aload_n 0, 1) := dk_42 (dk_at dksX3_save_0 5 rfl rfl)
theorem dX3_save_6 : decode cX3_save 6 = .ok (.iconst 1, 1) := dk_4 (dk_at dksX3_save_0 6 rfl rfl)
theorem dX3_save_7 : decode cX3_save 7 = .ok (.putfield 69, 3) := dk_181 0 69 (dk_at dksX3_save_0 7 rfl rfl)
theorem dX3_save_10 : decode cX3_save 10 = .ok (.aload_n 0, 1) := dk_42 (dk_at dksX3_save_0 10 rfl rfl)
theorem dX3_save_11 : decode cX3_save 11 = .ok (.getfield 7, 3) := dk_180 0 7 (dk_at dksX3_save_0 11 rfl rfl)
theorem dX3_save_14 : decode cX3_save 14 = .ok (.iconst 0, 1) := dk_3 (dk_at dksX3_save_0 14 rfl rfl)
theorem dX3_save_15 : decode cX3_save 15 = .ok (.aload_n 0, 1) := dk_42 (dk_at dksX3_save_0 15 rfl rfl)
theorem dX3_save_16 : decode cX3_save 16 = .ok (.getfield 13, 3) := dk_180 0 13 (dk_at dksX3_save_0 16 rfl rfl)
theorem dX3_save_19 : decode cX3_save 19 = .ok (.iconst 0, 1) := dk_3 (dk_at dksX3_save_0 19 rfl rfl)
theorem dX3_save_20 : decode cX3_save 20 = .ok (.invokestatic 57, 3) := dk_184 0 57 (dk_at dksX3_save_0 20 rfl rfl)
theorem dX3_save_23 : decode cX3_save 23 = .ok (.aload_n 0, 1) := dk_42 (dk_at dksX3_save_0 23 rfl rfl)
theorem dX3_save_24 : decode cX3_save 24 = .ok (.getfield 7, 3) := dk_180 0 7 (dk_at dksX3_save_1 0 rfl rfl)
theorem dX3_save_27 : decode cX3_save 27 = .ok (.bipush 11, 2) := dk_16 11 (dk_at dksX3_save_1 3 rfl rfl)
theorem dX3_save_29 : decode cX3_save 29 = .ok (.iaload, 1) := dk_46 (dk_at dksX3_save_1 5 rfl rfl)
theorem dX3_save_30 : decode cX3_save 30 = .ok (.ireturn, 1) := dk_172 (dk_at dksX3_save_1 6 rfl rfl)
abbrev cX3_restore : ByteArray := prog_18_method_11_code
def yX3_restore : MethodName := ⟨RX3, "restore", "()I"⟩
def dkwX3_restore_2 : List UInt8 := [16, 11, 46, 172]
abbrev dktX3_restore_2 : List UInt8 := dkwX3_restore_2 ++ []
def dkwX3_restore_1 : List UInt8 := [172, 42, 180, 0, 13, 3, 42, 180, 0, 7, 3, 184, 0, 57, 42, 3, 181, 0, 54, 42, 180, 0, 7]
abbrev dktX3_restore_1 : List UInt8 := dkwX3_restore_1 ++ dktX3_restore_2
def dkwX3_restore_0 : List UInt8 := [42, 42, 180, 0, 69, 153, 0, 7, 3, 167, 0, 4, 4, 181, 0, 41, 42, 180, 0, 69, 154, 0, 5, 3]
abbrev dktX3_restore_0 : List UInt8 := dkwX3_restore_0 ++ dktX3_restore_1
theorem dksX3_restore_0 : cX3_restore.data.toList.drop 0 = dktX3_restore_0 := by decide +kernel
theorem dksX3_restore_1 : cX3_restore.data.toList.drop 24 = dktX3_restore_1 := dk_seg dksX3_restore_0 24 rfl rfl
theorem dksX3_restore_2 : cX3_restore.data.toList.drop 47 = dktX3_restore_2 := dk_seg dksX3_restore_1 23 rfl rfl
theorem dX3_restore_0 : decode cX3_restore 0 = .ok (.aload_n 0, 1) := dk_42 (dk_at dksX3_restore_0 0 rfl rfl)
theorem dX3_restore_1 : decode cX3_restore 1 = .ok (.aload_n 0, 1) := dk_42 (dk_at dksX3_restore_0 1 rfl rfl)
theorem dX3_restore_2 : decode cX3_restore 2 = .ok (.getfield 69, 3) := dk_180 0 69 (dk_at dksX3_restore_0 2 rfl rfl)
theorem dX3_restore_5 : decode cX3_restore 5 = .ok (.ifCond .eq 7, 3) := dk_153 0 7 (dk_at dksX3_restore_0 5 rfl rfl)
theorem dX3_restore_8 : decode cX3_restore 8 = .ok (.iconst 0, 1) := dk_3 (dk_at dksX3_restore_0 8 rfl rfl)
theorem dX3_restore_9 : decode cX3_restore 9 = .ok (.goto 4, 3) := dk_167 0 4 (dk_at dksX3_restore_0 9 rfl rfl)
theorem dX3_restore_12 : decode cX3_restore 12 = .ok (.iconst 1, 1) := dk_4 (dk_at dksX3_restore_0 12 rfl rfl)
theorem dX3_restore_13 : decode cX3_restore 13 = .ok (.putfield 41, 3) := dk_181 0 41 (dk_at dksX3_restore_0 13 rfl rfl)
theorem dX3_restore_16 : decode cX3_restore 16 = .ok (.aload_n 0, 1) := dk_42 (dk_at dksX3_restore_0 16 rfl rfl)
theorem dX3_restore_17 : decode cX3_restore 17 = .ok (.getfield 69, 3) := dk_180 0 69 (dk_at dksX3_restore_0 17 rfl rfl)
theorem dX3_restore_20 : decode cX3_restore 20 = .ok (.ifCond .ne 5, 3) := dk_154 0 5 (dk_at dksX3_restore_0 20 rfl rfl)
theorem dX3_restore_23 : decode cX3_restore 23 = .ok (.iconst 0, 1) := dk_3 (dk_at dksX3_restore_0 23 rfl rfl)
theorem dX3_restore_24 : decode cX3_restore 24 = .ok (.ireturn, 1) := dk_172 (dk_at dksX3_restore_1 0 rfl rfl)
theorem dX3_restore_25 : decode cX3_restore 25 = .ok (.aload_n 0, 1) := dk_42 (dk_at dksX3_restore_1 1 rfl rfl)
theorem dX3_restore_26 : decode cX3_restore 26 = .ok (.getfield 13, 3) := dk_180 0 13 (dk_at dksX3_restore_1 2 rfl rfl)
theorem dX3_restore_29 : decode cX3_restore 29 = .ok (.iconst 0, 1) := dk_3 (dk_at dksX3_restore_1 5 rfl rfl)
theorem dX3_restore_30 : decode cX3_restore 30 = .ok (.aload_n 0, 1) := dk_42 (dk_at dksX3_restore_1 6 rfl rfl)
theorem dX3_restore_31 : decode cX3_restore 31 = .ok (.getfield 7, 3) := dk_180 0 7 (dk_at dksX3_restore_1 7 rfl rfl)
theorem dX3_restore_34 : decode cX3_restore 34 = .ok (.iconst 0, 1) := dk_3 (dk_at dksX3_restore_1 10 rfl rfl)
theorem dX3_restore_35 : decode cX3_restore 35 = .ok (.invokestatic 57, 3) := dk_184 0 57 (dk_at dksX3_restore_1 11 rfl rfl)
theorem dX3_restore_38 : decode cX3_restore 38 = .ok (.aload_n 0, 1) := dk_42 (dk_at dksX3_restore_1 14 rfl rfl)
theorem dX3_restore_39 : decode cX3_restore 39 = .ok (.iconst 0, 1) := dk_3 (dk_at dksX3_restore_1 15 rfl rfl)
theorem dX3_restore_40 : decode cX3_restore 40 = .ok (.putfield 54, 3) := dk_181 0 54 (dk_at dksX3_restore_1 16 rfl rfl)
theorem dX3_restore_43 : decode cX3_restore 43 = .ok (.aload_n 0, 1) := dk_42 (dk_at dksX3_restore_1 19 rfl rfl)
theorem dX3_restore_44 : decode cX3_restore 44 = .ok (.getfield 7, 3) := dk_180 0 7 (dk_at dksX3_restore_1 20 rfl rfl)
theorem dX3_restore_47 : decode cX3_restore 47 = .ok (.bipush 11, 2) := dk_16 11 (dk_at dksX3_restore_2 0 rfl rfl)
theorem dX3_restore_49 : decode cX3_restore 49 = .ok (.iaload, 1) := dk_46 (dk_at dksX3_restore_2 2 rfl rfl)
theorem dX3_restore_50 : decode cX3_restore 50 = .ok (.ireturn, 1) := dk_172 (dk_at dksX3_restore_2 3 rfl rfl)
abbrev cX3_duty : ByteArray := prog_18_method_22_code
def yX3_duty : MethodName := ⟨RX3, "duty", "(IZ)I"⟩
def dkwX3_duty_7 : List UInt8 := [182, 0, 65, 29, 172]
abbrev dktX3_duty_7 : List UInt8 := dkwX3_duty_7 ++ []
def dkwX3_duty_6 : List UInt8 := [182, 0, 107, 132, 3, 1, 132, 4, 1, 167, 255, 175, 42, 180, 0, 61, 154, 0, 11, 42, 42, 180, 0, 26]
abbrev dktX3_duty_6 : List UInt8 := dkwX3_duty_6 ++ dktX3_duty_7
def dkwX3_duty_5 : List UInt8 := [180, 0, 26, 3, 42, 180, 0, 7, 3, 184, 0, 57, 42, 8, 3, 182, 0, 97, 172, 42, 21, 4, 21, 5]
abbrev dktX3_duty_5 : List UInt8 := dkwX3_duty_5 ++ dktX3_duty_6
def dkwX3_duty_4 : List UInt8 := [21, 4, 5, 182, 0, 80, 27, 160, 0, 45, 42, 182, 0, 103, 54, 5, 21, 5, 156, 0, 23, 42]
abbrev dktX3_duty_4 : List UInt8 := dkwX3_duty_4 ++ dktX3_duty_5
def dkwX3_duty_3 : List UInt8 := [180, 0, 7, 16, 11, 46, 162, 0, 75, 28, 154, 0, 71, 42, 21, 4, 182, 0, 100, 153, 0, 56, 42]
abbrev dktX3_duty_3 : List UInt8 := dkwX3_duty_3 ++ dktX3_duty_4
def dkwX3_duty_2 : List UInt8 := [184, 0, 57, 42, 180, 0, 7, 4, 92, 46, 4, 27, 120, 130, 79, 3, 62, 3, 54, 4, 21, 4, 42]
abbrev dktX3_duty_2 : List UInt8 := dkwX3_duty_2 ++ dktX3_duty_3
def dkwX3_duty_1 : List UInt8 := [28, 160, 0, 11, 42, 16, 13, 3, 182, 0, 97, 172, 42, 180, 0, 7, 3, 42, 180, 0, 26, 3]
abbrev dktX3_duty_1 : List UInt8 := dkwX3_duty_1 ++ dktX3_duty_2
def dkwX3_duty_0 : List UInt8 := [42, 3, 181, 0, 41, 27, 184, 0, 94, 154, 0, 10, 42, 4, 3, 182, 0, 97, 172, 42, 27, 182, 0, 83]
abbrev dktX3_duty_0 : List UInt8 := dkwX3_duty_0 ++ dktX3_duty_1
theorem dksX3_duty_0 : cX3_duty.data.toList.drop 0 = dktX3_duty_0 := by decide +kernel
theorem dksX3_duty_1 : cX3_duty.data.toList.drop 24 = dktX3_duty_1 := dk_seg dksX3_duty_0 24 rfl rfl
theorem dksX3_duty_2 : cX3_duty.data.toList.drop 46 = dktX3_duty_2 := dk_seg dksX3_duty_1 22 rfl rfl
theorem dksX3_duty_3 : cX3_duty.data.toList.drop 69 = dktX3_duty_3 := dk_seg dksX3_duty_2 23 rfl rfl
theorem dksX3_duty_4 : cX3_duty.data.toList.drop 92 = dktX3_duty_4 := dk_seg dksX3_duty_3 23 rfl rfl
theorem dksX3_duty_5 : cX3_duty.data.toList.drop 114 = dktX3_duty_5 := dk_seg dksX3_duty_4 22 rfl rfl
theorem dksX3_duty_6 : cX3_duty.data.toList.drop 138 = dktX3_duty_6 := dk_seg dksX3_duty_5 24 rfl rfl
theorem dksX3_duty_7 : cX3_duty.data.toList.drop 162 = dktX3_duty_7 := dk_seg dksX3_duty_6 24 rfl rfl
theorem dX3_duty_0 : decode cX3_duty 0 = .ok (.aload_n 0, 1) := dk_42 (dk_at dksX3_duty_0 0 rfl rfl)
theorem dX3_duty_1 : decode cX3_duty 1 = .ok (.iconst 0, 1) := dk_3 (dk_at dksX3_duty_0 1 rfl rfl)
theorem dX3_duty_2 : decode cX3_duty 2 = .ok (.putfield 41, 3) := dk_181 0 41 (dk_at dksX3_duty_0 2 rfl rfl)
theorem dX3_duty_5 : decode cX3_duty 5 = .ok (.iload_n 1, 1) := dk_27 (dk_at dksX3_duty_0 5 rfl rfl)
theorem dX3_duty_6 : decode cX3_duty 6 = .ok (.invokestatic 94, 3) := dk_184 0 94 (dk_at dksX3_duty_0 6 rfl rfl)
theorem dX3_duty_9 : decode cX3_duty 9 = .ok (.ifCond .ne 10, 3) := dk_154 0 10 (dk_at dksX3_duty_0 9 rfl rfl)
theorem dX3_duty_12 : decode cX3_duty 12 = .ok (.aload_n 0, 1) := dk_42 (dk_at dksX3_duty_0 12 rfl rfl)
theorem dX3_duty_13 : decode cX3_duty 13 = .ok (.iconst 1, 1) := dk_4 (dk_at dksX3_duty_0 13 rfl rfl)
theorem dX3_duty_14 : decode cX3_duty 14 = .ok (.iconst 0, 1) := dk_3 (dk_at dksX3_duty_0 14 rfl rfl)
theorem dX3_duty_15 : decode cX3_duty 15 = .ok (.invokevirtual 97, 3) := dk_182 0 97 (dk_at dksX3_duty_0 15 rfl rfl)
theorem dX3_duty_18 : decode cX3_duty 18 = .ok (.ireturn, 1) := dk_172 (dk_at dksX3_duty_0 18 rfl rfl)
theorem dX3_duty_19 : decode cX3_duty 19 = .ok (.aload_n 0, 1) := dk_42 (dk_at dksX3_duty_0 19 rfl rfl)
theorem dX3_duty_20 : decode cX3_duty 20 = .ok (.iload_n 1, 1) := dk_27 (dk_at dksX3_duty_0 20 rfl rfl)
theorem dX3_duty_21 : decode cX3_duty 21 = .ok (.invokevirtual 83, 3) := dk_182 0 83 (dk_at dksX3_duty_0 21 rfl rfl)
theorem dX3_duty_24 : decode cX3_duty 24 = .ok (.iload_n 2, 1) := dk_28 (dk_at dksX3_duty_1 0 rfl rfl)
theorem dX3_duty_25 : decode cX3_duty 25 = .ok (.if_icmp .ne 11, 3) := dk_160 0 11 (dk_at dksX3_duty_1 1 rfl rfl)
theorem dX3_duty_28 : decode cX3_duty 28 = .ok (.aload_n 0, 1) := dk_42 (dk_at dksX3_duty_1 4 rfl rfl)
theorem dX3_duty_29 : decode cX3_duty 29 = .ok (.bipush 13, 2) := dk_16 13 (dk_at dksX3_duty_1 5 rfl rfl)
theorem dX3_duty_31 : decode cX3_duty 31 = .ok (.iconst 0, 1) := dk_3 (dk_at dksX3_duty_1 7 rfl rfl)
theorem dX3_duty_32 : decode cX3_duty 32 = .ok (.invokevirtual 97, 3) := dk_182 0 97 (dk_at dksX3_duty_1 8 rfl rfl)
theorem dX3_duty_35 : decode cX3_duty 35 = .ok (.ireturn, 1) := dk_172 (dk_at dksX3_duty_1 11 rfl rfl)
theorem dX3_duty_36 : decode cX3_duty 36 = .ok (.aload_n 0, 1) := dk_42 (dk_at dksX3_duty_1 12 rfl rfl)
theorem dX3_duty_37 : decode cX3_duty 37 = .ok (.getfield 7, 3) := dk_180 0 7 (dk_at dksX3_duty_1 13 rfl rfl)
theorem dX3_duty_40 : decode cX3_duty 40 = .ok (.iconst 0, 1) := dk_3 (dk_at dksX3_duty_1 16 rfl rfl)
theorem dX3_duty_41 : decode cX3_duty 41 = .ok (.aload_n 0, 1) := dk_42 (dk_at dksX3_duty_1 17 rfl rfl)
theorem dX3_duty_42 : decode cX3_duty 42 = .ok (.getfield 26, 3) := dk_180 0 26 (dk_at dksX3_duty_1 18 rfl rfl)
theorem dX3_duty_45 : decode cX3_duty 45 = .ok (.iconst 0, 1) := dk_3 (dk_at dksX3_duty_1 21 rfl rfl)
theorem dX3_duty_46 : decode cX3_duty 46 = .ok (.invokestatic 57, 3) := dk_184 0 57 (dk_at dksX3_duty_2 0 rfl rfl)
theorem dX3_duty_49 : decode cX3_duty 49 = .ok (.aload_n 0, 1) := dk_42 (dk_at dksX3_duty_2 3 rfl rfl)
theorem dX3_duty_50 : decode cX3_duty 50 = .ok (.getfield 7, 3) := dk_180 0 7 (dk_at dksX3_duty_2 4 rfl rfl)
theorem dX3_duty_53 : decode cX3_duty 53 = .ok (.iconst 1, 1) := dk_4 (dk_at dksX3_duty_2 7 rfl rfl)
theorem dX3_duty_54 : decode cX3_duty 54 = .ok (.dup2, 1) := dk_92 (dk_at dksX3_duty_2 8 rfl rfl)
theorem dX3_duty_55 : decode cX3_duty 55 = .ok (.iaload, 1) := dk_46 (dk_at dksX3_duty_2 9 rfl rfl)
theorem dX3_duty_56 : decode cX3_duty 56 = .ok (.iconst 1, 1) := dk_4 (dk_at dksX3_duty_2 10 rfl rfl)
theorem dX3_duty_57 : decode cX3_duty 57 = .ok (.iload_n 1, 1) := dk_27 (dk_at dksX3_duty_2 11 rfl rfl)
theorem dX3_duty_58 : decode cX3_duty 58 = .ok (.ishl, 1) := dk_120 (dk_at dksX3_duty_2 12 rfl rfl)
theorem dX3_duty_59 : decode cX3_duty 59 = .ok (.ixor, 1) := dk_130 (dk_at dksX3_duty_2 13 rfl rfl)
theorem dX3_duty_60 : decode cX3_duty 60 = .ok (.iastore, 1) := dk_79 (dk_at dksX3_duty_2 14 rfl rfl)
theorem dX3_duty_61 : decode cX3_duty 61 = .ok (.iconst 0, 1) := dk_3 (dk_at dksX3_duty_2 15 rfl rfl)
theorem dX3_duty_62 : decode cX3_duty 62 = .ok (.istore_n 3, 1) := dk_62 (dk_at dksX3_duty_2 16 rfl rfl)
theorem dX3_duty_63 : decode cX3_duty 63 = .ok (.iconst 0, 1) := dk_3 (dk_at dksX3_duty_2 17 rfl rfl)
theorem dX3_duty_64 : decode cX3_duty 64 = .ok (.istore 4, 2) := dk_54 4 (dk_at dksX3_duty_2 18 rfl rfl)
theorem dX3_duty_66 : decode cX3_duty 66 = .ok (.iload 4, 2) := dk_21 4 (dk_at dksX3_duty_2 20 rfl rfl)
theorem dX3_duty_68 : decode cX3_duty 68 = .ok (.aload_n 0, 1) := dk_42 (dk_at dksX3_duty_2 22 rfl rfl)
theorem dX3_duty_69 : decode cX3_duty 69 = .ok (.getfield 7, 3) := dk_180 0 7 (dk_at dksX3_duty_3 0 rfl rfl)
theorem dX3_duty_72 : decode cX3_duty 72 = .ok (.bipush 11, 2) := dk_16 11 (dk_at dksX3_duty_3 3 rfl rfl)
theorem dX3_duty_74 : decode cX3_duty 74 = .ok (.iaload, 1) := dk_46 (dk_at dksX3_duty_3 5 rfl rfl)
theorem dX3_duty_75 : decode cX3_duty 75 = .ok (.if_icmp .ge 75, 3) := dk_162 0 75 (dk_at dksX3_duty_3 6 rfl rfl)
theorem dX3_duty_78 : decode cX3_duty 78 = .ok (.iload_n 2, 1) := dk_28 (dk_at dksX3_duty_3 9 rfl rfl)
theorem dX3_duty_79 : decode cX3_duty 79 = .ok (.ifCond .ne 71, 3) := dk_154 0 71 (dk_at dksX3_duty_3 10 rfl rfl)
theorem dX3_duty_82 : decode cX3_duty 82 = .ok (.aload_n 0, 1) := dk_42 (dk_at dksX3_duty_3 13 rfl rfl)
theorem dX3_duty_83 : decode cX3_duty 83 = .ok (.iload 4, 2) := dk_21 4 (dk_at dksX3_duty_3 14 rfl rfl)
theorem dX3_duty_85 : decode cX3_duty 85 = .ok (.invokevirtual 100, 3) := dk_182 0 100 (dk_at dksX3_duty_3 16 rfl rfl)
theorem dX3_duty_88 : decode cX3_duty 88 = .ok (.ifCond .eq 56, 3) := dk_153 0 56 (dk_at dksX3_duty_3 19 rfl rfl)
theorem dX3_duty_91 : decode cX3_duty 91 = .ok (.aload_n 0, 1) := dk_42 (dk_at dksX3_duty_3 22 rfl rfl)
theorem dX3_duty_92 : decode cX3_duty 92 = .ok (.iload 4, 2) := dk_21 4 (dk_at dksX3_duty_4 0 rfl rfl)
theorem dX3_duty_94 : decode cX3_duty 94 = .ok (.iconst 2, 1) := dk_5 (dk_at dksX3_duty_4 2 rfl rfl)
theorem dX3_duty_95 : decode cX3_duty 95 = .ok (.invokevirtual 80, 3) := dk_182 0 80 (dk_at dksX3_duty_4 3 rfl rfl)
theorem dX3_duty_98 : decode cX3_duty 98 = .ok (.iload_n 1, 1) := dk_27 (dk_at dksX3_duty_4 6 rfl rfl)
theorem dX3_duty_99 : decode cX3_duty 99 = .ok (.if_icmp .ne 45, 3) := dk_160 0 45 (dk_at dksX3_duty_4 7 rfl rfl)
theorem dX3_duty_102 : decode cX3_duty 102 = .ok (.aload_n 0, 1) := dk_42 (dk_at dksX3_duty_4 10 rfl rfl)
theorem dX3_duty_103 : decode cX3_duty 103 = .ok (.invokevirtual 103, 3) := dk_182 0 103 (dk_at dksX3_duty_4 11 rfl rfl)
theorem dX3_duty_106 : decode cX3_duty 106 = .ok (.istore 5, 2) := dk_54 5 (dk_at dksX3_duty_4 14 rfl rfl)
theorem dX3_duty_108 : decode cX3_duty 108 = .ok (.iload 5, 2) := dk_21 5 (dk_at dksX3_duty_4 16 rfl rfl)
theorem dX3_duty_110 : decode cX3_duty 110 = .ok (.ifCond .ge 23, 3) := dk_156 0 23 (dk_at dksX3_duty_4 18 rfl rfl)
theorem dX3_duty_113 : decode cX3_duty 113 = .ok (.aload_n 0, 1) := dk_42 (dk_at dksX3_duty_4 21 rfl rfl)
theorem dX3_duty_114 : decode cX3_duty 114 = .ok (.getfield 26, 3) := dk_180 0 26 (dk_at dksX3_duty_5 0 rfl rfl)
theorem dX3_duty_117 : decode cX3_duty 117 = .ok (.iconst 0, 1) := dk_3 (dk_at dksX3_duty_5 3 rfl rfl)
theorem dX3_duty_118 : decode cX3_duty 118 = .ok (.aload_n 0, 1) := dk_42 (dk_at dksX3_duty_5 4 rfl rfl)
theorem dX3_duty_119 : decode cX3_duty 119 = .ok (.getfield 7, 3) := dk_180 0 7 (dk_at dksX3_duty_5 5 rfl rfl)
theorem dX3_duty_122 : decode cX3_duty 122 = .ok (.iconst 0, 1) := dk_3 (dk_at dksX3_duty_5 8 rfl rfl)
theorem dX3_duty_123 : decode cX3_duty 123 = .ok (.invokestatic 57, 3) := dk_184 0 57 (dk_at dksX3_duty_5 9 rfl rfl)
theorem dX3_duty_126 : decode cX3_duty 126 = .ok (.aload_n 0, 1) := dk_42 (dk_at dksX3_duty_5 12 rfl rfl)
theorem dX3_duty_127 : decode cX3_duty 127 = .ok (.iconst 5, 1) := dk_8 (dk_at dksX3_duty_5 13 rfl rfl)
theorem dX3_duty_128 : decode cX3_duty 128 = .ok (.iconst 0, 1) := dk_3 (dk_at dksX3_duty_5 14 rfl rfl)
theorem dX3_duty_129 : decode cX3_duty 129 = .ok (.invokevirtual 97, 3) := dk_182 0 97 (dk_at dksX3_duty_5 15 rfl rfl)
theorem dX3_duty_132 : decode cX3_duty 132 = .ok (.ireturn, 1) := dk_172 (dk_at dksX3_duty_5 18 rfl rfl)
theorem dX3_duty_133 : decode cX3_duty 133 = .ok (.aload_n 0, 1) := dk_42 (dk_at dksX3_duty_5 19 rfl rfl)
theorem dX3_duty_134 : decode cX3_duty 134 = .ok (.iload 4, 2) := dk_21 4 (dk_at dksX3_duty_5 20 rfl rfl)
theorem dX3_duty_136 : decode cX3_duty 136 = .ok (.iload 5, 2) := dk_21 5 (dk_at dksX3_duty_5 22 rfl rfl)
theorem dX3_duty_138 : decode cX3_duty 138 = .ok (.invokevirtual 107, 3) := dk_182 0 107 (dk_at dksX3_duty_6 0 rfl rfl)
theorem dX3_duty_141 : decode cX3_duty 141 = .ok (.iinc 3 1, 3) := dk_132 3 1 (dk_at dksX3_duty_6 3 rfl rfl)
theorem dX3_duty_144 : decode cX3_duty 144 = .ok (.iinc 4 1, 3) := dk_132 4 1 (dk_at dksX3_duty_6 6 rfl rfl)
theorem dX3_duty_147 : decode cX3_duty 147 = .ok (.goto (-81), 3) := dk_167 255 175 (dk_at dksX3_duty_6 9 rfl rfl)
theorem dX3_duty_150 : decode cX3_duty 150 = .ok (.aload_n 0, 1) := dk_42 (dk_at dksX3_duty_6 12 rfl rfl)
theorem dX3_duty_151 : decode cX3_duty 151 = .ok (.getfield 61, 3) := dk_180 0 61 (dk_at dksX3_duty_6 13 rfl rfl)
theorem dX3_duty_154 : decode cX3_duty 154 = .ok (.ifCond .ne 11, 3) := dk_154 0 11 (dk_at dksX3_duty_6 16 rfl rfl)
theorem dX3_duty_157 : decode cX3_duty 157 = .ok (.aload_n 0, 1) := dk_42 (dk_at dksX3_duty_6 19 rfl rfl)
theorem dX3_duty_158 : decode cX3_duty 158 = .ok (.aload_n 0, 1) := dk_42 (dk_at dksX3_duty_6 20 rfl rfl)
theorem dX3_duty_159 : decode cX3_duty 159 = .ok (.getfield 26, 3) := dk_180 0 26 (dk_at dksX3_duty_6 21 rfl rfl)
theorem dX3_duty_162 : decode cX3_duty 162 = .ok (.invokevirtual 65, 3) := dk_182 0 65 (dk_at dksX3_duty_7 0 rfl rfl)
theorem dX3_duty_165 : decode cX3_duty 165 = .ok (.iload_n 3, 1) := dk_29 (dk_at dksX3_duty_7 3 rfl rfl)
theorem dX3_duty_166 : decode cX3_duty 166 = .ok (.ireturn, 1) := dk_172 (dk_at dksX3_duty_7 4 rfl rfl)
abbrev cX3_isPerson : ByteArray := prog_18_method_13_code
def yX3_isPerson : MethodName := ⟨RX3, "isPerson", "(I)Z"⟩
def dkwX3_isPerson_0 : List UInt8 := [26, 3, 8, 184, 0, 72, 172]
abbrev dktX3_isPerson_0 : List UInt8 := dkwX3_isPerson_0 ++ []
theorem dksX3_isPerson_0 : cX3_isPerson.data.toList.drop 0 = dktX3_isPerson_0 := by decide +kernel
theorem dX3_isPerson_0 : decode cX3_isPerson 0 = .ok (.iload_n 0, 1) := dk_26 (dk_at dksX3_isPerson_0 0 rfl rfl)
theorem dX3_isPerson_1 : decode cX3_isPerson 1 = .ok (.iconst 0, 1) := dk_3 (dk_at dksX3_isPerson_0 1 rfl rfl)
theorem dX3_isPerson_2 : decode cX3_isPerson 2 = .ok (.iconst 5, 1) := dk_8 (dk_at dksX3_isPerson_0 2 rfl rfl)
theorem dX3_isPerson_3 : decode cX3_isPerson 3 = .ok (.invokestatic 72, 3) := dk_184 0 72 (dk_at dksX3_isPerson_0 3 rfl rfl)
theorem dX3_isPerson_6 : decode cX3_isPerson 6 = .ok (.ireturn, 1) := dk_172 (dk_at dksX3_isPerson_0 6 rfl rfl)
abbrev cX3_in : ByteArray := prog_18_method_5_code
def yX3_in : MethodName := ⟨RX3, "in", "(III)Z"⟩
def dkwX3_in_0 : List UInt8 := [26, 27, 161, 0, 12, 26, 28, 163, 0, 7, 4, 167, 0, 4, 3, 172]
abbrev dktX3_in_0 : List UInt8 := dkwX3_in_0 ++ []
theorem dksX3_in_0 : cX3_in.data.toList.drop 0 = dktX3_in_0 := by decide +kernel
theorem dX3_in_0 : decode cX3_in 0 = .ok (.iload_n 0, 1) := dk_26 (dk_at dksX3_in_0 0 rfl rfl)
theorem dX3_in_1 : decode cX3_in 1 = .ok (.iload_n 1, 1) := dk_27 (dk_at dksX3_in_0 1 rfl rfl)
theorem dX3_in_2 : decode cX3_in 2 = .ok (.if_icmp .lt 12, 3) := dk_161 0 12 (dk_at dksX3_in_0 2 rfl rfl)
theorem dX3_in_5 : decode cX3_in 5 = .ok (.iload_n 0, 1) := dk_26 (dk_at dksX3_in_0 5 rfl rfl)
theorem dX3_in_6 : decode cX3_in 6 = .ok (.iload_n 2, 1) := dk_28 (dk_at dksX3_in_0 6 rfl rfl)
theorem dX3_in_7 : decode cX3_in 7 = .ok (.if_icmp .gt 7, 3) := dk_163 0 7 (dk_at dksX3_in_0 7 rfl rfl)
theorem dX3_in_10 : decode cX3_in 10 = .ok (.iconst 1, 1) := dk_4 (dk_at dksX3_in_0 10 rfl rfl)
theorem dX3_in_11 : decode cX3_in 11 = .ok (.goto 4, 3) := dk_167 0 4 (dk_at dksX3_in_0 11 rfl rfl)
theorem dX3_in_14 : decode cX3_in 14 = .ok (.iconst 0, 1) := dk_3 (dk_at dksX3_in_0 14 rfl rfl)
theorem dX3_in_15 : decode cX3_in 15 = .ok (.ireturn, 1) := dk_172 (dk_at dksX3_in_0 15 rfl rfl)
abbrev cX3_refuses : ByteArray := prog_18_method_4_code
def yX3_refuses : MethodName := ⟨RX3, "refuses", "(II)I"⟩
def dkwX3_refuses_0 : List UInt8 := [42, 27, 181, 0, 44, 42, 28, 181, 0, 47, 42, 2, 181, 0, 22, 42, 4, 182, 0, 50, 172]
abbrev dktX3_refuses_0 : List UInt8 := dkwX3_refuses_0 ++ []
theorem dksX3_refuses_0 : cX3_refuses.data.toList.drop 0 = dktX3_refuses_0 := by decide +kernel
theorem dX3_refuses_0 : decode cX3_refuses 0 = .ok (.aload_n 0, 1) := dk_42 (dk_at dksX3_refuses_0 0 rfl rfl)
theorem dX3_refuses_1 : decode cX3_refuses 1 = .ok (.iload_n 1, 1) := dk_27 (dk_at dksX3_refuses_0 1 rfl rfl)
theorem dX3_refuses_2 : decode cX3_refuses 2 = .ok (.putfield 44, 3) := dk_181 0 44 (dk_at dksX3_refuses_0 2 rfl rfl)
theorem dX3_refuses_5 : decode cX3_refuses 5 = .ok (.aload_n 0, 1) := dk_42 (dk_at dksX3_refuses_0 5 rfl rfl)
theorem dX3_refuses_6 : decode cX3_refuses 6 = .ok (.iload_n 2, 1) := dk_28 (dk_at dksX3_refuses_0 6 rfl rfl)
theorem dX3_refuses_7 : decode cX3_refuses 7 = .ok (.putfield 47, 3) := dk_181 0 47 (dk_at dksX3_refuses_0 7 rfl rfl)
theorem dX3_refuses_10 : decode cX3_refuses 10 = .ok (.aload_n 0, 1) := dk_42 (dk_at dksX3_refuses_0 10 rfl rfl)
theorem dX3_refuses_11 : decode cX3_refuses 11 = .ok (.iconst (-1), 1) := dk_2 (dk_at dksX3_refuses_0 11 rfl rfl)
theorem dX3_refuses_12 : decode cX3_refuses 12 = .ok (.putfield 22, 3) := dk_181 0 22 (dk_at dksX3_refuses_0 12 rfl rfl)
theorem dX3_refuses_15 : decode cX3_refuses 15 = .ok (.aload_n 0, 1) := dk_42 (dk_at dksX3_refuses_0 15 rfl rfl)
theorem dX3_refuses_16 : decode cX3_refuses 16 = .ok (.iconst 1, 1) := dk_4 (dk_at dksX3_refuses_0 16 rfl rfl)
theorem dX3_refuses_17 : decode cX3_refuses 17 = .ok (.invokevirtual 50, 3) := dk_182 0 50 (dk_at dksX3_refuses_0 17 rfl rfl)
theorem dX3_refuses_20 : decode cX3_refuses 20 = .ok (.ireturn, 1) := dk_172 (dk_at dksX3_refuses_0 20 rfl rfl)
abbrev cX3_fails : ByteArray := prog_18_method_3_code
def yX3_fails : MethodName := ⟨RX3, "fails", "(I)I"⟩
def dkwX3_fails_0 : List UInt8 := [42, 27, 181, 0, 41, 3, 172]
abbrev dktX3_fails_0 : List UInt8 := dkwX3_fails_0 ++ []
theorem dksX3_fails_0 : cX3_fails.data.toList.drop 0 = dktX3_fails_0 := by decide +kernel
theorem dX3_fails_0 : decode cX3_fails 0 = .ok (.aload_n 0, 1) := dk_42 (dk_at dksX3_fails_0 0 rfl rfl)
theorem dX3_fails_1 : decode cX3_fails 1 = .ok (.iload_n 1, 1) := dk_27 (dk_at dksX3_fails_0 1 rfl rfl)
theorem dX3_fails_2 : decode cX3_fails 2 = .ok (.putfield 41, 3) := dk_181 0 41 (dk_at dksX3_fails_0 2 rfl rfl)
theorem dX3_fails_5 : decode cX3_fails 5 = .ok (.iconst 0, 1) := dk_3 (dk_at dksX3_fails_0 5 rfl rfl)
theorem dX3_fails_6 : decode cX3_fails 6 = .ok (.ireturn, 1) := dk_172 (dk_at dksX3_fails_0 6 rfl rfl)
abbrev cX3_isOn : ByteArray := prog_18_method_17_code
def yX3_isOn : MethodName := ⟨RX3, "isOn", "(I)Z"⟩
def dkwX3_isOn_0 : List UInt8 := [42, 180, 0, 7, 4, 46, 27, 122, 4, 126, 4, 160, 0, 7, 4, 167, 0, 4, 3, 172]
abbrev dktX3_isOn_0 : List UInt8 := dkwX3_isOn_0 ++ []
theorem dksX3_isOn_0 : cX3_isOn.data.toList.drop 0 = dktX3_isOn_0 := by decide +kernel
theorem dX3_isOn_0 : decode cX3_isOn 0 = .ok (.aload_n 0, 1) := dk_42 (dk_at dksX3_isOn_0 0 rfl rfl)
theorem dX3_isOn_1 : decode cX3_isOn 1 = .ok (.getfield 7, 3) := dk_180 0 7 (dk_at dksX3_isOn_0 1 rfl rfl)
theorem dX3_isOn_4 : decode cX3_isOn 4 = .ok (.iconst 1, 1) := dk_4 (dk_at dksX3_isOn_0 4 rfl rfl)
theorem dX3_isOn_5 : decode cX3_isOn 5 = .ok (.iaload, 1) := dk_46 (dk_at dksX3_isOn_0 5 rfl rfl)
theorem dX3_isOn_6 : decode cX3_isOn 6 = .ok (.iload_n 1, 1) := dk_27 (dk_at dksX3_isOn_0 6 rfl rfl)
theorem dX3_isOn_7 : decode cX3_isOn 7 = .ok (.ishr, 1) := dk_122 (dk_at dksX3_isOn_0 7 rfl rfl)
theorem dX3_isOn_8 : decode cX3_isOn 8 = .ok (.iconst 1, 1) := dk_4 (dk_at dksX3_isOn_0 8 rfl rfl)
theorem dX3_isOn_9 : decode cX3_isOn 9 = .ok (.iand, 1) := dk_126 (dk_at dksX3_isOn_0 9 rfl rfl)
theorem dX3_isOn_10 : decode cX3_isOn 10 = .ok (.iconst 1, 1) := dk_4 (dk_at dksX3_isOn_0 10 rfl rfl)
theorem dX3_isOn_11 : decode cX3_isOn 11 = .ok (.if_icmp .ne 7, 3) := dk_160 0 7 (dk_at dksX3_isOn_0 11 rfl rfl)
theorem dX3_isOn_14 : decode cX3_isOn 14 = .ok (.iconst 1, 1) := dk_4 (dk_at dksX3_isOn_0 14 rfl rfl)
theorem dX3_isOn_15 : decode cX3_isOn 15 = .ok (.goto 4, 3) := dk_167 0 4 (dk_at dksX3_isOn_0 15 rfl rfl)
theorem dX3_isOn_18 : decode cX3_isOn 18 = .ok (.iconst 0, 1) := dk_3 (dk_at dksX3_isOn_0 18 rfl rfl)
theorem dX3_isOn_19 : decode cX3_isOn 19 = .ok (.ireturn, 1) := dk_172 (dk_at dksX3_isOn_0 19 rfl rfl)
abbrev cX3_isActive : ByteArray := prog_18_method_16_code
def yX3_isActive : MethodName := ⟨RX3, "isActive", "(I)Z"⟩
def dkwX3_isActive_0 : List UInt8 := [42, 27, 6, 182, 0, 80, 5, 162, 0, 7, 4, 167, 0, 4, 3, 172]
abbrev dktX3_isActive_0 : List UInt8 := dkwX3_isActive_0 ++ []
theorem dksX3_isActive_0 : cX3_isActive.data.toList.drop 0 = dktX3_isActive_0 := by decide +kernel
theorem dX3_isActive_0 : decode cX3_isActive 0 = .ok (.aload_n 0, 1) := dk_42 (dk_at dksX3_isActive_0 0 rfl rfl)
theorem dX3_isActive_1 : decode cX3_isActive 1 = .ok (.iload_n 1, 1) := dk_27 (dk_at dksX3_isActive_0 1 rfl rfl)
theorem dX3_isActive_2 : decode cX3_isActive 2 = .ok (.iconst 3, 1) := dk_6 (dk_at dksX3_isActive_0 2 rfl rfl)
theorem dX3_isActive_3 : decode cX3_isActive 3 = .ok (.invokevirtual 80, 3) := dk_182 0 80 (dk_at dksX3_isActive_0 3 rfl rfl)
theorem dX3_isActive_6 : decode cX3_isActive 6 = .ok (.iconst 2, 1) := dk_5 (dk_at dksX3_isActive_0 6 rfl rfl)
theorem dX3_isActive_7 : decode cX3_isActive 7 = .ok (.if_icmp .ge 7, 3) := dk_162 0 7 (dk_at dksX3_isActive_0 7 rfl rfl)
theorem dX3_isActive_10 : decode cX3_isActive 10 = .ok (.iconst 1, 1) := dk_4 (dk_at dksX3_isActive_0 10 rfl rfl)
theorem dX3_isActive_11 : decode cX3_isActive 11 = .ok (.goto 4, 3) := dk_167 0 4 (dk_at dksX3_isActive_0 11 rfl rfl)
theorem dX3_isActive_14 : decode cX3_isActive 14 = .ok (.iconst 0, 1) := dk_3 (dk_at dksX3_isActive_0 14 rfl rfl)
theorem dX3_isActive_15 : decode cX3_isActive 15 = .ok (.ireturn, 1) := dk_172 (dk_at dksX3_isActive_0 15 rfl rfl)
abbrev cX3_of : ByteArray := prog_18_method_15_code
def yX3_of : MethodName := ⟨RX3, "of", "(II)I"⟩
def dkwX3_of_0 : List UInt8 := [42, 180, 0, 7, 27, 28, 184, 0, 76, 46, 172]
abbrev dktX3_of_0 : List UInt8 := dkwX3_of_0 ++ []
theorem dksX3_of_0 : cX3_of.data.toList.drop 0 = dktX3_of_0 := by decide +kernel
theorem dX3_of_0 : decode cX3_of 0 = .ok (.aload_n 0, 1) := dk_42 (dk_at dksX3_of_0 0 rfl rfl)
theorem dX3_of_1 : decode cX3_of 1 = .ok (.getfield 7, 3) := dk_180 0 7 (dk_at dksX3_of_0 1 rfl rfl)
theorem dX3_of_4 : decode cX3_of 4 = .ok (.iload_n 1, 1) := dk_27 (dk_at dksX3_of_0 4 rfl rfl)
theorem dX3_of_5 : decode cX3_of 5 = .ok (.iload_n 2, 1) := dk_28 (dk_at dksX3_of_0 5 rfl rfl)
theorem dX3_of_6 : decode cX3_of 6 = .ok (.invokestatic 76, 3) := dk_184 0 76 (dk_at dksX3_of_0 6 rfl rfl)
theorem dX3_of_9 : decode cX3_of 9 = .ok (.iaload, 1) := dk_46 (dk_at dksX3_of_0 9 rfl rfl)
theorem dX3_of_10 : decode cX3_of 10 = .ok (.ireturn, 1) := dk_172 (dk_at dksX3_of_0 10 rfl rfl)
abbrev cX3_at : ByteArray := prog_18_method_14_code
def yX3_at : MethodName := ⟨RX3, "at", "(II)I"⟩
def dkwX3_at_0 : List UInt8 := [16, 12, 16, 20, 26, 104, 96, 27, 96, 172]
abbrev dktX3_at_0 : List UInt8 := dkwX3_at_0 ++ []
theorem dksX3_at_0 : cX3_at.data.toList.drop 0 = dktX3_at_0 := by decide +kernel
theorem dX3_at_0 : decode cX3_at 0 = .ok (.bipush 12, 2) := dk_16 12 (dk_at dksX3_at_0 0 rfl rfl)
theorem dX3_at_2 : decode cX3_at 2 = .ok (.bipush 20, 2) := dk_16 20 (dk_at dksX3_at_0 2 rfl rfl)
theorem dX3_at_4 : decode cX3_at 4 = .ok (.iload_n 0, 1) := dk_26 (dk_at dksX3_at_0 4 rfl rfl)
theorem dX3_at_5 : decode cX3_at 5 = .ok (.imul, 1) := dk_104 (dk_at dksX3_at_0 5 rfl rfl)
theorem dX3_at_6 : decode cX3_at 6 = .ok (.iadd, 1) := dk_96 (dk_at dksX3_at_0 6 rfl rfl)
theorem dX3_at_7 : decode cX3_at 7 = .ok (.iload_n 1, 1) := dk_27 (dk_at dksX3_at_0 7 rfl rfl)
theorem dX3_at_8 : decode cX3_at 8 = .ok (.iadd, 1) := dk_96 (dk_at dksX3_at_0 8 rfl rfl)
theorem dX3_at_9 : decode cX3_at 9 = .ok (.ireturn, 1) := dk_172 (dk_at dksX3_at_0 9 rfl rfl)
abbrev cX3_leastLoaded : ByteArray := prog_18_method_19_code
def yX3_leastLoaded : MethodName := ⟨RX3, "leastLoaded", "()I"⟩
def dkwX3_leastLoaded_2 : List UInt8 := [27, 182, 0, 87, 7, 162, 0, 7, 27, 167, 0, 4, 2, 172]
abbrev dktX3_leastLoaded_2 : List UInt8 := dkwX3_leastLoaded_2 ++ []
def dkwX3_leastLoaded_1 : List UInt8 := [182, 0, 87, 42, 27, 182, 0, 87, 162, 0, 5, 28, 60, 132, 2, 1, 167, 255, 220, 27, 155, 0, 16, 42]
abbrev dktX3_leastLoaded_1 : List UInt8 := dkwX3_leastLoaded_1 ++ dktX3_leastLoaded_2
def dkwX3_leastLoaded_0 : List UInt8 := [2, 60, 3, 61, 28, 16, 6, 162, 0, 36, 42, 28, 182, 0, 83, 153, 0, 22, 27, 155, 0, 16, 42, 28]
abbrev dktX3_leastLoaded_0 : List UInt8 := dkwX3_leastLoaded_0 ++ dktX3_leastLoaded_1
theorem dksX3_leastLoaded_0 : cX3_leastLoaded.data.toList.drop 0 = dktX3_leastLoaded_0 := by decide +kernel
theorem dksX3_leastLoaded_1 : cX3_leastLoaded.data.toList.drop 24 = dktX3_leastLoaded_1 := dk_seg dksX3_leastLoaded_0 24 rfl rfl
theorem dksX3_leastLoaded_2 : cX3_leastLoaded.data.toList.drop 48 = dktX3_leastLoaded_2 := dk_seg dksX3_leastLoaded_1 24 rfl rfl
theorem dX3_leastLoaded_0 : decode cX3_leastLoaded 0 = .ok (.iconst (-1), 1) := dk_2 (dk_at dksX3_leastLoaded_0 0 rfl rfl)
theorem dX3_leastLoaded_1 : decode cX3_leastLoaded 1 = .ok (.istore_n 1, 1) := dk_60 (dk_at dksX3_leastLoaded_0 1 rfl rfl)
theorem dX3_leastLoaded_2 : decode cX3_leastLoaded 2 = .ok (.iconst 0, 1) := dk_3 (dk_at dksX3_leastLoaded_0 2 rfl rfl)
theorem dX3_leastLoaded_3 : decode cX3_leastLoaded 3 = .ok (.istore_n 2, 1) := dk_61 (dk_at dksX3_leastLoaded_0 3 rfl rfl)
theorem dX3_leastLoaded_4 : decode cX3_leastLoaded 4 = .ok (.iload_n 2, 1) := dk_28 (dk_at dksX3_leastLoaded_0 4 rfl rfl)
theorem dX3_leastLoaded_5 : decode cX3_leastLoaded 5 = .ok (.bipush 6, 2) := dk_16 6 (dk_at dksX3_leastLoaded_0 5 rfl rfl)
theorem dX3_leastLoaded_7 : decode cX3_leastLoaded 7 = .ok (.if_icmp .ge 36, 3) := dk_162 0 36 (dk_at dksX3_leastLoaded_0 7 rfl rfl)
theorem dX3_leastLoaded_10 : decode cX3_leastLoaded 10 = .ok (.aload_n 0, 1) := dk_42 (dk_at dksX3_leastLoaded_0 10 rfl rfl)
theorem dX3_leastLoaded_11 : decode cX3_leastLoaded 11 = .ok (.iload_n 2, 1) := dk_28 (dk_at dksX3_leastLoaded_0 11 rfl rfl)
theorem dX3_leastLoaded_12 : decode cX3_leastLoaded 12 = .ok (.invokevirtual 83, 3) := dk_182 0 83 (dk_at dksX3_leastLoaded_0 12 rfl rfl)
theorem dX3_leastLoaded_15 : decode cX3_leastLoaded 15 = .ok (.ifCond .eq 22, 3) := dk_153 0 22 (dk_at dksX3_leastLoaded_0 15 rfl rfl)
theorem dX3_leastLoaded_18 : decode cX3_leastLoaded 18 = .ok (.iload_n 1, 1) := dk_27 (dk_at dksX3_leastLoaded_0 18 rfl rfl)
theorem dX3_leastLoaded_19 : decode cX3_leastLoaded 19 = .ok (.ifCond .lt 16, 3) := dk_155 0 16 (dk_at dksX3_leastLoaded_0 19 rfl rfl)
theorem dX3_leastLoaded_22 : decode cX3_leastLoaded 22 = .ok (.aload_n 0, 1) := dk_42 (dk_at dksX3_leastLoaded_0 22 rfl rfl)
theorem dX3_leastLoaded_23 : decode cX3_leastLoaded 23 = .ok (.iload_n 2, 1) := dk_28 (dk_at dksX3_leastLoaded_0 23 rfl rfl)
theorem dX3_leastLoaded_24 : decode cX3_leastLoaded 24 = .ok (.invokevirtual 87, 3) := dk_182 0 87 (dk_at dksX3_leastLoaded_1 0 rfl rfl)
theorem dX3_leastLoaded_27 : decode cX3_leastLoaded 27 = .ok (.aload_n 0, 1) := dk_42 (dk_at dksX3_leastLoaded_1 3 rfl rfl)
theorem dX3_leastLoaded_28 : decode cX3_leastLoaded 28 = .ok (.iload_n 1, 1) := dk_27 (dk_at dksX3_leastLoaded_1 4 rfl rfl)
theorem dX3_leastLoaded_29 : decode cX3_leastLoaded 29 = .ok (.invokevirtual 87, 3) := dk_182 0 87 (dk_at dksX3_leastLoaded_1 5 rfl rfl)
theorem dX3_leastLoaded_32 : decode cX3_leastLoaded 32 = .ok (.if_icmp .ge 5, 3) := dk_162 0 5 (dk_at dksX3_leastLoaded_1 8 rfl rfl)
theorem dX3_leastLoaded_35 : decode cX3_leastLoaded 35 = .ok (.iload_n 2, 1) := dk_28 (dk_at dksX3_leastLoaded_1 11 rfl rfl)
theorem dX3_leastLoaded_36 : decode cX3_leastLoaded 36 = .ok (.istore_n 1, 1) := dk_60 (dk_at dksX3_leastLoaded_1 12 rfl rfl)
theorem dX3_leastLoaded_37 : decode cX3_leastLoaded 37 = .ok (.iinc 2 1, 3) := dk_132 2 1 (dk_at dksX3_leastLoaded_1 13 rfl rfl)
theorem dX3_leastLoaded_40 : decode cX3_leastLoaded 40 = .ok (.goto (-36), 3) := dk_167 255 220 (dk_at dksX3_leastLoaded_1 16 rfl rfl)
theorem dX3_leastLoaded_43 : decode cX3_leastLoaded 43 = .ok (.iload_n 1, 1) := dk_27 (dk_at dksX3_leastLoaded_1 19 rfl rfl)
theorem dX3_leastLoaded_44 : decode cX3_leastLoaded 44 = .ok (.ifCond .lt 16, 3) := dk_155 0 16 (dk_at dksX3_leastLoaded_1 20 rfl rfl)
theorem dX3_leastLoaded_47 : decode cX3_leastLoaded 47 = .ok (.aload_n 0, 1) := dk_42 (dk_at dksX3_leastLoaded_1 23 rfl rfl)
theorem dX3_leastLoaded_48 : decode cX3_leastLoaded 48 = .ok (.iload_n 1, 1) := dk_27 (dk_at dksX3_leastLoaded_2 0 rfl rfl)
theorem dX3_leastLoaded_49 : decode cX3_leastLoaded 49 = .ok (.invokevirtual 87, 3) := dk_182 0 87 (dk_at dksX3_leastLoaded_2 1 rfl rfl)
theorem dX3_leastLoaded_52 : decode cX3_leastLoaded 52 = .ok (.iconst 4, 1) := dk_7 (dk_at dksX3_leastLoaded_2 4 rfl rfl)
theorem dX3_leastLoaded_53 : decode cX3_leastLoaded 53 = .ok (.if_icmp .ge 7, 3) := dk_162 0 7 (dk_at dksX3_leastLoaded_2 5 rfl rfl)
theorem dX3_leastLoaded_56 : decode cX3_leastLoaded 56 = .ok (.iload_n 1, 1) := dk_27 (dk_at dksX3_leastLoaded_2 8 rfl rfl)
theorem dX3_leastLoaded_57 : decode cX3_leastLoaded 57 = .ok (.goto 4, 3) := dk_167 0 4 (dk_at dksX3_leastLoaded_2 9 rfl rfl)
theorem dX3_leastLoaded_60 : decode cX3_leastLoaded 60 = .ok (.iconst (-1), 1) := dk_2 (dk_at dksX3_leastLoaded_2 12 rfl rfl)
theorem dX3_leastLoaded_61 : decode cX3_leastLoaded 61 = .ok (.ireturn, 1) := dk_172 (dk_at dksX3_leastLoaded_2 13 rfl rfl)
abbrev cX3_loadOf : ByteArray := prog_18_method_18_code
def yX3_loadOf : MethodName := ⟨RX3, "loadOf", "(I)I"⟩
def dkwX3_loadOf_2 : List UInt8 := [167, 255, 214, 28, 172]
abbrev dktX3_loadOf_2 : List UInt8 := dkwX3_loadOf_2 ++ []
def dkwX3_loadOf_1 : List UInt8 := [160, 0, 17, 42, 29, 6, 182, 0, 80, 6, 159, 0, 7, 4, 167, 0, 4, 3, 96, 61, 132, 3, 1]
abbrev dktX3_loadOf_1 : List UInt8 := dkwX3_loadOf_1 ++ dktX3_loadOf_2
def dkwX3_loadOf_0 : List UInt8 := [3, 61, 3, 62, 29, 42, 180, 0, 7, 16, 11, 46, 162, 0, 37, 28, 42, 29, 5, 182, 0, 80, 27]
abbrev dktX3_loadOf_0 : List UInt8 := dkwX3_loadOf_0 ++ dktX3_loadOf_1
theorem dksX3_loadOf_0 : cX3_loadOf.data.toList.drop 0 = dktX3_loadOf_0 := by decide +kernel
theorem dksX3_loadOf_1 : cX3_loadOf.data.toList.drop 23 = dktX3_loadOf_1 := dk_seg dksX3_loadOf_0 23 rfl rfl
theorem dksX3_loadOf_2 : cX3_loadOf.data.toList.drop 46 = dktX3_loadOf_2 := dk_seg dksX3_loadOf_1 23 rfl rfl
theorem dX3_loadOf_0 : decode cX3_loadOf 0 = .ok (.iconst 0, 1) := dk_3 (dk_at dksX3_loadOf_0 0 rfl rfl)
theorem dX3_loadOf_1 : decode cX3_loadOf 1 = .ok (.istore_n 2, 1) := dk_61 (dk_at dksX3_loadOf_0 1 rfl rfl)
theorem dX3_loadOf_2 : decode cX3_loadOf 2 = .ok (.iconst 0, 1) := dk_3 (dk_at dksX3_loadOf_0 2 rfl rfl)
theorem dX3_loadOf_3 : decode cX3_loadOf 3 = .ok (.istore_n 3, 1) := dk_62 (dk_at dksX3_loadOf_0 3 rfl rfl)
theorem dX3_loadOf_4 : decode cX3_loadOf 4 = .ok (.iload_n 3, 1) := dk_29 (dk_at dksX3_loadOf_0 4 rfl rfl)
theorem dX3_loadOf_5 : decode cX3_loadOf 5 = .ok (.aload_n 0, 1) := dk_42 (dk_at dksX3_loadOf_0 5 rfl rfl)
theorem dX3_loadOf_6 : decode cX3_loadOf 6 = .ok (.getfield 7, 3) := dk_180 0 7 (dk_at dksX3_loadOf_0 6 rfl rfl)
theorem dX3_loadOf_9 : decode cX3_loadOf 9 = .ok (.bipush 11, 2) := dk_16 11 (dk_at dksX3_loadOf_0 9 rfl rfl)
theorem dX3_loadOf_11 : decode cX3_loadOf 11 = .ok (.iaload, 1) := dk_46 (dk_at dksX3_loadOf_0 11 rfl rfl)
theorem dX3_loadOf_12 : decode cX3_loadOf 12 = .ok (.if_icmp .ge 37, 3) := dk_162 0 37 (dk_at dksX3_loadOf_0 12 rfl rfl)
theorem dX3_loadOf_15 : decode cX3_loadOf 15 = .ok (.iload_n 2, 1) := dk_28 (dk_at dksX3_loadOf_0 15 rfl rfl)
theorem dX3_loadOf_16 : decode cX3_loadOf 16 = .ok (.aload_n 0, 1) := dk_42 (dk_at dksX3_loadOf_0 16 rfl rfl)
theorem dX3_loadOf_17 : decode cX3_loadOf 17 = .ok (.iload_n 3, 1) := dk_29 (dk_at dksX3_loadOf_0 17 rfl rfl)
theorem dX3_loadOf_18 : decode cX3_loadOf 18 = .ok (.iconst 2, 1) := dk_5 (dk_at dksX3_loadOf_0 18 rfl rfl)
theorem dX3_loadOf_19 : decode cX3_loadOf 19 = .ok (.invokevirtual 80, 3) := dk_182 0 80 (dk_at dksX3_loadOf_0 19 rfl rfl)
theorem dX3_loadOf_22 : decode cX3_loadOf 22 = .ok (.iload_n 1, 1) := dk_27 (dk_at dksX3_loadOf_0 22 rfl rfl)
theorem dX3_loadOf_23 : decode cX3_loadOf 23 = .ok (.if_icmp .ne 17, 3) := dk_160 0 17 (dk_at dksX3_loadOf_1 0 rfl rfl)
theorem dX3_loadOf_26 : decode cX3_loadOf 26 = .ok (.aload_n 0, 1) := dk_42 (dk_at dksX3_loadOf_1 3 rfl rfl)
theorem dX3_loadOf_27 : decode cX3_loadOf 27 = .ok (.iload_n 3, 1) := dk_29 (dk_at dksX3_loadOf_1 4 rfl rfl)
theorem dX3_loadOf_28 : decode cX3_loadOf 28 = .ok (.iconst 3, 1) := dk_6 (dk_at dksX3_loadOf_1 5 rfl rfl)
theorem dX3_loadOf_29 : decode cX3_loadOf 29 = .ok (.invokevirtual 80, 3) := dk_182 0 80 (dk_at dksX3_loadOf_1 6 rfl rfl)
theorem dX3_loadOf_32 : decode cX3_loadOf 32 = .ok (.iconst 3, 1) := dk_6 (dk_at dksX3_loadOf_1 9 rfl rfl)
theorem dX3_loadOf_33 : decode cX3_loadOf 33 = .ok (.if_icmp .eq 7, 3) := dk_159 0 7 (dk_at dksX3_loadOf_1 10 rfl rfl)
theorem dX3_loadOf_36 : decode cX3_loadOf 36 = .ok (.iconst 1, 1) := dk_4 (dk_at dksX3_loadOf_1 13 rfl rfl)
theorem dX3_loadOf_37 : decode cX3_loadOf 37 = .ok (.goto 4, 3) := dk_167 0 4 (dk_at dksX3_loadOf_1 14 rfl rfl)
theorem dX3_loadOf_40 : decode cX3_loadOf 40 = .ok (.iconst 0, 1) := dk_3 (dk_at dksX3_loadOf_1 17 rfl rfl)
theorem dX3_loadOf_41 : decode cX3_loadOf 41 = .ok (.iadd, 1) := dk_96 (dk_at dksX3_loadOf_1 18 rfl rfl)
theorem dX3_loadOf_42 : decode cX3_loadOf 42 = .ok (.istore_n 2, 1) := dk_61 (dk_at dksX3_loadOf_1 19 rfl rfl)
theorem dX3_loadOf_43 : decode cX3_loadOf 43 = .ok (.iinc 3 1, 3) := dk_132 3 1 (dk_at dksX3_loadOf_1 20 rfl rfl)
theorem dX3_loadOf_46 : decode cX3_loadOf 46 = .ok (.goto (-42), 3) := dk_167 255 214 (dk_at dksX3_loadOf_2 0 rfl rfl)
theorem dX3_loadOf_49 : decode cX3_loadOf 49 = .ok (.iload_n 2, 1) := dk_28 (dk_at dksX3_loadOf_2 3 rfl rfl)
theorem dX3_loadOf_50 : decode cX3_loadOf 50 = .ok (.ireturn, 1) := dk_172 (dk_at dksX3_loadOf_2 4 rfl rfl)
abbrev cX3_hands : ByteArray := prog_18_method_21_code
def yX3_hands : MethodName := ⟨RX3, "hands", "(II)V"⟩
def dkwX3_hands_1 : List UInt8 := [96, 79, 42, 5, 27, 28, 182, 0, 90, 177]
abbrev dktX3_hands_1 : List UInt8 := dkwX3_hands_1 ++ []
def dkwX3_hands_0 : List UInt8 := [42, 180, 0, 7, 27, 5, 184, 0, 76, 28, 79, 42, 180, 0, 7, 27, 16, 12, 184, 0, 76, 92, 46, 4]
abbrev dktX3_hands_0 : List UInt8 := dkwX3_hands_0 ++ dktX3_hands_1
theorem dksX3_hands_0 : cX3_hands.data.toList.drop 0 = dktX3_hands_0 := by decide +kernel
theorem dksX3_hands_1 : cX3_hands.data.toList.drop 24 = dktX3_hands_1 := dk_seg dksX3_hands_0 24 rfl rfl
theorem dX3_hands_0 : decode cX3_hands 0 = .ok (.aload_n 0, 1) := dk_42 (dk_at dksX3_hands_0 0 rfl rfl)
theorem dX3_hands_1 : decode cX3_hands 1 = .ok (.getfield 7, 3) := dk_180 0 7 (dk_at dksX3_hands_0 1 rfl rfl)
theorem dX3_hands_4 : decode cX3_hands 4 = .ok (.iload_n 1, 1) := dk_27 (dk_at dksX3_hands_0 4 rfl rfl)
theorem dX3_hands_5 : decode cX3_hands 5 = .ok (.iconst 2, 1) := dk_5 (dk_at dksX3_hands_0 5 rfl rfl)
theorem dX3_hands_6 : decode cX3_hands 6 = .ok (.invokestatic 76, 3) := dk_184 0 76 (dk_at dksX3_hands_0 6 rfl rfl)
theorem dX3_hands_9 : decode cX3_hands 9 = .ok (.iload_n 2, 1) := dk_28 (dk_at dksX3_hands_0 9 rfl rfl)
theorem dX3_hands_10 : decode cX3_hands 10 = .ok (.iastore, 1) := dk_79 (dk_at dksX3_hands_0 10 rfl rfl)
theorem dX3_hands_11 : decode cX3_hands 11 = .ok (.aload_n 0, 1) := dk_42 (dk_at dksX3_hands_0 11 rfl rfl)
theorem dX3_hands_12 : decode cX3_hands 12 = .ok (.getfield 7, 3) := dk_180 0 7 (dk_at dksX3_hands_0 12 rfl rfl)
theorem dX3_hands_15 : decode cX3_hands 15 = .ok (.iload_n 1, 1) := dk_27 (dk_at dksX3_hands_0 15 rfl rfl)
theorem dX3_hands_16 : decode cX3_hands 16 = .ok (.bipush 12, 2) := dk_16 12 (dk_at dksX3_hands_0 16 rfl rfl)
theorem dX3_hands_18 : decode cX3_hands 18 = .ok (.invokestatic 76, 3) := dk_184 0 76 (dk_at dksX3_hands_0 18 rfl rfl)
theorem dX3_hands_21 : decode cX3_hands 21 = .ok (.dup2, 1) := dk_92 (dk_at dksX3_hands_0 21 rfl rfl)
theorem dX3_hands_22 : decode cX3_hands 22 = .ok (.iaload, 1) := dk_46 (dk_at dksX3_hands_0 22 rfl rfl)
theorem dX3_hands_23 : decode cX3_hands 23 = .ok (.iconst 1, 1) := dk_4 (dk_at dksX3_hands_0 23 rfl rfl)
theorem dX3_hands_24 : decode cX3_hands 24 = .ok (.iadd, 1) := dk_96 (dk_at dksX3_hands_1 0 rfl rfl)
theorem dX3_hands_25 : decode cX3_hands 25 = .ok (.iastore, 1) := dk_79 (dk_at dksX3_hands_1 1 rfl rfl)
theorem dX3_hands_26 : decode cX3_hands 26 = .ok (.aload_n 0, 1) := dk_42 (dk_at dksX3_hands_1 2 rfl rfl)
theorem dX3_hands_27 : decode cX3_hands 27 = .ok (.iconst 2, 1) := dk_5 (dk_at dksX3_hands_1 3 rfl rfl)
theorem dX3_hands_28 : decode cX3_hands 28 = .ok (.iload_n 1, 1) := dk_27 (dk_at dksX3_hands_1 4 rfl rfl)
theorem dX3_hands_29 : decode cX3_hands 29 = .ok (.iload_n 2, 1) := dk_28 (dk_at dksX3_hands_1 5 rfl rfl)
theorem dX3_hands_30 : decode cX3_hands 30 = .ok (.invokevirtual 90, 3) := dk_182 0 90 (dk_at dksX3_hands_1 6 rfl rfl)
theorem dX3_hands_33 : decode cX3_hands 33 = .ok (.return_, 1) := dk_177 (dk_at dksX3_hands_1 9 rfl rfl)
abbrev cX3_tells : ByteArray := prog_18_method_20_code
def yX3_tells : MethodName := ⟨RX3, "tells", "(III)V"⟩
def dkwX3_tells_5 : List UInt8 := [21, 4, 6, 96, 29, 79, 42, 180, 0, 7, 17, 1, 203, 92, 46, 4, 96, 79, 177]
abbrev dktX3_tells_5 : List UInt8 := dkwX3_tells_5 ++ []
def dkwX3_tells_4 : List UInt8 := [180, 0, 7, 21, 4, 4, 96, 27, 79, 42, 180, 0, 7, 21, 4, 5, 96, 28, 79, 42, 180, 0, 7]
abbrev dktX3_tells_4 : List UInt8 := dkwX3_tells_4 ++ dktX3_tells_5
def dkwX3_tells_3 : List UInt8 := [17, 1, 203, 46, 104, 96, 54, 4, 42, 180, 0, 7, 21, 4, 42, 180, 0, 7, 3, 46, 79, 42]
abbrev dktX3_tells_3 : List UInt8 := dkwX3_tells_3 ++ dktX3_tells_4
def dkwX3_tells_2 : List UInt8 := [167, 255, 229, 42, 180, 0, 7, 17, 1, 203, 92, 46, 4, 100, 79, 17, 1, 204, 7, 42, 180, 0, 7]
abbrev dktX3_tells_2 : List UInt8 := dkwX3_tells_2 ++ dktX3_tells_3
def dkwX3_tells_1 : List UInt8 := [162, 0, 25, 42, 180, 0, 7, 21, 4, 42, 180, 0, 7, 21, 4, 7, 96, 46, 79, 132, 4, 1]
abbrev dktX3_tells_1 : List UInt8 := dkwX3_tells_1 ++ dktX3_tells_2
def dkwX3_tells_0 : List UInt8 := [42, 180, 0, 7, 17, 1, 203, 46, 16, 60, 160, 0, 50, 17, 1, 204, 54, 4, 21, 4, 17, 2, 184]
abbrev dktX3_tells_0 : List UInt8 := dkwX3_tells_0 ++ dktX3_tells_1
theorem dksX3_tells_0 : cX3_tells.data.toList.drop 0 = dktX3_tells_0 := by decide +kernel
theorem dksX3_tells_1 : cX3_tells.data.toList.drop 23 = dktX3_tells_1 := dk_seg dksX3_tells_0 23 rfl rfl
theorem dksX3_tells_2 : cX3_tells.data.toList.drop 45 = dktX3_tells_2 := dk_seg dksX3_tells_1 22 rfl rfl
theorem dksX3_tells_3 : cX3_tells.data.toList.drop 68 = dktX3_tells_3 := dk_seg dksX3_tells_2 23 rfl rfl
theorem dksX3_tells_4 : cX3_tells.data.toList.drop 90 = dktX3_tells_4 := dk_seg dksX3_tells_3 22 rfl rfl
theorem dksX3_tells_5 : cX3_tells.data.toList.drop 113 = dktX3_tells_5 := dk_seg dksX3_tells_4 23 rfl rfl
theorem dX3_tells_0 : decode cX3_tells 0 = .ok (.aload_n 0, 1) := dk_42 (dk_at dksX3_tells_0 0 rfl rfl)
theorem dX3_tells_1 : decode cX3_tells 1 = .ok (.getfield 7, 3) := dk_180 0 7 (dk_at dksX3_tells_0 1 rfl rfl)
theorem dX3_tells_4 : decode cX3_tells 4 = .ok (.sipush 459, 3) := dk_17 1 203 (dk_at dksX3_tells_0 4 rfl rfl)
theorem dX3_tells_7 : decode cX3_tells 7 = .ok (.iaload, 1) := dk_46 (dk_at dksX3_tells_0 7 rfl rfl)
theorem dX3_tells_8 : decode cX3_tells 8 = .ok (.bipush 60, 2) := dk_16 60 (dk_at dksX3_tells_0 8 rfl rfl)
theorem dX3_tells_10 : decode cX3_tells 10 = .ok (.if_icmp .ne 50, 3) := dk_160 0 50 (dk_at dksX3_tells_0 10 rfl rfl)
theorem dX3_tells_13 : decode cX3_tells 13 = .ok (.sipush 460, 3) := dk_17 1 204 (dk_at dksX3_tells_0 13 rfl rfl)
theorem dX3_tells_16 : decode cX3_tells 16 = .ok (.istore 4, 2) := dk_54 4 (dk_at dksX3_tells_0 16 rfl rfl)
theorem dX3_tells_18 : decode cX3_tells 18 = .ok (.iload 4, 2) := dk_21 4 (dk_at dksX3_tells_0 18 rfl rfl)
theorem dX3_tells_20 : decode cX3_tells 20 = .ok (.sipush 696, 3) := dk_17 2 184 (dk_at dksX3_tells_0 20 rfl rfl)
theorem dX3_tells_23 : decode cX3_tells 23 = .ok (.if_icmp .ge 25, 3) := dk_162 0 25 (dk_at dksX3_tells_1 0 rfl rfl)
theorem dX3_tells_26 : decode cX3_tells 26 = .ok (.aload_n 0, 1) := dk_42 (dk_at dksX3_tells_1 3 rfl rfl)
theorem dX3_tells_27 : decode cX3_tells 27 = .ok (.getfield 7, 3) := dk_180 0 7 (dk_at dksX3_tells_1 4 rfl rfl)
theorem dX3_tells_30 : decode cX3_tells 30 = .ok (.iload 4, 2) := dk_21 4 (dk_at dksX3_tells_1 7 rfl rfl)
theorem dX3_tells_32 : decode cX3_tells 32 = .ok (.aload_n 0, 1) := dk_42 (dk_at dksX3_tells_1 9 rfl rfl)
theorem dX3_tells_33 : decode cX3_tells 33 = .ok (.getfield 7, 3) := dk_180 0 7 (dk_at dksX3_tells_1 10 rfl rfl)
theorem dX3_tells_36 : decode cX3_tells 36 = .ok (.iload 4, 2) := dk_21 4 (dk_at dksX3_tells_1 13 rfl rfl)
theorem dX3_tells_38 : decode cX3_tells 38 = .ok (.iconst 4, 1) := dk_7 (dk_at dksX3_tells_1 15 rfl rfl)
theorem dX3_tells_39 : decode cX3_tells 39 = .ok (.iadd, 1) := dk_96 (dk_at dksX3_tells_1 16 rfl rfl)
theorem dX3_tells_40 : decode cX3_tells 40 = .ok (.iaload, 1) := dk_46 (dk_at dksX3_tells_1 17 rfl rfl)
theorem dX3_tells_41 : decode cX3_tells 41 = .ok (.iastore, 1) := dk_79 (dk_at dksX3_tells_1 18 rfl rfl)
theorem dX3_tells_42 : decode cX3_tells 42 = .ok (.iinc 4 1, 3) := dk_132 4 1 (dk_at dksX3_tells_1 19 rfl rfl)
theorem dX3_tells_45 : decode cX3_tells 45 = .ok (.goto (-27), 3) := dk_167 255 229 (dk_at dksX3_tells_2 0 rfl rfl)
theorem dX3_tells_48 : decode cX3_tells 48 = .ok (.aload_n 0, 1) := dk_42 (dk_at dksX3_tells_2 3 rfl rfl)
theorem dX3_tells_49 : decode cX3_tells 49 = .ok (.getfield 7, 3) := dk_180 0 7 (dk_at dksX3_tells_2 4 rfl rfl)
theorem dX3_tells_52 : decode cX3_tells 52 = .ok (.sipush 459, 3) := dk_17 1 203 (dk_at dksX3_tells_2 7 rfl rfl)
theorem dX3_tells_55 : decode cX3_tells 55 = .ok (.dup2, 1) := dk_92 (dk_at dksX3_tells_2 10 rfl rfl)
theorem dX3_tells_56 : decode cX3_tells 56 = .ok (.iaload, 1) := dk_46 (dk_at dksX3_tells_2 11 rfl rfl)
theorem dX3_tells_57 : decode cX3_tells 57 = .ok (.iconst 1, 1) := dk_4 (dk_at dksX3_tells_2 12 rfl rfl)
theorem dX3_tells_58 : decode cX3_tells 58 = .ok (.isub, 1) := dk_100 (dk_at dksX3_tells_2 13 rfl rfl)
theorem dX3_tells_59 : decode cX3_tells 59 = .ok (.iastore, 1) := dk_79 (dk_at dksX3_tells_2 14 rfl rfl)
theorem dX3_tells_60 : decode cX3_tells 60 = .ok (.sipush 460, 3) := dk_17 1 204 (dk_at dksX3_tells_2 15 rfl rfl)
theorem dX3_tells_63 : decode cX3_tells 63 = .ok (.iconst 4, 1) := dk_7 (dk_at dksX3_tells_2 18 rfl rfl)
theorem dX3_tells_64 : decode cX3_tells 64 = .ok (.aload_n 0, 1) := dk_42 (dk_at dksX3_tells_2 19 rfl rfl)
theorem dX3_tells_65 : decode cX3_tells 65 = .ok (.getfield 7, 3) := dk_180 0 7 (dk_at dksX3_tells_2 20 rfl rfl)
theorem dX3_tells_68 : decode cX3_tells 68 = .ok (.sipush 459, 3) := dk_17 1 203 (dk_at dksX3_tells_3 0 rfl rfl)
theorem dX3_tells_71 : decode cX3_tells 71 = .ok (.iaload, 1) := dk_46 (dk_at dksX3_tells_3 3 rfl rfl)
theorem dX3_tells_72 : decode cX3_tells 72 = .ok (.imul, 1) := dk_104 (dk_at dksX3_tells_3 4 rfl rfl)
theorem dX3_tells_73 : decode cX3_tells 73 = .ok (.iadd, 1) := dk_96 (dk_at dksX3_tells_3 5 rfl rfl)
theorem dX3_tells_74 : decode cX3_tells 74 = .ok (.istore 4, 2) := dk_54 4 (dk_at dksX3_tells_3 6 rfl rfl)
theorem dX3_tells_76 : decode cX3_tells 76 = .ok (.aload_n 0, 1) := dk_42 (dk_at dksX3_tells_3 8 rfl rfl)
theorem dX3_tells_77 : decode cX3_tells 77 = .ok (.getfield 7, 3) := dk_180 0 7 (dk_at dksX3_tells_3 9 rfl rfl)
theorem dX3_tells_80 : decode cX3_tells 80 = .ok (.iload 4, 2) := dk_21 4 (dk_at dksX3_tells_3 12 rfl rfl)
theorem dX3_tells_82 : decode cX3_tells 82 = .ok (.aload_n 0, 1) := dk_42 (dk_at dksX3_tells_3 14 rfl rfl)
theorem dX3_tells_83 : decode cX3_tells 83 = .ok (.getfield 7, 3) := dk_180 0 7 (dk_at dksX3_tells_3 15 rfl rfl)
theorem dX3_tells_86 : decode cX3_tells 86 = .ok (.iconst 0, 1) := dk_3 (dk_at dksX3_tells_3 18 rfl rfl)
theorem dX3_tells_87 : decode cX3_tells 87 = .ok (.iaload, 1) := dk_46 (dk_at dksX3_tells_3 19 rfl rfl)
theorem dX3_tells_88 : decode cX3_tells 88 = .ok (.iastore, 1) := dk_79 (dk_at dksX3_tells_3 20 rfl rfl)
theorem dX3_tells_89 : decode cX3_tells 89 = .ok (.aload_n 0, 1) := dk_42 (dk_at dksX3_tells_3 21 rfl rfl)
theorem dX3_tells_90 : decode cX3_tells 90 = .ok (.getfield 7, 3) := dk_180 0 7 (dk_at dksX3_tells_4 0 rfl rfl)
theorem dX3_tells_93 : decode cX3_tells 93 = .ok (.iload 4, 2) := dk_21 4 (dk_at dksX3_tells_4 3 rfl rfl)
theorem dX3_tells_95 : decode cX3_tells 95 = .ok (.iconst 1, 1) := dk_4 (dk_at dksX3_tells_4 5 rfl rfl)
theorem dX3_tells_96 : decode cX3_tells 96 = .ok (.iadd, 1) := dk_96 (dk_at dksX3_tells_4 6 rfl rfl)
theorem dX3_tells_97 : decode cX3_tells 97 = .ok (.iload_n 1, 1) := dk_27 (dk_at dksX3_tells_4 7 rfl rfl)
theorem dX3_tells_98 : decode cX3_tells 98 = .ok (.iastore, 1) := dk_79 (dk_at dksX3_tells_4 8 rfl rfl)
theorem dX3_tells_99 : decode cX3_tells 99 = .ok (.aload_n 0, 1) := dk_42 (dk_at dksX3_tells_4 9 rfl rfl)
theorem dX3_tells_100 : decode cX3_tells 100 = .ok (.getfield 7, 3) := dk_180 0 7 (dk_at dksX3_tells_4 10 rfl rfl)
theorem dX3_tells_103 : decode cX3_tells 103 = .ok (.iload 4, 2) := dk_21 4 (dk_at dksX3_tells_4 13 rfl rfl)
theorem dX3_tells_105 : decode cX3_tells 105 = .ok (.iconst 2, 1) := dk_5 (dk_at dksX3_tells_4 15 rfl rfl)
theorem dX3_tells_106 : decode cX3_tells 106 = .ok (.iadd, 1) := dk_96 (dk_at dksX3_tells_4 16 rfl rfl)
theorem dX3_tells_107 : decode cX3_tells 107 = .ok (.iload_n 2, 1) := dk_28 (dk_at dksX3_tells_4 17 rfl rfl)
theorem dX3_tells_108 : decode cX3_tells 108 = .ok (.iastore, 1) := dk_79 (dk_at dksX3_tells_4 18 rfl rfl)
theorem dX3_tells_109 : decode cX3_tells 109 = .ok (.aload_n 0, 1) := dk_42 (dk_at dksX3_tells_4 19 rfl rfl)
theorem dX3_tells_110 : decode cX3_tells 110 = .ok (.getfield 7, 3) := dk_180 0 7 (dk_at dksX3_tells_4 20 rfl rfl)
theorem dX3_tells_113 : decode cX3_tells 113 = .ok (.iload 4, 2) := dk_21 4 (dk_at dksX3_tells_5 0 rfl rfl)
theorem dX3_tells_115 : decode cX3_tells 115 = .ok (.iconst 3, 1) := dk_6 (dk_at dksX3_tells_5 2 rfl rfl)
theorem dX3_tells_116 : decode cX3_tells 116 = .ok (.iadd, 1) := dk_96 (dk_at dksX3_tells_5 3 rfl rfl)
theorem dX3_tells_117 : decode cX3_tells 117 = .ok (.iload_n 3, 1) := dk_29 (dk_at dksX3_tells_5 4 rfl rfl)
theorem dX3_tells_118 : decode cX3_tells 118 = .ok (.iastore, 1) := dk_79 (dk_at dksX3_tells_5 5 rfl rfl)
theorem dX3_tells_119 : decode cX3_tells 119 = .ok (.aload_n 0, 1) := dk_42 (dk_at dksX3_tells_5 6 rfl rfl)
theorem dX3_tells_120 : decode cX3_tells 120 = .ok (.getfield 7, 3) := dk_180 0 7 (dk_at dksX3_tells_5 7 rfl rfl)
theorem dX3_tells_123 : decode cX3_tells 123 = .ok (.sipush 459, 3) := dk_17 1 203 (dk_at dksX3_tells_5 10 rfl rfl)
theorem dX3_tells_126 : decode cX3_tells 126 = .ok (.dup2, 1) := dk_92 (dk_at dksX3_tells_5 13 rfl rfl)
theorem dX3_tells_127 : decode cX3_tells 127 = .ok (.iaload, 1) := dk_46 (dk_at dksX3_tells_5 14 rfl rfl)
theorem dX3_tells_128 : decode cX3_tells 128 = .ok (.iconst 1, 1) := dk_4 (dk_at dksX3_tells_5 15 rfl rfl)
theorem dX3_tells_129 : decode cX3_tells 129 = .ok (.iadd, 1) := dk_96 (dk_at dksX3_tells_5 16 rfl rfl)
theorem dX3_tells_130 : decode cX3_tells 130 = .ok (.iastore, 1) := dk_79 (dk_at dksX3_tells_5 17 rfl rfl)
theorem dX3_tells_131 : decode cX3_tells 131 = .ok (.return_, 1) := dk_177 (dk_at dksX3_tells_5 18 rfl rfl)
abbrev cX3_keeps : ByteArray := prog_18_method_7_code
def yX3_keeps : MethodName := ⟨RX3, "keeps", "([I)V"⟩
def dkwX3_keeps_3 : List UInt8 := [180, 0, 54, 4, 96, 181, 0, 54, 177]
abbrev dktX3_keeps_3 : List UInt8 := dkwX3_keeps_3 ++ []
def dkwX3_keeps_2 : List UInt8 := [181, 0, 54, 43, 3, 42, 180, 0, 19, 17, 2, 188, 42, 180, 0, 54, 104, 184, 0, 57, 42, 89]
abbrev dktX3_keeps_2 : List UInt8 := dkwX3_keeps_2 ++ dktX3_keeps_3
def dkwX3_keeps_1 : List UInt8 := [180, 0, 19, 28, 17, 2, 188, 96, 46, 79, 132, 2, 1, 167, 255, 230, 42, 89, 180, 0, 54, 4, 100]
abbrev dktX3_keeps_1 : List UInt8 := dkwX3_keeps_1 ++ dktX3_keeps_2
def dkwX3_keeps_0 : List UInt8 := [42, 180, 0, 54, 16, 8, 160, 0, 44, 3, 61, 28, 17, 19, 36, 162, 0, 25, 42, 180, 0, 19, 28, 42]
abbrev dktX3_keeps_0 : List UInt8 := dkwX3_keeps_0 ++ dktX3_keeps_1
theorem dksX3_keeps_0 : cX3_keeps.data.toList.drop 0 = dktX3_keeps_0 := by decide +kernel
theorem dksX3_keeps_1 : cX3_keeps.data.toList.drop 24 = dktX3_keeps_1 := dk_seg dksX3_keeps_0 24 rfl rfl
theorem dksX3_keeps_2 : cX3_keeps.data.toList.drop 47 = dktX3_keeps_2 := dk_seg dksX3_keeps_1 23 rfl rfl
theorem dksX3_keeps_3 : cX3_keeps.data.toList.drop 69 = dktX3_keeps_3 := dk_seg dksX3_keeps_2 22 rfl rfl
theorem dX3_keeps_0 : decode cX3_keeps 0 = .ok (.aload_n 0, 1) := dk_42 (dk_at dksX3_keeps_0 0 rfl rfl)
theorem dX3_keeps_1 : decode cX3_keeps 1 = .ok (.getfield 54, 3) := dk_180 0 54 (dk_at dksX3_keeps_0 1 rfl rfl)
theorem dX3_keeps_4 : decode cX3_keeps 4 = .ok (.bipush 8, 2) := dk_16 8 (dk_at dksX3_keeps_0 4 rfl rfl)
theorem dX3_keeps_6 : decode cX3_keeps 6 = .ok (.if_icmp .ne 44, 3) := dk_160 0 44 (dk_at dksX3_keeps_0 6 rfl rfl)
theorem dX3_keeps_9 : decode cX3_keeps 9 = .ok (.iconst 0, 1) := dk_3 (dk_at dksX3_keeps_0 9 rfl rfl)
theorem dX3_keeps_10 : decode cX3_keeps 10 = .ok (.istore_n 2, 1) := dk_61 (dk_at dksX3_keeps_0 10 rfl rfl)
theorem dX3_keeps_11 : decode cX3_keeps 11 = .ok (.iload_n 2, 1) := dk_28 (dk_at dksX3_keeps_0 11 rfl rfl)
theorem dX3_keeps_12 : decode cX3_keeps 12 = .ok (.sipush 4900, 3) := dk_17 19 36 (dk_at dksX3_keeps_0 12 rfl rfl)
theorem dX3_keeps_15 : decode cX3_keeps 15 = .ok (.if_icmp .ge 25, 3) := dk_162 0 25 (dk_at dksX3_keeps_0 15 rfl rfl)
theorem dX3_keeps_18 : decode cX3_keeps 18 = .ok (.aload_n 0, 1) := dk_42 (dk_at dksX3_keeps_0 18 rfl rfl)
theorem dX3_keeps_19 : decode cX3_keeps 19 = .ok (.getfield 19, 3) := dk_180 0 19 (dk_at dksX3_keeps_0 19 rfl rfl)
theorem dX3_keeps_22 : decode cX3_keeps 22 = .ok (.iload_n 2, 1) := dk_28 (dk_at dksX3_keeps_0 22 rfl rfl)
theorem dX3_keeps_23 : decode cX3_keeps 23 = .ok (.aload_n 0, 1) := dk_42 (dk_at dksX3_keeps_0 23 rfl rfl)
theorem dX3_keeps_24 : decode cX3_keeps 24 = .ok (.getfield 19, 3) := dk_180 0 19 (dk_at dksX3_keeps_1 0 rfl rfl)
theorem dX3_keeps_27 : decode cX3_keeps 27 = .ok (.iload_n 2, 1) := dk_28 (dk_at dksX3_keeps_1 3 rfl rfl)
theorem dX3_keeps_28 : decode cX3_keeps 28 = .ok (.sipush 700, 3) := dk_17 2 188 (dk_at dksX3_keeps_1 4 rfl rfl)
theorem dX3_keeps_31 : decode cX3_keeps 31 = .ok (.iadd, 1) := dk_96 (dk_at dksX3_keeps_1 7 rfl rfl)
theorem dX3_keeps_32 : decode cX3_keeps 32 = .ok (.iaload, 1) := dk_46 (dk_at dksX3_keeps_1 8 rfl rfl)
theorem dX3_keeps_33 : decode cX3_keeps 33 = .ok (.iastore, 1) := dk_79 (dk_at dksX3_keeps_1 9 rfl rfl)
theorem dX3_keeps_34 : decode cX3_keeps 34 = .ok (.iinc 2 1, 3) := dk_132 2 1 (dk_at dksX3_keeps_1 10 rfl rfl)
theorem dX3_keeps_37 : decode cX3_keeps 37 = .ok (.goto (-26), 3) := dk_167 255 230 (dk_at dksX3_keeps_1 13 rfl rfl)
theorem dX3_keeps_40 : decode cX3_keeps 40 = .ok (.aload_n 0, 1) := dk_42 (dk_at dksX3_keeps_1 16 rfl rfl)
theorem dX3_keeps_41 : decode cX3_keeps 41 = .ok (.dup, 1) := dk_89 (dk_at dksX3_keeps_1 17 rfl rfl)
theorem dX3_keeps_42 : decode cX3_keeps 42 = .ok (.getfield 54, 3) := dk_180 0 54 (dk_at dksX3_keeps_1 18 rfl rfl)
theorem dX3_keeps_45 : decode cX3_keeps 45 = .ok (.iconst 1, 1) := dk_4 (dk_at dksX3_keeps_1 21 rfl rfl)
theorem dX3_keeps_46 : decode cX3_keeps 46 = .ok (.isub, 1) := dk_100 (dk_at dksX3_keeps_1 22 rfl rfl)
theorem dX3_keeps_47 : decode cX3_keeps 47 = .ok (.putfield 54, 3) := dk_181 0 54 (dk_at dksX3_keeps_2 0 rfl rfl)
theorem dX3_keeps_50 : decode cX3_keeps 50 = .ok (.aload_n 1, 1) := dk_43 (dk_at dksX3_keeps_2 3 rfl rfl)
theorem dX3_keeps_51 : decode cX3_keeps 51 = .ok (.iconst 0, 1) := dk_3 (dk_at dksX3_keeps_2 4 rfl rfl)
theorem dX3_keeps_52 : decode cX3_keeps 52 = .ok (.aload_n 0, 1) := dk_42 (dk_at dksX3_keeps_2 5 rfl rfl)
theorem dX3_keeps_53 : decode cX3_keeps 53 = .ok (.getfield 19, 3) := dk_180 0 19 (dk_at dksX3_keeps_2 6 rfl rfl)
theorem dX3_keeps_56 : decode cX3_keeps 56 = .ok (.sipush 700, 3) := dk_17 2 188 (dk_at dksX3_keeps_2 9 rfl rfl)
theorem dX3_keeps_59 : decode cX3_keeps 59 = .ok (.aload_n 0, 1) := dk_42 (dk_at dksX3_keeps_2 12 rfl rfl)
theorem dX3_keeps_60 : decode cX3_keeps 60 = .ok (.getfield 54, 3) := dk_180 0 54 (dk_at dksX3_keeps_2 13 rfl rfl)
theorem dX3_keeps_63 : decode cX3_keeps 63 = .ok (.imul, 1) := dk_104 (dk_at dksX3_keeps_2 16 rfl rfl)
theorem dX3_keeps_64 : decode cX3_keeps 64 = .ok (.invokestatic 57, 3) := dk_184 0 57 (dk_at dksX3_keeps_2 17 rfl rfl)
theorem dX3_keeps_67 : decode cX3_keeps 67 = .ok (.aload_n 0, 1) := dk_42 (dk_at dksX3_keeps_2 20 rfl rfl)
theorem dX3_keeps_68 : decode cX3_keeps 68 = .ok (.dup, 1) := dk_89 (dk_at dksX3_keeps_2 21 rfl rfl)
theorem dX3_keeps_69 : decode cX3_keeps 69 = .ok (.getfield 54, 3) := dk_180 0 54 (dk_at dksX3_keeps_3 0 rfl rfl)
theorem dX3_keeps_72 : decode cX3_keeps 72 = .ok (.iconst 1, 1) := dk_4 (dk_at dksX3_keeps_3 3 rfl rfl)
theorem dX3_keeps_73 : decode cX3_keeps 73 = .ok (.iadd, 1) := dk_96 (dk_at dksX3_keeps_3 4 rfl rfl)
theorem dX3_keeps_74 : decode cX3_keeps 74 = .ok (.putfield 54, 3) := dk_181 0 54 (dk_at dksX3_keeps_3 5 rfl rfl)
theorem dX3_keeps_77 : decode cX3_keeps 77 = .ok (.return_, 1) := dk_177 (dk_at dksX3_keeps_3 8 rfl rfl)
abbrev cX3_target : ByteArray := prog_18_method_24_code
def yX3_target : MethodName := ⟨RX3, "target", "(II)I"⟩
def dkwX3_target_1 : List UInt8 := [153, 0, 7, 4, 167, 0, 4, 3, 182, 0, 114, 172]
abbrev dktX3_target_1 : List UInt8 := dkwX3_target_1 ++ []
def dkwX3_target_0 : List UInt8 := [42, 5, 27, 96, 4, 100, 28, 27, 4, 7, 184, 0, 72, 153, 0, 18, 28, 4, 17, 3, 231, 184, 0, 72]
abbrev dktX3_target_0 : List UInt8 := dkwX3_target_0 ++ dktX3_target_1
theorem dksX3_target_0 : cX3_target.data.toList.drop 0 = dktX3_target_0 := by decide +kernel
theorem dksX3_target_1 : cX3_target.data.toList.drop 24 = dktX3_target_1 := dk_seg dksX3_target_0 24 rfl rfl
theorem dX3_target_0 : decode cX3_target 0 = .ok (.aload_n 0, 1) := dk_42 (dk_at dksX3_target_0 0 rfl rfl)
theorem dX3_target_1 : decode cX3_target 1 = .ok (.iconst 2, 1) := dk_5 (dk_at dksX3_target_0 1 rfl rfl)
theorem dX3_target_2 : decode cX3_target 2 = .ok (.iload_n 1, 1) := dk_27 (dk_at dksX3_target_0 2 rfl rfl)
theorem dX3_target_3 : decode cX3_target 3 = .ok (.iadd, 1) := dk_96 (dk_at dksX3_target_0 3 rfl rfl)
theorem dX3_target_4 : decode cX3_target 4 = .ok (.iconst 1, 1) := dk_4 (dk_at dksX3_target_0 4 rfl rfl)
theorem dX3_target_5 : decode cX3_target 5 = .ok (.isub, 1) := dk_100 (dk_at dksX3_target_0 5 rfl rfl)
theorem dX3_target_6 : decode cX3_target 6 = .ok (.iload_n 2, 1) := dk_28 (dk_at dksX3_target_0 6 rfl rfl)
theorem dX3_target_7 : decode cX3_target 7 = .ok (.iload_n 1, 1) := dk_27 (dk_at dksX3_target_0 7 rfl rfl)
theorem dX3_target_8 : decode cX3_target 8 = .ok (.iconst 1, 1) := dk_4 (dk_at dksX3_target_0 8 rfl rfl)
theorem dX3_target_9 : decode cX3_target 9 = .ok (.iconst 4, 1) := dk_7 (dk_at dksX3_target_0 9 rfl rfl)
theorem dX3_target_10 : decode cX3_target 10 = .ok (.invokestatic 72, 3) := dk_184 0 72 (dk_at dksX3_target_0 10 rfl rfl)
theorem dX3_target_13 : decode cX3_target 13 = .ok (.ifCond .eq 18, 3) := dk_153 0 18 (dk_at dksX3_target_0 13 rfl rfl)
theorem dX3_target_16 : decode cX3_target 16 = .ok (.iload_n 2, 1) := dk_28 (dk_at dksX3_target_0 16 rfl rfl)
theorem dX3_target_17 : decode cX3_target 17 = .ok (.iconst 1, 1) := dk_4 (dk_at dksX3_target_0 17 rfl rfl)
theorem dX3_target_18 : decode cX3_target 18 = .ok (.sipush 999, 3) := dk_17 3 231 (dk_at dksX3_target_0 18 rfl rfl)
theorem dX3_target_21 : decode cX3_target 21 = .ok (.invokestatic 72, 3) := dk_184 0 72 (dk_at dksX3_target_0 21 rfl rfl)
theorem dX3_target_24 : decode cX3_target 24 = .ok (.ifCond .eq 7, 3) := dk_153 0 7 (dk_at dksX3_target_1 0 rfl rfl)
theorem dX3_target_27 : decode cX3_target 27 = .ok (.iconst 1, 1) := dk_4 (dk_at dksX3_target_1 3 rfl rfl)
theorem dX3_target_28 : decode cX3_target 28 = .ok (.goto 4, 3) := dk_167 0 4 (dk_at dksX3_target_1 4 rfl rfl)
theorem dX3_target_31 : decode cX3_target 31 = .ok (.iconst 0, 1) := dk_3 (dk_at dksX3_target_1 7 rfl rfl)
theorem dX3_target_32 : decode cX3_target 32 = .ok (.invokevirtual 114, 3) := dk_182 0 114 (dk_at dksX3_target_1 8 rfl rfl)
theorem dX3_target_35 : decode cX3_target 35 = .ok (.ireturn, 1) := dk_172 (dk_at dksX3_target_1 11 rfl rfl)
abbrev cX3_sets : ByteArray := prog_18_method_23_code
def yX3_sets : MethodName := ⟨RX3, "sets", "(IIZ)I"⟩
def dkwX3_sets_1 : List UInt8 := [27, 46, 54, 4, 42, 180, 0, 7, 27, 28, 79, 21, 4, 172]
abbrev dktX3_sets_1 : List UInt8 := dkwX3_sets_1 ++ []
def dkwX3_sets_0 : List UInt8 := [42, 3, 181, 0, 41, 29, 154, 0, 10, 42, 5, 3, 182, 0, 97, 172, 42, 182, 0, 111, 42, 180, 0, 7]
abbrev dktX3_sets_0 : List UInt8 := dkwX3_sets_0 ++ dktX3_sets_1
theorem dksX3_sets_0 : cX3_sets.data.toList.drop 0 = dktX3_sets_0 := by decide +kernel
theorem dksX3_sets_1 : cX3_sets.data.toList.drop 24 = dktX3_sets_1 := dk_seg dksX3_sets_0 24 rfl rfl
theorem dX3_sets_0 : decode cX3_sets 0 = .ok (.aload_n 0, 1) := dk_42 (dk_at dksX3_sets_0 0 rfl rfl)
theorem dX3_sets_1 : decode cX3_sets 1 = .ok (.iconst 0, 1) := dk_3 (dk_at dksX3_sets_0 1 rfl rfl)
theorem dX3_sets_2 : decode cX3_sets 2 = .ok (.putfield 41, 3) := dk_181 0 41 (dk_at dksX3_sets_0 2 rfl rfl)
theorem dX3_sets_5 : decode cX3_sets 5 = .ok (.iload_n 3, 1) := dk_29 (dk_at dksX3_sets_0 5 rfl rfl)
theorem dX3_sets_6 : decode cX3_sets 6 = .ok (.ifCond .ne 10, 3) := dk_154 0 10 (dk_at dksX3_sets_0 6 rfl rfl)
theorem dX3_sets_9 : decode cX3_sets 9 = .ok (.aload_n 0, 1) := dk_42 (dk_at dksX3_sets_0 9 rfl rfl)
theorem dX3_sets_10 : decode cX3_sets 10 = .ok (.iconst 2, 1) := dk_5 (dk_at dksX3_sets_0 10 rfl rfl)
theorem dX3_sets_11 : decode cX3_sets 11 = .ok (.iconst 0, 1) := dk_3 (dk_at dksX3_sets_0 11 rfl rfl)
theorem dX3_sets_12 : decode cX3_sets 12 = .ok (.invokevirtual 97, 3) := dk_182 0 97 (dk_at dksX3_sets_0 12 rfl rfl)
theorem dX3_sets_15 : decode cX3_sets 15 = .ok (.ireturn, 1) := dk_172 (dk_at dksX3_sets_0 15 rfl rfl)
theorem dX3_sets_16 : decode cX3_sets 16 = .ok (.aload_n 0, 1) := dk_42 (dk_at dksX3_sets_0 16 rfl rfl)
theorem dX3_sets_17 : decode cX3_sets 17 = .ok (.invokevirtual 111, 3) := dk_182 0 111 (dk_at dksX3_sets_0 17 rfl rfl)
theorem dX3_sets_20 : decode cX3_sets 20 = .ok (.aload_n 0, 1) := dk_42 (dk_at dksX3_sets_0 20 rfl rfl)
theorem dX3_sets_21 : decode cX3_sets 21 = .ok (.getfield 7, 3) := dk_180 0 7 (dk_at dksX3_sets_0 21 rfl rfl)
theorem dX3_sets_24 : decode cX3_sets 24 = .ok (.iload_n 1, 1) := dk_27 (dk_at dksX3_sets_1 0 rfl rfl)
theorem dX3_sets_25 : decode cX3_sets 25 = .ok (.iaload, 1) := dk_46 (dk_at dksX3_sets_1 1 rfl rfl)
theorem dX3_sets_26 : decode cX3_sets 26 = .ok (.istore 4, 2) := dk_54 4 (dk_at dksX3_sets_1 2 rfl rfl)
theorem dX3_sets_28 : decode cX3_sets 28 = .ok (.aload_n 0, 1) := dk_42 (dk_at dksX3_sets_1 4 rfl rfl)
theorem dX3_sets_29 : decode cX3_sets 29 = .ok (.getfield 7, 3) := dk_180 0 7 (dk_at dksX3_sets_1 5 rfl rfl)
theorem dX3_sets_32 : decode cX3_sets 32 = .ok (.iload_n 1, 1) := dk_27 (dk_at dksX3_sets_1 8 rfl rfl)
theorem dX3_sets_33 : decode cX3_sets 33 = .ok (.iload_n 2, 1) := dk_28 (dk_at dksX3_sets_1 9 rfl rfl)
theorem dX3_sets_34 : decode cX3_sets 34 = .ok (.iastore, 1) := dk_79 (dk_at dksX3_sets_1 10 rfl rfl)
theorem dX3_sets_35 : decode cX3_sets 35 = .ok (.iload 4, 2) := dk_21 4 (dk_at dksX3_sets_1 11 rfl rfl)
theorem dX3_sets_37 : decode cX3_sets 37 = .ok (.ireturn, 1) := dk_172 (dk_at dksX3_sets_1 13 rfl rfl)
abbrev cX3_changes : ByteArray := prog_18_method_8_code
def yX3_changes : MethodName := ⟨RX3, "changes", "()V"⟩
def dkwX3_changes_0 : List UInt8 := [42, 180, 0, 61, 154, 0, 11, 42, 42, 180, 0, 7, 182, 0, 65, 177]
abbrev dktX3_changes_0 : List UInt8 := dkwX3_changes_0 ++ []
theorem dksX3_changes_0 : cX3_changes.data.toList.drop 0 = dktX3_changes_0 := by decide +kernel
theorem dX3_changes_0 : decode cX3_changes 0 = .ok (.aload_n 0, 1) := dk_42 (dk_at dksX3_changes_0 0 rfl rfl)
theorem dX3_changes_1 : decode cX3_changes 1 = .ok (.getfield 61, 3) := dk_180 0 61 (dk_at dksX3_changes_0 1 rfl rfl)
theorem dX3_changes_4 : decode cX3_changes 4 = .ok (.ifCond .ne 11, 3) := dk_154 0 11 (dk_at dksX3_changes_0 4 rfl rfl)
theorem dX3_changes_7 : decode cX3_changes 7 = .ok (.aload_n 0, 1) := dk_42 (dk_at dksX3_changes_0 7 rfl rfl)
theorem dX3_changes_8 : decode cX3_changes 8 = .ok (.aload_n 0, 1) := dk_42 (dk_at dksX3_changes_0 8 rfl rfl)
theorem dX3_changes_9 : decode cX3_changes 9 = .ok (.getfield 7, 3) := dk_180 0 7 (dk_at dksX3_changes_0 9 rfl rfl)
theorem dX3_changes_12 : decode cX3_changes 12 = .ok (.invokevirtual 65, 3) := dk_182 0 65 (dk_at dksX3_changes_0 12 rfl rfl)
theorem dX3_changes_15 : decode cX3_changes 15 = .ok (.return_, 1) := dk_177 (dk_at dksX3_changes_0 15 rfl rfl)
abbrev cX3_limit : ByteArray := prog_18_method_25_code
def yX3_limit : MethodName := ⟨RX3, "limit", "(II)I"⟩
def dkwX3_limit_1 : List UInt8 := [153, 0, 7, 4, 167, 0, 4, 3, 182, 0, 114, 172]
abbrev dktX3_limit_1 : List UInt8 := dkwX3_limit_1 ++ []
def dkwX3_limit_0 : List UInt8 := [42, 16, 6, 27, 96, 28, 27, 3, 6, 184, 0, 72, 153, 0, 17, 28, 3, 16, 99, 184, 0, 72]
abbrev dktX3_limit_0 : List UInt8 := dkwX3_limit_0 ++ dktX3_limit_1
theorem dksX3_limit_0 : cX3_limit.data.toList.drop 0 = dktX3_limit_0 := by decide +kernel
theorem dksX3_limit_1 : cX3_limit.data.toList.drop 22 = dktX3_limit_1 := dk_seg dksX3_limit_0 22 rfl rfl
theorem dX3_limit_0 : decode cX3_limit 0 = .ok (.aload_n 0, 1) := dk_42 (dk_at dksX3_limit_0 0 rfl rfl)
theorem dX3_limit_1 : decode cX3_limit 1 = .ok (.bipush 6, 2) := dk_16 6 (dk_at dksX3_limit_0 1 rfl rfl)
theorem dX3_limit_3 : decode cX3_limit 3 = .ok (.iload_n 1, 1) := dk_27 (dk_at dksX3_limit_0 3 rfl rfl)
theorem dX3_limit_4 : decode cX3_limit 4 = .ok (.iadd, 1) := dk_96 (dk_at dksX3_limit_0 4 rfl rfl)
theorem dX3_limit_5 : decode cX3_limit 5 = .ok (.iload_n 2, 1) := dk_28 (dk_at dksX3_limit_0 5 rfl rfl)
theorem dX3_limit_6 : decode cX3_limit 6 = .ok (.iload_n 1, 1) := dk_27 (dk_at dksX3_limit_0 6 rfl rfl)
theorem dX3_limit_7 : decode cX3_limit 7 = .ok (.iconst 0, 1) := dk_3 (dk_at dksX3_limit_0 7 rfl rfl)
theorem dX3_limit_8 : decode cX3_limit 8 = .ok (.iconst 3, 1) := dk_6 (dk_at dksX3_limit_0 8 rfl rfl)
theorem dX3_limit_9 : decode cX3_limit 9 = .ok (.invokestatic 72, 3) := dk_184 0 72 (dk_at dksX3_limit_0 9 rfl rfl)
theorem dX3_limit_12 : decode cX3_limit 12 = .ok (.ifCond .eq 17, 3) := dk_153 0 17 (dk_at dksX3_limit_0 12 rfl rfl)
theorem dX3_limit_15 : decode cX3_limit 15 = .ok (.iload_n 2, 1) := dk_28 (dk_at dksX3_limit_0 15 rfl rfl)
theorem dX3_limit_16 : decode cX3_limit 16 = .ok (.iconst 0, 1) := dk_3 (dk_at dksX3_limit_0 16 rfl rfl)
theorem dX3_limit_17 : decode cX3_limit 17 = .ok (.bipush 99, 2) := dk_16 99 (dk_at dksX3_limit_0 17 rfl rfl)
theorem dX3_limit_19 : decode cX3_limit 19 = .ok (.invokestatic 72, 3) := dk_184 0 72 (dk_at dksX3_limit_0 19 rfl rfl)
theorem dX3_limit_22 : decode cX3_limit 22 = .ok (.ifCond .eq 7, 3) := dk_153 0 7 (dk_at dksX3_limit_1 0 rfl rfl)
theorem dX3_limit_25 : decode cX3_limit 25 = .ok (.iconst 1, 1) := dk_4 (dk_at dksX3_limit_1 3 rfl rfl)
theorem dX3_limit_26 : decode cX3_limit 26 = .ok (.goto 4, 3) := dk_167 0 4 (dk_at dksX3_limit_1 4 rfl rfl)
theorem dX3_limit_29 : decode cX3_limit 29 = .ok (.iconst 0, 1) := dk_3 (dk_at dksX3_limit_1 7 rfl rfl)
theorem dX3_limit_30 : decode cX3_limit 30 = .ok (.invokevirtual 114, 3) := dk_182 0 114 (dk_at dksX3_limit_1 8 rfl rfl)
theorem dX3_limit_33 : decode cX3_limit 33 = .ok (.ireturn, 1) := dk_172 (dk_at dksX3_limit_1 11 rfl rfl)
abbrev cX3_window : ByteArray := prog_18_method_26_code
def yX3_window : MethodName := ⟨RX3, "window", "(I)I"⟩
def dkwX3_window_0 : List UInt8 := [42, 16, 10, 27, 27, 3, 17, 3, 231, 184, 0, 72, 182, 0, 114, 172]
abbrev dktX3_window_0 : List UInt8 := dkwX3_window_0 ++ []
theorem dksX3_window_0 : cX3_window.data.toList.drop 0 = dktX3_window_0 := by decide +kernel
theorem dX3_window_0 : decode cX3_window 0 = .ok (.aload_n 0, 1) := dk_42 (dk_at dksX3_window_0 0 rfl rfl)
theorem dX3_window_1 : decode cX3_window 1 = .ok (.bipush 10, 2) := dk_16 10 (dk_at dksX3_window_0 1 rfl rfl)
theorem dX3_window_3 : decode cX3_window 3 = .ok (.iload_n 1, 1) := dk_27 (dk_at dksX3_window_0 3 rfl rfl)
theorem dX3_window_4 : decode cX3_window 4 = .ok (.iload_n 1, 1) := dk_27 (dk_at dksX3_window_0 4 rfl rfl)
theorem dX3_window_5 : decode cX3_window 5 = .ok (.iconst 0, 1) := dk_3 (dk_at dksX3_window_0 5 rfl rfl)
theorem dX3_window_6 : decode cX3_window 6 = .ok (.sipush 999, 3) := dk_17 3 231 (dk_at dksX3_window_0 6 rfl rfl)
theorem dX3_window_9 : decode cX3_window 9 = .ok (.invokestatic 72, 3) := dk_184 0 72 (dk_at dksX3_window_0 9 rfl rfl)
theorem dX3_window_12 : decode cX3_window 12 = .ok (.invokevirtual 114, 3) := dk_182 0 114 (dk_at dksX3_window_0 12 rfl rfl)
theorem dX3_window_15 : decode cX3_window 15 = .ok (.ireturn, 1) := dk_172 (dk_at dksX3_window_0 15 rfl rfl)
abbrev cX3_open : ByteArray := prog_18_method_27_code
def yX3_open : MethodName := ⟨RX3, "open", "(II)I"⟩
def dkwX3_open_9 : List UInt8 := [3, 182, 0, 90, 21, 4, 172]
abbrev dktX3_open_9 : List UInt8 := dkwX3_open_9 ++ []
def dkwX3_open_8 : List UInt8 := [21, 4, 16, 10, 184, 0, 76, 2, 79, 42, 180, 0, 7, 16, 11, 92, 46, 4, 96, 79, 42, 3, 21, 4]
abbrev dktX3_open_8 : List UInt8 := dkwX3_open_8 ++ dktX3_open_9
def dkwX3_open_7 : List UInt8 := [16, 8, 184, 0, 76, 2, 79, 42, 180, 0, 7, 21, 4, 16, 9, 184, 0, 76, 2, 79, 42, 180, 0, 7]
abbrev dktX3_open_7 : List UInt8 := dkwX3_open_7 ++ dktX3_open_8
def dkwX3_open_6 : List UInt8 := [79, 42, 180, 0, 7, 21, 4, 7, 184, 0, 76, 42, 180, 0, 7, 3, 46, 79, 42, 180, 0, 7, 21, 4]
abbrev dktX3_open_6 : List UInt8 := dkwX3_open_6 ++ dktX3_open_7
def dkwX3_open_5 : List UInt8 := [79, 42, 180, 0, 7, 21, 4, 4, 184, 0, 76, 28, 79, 42, 180, 0, 7, 21, 4, 5, 184, 0, 76, 29]
abbrev dktX3_open_5 : List UInt8 := dkwX3_open_5 ++ dktX3_open_6
def dkwX3_open_4 : List UInt8 := [21, 5, 184, 0, 76, 3, 79, 132, 5, 1, 167, 255, 233, 42, 180, 0, 7, 21, 4, 3, 184, 0, 76, 27]
abbrev dktX3_open_4 : List UInt8 := dkwX3_open_4 ++ dktX3_open_5
def dkwX3_open_3 : List UInt8 := [180, 0, 7, 16, 11, 46, 54, 4, 3, 54, 5, 21, 5, 16, 20, 162, 0, 22, 42, 180, 0, 7, 21, 4]
abbrev dktX3_open_3 : List UInt8 := dkwX3_open_3 ++ dktX3_open_4
def dkwX3_open_2 : List UInt8 := [172, 42, 182, 0, 103, 62, 29, 156, 0, 10, 42, 8, 3, 182, 0, 97, 172, 42, 182, 0, 111, 42]
abbrev dktX3_open_2 : List UInt8 := dkwX3_open_2 ++ dktX3_open_3
def dkwX3_open_1 : List UInt8 := [5, 3, 182, 0, 97, 172, 42, 180, 0, 7, 16, 11, 46, 16, 16, 160, 0, 10, 42, 6, 3, 182, 0, 97]
abbrev dktX3_open_1 : List UInt8 := dkwX3_open_1 ++ dktX3_open_2
def dkwX3_open_0 : List UInt8 := [42, 3, 181, 0, 41, 27, 3, 7, 184, 0, 72, 153, 0, 12, 28, 4, 7, 184, 0, 72, 154, 0, 10, 42]
abbrev dktX3_open_0 : List UInt8 := dkwX3_open_0 ++ dktX3_open_1
theorem dksX3_open_0 : cX3_open.data.toList.drop 0 = dktX3_open_0 := by decide +kernel
theorem dksX3_open_1 : cX3_open.data.toList.drop 24 = dktX3_open_1 := dk_seg dksX3_open_0 24 rfl rfl
theorem dksX3_open_2 : cX3_open.data.toList.drop 48 = dktX3_open_2 := dk_seg dksX3_open_1 24 rfl rfl
theorem dksX3_open_3 : cX3_open.data.toList.drop 70 = dktX3_open_3 := dk_seg dksX3_open_2 22 rfl rfl
theorem dksX3_open_4 : cX3_open.data.toList.drop 94 = dktX3_open_4 := dk_seg dksX3_open_3 24 rfl rfl
theorem dksX3_open_5 : cX3_open.data.toList.drop 118 = dktX3_open_5 := dk_seg dksX3_open_4 24 rfl rfl
theorem dksX3_open_6 : cX3_open.data.toList.drop 142 = dktX3_open_6 := dk_seg dksX3_open_5 24 rfl rfl
theorem dksX3_open_7 : cX3_open.data.toList.drop 166 = dktX3_open_7 := dk_seg dksX3_open_6 24 rfl rfl
theorem dksX3_open_8 : cX3_open.data.toList.drop 190 = dktX3_open_8 := dk_seg dksX3_open_7 24 rfl rfl
theorem dksX3_open_9 : cX3_open.data.toList.drop 214 = dktX3_open_9 := dk_seg dksX3_open_8 24 rfl rfl
theorem dX3_open_0 : decode cX3_open 0 = .ok (.aload_n 0, 1) := dk_42 (dk_at dksX3_open_0 0 rfl rfl)
theorem dX3_open_1 : decode cX3_open 1 = .ok (.iconst 0, 1) := dk_3 (dk_at dksX3_open_0 1 rfl rfl)
theorem dX3_open_2 : decode cX3_open 2 = .ok (.putfield 41, 3) := dk_181 0 41 (dk_at dksX3_open_0 2 rfl rfl)
theorem dX3_open_5 : decode cX3_open 5 = .ok (.iload_n 1, 1) := dk_27 (dk_at dksX3_open_0 5 rfl rfl)
theorem dX3_open_6 : decode cX3_open 6 = .ok (.iconst 0, 1) := dk_3 (dk_at dksX3_open_0 6 rfl rfl)
theorem dX3_open_7 : decode cX3_open 7 = .ok (.iconst 4, 1) := dk_7 (dk_at dksX3_open_0 7 rfl rfl)
theorem dX3_open_8 : decode cX3_open 8 = .ok (.invokestatic 72, 3) := dk_184 0 72 (dk_at dksX3_open_0 8 rfl rfl)
theorem dX3_open_11 : decode cX3_open 11 = .ok (.ifCond .eq 12, 3) := dk_153 0 12 (dk_at dksX3_open_0 11 rfl rfl)
theorem dX3_open_14 : decode cX3_open 14 = .ok (.iload_n 2, 1) := dk_28 (dk_at dksX3_open_0 14 rfl rfl)
theorem dX3_open_15 : decode cX3_open 15 = .ok (.iconst 1, 1) := dk_4 (dk_at dksX3_open_0 15 rfl rfl)
theorem dX3_open_16 : decode cX3_open 16 = .ok (.iconst 4, 1) := dk_7 (dk_at dksX3_open_0 16 rfl rfl)
theorem dX3_open_17 : decode cX3_open 17 = .ok (.invokestatic 72, 3) := dk_184 0 72 (dk_at dksX3_open_0 17 rfl rfl)
theorem dX3_open_20 : decode cX3_open 20 = .ok (.ifCond .ne 10, 3) := dk_154 0 10 (dk_at dksX3_open_0 20 rfl rfl)
theorem dX3_open_23 : decode cX3_open 23 = .ok (.aload_n 0, 1) := dk_42 (dk_at dksX3_open_0 23 rfl rfl)
theorem dX3_open_24 : decode cX3_open 24 = .ok (.iconst 2, 1) := dk_5 (dk_at dksX3_open_1 0 rfl rfl)
theorem dX3_open_25 : decode cX3_open 25 = .ok (.iconst 0, 1) := dk_3 (dk_at dksX3_open_1 1 rfl rfl)
theorem dX3_open_26 : decode cX3_open 26 = .ok (.invokevirtual 97, 3) := dk_182 0 97 (dk_at dksX3_open_1 2 rfl rfl)
theorem dX3_open_29 : decode cX3_open 29 = .ok (.ireturn, 1) := dk_172 (dk_at dksX3_open_1 5 rfl rfl)
theorem dX3_open_30 : decode cX3_open 30 = .ok (.aload_n 0, 1) := dk_42 (dk_at dksX3_open_1 6 rfl rfl)
theorem dX3_open_31 : decode cX3_open 31 = .ok (.getfield 7, 3) := dk_180 0 7 (dk_at dksX3_open_1 7 rfl rfl)
theorem dX3_open_34 : decode cX3_open 34 = .ok (.bipush 11, 2) := dk_16 11 (dk_at dksX3_open_1 10 rfl rfl)
theorem dX3_open_36 : decode cX3_open 36 = .ok (.iaload, 1) := dk_46 (dk_at dksX3_open_1 12 rfl rfl)
theorem dX3_open_37 : decode cX3_open 37 = .ok (.bipush 16, 2) := dk_16 16 (dk_at dksX3_open_1 13 rfl rfl)
theorem dX3_open_39 : decode cX3_open 39 = .ok (.if_icmp .ne 10, 3) := dk_160 0 10 (dk_at dksX3_open_1 15 rfl rfl)
theorem dX3_open_42 : decode cX3_open 42 = .ok (.aload_n 0, 1) := dk_42 (dk_at dksX3_open_1 18 rfl rfl)
theorem dX3_open_43 : decode cX3_open 43 = .ok (.iconst 3, 1) := dk_6 (dk_at dksX3_open_1 19 rfl rfl)
theorem dX3_open_44 : decode cX3_open 44 = .ok (.iconst 0, 1) := dk_3 (dk_at dksX3_open_1 20 rfl rfl)
theorem dX3_open_45 : decode cX3_open 45 = .ok (.invokevirtual 97, 3) := dk_182 0 97 (dk_at dksX3_open_1 21 rfl rfl)
theorem dX3_open_48 : decode cX3_open 48 = .ok (.ireturn, 1) := dk_172 (dk_at dksX3_open_2 0 rfl rfl)
theorem dX3_open_49 : decode cX3_open 49 = .ok (.aload_n 0, 1) := dk_42 (dk_at dksX3_open_2 1 rfl rfl)
theorem dX3_open_50 : decode cX3_open 50 = .ok (.invokevirtual 103, 3) := dk_182 0 103 (dk_at dksX3_open_2 2 rfl rfl)
theorem dX3_open_53 : decode cX3_open 53 = .ok (.istore_n 3, 1) := dk_62 (dk_at dksX3_open_2 5 rfl rfl)
theorem dX3_open_54 : decode cX3_open 54 = .ok (.iload_n 3, 1) := dk_29 (dk_at dksX3_open_2 6 rfl rfl)
theorem dX3_open_55 : decode cX3_open 55 = .ok (.ifCond .ge 10, 3) := dk_156 0 10 (dk_at dksX3_open_2 7 rfl rfl)
theorem dX3_open_58 : decode cX3_open 58 = .ok (.aload_n 0, 1) := dk_42 (dk_at dksX3_open_2 10 rfl rfl)
theorem dX3_open_59 : decode cX3_open 59 = .ok (.iconst 5, 1) := dk_8 (dk_at dksX3_open_2 11 rfl rfl)
theorem dX3_open_60 : decode cX3_open 60 = .ok (.iconst 0, 1) := dk_3 (dk_at dksX3_open_2 12 rfl rfl)
theorem dX3_open_61 : decode cX3_open 61 = .ok (.invokevirtual 97, 3) := dk_182 0 97 (dk_at dksX3_open_2 13 rfl rfl)
theorem dX3_open_64 : decode cX3_open 64 = .ok (.ireturn, 1) := dk_172 (dk_at dksX3_open_2 16 rfl rfl)
theorem dX3_open_65 : decode cX3_open 65 = .ok (.aload_n 0, 1) := dk_42 (dk_at dksX3_open_2 17 rfl rfl)
theorem dX3_open_66 : decode cX3_open 66 = .ok (.invokevirtual 111, 3) := dk_182 0 111 (dk_at dksX3_open_2 18 rfl rfl)
theorem dX3_open_69 : decode cX3_open 69 = .ok (.aload_n 0, 1) := dk_42 (dk_at dksX3_open_2 21 rfl rfl)
theorem dX3_open_70 : decode cX3_open 70 = .ok (.getfield 7, 3) := dk_180 0 7 (dk_at dksX3_open_3 0 rfl rfl)
theorem dX3_open_73 : decode cX3_open 73 = .ok (.bipush 11, 2) := dk_16 11 (dk_at dksX3_open_3 3 rfl rfl)
theorem dX3_open_75 : decode cX3_open 75 = .ok (.iaload, 1) := dk_46 (dk_at dksX3_open_3 5 rfl rfl)
theorem dX3_open_76 : decode cX3_open 76 = .ok (.istore 4, 2) := dk_54 4 (dk_at dksX3_open_3 6 rfl rfl)
theorem dX3_open_78 : decode cX3_open 78 = .ok (.iconst 0, 1) := dk_3 (dk_at dksX3_open_3 8 rfl rfl)
theorem dX3_open_79 : decode cX3_open 79 = .ok (.istore 5, 2) := dk_54 5 (dk_at dksX3_open_3 9 rfl rfl)
theorem dX3_open_81 : decode cX3_open 81 = .ok (.iload 5, 2) := dk_21 5 (dk_at dksX3_open_3 11 rfl rfl)
theorem dX3_open_83 : decode cX3_open 83 = .ok (.bipush 20, 2) := dk_16 20 (dk_at dksX3_open_3 13 rfl rfl)
theorem dX3_open_85 : decode cX3_open 85 = .ok (.if_icmp .ge 22, 3) := dk_162 0 22 (dk_at dksX3_open_3 15 rfl rfl)
theorem dX3_open_88 : decode cX3_open 88 = .ok (.aload_n 0, 1) := dk_42 (dk_at dksX3_open_3 18 rfl rfl)
theorem dX3_open_89 : decode cX3_open 89 = .ok (.getfield 7, 3) := dk_180 0 7 (dk_at dksX3_open_3 19 rfl rfl)
theorem dX3_open_92 : decode cX3_open 92 = .ok (.iload 4, 2) := dk_21 4 (dk_at dksX3_open_3 22 rfl rfl)
theorem dX3_open_94 : decode cX3_open 94 = .ok (.iload 5, 2) := dk_21 5 (dk_at dksX3_open_4 0 rfl rfl)
theorem dX3_open_96 : decode cX3_open 96 = .ok (.invokestatic 76, 3) := dk_184 0 76 (dk_at dksX3_open_4 2 rfl rfl)
theorem dX3_open_99 : decode cX3_open 99 = .ok (.iconst 0, 1) := dk_3 (dk_at dksX3_open_4 5 rfl rfl)
theorem dX3_open_100 : decode cX3_open 100 = .ok (.iastore, 1) := dk_79 (dk_at dksX3_open_4 6 rfl rfl)
theorem dX3_open_101 : decode cX3_open 101 = .ok (.iinc 5 1, 3) := dk_132 5 1 (dk_at dksX3_open_4 7 rfl rfl)
theorem dX3_open_104 : decode cX3_open 104 = .ok (.goto (-23), 3) := dk_167 255 233 (dk_at dksX3_open_4 10 rfl rfl)
theorem dX3_open_107 : decode cX3_open 107 = .ok (.aload_n 0, 1) := dk_42 (dk_at dksX3_open_4 13 rfl rfl)
theorem dX3_open_108 : decode cX3_open 108 = .ok (.getfield 7, 3) := dk_180 0 7 (dk_at dksX3_open_4 14 rfl rfl)
theorem dX3_open_111 : decode cX3_open 111 = .ok (.iload 4, 2) := dk_21 4 (dk_at dksX3_open_4 17 rfl rfl)
theorem dX3_open_113 : decode cX3_open 113 = .ok (.iconst 0, 1) := dk_3 (dk_at dksX3_open_4 19 rfl rfl)
theorem dX3_open_114 : decode cX3_open 114 = .ok (.invokestatic 76, 3) := dk_184 0 76 (dk_at dksX3_open_4 20 rfl rfl)
theorem dX3_open_117 : decode cX3_open 117 = .ok (.iload_n 1, 1) := dk_27 (dk_at dksX3_open_4 23 rfl rfl)
theorem dX3_open_118 : decode cX3_open 118 = .ok (.iastore, 1) := dk_79 (dk_at dksX3_open_5 0 rfl rfl)
theorem dX3_open_119 : decode cX3_open 119 = .ok (.aload_n 0, 1) := dk_42 (dk_at dksX3_open_5 1 rfl rfl)
theorem dX3_open_120 : decode cX3_open 120 = .ok (.getfield 7, 3) := dk_180 0 7 (dk_at dksX3_open_5 2 rfl rfl)
theorem dX3_open_123 : decode cX3_open 123 = .ok (.iload 4, 2) := dk_21 4 (dk_at dksX3_open_5 5 rfl rfl)
theorem dX3_open_125 : decode cX3_open 125 = .ok (.iconst 1, 1) := dk_4 (dk_at dksX3_open_5 7 rfl rfl)
theorem dX3_open_126 : decode cX3_open 126 = .ok (.invokestatic 76, 3) := dk_184 0 76 (dk_at dksX3_open_5 8 rfl rfl)
theorem dX3_open_129 : decode cX3_open 129 = .ok (.iload_n 2, 1) := dk_28 (dk_at dksX3_open_5 11 rfl rfl)
theorem dX3_open_130 : decode cX3_open 130 = .ok (.iastore, 1) := dk_79 (dk_at dksX3_open_5 12 rfl rfl)
theorem dX3_open_131 : decode cX3_open 131 = .ok (.aload_n 0, 1) := dk_42 (dk_at dksX3_open_5 13 rfl rfl)
theorem dX3_open_132 : decode cX3_open 132 = .ok (.getfield 7, 3) := dk_180 0 7 (dk_at dksX3_open_5 14 rfl rfl)
theorem dX3_open_135 : decode cX3_open 135 = .ok (.iload 4, 2) := dk_21 4 (dk_at dksX3_open_5 17 rfl rfl)
theorem dX3_open_137 : decode cX3_open 137 = .ok (.iconst 2, 1) := dk_5 (dk_at dksX3_open_5 19 rfl rfl)
theorem dX3_open_138 : decode cX3_open 138 = .ok (.invokestatic 76, 3) := dk_184 0 76 (dk_at dksX3_open_5 20 rfl rfl)
theorem dX3_open_141 : decode cX3_open 141 = .ok (.iload_n 3, 1) := dk_29 (dk_at dksX3_open_5 23 rfl rfl)
theorem dX3_open_142 : decode cX3_open 142 = .ok (.iastore, 1) := dk_79 (dk_at dksX3_open_6 0 rfl rfl)
theorem dX3_open_143 : decode cX3_open 143 = .ok (.aload_n 0, 1) := dk_42 (dk_at dksX3_open_6 1 rfl rfl)
theorem dX3_open_144 : decode cX3_open 144 = .ok (.getfield 7, 3) := dk_180 0 7 (dk_at dksX3_open_6 2 rfl rfl)
theorem dX3_open_147 : decode cX3_open 147 = .ok (.iload 4, 2) := dk_21 4 (dk_at dksX3_open_6 5 rfl rfl)
theorem dX3_open_149 : decode cX3_open 149 = .ok (.iconst 4, 1) := dk_7 (dk_at dksX3_open_6 7 rfl rfl)
theorem dX3_open_150 : decode cX3_open 150 = .ok (.invokestatic 76, 3) := dk_184 0 76 (dk_at dksX3_open_6 8 rfl rfl)
theorem dX3_open_153 : decode cX3_open 153 = .ok (.aload_n 0, 1) := dk_42 (dk_at dksX3_open_6 11 rfl rfl)
theorem dX3_open_154 : decode cX3_open 154 = .ok (.getfield 7, 3) := dk_180 0 7 (dk_at dksX3_open_6 12 rfl rfl)
theorem dX3_open_157 : decode cX3_open 157 = .ok (.iconst 0, 1) := dk_3 (dk_at dksX3_open_6 15 rfl rfl)
theorem dX3_open_158 : decode cX3_open 158 = .ok (.iaload, 1) := dk_46 (dk_at dksX3_open_6 16 rfl rfl)
theorem dX3_open_159 : decode cX3_open 159 = .ok (.iastore, 1) := dk_79 (dk_at dksX3_open_6 17 rfl rfl)
theorem dX3_open_160 : decode cX3_open 160 = .ok (.aload_n 0, 1) := dk_42 (dk_at dksX3_open_6 18 rfl rfl)
theorem dX3_open_161 : decode cX3_open 161 = .ok (.getfield 7, 3) := dk_180 0 7 (dk_at dksX3_open_6 19 rfl rfl)
theorem dX3_open_164 : decode cX3_open 164 = .ok (.iload 4, 2) := dk_21 4 (dk_at dksX3_open_6 22 rfl rfl)
theorem dX3_open_166 : decode cX3_open 166 = .ok (.bipush 8, 2) := dk_16 8 (dk_at dksX3_open_7 0 rfl rfl)
theorem dX3_open_168 : decode cX3_open 168 = .ok (.invokestatic 76, 3) := dk_184 0 76 (dk_at dksX3_open_7 2 rfl rfl)
theorem dX3_open_171 : decode cX3_open 171 = .ok (.iconst (-1), 1) := dk_2 (dk_at dksX3_open_7 5 rfl rfl)
theorem dX3_open_172 : decode cX3_open 172 = .ok (.iastore, 1) := dk_79 (dk_at dksX3_open_7 6 rfl rfl)
theorem dX3_open_173 : decode cX3_open 173 = .ok (.aload_n 0, 1) := dk_42 (dk_at dksX3_open_7 7 rfl rfl)
theorem dX3_open_174 : decode cX3_open 174 = .ok (.getfield 7, 3) := dk_180 0 7 (dk_at dksX3_open_7 8 rfl rfl)
theorem dX3_open_177 : decode cX3_open 177 = .ok (.iload 4, 2) := dk_21 4 (dk_at dksX3_open_7 11 rfl rfl)
theorem dX3_open_179 : decode cX3_open 179 = .ok (.bipush 9, 2) := dk_16 9 (dk_at dksX3_open_7 13 rfl rfl)
theorem dX3_open_181 : decode cX3_open 181 = .ok (.invokestatic 76, 3) := dk_184 0 76 (dk_at dksX3_open_7 15 rfl rfl)
theorem dX3_open_184 : decode cX3_open 184 = .ok (.iconst (-1), 1) := dk_2 (dk_at dksX3_open_7 18 rfl rfl)
theorem dX3_open_185 : decode cX3_open 185 = .ok (.iastore, 1) := dk_79 (dk_at dksX3_open_7 19 rfl rfl)
theorem dX3_open_186 : decode cX3_open 186 = .ok (.aload_n 0, 1) := dk_42 (dk_at dksX3_open_7 20 rfl rfl)
theorem dX3_open_187 : decode cX3_open 187 = .ok (.getfield 7, 3) := dk_180 0 7 (dk_at dksX3_open_7 21 rfl rfl)
theorem dX3_open_190 : decode cX3_open 190 = .ok (.iload 4, 2) := dk_21 4 (dk_at dksX3_open_8 0 rfl rfl)
theorem dX3_open_192 : decode cX3_open 192 = .ok (.bipush 10, 2) := dk_16 10 (dk_at dksX3_open_8 2 rfl rfl)
theorem dX3_open_194 : decode cX3_open 194 = .ok (.invokestatic 76, 3) := dk_184 0 76 (dk_at dksX3_open_8 4 rfl rfl)
theorem dX3_open_197 : decode cX3_open 197 = .ok (.iconst (-1), 1) := dk_2 (dk_at dksX3_open_8 7 rfl rfl)
theorem dX3_open_198 : decode cX3_open 198 = .ok (.iastore, 1) := dk_79 (dk_at dksX3_open_8 8 rfl rfl)
theorem dX3_open_199 : decode cX3_open 199 = .ok (.aload_n 0, 1) := dk_42 (dk_at dksX3_open_8 9 rfl rfl)
theorem dX3_open_200 : decode cX3_open 200 = .ok (.getfield 7, 3) := dk_180 0 7 (dk_at dksX3_open_8 10 rfl rfl)
theorem dX3_open_203 : decode cX3_open 203 = .ok (.bipush 11, 2) := dk_16 11 (dk_at dksX3_open_8 13 rfl rfl)
theorem dX3_open_205 : decode cX3_open 205 = .ok (.dup2, 1) := dk_92 (dk_at dksX3_open_8 15 rfl rfl)
theorem dX3_open_206 : decode cX3_open 206 = .ok (.iaload, 1) := dk_46 (dk_at dksX3_open_8 16 rfl rfl)
theorem dX3_open_207 : decode cX3_open 207 = .ok (.iconst 1, 1) := dk_4 (dk_at dksX3_open_8 17 rfl rfl)
theorem dX3_open_208 : decode cX3_open 208 = .ok (.iadd, 1) := dk_96 (dk_at dksX3_open_8 18 rfl rfl)
theorem dX3_open_209 : decode cX3_open 209 = .ok (.iastore, 1) := dk_79 (dk_at dksX3_open_8 19 rfl rfl)
theorem dX3_open_210 : decode cX3_open 210 = .ok (.aload_n 0, 1) := dk_42 (dk_at dksX3_open_8 20 rfl rfl)
theorem dX3_open_211 : decode cX3_open 211 = .ok (.iconst 0, 1) := dk_3 (dk_at dksX3_open_8 21 rfl rfl)
theorem dX3_open_212 : decode cX3_open 212 = .ok (.iload 4, 2) := dk_21 4 (dk_at dksX3_open_8 22 rfl rfl)
theorem dX3_open_214 : decode cX3_open 214 = .ok (.iconst 0, 1) := dk_3 (dk_at dksX3_open_9 0 rfl rfl)
theorem dX3_open_215 : decode cX3_open 215 = .ok (.invokevirtual 90, 3) := dk_182 0 90 (dk_at dksX3_open_9 1 rfl rfl)
theorem dX3_open_218 : decode cX3_open 218 = .ok (.iload 4, 2) := dk_21 4 (dk_at dksX3_open_9 4 rfl rfl)
theorem dX3_open_220 : decode cX3_open 220 = .ok (.ireturn, 1) := dk_172 (dk_at dksX3_open_9 6 rfl rfl)
abbrev cX3_rate : ByteArray := prog_18_method_29_code
def yX3_rate : MethodName := ⟨RX3, "rate", "(II)I"⟩
def dkwX3_rate_2 : List UInt8 := [182, 0, 97, 172, 42, 182, 0, 111, 42, 27, 28, 182, 0, 121, 172]
abbrev dktX3_rate_2 : List UInt8 := dkwX3_rate_2 ++ []
def dkwX3_rate_1 : List UInt8 := [184, 0, 72, 154, 0, 10, 42, 5, 3, 182, 0, 97, 172, 42, 27, 182, 0, 100, 154, 0, 10, 42, 7, 3]
abbrev dktX3_rate_1 : List UInt8 := dkwX3_rate_1 ++ dktX3_rate_2
def dkwX3_rate_0 : List UInt8 := [42, 3, 181, 0, 41, 42, 27, 182, 0, 118, 154, 0, 10, 42, 4, 3, 182, 0, 97, 172, 28, 4, 7]
abbrev dktX3_rate_0 : List UInt8 := dkwX3_rate_0 ++ dktX3_rate_1
theorem dksX3_rate_0 : cX3_rate.data.toList.drop 0 = dktX3_rate_0 := by decide +kernel
theorem dksX3_rate_1 : cX3_rate.data.toList.drop 23 = dktX3_rate_1 := dk_seg dksX3_rate_0 23 rfl rfl
theorem dksX3_rate_2 : cX3_rate.data.toList.drop 47 = dktX3_rate_2 := dk_seg dksX3_rate_1 24 rfl rfl
theorem dX3_rate_0 : decode cX3_rate 0 = .ok (.aload_n 0, 1) := dk_42 (dk_at dksX3_rate_0 0 rfl rfl)
theorem dX3_rate_1 : decode cX3_rate 1 = .ok (.iconst 0, 1) := dk_3 (dk_at dksX3_rate_0 1 rfl rfl)
theorem dX3_rate_2 : decode cX3_rate 2 = .ok (.putfield 41, 3) := dk_181 0 41 (dk_at dksX3_rate_0 2 rfl rfl)
theorem dX3_rate_5 : decode cX3_rate 5 = .ok (.aload_n 0, 1) := dk_42 (dk_at dksX3_rate_0 5 rfl rfl)
theorem dX3_rate_6 : decode cX3_rate 6 = .ok (.iload_n 1, 1) := dk_27 (dk_at dksX3_rate_0 6 rfl rfl)
theorem dX3_rate_7 : decode cX3_rate 7 = .ok (.invokevirtual 118, 3) := dk_182 0 118 (dk_at dksX3_rate_0 7 rfl rfl)
theorem dX3_rate_10 : decode cX3_rate 10 = .ok (.ifCond .ne 10, 3) := dk_154 0 10 (dk_at dksX3_rate_0 10 rfl rfl)
theorem dX3_rate_13 : decode cX3_rate 13 = .ok (.aload_n 0, 1) := dk_42 (dk_at dksX3_rate_0 13 rfl rfl)
theorem dX3_rate_14 : decode cX3_rate 14 = .ok (.iconst 1, 1) := dk_4 (dk_at dksX3_rate_0 14 rfl rfl)
theorem dX3_rate_15 : decode cX3_rate 15 = .ok (.iconst 0, 1) := dk_3 (dk_at dksX3_rate_0 15 rfl rfl)
theorem dX3_rate_16 : decode cX3_rate 16 = .ok (.invokevirtual 97, 3) := dk_182 0 97 (dk_at dksX3_rate_0 16 rfl rfl)
theorem dX3_rate_19 : decode cX3_rate 19 = .ok (.ireturn, 1) := dk_172 (dk_at dksX3_rate_0 19 rfl rfl)
theorem dX3_rate_20 : decode cX3_rate 20 = .ok (.iload_n 2, 1) := dk_28 (dk_at dksX3_rate_0 20 rfl rfl)
theorem dX3_rate_21 : decode cX3_rate 21 = .ok (.iconst 1, 1) := dk_4 (dk_at dksX3_rate_0 21 rfl rfl)
theorem dX3_rate_22 : decode cX3_rate 22 = .ok (.iconst 4, 1) := dk_7 (dk_at dksX3_rate_0 22 rfl rfl)
theorem dX3_rate_23 : decode cX3_rate 23 = .ok (.invokestatic 72, 3) := dk_184 0 72 (dk_at dksX3_rate_1 0 rfl rfl)
theorem dX3_rate_26 : decode cX3_rate 26 = .ok (.ifCond .ne 10, 3) := dk_154 0 10 (dk_at dksX3_rate_1 3 rfl rfl)
theorem dX3_rate_29 : decode cX3_rate 29 = .ok (.aload_n 0, 1) := dk_42 (dk_at dksX3_rate_1 6 rfl rfl)
theorem dX3_rate_30 : decode cX3_rate 30 = .ok (.iconst 2, 1) := dk_5 (dk_at dksX3_rate_1 7 rfl rfl)
theorem dX3_rate_31 : decode cX3_rate 31 = .ok (.iconst 0, 1) := dk_3 (dk_at dksX3_rate_1 8 rfl rfl)
theorem dX3_rate_32 : decode cX3_rate 32 = .ok (.invokevirtual 97, 3) := dk_182 0 97 (dk_at dksX3_rate_1 9 rfl rfl)
theorem dX3_rate_35 : decode cX3_rate 35 = .ok (.ireturn, 1) := dk_172 (dk_at dksX3_rate_1 12 rfl rfl)
theorem dX3_rate_36 : decode cX3_rate 36 = .ok (.aload_n 0, 1) := dk_42 (dk_at dksX3_rate_1 13 rfl rfl)
theorem dX3_rate_37 : decode cX3_rate 37 = .ok (.iload_n 1, 1) := dk_27 (dk_at dksX3_rate_1 14 rfl rfl)
theorem dX3_rate_38 : decode cX3_rate 38 = .ok (.invokevirtual 100, 3) := dk_182 0 100 (dk_at dksX3_rate_1 15 rfl rfl)
theorem dX3_rate_41 : decode cX3_rate 41 = .ok (.ifCond .ne 10, 3) := dk_154 0 10 (dk_at dksX3_rate_1 18 rfl rfl)
theorem dX3_rate_44 : decode cX3_rate 44 = .ok (.aload_n 0, 1) := dk_42 (dk_at dksX3_rate_1 21 rfl rfl)
theorem dX3_rate_45 : decode cX3_rate 45 = .ok (.iconst 4, 1) := dk_7 (dk_at dksX3_rate_1 22 rfl rfl)
theorem dX3_rate_46 : decode cX3_rate 46 = .ok (.iconst 0, 1) := dk_3 (dk_at dksX3_rate_1 23 rfl rfl)
theorem dX3_rate_47 : decode cX3_rate 47 = .ok (.invokevirtual 97, 3) := dk_182 0 97 (dk_at dksX3_rate_2 0 rfl rfl)
theorem dX3_rate_50 : decode cX3_rate 50 = .ok (.ireturn, 1) := dk_172 (dk_at dksX3_rate_2 3 rfl rfl)
theorem dX3_rate_51 : decode cX3_rate 51 = .ok (.aload_n 0, 1) := dk_42 (dk_at dksX3_rate_2 4 rfl rfl)
theorem dX3_rate_52 : decode cX3_rate 52 = .ok (.invokevirtual 111, 3) := dk_182 0 111 (dk_at dksX3_rate_2 5 rfl rfl)
theorem dX3_rate_55 : decode cX3_rate 55 = .ok (.aload_n 0, 1) := dk_42 (dk_at dksX3_rate_2 8 rfl rfl)
theorem dX3_rate_56 : decode cX3_rate 56 = .ok (.iload_n 1, 1) := dk_27 (dk_at dksX3_rate_2 9 rfl rfl)
theorem dX3_rate_57 : decode cX3_rate 57 = .ok (.iload_n 2, 1) := dk_28 (dk_at dksX3_rate_2 10 rfl rfl)
theorem dX3_rate_58 : decode cX3_rate 58 = .ok (.invokevirtual 121, 3) := dk_182 0 121 (dk_at dksX3_rate_2 11 rfl rfl)
theorem dX3_rate_61 : decode cX3_rate 61 = .ok (.ireturn, 1) := dk_172 (dk_at dksX3_rate_2 14 rfl rfl)
abbrev cX3_isIncident : ByteArray := prog_18_method_12_code
def yX3_isIncident : MethodName := ⟨RX3, "isIncident", "(I)Z"⟩
def dkwX3_isIncident_0 : List UInt8 := [27, 3, 42, 180, 0, 7, 16, 11, 46, 4, 100, 184, 0, 72, 172]
abbrev dktX3_isIncident_0 : List UInt8 := dkwX3_isIncident_0 ++ []
theorem dksX3_isIncident_0 : cX3_isIncident.data.toList.drop 0 = dktX3_isIncident_0 := by decide +kernel
theorem dX3_isIncident_0 : decode cX3_isIncident 0 = .ok (.iload_n 1, 1) := dk_27 (dk_at dksX3_isIncident_0 0 rfl rfl)
theorem dX3_isIncident_1 : decode cX3_isIncident 1 = .ok (.iconst 0, 1) := dk_3 (dk_at dksX3_isIncident_0 1 rfl rfl)
theorem dX3_isIncident_2 : decode cX3_isIncident 2 = .ok (.aload_n 0, 1) := dk_42 (dk_at dksX3_isIncident_0 2 rfl rfl)
theorem dX3_isIncident_3 : decode cX3_isIncident 3 = .ok (.getfield 7, 3) := dk_180 0 7 (dk_at dksX3_isIncident_0 3 rfl rfl)
theorem dX3_isIncident_6 : decode cX3_isIncident 6 = .ok (.bipush 11, 2) := dk_16 11 (dk_at dksX3_isIncident_0 6 rfl rfl)
theorem dX3_isIncident_8 : decode cX3_isIncident 8 = .ok (.iaload, 1) := dk_46 (dk_at dksX3_isIncident_0 8 rfl rfl)
theorem dX3_isIncident_9 : decode cX3_isIncident 9 = .ok (.iconst 1, 1) := dk_4 (dk_at dksX3_isIncident_0 9 rfl rfl)
theorem dX3_isIncident_10 : decode cX3_isIncident 10 = .ok (.isub, 1) := dk_100 (dk_at dksX3_isIncident_0 10 rfl rfl)
theorem dX3_isIncident_11 : decode cX3_isIncident 11 = .ok (.invokestatic 72, 3) := dk_184 0 72 (dk_at dksX3_isIncident_0 11 rfl rfl)
theorem dX3_isIncident_14 : decode cX3_isIncident 14 = .ok (.ireturn, 1) := dk_172 (dk_at dksX3_isIncident_0 14 rfl rfl)
abbrev cX3_ratesAs : ByteArray := prog_18_method_28_code
def yX3_ratesAs : MethodName := ⟨RX3, "ratesAs", "(II)I"⟩
def dkwX3_ratesAs_1 : List UInt8 := [16, 6, 184, 0, 76, 42, 27, 8, 182, 0, 80, 79, 42, 4, 27, 28, 182, 0, 90, 29, 172]
abbrev dktX3_ratesAs_1 : List UInt8 := dkwX3_ratesAs_1 ++ []
def dkwX3_ratesAs_0 : List UInt8 := [42, 27, 4, 182, 0, 80, 62, 42, 180, 0, 7, 27, 4, 184, 0, 76, 28, 79, 42, 180, 0, 7, 27]
abbrev dktX3_ratesAs_0 : List UInt8 := dkwX3_ratesAs_0 ++ dktX3_ratesAs_1
theorem dksX3_ratesAs_0 : cX3_ratesAs.data.toList.drop 0 = dktX3_ratesAs_0 := by decide +kernel
theorem dksX3_ratesAs_1 : cX3_ratesAs.data.toList.drop 23 = dktX3_ratesAs_1 := dk_seg dksX3_ratesAs_0 23 rfl rfl
theorem dX3_ratesAs_0 : decode cX3_ratesAs 0 = .ok (.aload_n 0, 1) := dk_42 (dk_at dksX3_ratesAs_0 0 rfl rfl)
theorem dX3_ratesAs_1 : decode cX3_ratesAs 1 = .ok (.iload_n 1, 1) := dk_27 (dk_at dksX3_ratesAs_0 1 rfl rfl)
theorem dX3_ratesAs_2 : decode cX3_ratesAs 2 = .ok (.iconst 1, 1) := dk_4 (dk_at dksX3_ratesAs_0 2 rfl rfl)
theorem dX3_ratesAs_3 : decode cX3_ratesAs 3 = .ok (.invokevirtual 80, 3) := dk_182 0 80 (dk_at dksX3_ratesAs_0 3 rfl rfl)
theorem dX3_ratesAs_6 : decode cX3_ratesAs 6 = .ok (.istore_n 3, 1) := dk_62 (dk_at dksX3_ratesAs_0 6 rfl rfl)
theorem dX3_ratesAs_7 : decode cX3_ratesAs 7 = .ok (.aload_n 0, 1) := dk_42 (dk_at dksX3_ratesAs_0 7 rfl rfl)
theorem dX3_ratesAs_8 : decode cX3_ratesAs 8 = .ok (.getfield 7, 3) := dk_180 0 7 (dk_at dksX3_ratesAs_0 8 rfl rfl)
theorem dX3_ratesAs_11 : decode cX3_ratesAs 11 = .ok (.iload_n 1, 1) := dk_27 (dk_at dksX3_ratesAs_0 11 rfl rfl)
theorem dX3_ratesAs_12 : decode cX3_ratesAs 12 = .ok (.iconst 1, 1) := dk_4 (dk_at dksX3_ratesAs_0 12 rfl rfl)
theorem dX3_ratesAs_13 : decode cX3_ratesAs 13 = .ok (.invokestatic 76, 3) := dk_184 0 76 (dk_at dksX3_ratesAs_0 13 rfl rfl)
theorem dX3_ratesAs_16 : decode cX3_ratesAs 16 = .ok (.iload_n 2, 1) := dk_28 (dk_at dksX3_ratesAs_0 16 rfl rfl)
theorem dX3_ratesAs_17 : decode cX3_ratesAs 17 = .ok (.iastore, 1) := dk_79 (dk_at dksX3_ratesAs_0 17 rfl rfl)
theorem dX3_ratesAs_18 : decode cX3_ratesAs 18 = .ok (.aload_n 0, 1) := dk_42 (dk_at dksX3_ratesAs_0 18 rfl rfl)
theorem dX3_ratesAs_19 : decode cX3_ratesAs 19 = .ok (.getfield 7, 3) := dk_180 0 7 (dk_at dksX3_ratesAs_0 19 rfl rfl)
theorem dX3_ratesAs_22 : decode cX3_ratesAs 22 = .ok (.iload_n 1, 1) := dk_27 (dk_at dksX3_ratesAs_0 22 rfl rfl)
theorem dX3_ratesAs_23 : decode cX3_ratesAs 23 = .ok (.bipush 6, 2) := dk_16 6 (dk_at dksX3_ratesAs_1 0 rfl rfl)
theorem dX3_ratesAs_25 : decode cX3_ratesAs 25 = .ok (.invokestatic 76, 3) := dk_184 0 76 (dk_at dksX3_ratesAs_1 2 rfl rfl)
theorem dX3_ratesAs_28 : decode cX3_ratesAs 28 = .ok (.aload_n 0, 1) := dk_42 (dk_at dksX3_ratesAs_1 5 rfl rfl)
theorem dX3_ratesAs_29 : decode cX3_ratesAs 29 = .ok (.iload_n 1, 1) := dk_27 (dk_at dksX3_ratesAs_1 6 rfl rfl)
theorem dX3_ratesAs_30 : decode cX3_ratesAs 30 = .ok (.iconst 5, 1) := dk_8 (dk_at dksX3_ratesAs_1 7 rfl rfl)
theorem dX3_ratesAs_31 : decode cX3_ratesAs 31 = .ok (.invokevirtual 80, 3) := dk_182 0 80 (dk_at dksX3_ratesAs_1 8 rfl rfl)
theorem dX3_ratesAs_34 : decode cX3_ratesAs 34 = .ok (.iastore, 1) := dk_79 (dk_at dksX3_ratesAs_1 11 rfl rfl)
theorem dX3_ratesAs_35 : decode cX3_ratesAs 35 = .ok (.aload_n 0, 1) := dk_42 (dk_at dksX3_ratesAs_1 12 rfl rfl)
theorem dX3_ratesAs_36 : decode cX3_ratesAs 36 = .ok (.iconst 1, 1) := dk_4 (dk_at dksX3_ratesAs_1 13 rfl rfl)
theorem dX3_ratesAs_37 : decode cX3_ratesAs 37 = .ok (.iload_n 1, 1) := dk_27 (dk_at dksX3_ratesAs_1 14 rfl rfl)
theorem dX3_ratesAs_38 : decode cX3_ratesAs 38 = .ok (.iload_n 2, 1) := dk_28 (dk_at dksX3_ratesAs_1 15 rfl rfl)
theorem dX3_ratesAs_39 : decode cX3_ratesAs 39 = .ok (.invokevirtual 90, 3) := dk_182 0 90 (dk_at dksX3_ratesAs_1 16 rfl rfl)
theorem dX3_ratesAs_42 : decode cX3_ratesAs 42 = .ok (.iload_n 3, 1) := dk_29 (dk_at dksX3_ratesAs_1 19 rfl rfl)
theorem dX3_ratesAs_43 : decode cX3_ratesAs 43 = .ok (.ireturn, 1) := dk_172 (dk_at dksX3_ratesAs_1 20 rfl rfl)
abbrev cX3_hand : ByteArray := prog_18_method_30_code
def yX3_hand : MethodName := ⟨RX3, "hand", "(II)I"⟩
def dkwX3_hand_4 : List UInt8 := [182, 0, 80, 62, 42, 27, 28, 182, 0, 107, 29, 172]
abbrev dktX3_hand_4 : List UInt8 := dkwX3_hand_4 ++ []
def dkwX3_hand_3 : List UInt8 := [42, 28, 182, 0, 87, 7, 161, 0, 11, 42, 16, 7, 3, 182, 0, 97, 172, 42, 182, 0, 111, 42, 27, 5]
abbrev dktX3_hand_3 : List UInt8 := dkwX3_hand_3 ++ dktX3_hand_4
def dkwX3_hand_2 : List UInt8 := [182, 0, 83, 153, 0, 13, 42, 27, 5, 182, 0, 80, 28, 160, 0, 11, 42, 16, 6, 3, 182, 0, 97, 172]
abbrev dktX3_hand_2 : List UInt8 := dkwX3_hand_2 ++ dktX3_hand_3
def dkwX3_hand_1 : List UInt8 := [182, 0, 97, 172, 42, 27, 6, 182, 0, 80, 6, 160, 0, 10, 42, 7, 3, 182, 0, 97, 172, 42, 28]
abbrev dktX3_hand_1 : List UInt8 := dkwX3_hand_1 ++ dktX3_hand_2
def dkwX3_hand_0 : List UInt8 := [42, 3, 181, 0, 41, 42, 27, 182, 0, 118, 153, 0, 10, 28, 184, 0, 94, 154, 0, 10, 42, 4, 3]
abbrev dktX3_hand_0 : List UInt8 := dkwX3_hand_0 ++ dktX3_hand_1
theorem dksX3_hand_0 : cX3_hand.data.toList.drop 0 = dktX3_hand_0 := by decide +kernel
theorem dksX3_hand_1 : cX3_hand.data.toList.drop 23 = dktX3_hand_1 := dk_seg dksX3_hand_0 23 rfl rfl
theorem dksX3_hand_2 : cX3_hand.data.toList.drop 46 = dktX3_hand_2 := dk_seg dksX3_hand_1 23 rfl rfl
theorem dksX3_hand_3 : cX3_hand.data.toList.drop 70 = dktX3_hand_3 := dk_seg dksX3_hand_2 24 rfl rfl
theorem dksX3_hand_4 : cX3_hand.data.toList.drop 94 = dktX3_hand_4 := dk_seg dksX3_hand_3 24 rfl rfl
theorem dX3_hand_0 : decode cX3_hand 0 = .ok (.aload_n 0, 1) := dk_42 (dk_at dksX3_hand_0 0 rfl rfl)
theorem dX3_hand_1 : decode cX3_hand 1 = .ok (.iconst 0, 1) := dk_3 (dk_at dksX3_hand_0 1 rfl rfl)
theorem dX3_hand_2 : decode cX3_hand 2 = .ok (.putfield 41, 3) := dk_181 0 41 (dk_at dksX3_hand_0 2 rfl rfl)
theorem dX3_hand_5 : decode cX3_hand 5 = .ok (.aload_n 0, 1) := dk_42 (dk_at dksX3_hand_0 5 rfl rfl)
theorem dX3_hand_6 : decode cX3_hand 6 = .ok (.iload_n 1, 1) := dk_27 (dk_at dksX3_hand_0 6 rfl rfl)
theorem dX3_hand_7 : decode cX3_hand 7 = .ok (.invokevirtual 118, 3) := dk_182 0 118 (dk_at dksX3_hand_0 7 rfl rfl)
theorem dX3_hand_10 : decode cX3_hand 10 = .ok (.ifCond .eq 10, 3) := dk_153 0 10 (dk_at dksX3_hand_0 10 rfl rfl)
theorem dX3_hand_13 : decode cX3_hand 13 = .ok (.iload_n 2, 1) := dk_28 (dk_at dksX3_hand_0 13 rfl rfl)
theorem dX3_hand_14 : decode cX3_hand 14 = .ok (.invokestatic 94, 3) := dk_184 0 94 (dk_at dksX3_hand_0 14 rfl rfl)
theorem dX3_hand_17 : decode cX3_hand 17 = .ok (.ifCond .ne 10, 3) := dk_154 0 10 (dk_at dksX3_hand_0 17 rfl rfl)
theorem dX3_hand_20 : decode cX3_hand 20 = .ok (.aload_n 0, 1) := dk_42 (dk_at dksX3_hand_0 20 rfl rfl)
theorem dX3_hand_21 : decode cX3_hand 21 = .ok (.iconst 1, 1) := dk_4 (dk_at dksX3_hand_0 21 rfl rfl)
theorem dX3_hand_22 : decode cX3_hand 22 = .ok (.iconst 0, 1) := dk_3 (dk_at dksX3_hand_0 22 rfl rfl)
theorem dX3_hand_23 : decode cX3_hand 23 = .ok (.invokevirtual 97, 3) := dk_182 0 97 (dk_at dksX3_hand_1 0 rfl rfl)
theorem dX3_hand_26 : decode cX3_hand 26 = .ok (.ireturn, 1) := dk_172 (dk_at dksX3_hand_1 3 rfl rfl)
theorem dX3_hand_27 : decode cX3_hand 27 = .ok (.aload_n 0, 1) := dk_42 (dk_at dksX3_hand_1 4 rfl rfl)
theorem dX3_hand_28 : decode cX3_hand 28 = .ok (.iload_n 1, 1) := dk_27 (dk_at dksX3_hand_1 5 rfl rfl)
theorem dX3_hand_29 : decode cX3_hand 29 = .ok (.iconst 3, 1) := dk_6 (dk_at dksX3_hand_1 6 rfl rfl)
theorem dX3_hand_30 : decode cX3_hand 30 = .ok (.invokevirtual 80, 3) := dk_182 0 80 (dk_at dksX3_hand_1 7 rfl rfl)
theorem dX3_hand_33 : decode cX3_hand 33 = .ok (.iconst 3, 1) := dk_6 (dk_at dksX3_hand_1 10 rfl rfl)
theorem dX3_hand_34 : decode cX3_hand 34 = .ok (.if_icmp .ne 10, 3) := dk_160 0 10 (dk_at dksX3_hand_1 11 rfl rfl)
theorem dX3_hand_37 : decode cX3_hand 37 = .ok (.aload_n 0, 1) := dk_42 (dk_at dksX3_hand_1 14 rfl rfl)
theorem dX3_hand_38 : decode cX3_hand 38 = .ok (.iconst 4, 1) := dk_7 (dk_at dksX3_hand_1 15 rfl rfl)
theorem dX3_hand_39 : decode cX3_hand 39 = .ok (.iconst 0, 1) := dk_3 (dk_at dksX3_hand_1 16 rfl rfl)
theorem dX3_hand_40 : decode cX3_hand 40 = .ok (.invokevirtual 97, 3) := dk_182 0 97 (dk_at dksX3_hand_1 17 rfl rfl)
theorem dX3_hand_43 : decode cX3_hand 43 = .ok (.ireturn, 1) := dk_172 (dk_at dksX3_hand_1 20 rfl rfl)
theorem dX3_hand_44 : decode cX3_hand 44 = .ok (.aload_n 0, 1) := dk_42 (dk_at dksX3_hand_1 21 rfl rfl)
theorem dX3_hand_45 : decode cX3_hand 45 = .ok (.iload_n 2, 1) := dk_28 (dk_at dksX3_hand_1 22 rfl rfl)
theorem dX3_hand_46 : decode cX3_hand 46 = .ok (.invokevirtual 83, 3) := dk_182 0 83 (dk_at dksX3_hand_2 0 rfl rfl)
theorem dX3_hand_49 : decode cX3_hand 49 = .ok (.ifCond .eq 13, 3) := dk_153 0 13 (dk_at dksX3_hand_2 3 rfl rfl)
theorem dX3_hand_52 : decode cX3_hand 52 = .ok (.aload_n 0, 1) := dk_42 (dk_at dksX3_hand_2 6 rfl rfl)
theorem dX3_hand_53 : decode cX3_hand 53 = .ok (.iload_n 1, 1) := dk_27 (dk_at dksX3_hand_2 7 rfl rfl)
theorem dX3_hand_54 : decode cX3_hand 54 = .ok (.iconst 2, 1) := dk_5 (dk_at dksX3_hand_2 8 rfl rfl)
theorem dX3_hand_55 : decode cX3_hand 55 = .ok (.invokevirtual 80, 3) := dk_182 0 80 (dk_at dksX3_hand_2 9 rfl rfl)
theorem dX3_hand_58 : decode cX3_hand 58 = .ok (.iload_n 2, 1) := dk_28 (dk_at dksX3_hand_2 12 rfl rfl)
theorem dX3_hand_59 : decode cX3_hand 59 = .ok (.if_icmp .ne 11, 3) := dk_160 0 11 (dk_at dksX3_hand_2 13 rfl rfl)
theorem dX3_hand_62 : decode cX3_hand 62 = .ok (.aload_n 0, 1) := dk_42 (dk_at dksX3_hand_2 16 rfl rfl)
theorem dX3_hand_63 : decode cX3_hand 63 = .ok (.bipush 6, 2) := dk_16 6 (dk_at dksX3_hand_2 17 rfl rfl)
theorem dX3_hand_65 : decode cX3_hand 65 = .ok (.iconst 0, 1) := dk_3 (dk_at dksX3_hand_2 19 rfl rfl)
theorem dX3_hand_66 : decode cX3_hand 66 = .ok (.invokevirtual 97, 3) := dk_182 0 97 (dk_at dksX3_hand_2 20 rfl rfl)
theorem dX3_hand_69 : decode cX3_hand 69 = .ok (.ireturn, 1) := dk_172 (dk_at dksX3_hand_2 23 rfl rfl)
theorem dX3_hand_70 : decode cX3_hand 70 = .ok (.aload_n 0, 1) := dk_42 (dk_at dksX3_hand_3 0 rfl rfl)
theorem dX3_hand_71 : decode cX3_hand 71 = .ok (.iload_n 2, 1) := dk_28 (dk_at dksX3_hand_3 1 rfl rfl)
theorem dX3_hand_72 : decode cX3_hand 72 = .ok (.invokevirtual 87, 3) := dk_182 0 87 (dk_at dksX3_hand_3 2 rfl rfl)
theorem dX3_hand_75 : decode cX3_hand 75 = .ok (.iconst 4, 1) := dk_7 (dk_at dksX3_hand_3 5 rfl rfl)
theorem dX3_hand_76 : decode cX3_hand 76 = .ok (.if_icmp .lt 11, 3) := dk_161 0 11 (dk_at dksX3_hand_3 6 rfl rfl)
theorem dX3_hand_79 : decode cX3_hand 79 = .ok (.aload_n 0, 1) := dk_42 (dk_at dksX3_hand_3 9 rfl rfl)
theorem dX3_hand_80 : decode cX3_hand 80 = .ok (.bipush 7, 2) := dk_16 7 (dk_at dksX3_hand_3 10 rfl rfl)
theorem dX3_hand_82 : decode cX3_hand 82 = .ok (.iconst 0, 1) := dk_3 (dk_at dksX3_hand_3 12 rfl rfl)
theorem dX3_hand_83 : decode cX3_hand 83 = .ok (.invokevirtual 97, 3) := dk_182 0 97 (dk_at dksX3_hand_3 13 rfl rfl)
theorem dX3_hand_86 : decode cX3_hand 86 = .ok (.ireturn, 1) := dk_172 (dk_at dksX3_hand_3 16 rfl rfl)
theorem dX3_hand_87 : decode cX3_hand 87 = .ok (.aload_n 0, 1) := dk_42 (dk_at dksX3_hand_3 17 rfl rfl)
theorem dX3_hand_88 : decode cX3_hand 88 = .ok (.invokevirtual 111, 3) := dk_182 0 111 (dk_at dksX3_hand_3 18 rfl rfl)
theorem dX3_hand_91 : decode cX3_hand 91 = .ok (.aload_n 0, 1) := dk_42 (dk_at dksX3_hand_3 21 rfl rfl)
theorem dX3_hand_92 : decode cX3_hand 92 = .ok (.iload_n 1, 1) := dk_27 (dk_at dksX3_hand_3 22 rfl rfl)
theorem dX3_hand_93 : decode cX3_hand 93 = .ok (.iconst 2, 1) := dk_5 (dk_at dksX3_hand_3 23 rfl rfl)
theorem dX3_hand_94 : decode cX3_hand 94 = .ok (.invokevirtual 80, 3) := dk_182 0 80 (dk_at dksX3_hand_4 0 rfl rfl)
theorem dX3_hand_97 : decode cX3_hand 97 = .ok (.istore_n 3, 1) := dk_62 (dk_at dksX3_hand_4 3 rfl rfl)
theorem dX3_hand_98 : decode cX3_hand 98 = .ok (.aload_n 0, 1) := dk_42 (dk_at dksX3_hand_4 4 rfl rfl)
theorem dX3_hand_99 : decode cX3_hand 99 = .ok (.iload_n 1, 1) := dk_27 (dk_at dksX3_hand_4 5 rfl rfl)
theorem dX3_hand_100 : decode cX3_hand 100 = .ok (.iload_n 2, 1) := dk_28 (dk_at dksX3_hand_4 6 rfl rfl)
theorem dX3_hand_101 : decode cX3_hand 101 = .ok (.invokevirtual 107, 3) := dk_182 0 107 (dk_at dksX3_hand_4 7 rfl rfl)
theorem dX3_hand_104 : decode cX3_hand 104 = .ok (.iload_n 3, 1) := dk_29 (dk_at dksX3_hand_4 10 rfl rfl)
theorem dX3_hand_105 : decode cX3_hand 105 = .ok (.ireturn, 1) := dk_172 (dk_at dksX3_hand_4 11 rfl rfl)
abbrev cX3_stop : ByteArray := prog_18_method_32_code
def yX3_stop : MethodName := ⟨RX3, "stop", "(II)I"⟩
def dkwX3_stop_3 : List UInt8 := [42, 6, 27, 28, 182, 0, 90, 42, 27, 16, 7, 182, 0, 80, 172]
abbrev dktX3_stop_3 : List UInt8 := dkwX3_stop_3 ++ []
def dkwX3_stop_2 : List UInt8 := [180, 0, 7, 27, 16, 13, 28, 96, 184, 0, 76, 3, 79, 42, 180, 0, 7, 27, 6, 184, 0, 76, 4, 79]
abbrev dktX3_stop_2 : List UInt8 := dkwX3_stop_2 ++ dktX3_stop_3
def dkwX3_stop_1 : List UInt8 := [42, 182, 0, 111, 42, 180, 0, 7, 27, 16, 7, 184, 0, 76, 92, 46, 4, 28, 120, 128, 79, 42]
abbrev dktX3_stop_1 : List UInt8 := dkwX3_stop_1 ++ dktX3_stop_2
def dkwX3_stop_0 : List UInt8 := [42, 3, 181, 0, 41, 42, 27, 28, 4, 182, 0, 124, 62, 29, 158, 0, 10, 42, 29, 3, 182, 0, 97, 172]
abbrev dktX3_stop_0 : List UInt8 := dkwX3_stop_0 ++ dktX3_stop_1
theorem dksX3_stop_0 : cX3_stop.data.toList.drop 0 = dktX3_stop_0 := by decide +kernel
theorem dksX3_stop_1 : cX3_stop.data.toList.drop 24 = dktX3_stop_1 := dk_seg dksX3_stop_0 24 rfl rfl
theorem dksX3_stop_2 : cX3_stop.data.toList.drop 46 = dktX3_stop_2 := dk_seg dksX3_stop_1 22 rfl rfl
theorem dksX3_stop_3 : cX3_stop.data.toList.drop 70 = dktX3_stop_3 := dk_seg dksX3_stop_2 24 rfl rfl
theorem dX3_stop_0 : decode cX3_stop 0 = .ok (.aload_n 0, 1) := dk_42 (dk_at dksX3_stop_0 0 rfl rfl)
theorem dX3_stop_1 : decode cX3_stop 1 = .ok (.iconst 0, 1) := dk_3 (dk_at dksX3_stop_0 1 rfl rfl)
theorem dX3_stop_2 : decode cX3_stop 2 = .ok (.putfield 41, 3) := dk_181 0 41 (dk_at dksX3_stop_0 2 rfl rfl)
theorem dX3_stop_5 : decode cX3_stop 5 = .ok (.aload_n 0, 1) := dk_42 (dk_at dksX3_stop_0 5 rfl rfl)
theorem dX3_stop_6 : decode cX3_stop 6 = .ok (.iload_n 1, 1) := dk_27 (dk_at dksX3_stop_0 6 rfl rfl)
theorem dX3_stop_7 : decode cX3_stop 7 = .ok (.iload_n 2, 1) := dk_28 (dk_at dksX3_stop_0 7 rfl rfl)
theorem dX3_stop_8 : decode cX3_stop 8 = .ok (.iconst 1, 1) := dk_4 (dk_at dksX3_stop_0 8 rfl rfl)
theorem dX3_stop_9 : decode cX3_stop 9 = .ok (.invokevirtual 124, 3) := dk_182 0 124 (dk_at dksX3_stop_0 9 rfl rfl)
theorem dX3_stop_12 : decode cX3_stop 12 = .ok (.istore_n 3, 1) := dk_62 (dk_at dksX3_stop_0 12 rfl rfl)
theorem dX3_stop_13 : decode cX3_stop 13 = .ok (.iload_n 3, 1) := dk_29 (dk_at dksX3_stop_0 13 rfl rfl)
theorem dX3_stop_14 : decode cX3_stop 14 = .ok (.ifCond .le 10, 3) := dk_158 0 10 (dk_at dksX3_stop_0 14 rfl rfl)
theorem dX3_stop_17 : decode cX3_stop 17 = .ok (.aload_n 0, 1) := dk_42 (dk_at dksX3_stop_0 17 rfl rfl)
theorem dX3_stop_18 : decode cX3_stop 18 = .ok (.iload_n 3, 1) := dk_29 (dk_at dksX3_stop_0 18 rfl rfl)
theorem dX3_stop_19 : decode cX3_stop 19 = .ok (.iconst 0, 1) := dk_3 (dk_at dksX3_stop_0 19 rfl rfl)
theorem dX3_stop_20 : decode cX3_stop 20 = .ok (.invokevirtual 97, 3) := dk_182 0 97 (dk_at dksX3_stop_0 20 rfl rfl)
theorem dX3_stop_23 : decode cX3_stop 23 = .ok (.ireturn, 1) := dk_172 (dk_at dksX3_stop_0 23 rfl rfl)
theorem dX3_stop_24 : decode cX3_stop 24 = .ok (.aload_n 0, 1) := dk_42 (dk_at dksX3_stop_1 0 rfl rfl)
theorem dX3_stop_25 : decode cX3_stop 25 = .ok (.invokevirtual 111, 3) := dk_182 0 111 (dk_at dksX3_stop_1 1 rfl rfl)
theorem dX3_stop_28 : decode cX3_stop 28 = .ok (.aload_n 0, 1) := dk_42 (dk_at dksX3_stop_1 4 rfl rfl)
theorem dX3_stop_29 : decode cX3_stop 29 = .ok (.getfield 7, 3) := dk_180 0 7 (dk_at dksX3_stop_1 5 rfl rfl)
theorem dX3_stop_32 : decode cX3_stop 32 = .ok (.iload_n 1, 1) := dk_27 (dk_at dksX3_stop_1 8 rfl rfl)
theorem dX3_stop_33 : decode cX3_stop 33 = .ok (.bipush 7, 2) := dk_16 7 (dk_at dksX3_stop_1 9 rfl rfl)
theorem dX3_stop_35 : decode cX3_stop 35 = .ok (.invokestatic 76, 3) := dk_184 0 76 (dk_at dksX3_stop_1 11 rfl rfl)
theorem dX3_stop_38 : decode cX3_stop 38 = .ok (.dup2, 1) := dk_92 (dk_at dksX3_stop_1 14 rfl rfl)
theorem dX3_stop_39 : decode cX3_stop 39 = .ok (.iaload, 1) := dk_46 (dk_at dksX3_stop_1 15 rfl rfl)
theorem dX3_stop_40 : decode cX3_stop 40 = .ok (.iconst 1, 1) := dk_4 (dk_at dksX3_stop_1 16 rfl rfl)
theorem dX3_stop_41 : decode cX3_stop 41 = .ok (.iload_n 2, 1) := dk_28 (dk_at dksX3_stop_1 17 rfl rfl)
theorem dX3_stop_42 : decode cX3_stop 42 = .ok (.ishl, 1) := dk_120 (dk_at dksX3_stop_1 18 rfl rfl)
theorem dX3_stop_43 : decode cX3_stop 43 = .ok (.ior, 1) := dk_128 (dk_at dksX3_stop_1 19 rfl rfl)
theorem dX3_stop_44 : decode cX3_stop 44 = .ok (.iastore, 1) := dk_79 (dk_at dksX3_stop_1 20 rfl rfl)
theorem dX3_stop_45 : decode cX3_stop 45 = .ok (.aload_n 0, 1) := dk_42 (dk_at dksX3_stop_1 21 rfl rfl)
theorem dX3_stop_46 : decode cX3_stop 46 = .ok (.getfield 7, 3) := dk_180 0 7 (dk_at dksX3_stop_2 0 rfl rfl)
theorem dX3_stop_49 : decode cX3_stop 49 = .ok (.iload_n 1, 1) := dk_27 (dk_at dksX3_stop_2 3 rfl rfl)
theorem dX3_stop_50 : decode cX3_stop 50 = .ok (.bipush 13, 2) := dk_16 13 (dk_at dksX3_stop_2 4 rfl rfl)
theorem dX3_stop_52 : decode cX3_stop 52 = .ok (.iload_n 2, 1) := dk_28 (dk_at dksX3_stop_2 6 rfl rfl)
theorem dX3_stop_53 : decode cX3_stop 53 = .ok (.iadd, 1) := dk_96 (dk_at dksX3_stop_2 7 rfl rfl)
theorem dX3_stop_54 : decode cX3_stop 54 = .ok (.invokestatic 76, 3) := dk_184 0 76 (dk_at dksX3_stop_2 8 rfl rfl)
theorem dX3_stop_57 : decode cX3_stop 57 = .ok (.iconst 0, 1) := dk_3 (dk_at dksX3_stop_2 11 rfl rfl)
theorem dX3_stop_58 : decode cX3_stop 58 = .ok (.iastore, 1) := dk_79 (dk_at dksX3_stop_2 12 rfl rfl)
theorem dX3_stop_59 : decode cX3_stop 59 = .ok (.aload_n 0, 1) := dk_42 (dk_at dksX3_stop_2 13 rfl rfl)
theorem dX3_stop_60 : decode cX3_stop 60 = .ok (.getfield 7, 3) := dk_180 0 7 (dk_at dksX3_stop_2 14 rfl rfl)
theorem dX3_stop_63 : decode cX3_stop 63 = .ok (.iload_n 1, 1) := dk_27 (dk_at dksX3_stop_2 17 rfl rfl)
theorem dX3_stop_64 : decode cX3_stop 64 = .ok (.iconst 3, 1) := dk_6 (dk_at dksX3_stop_2 18 rfl rfl)
theorem dX3_stop_65 : decode cX3_stop 65 = .ok (.invokestatic 76, 3) := dk_184 0 76 (dk_at dksX3_stop_2 19 rfl rfl)
theorem dX3_stop_68 : decode cX3_stop 68 = .ok (.iconst 1, 1) := dk_4 (dk_at dksX3_stop_2 22 rfl rfl)
theorem dX3_stop_69 : decode cX3_stop 69 = .ok (.iastore, 1) := dk_79 (dk_at dksX3_stop_2 23 rfl rfl)
theorem dX3_stop_70 : decode cX3_stop 70 = .ok (.aload_n 0, 1) := dk_42 (dk_at dksX3_stop_3 0 rfl rfl)
theorem dX3_stop_71 : decode cX3_stop 71 = .ok (.iconst 3, 1) := dk_6 (dk_at dksX3_stop_3 1 rfl rfl)
theorem dX3_stop_72 : decode cX3_stop 72 = .ok (.iload_n 1, 1) := dk_27 (dk_at dksX3_stop_3 2 rfl rfl)
theorem dX3_stop_73 : decode cX3_stop 73 = .ok (.iload_n 2, 1) := dk_28 (dk_at dksX3_stop_3 3 rfl rfl)
theorem dX3_stop_74 : decode cX3_stop 74 = .ok (.invokevirtual 90, 3) := dk_182 0 90 (dk_at dksX3_stop_3 4 rfl rfl)
theorem dX3_stop_77 : decode cX3_stop 77 = .ok (.aload_n 0, 1) := dk_42 (dk_at dksX3_stop_3 7 rfl rfl)
theorem dX3_stop_78 : decode cX3_stop 78 = .ok (.iload_n 1, 1) := dk_27 (dk_at dksX3_stop_3 8 rfl rfl)
theorem dX3_stop_79 : decode cX3_stop 79 = .ok (.bipush 7, 2) := dk_16 7 (dk_at dksX3_stop_3 9 rfl rfl)
theorem dX3_stop_81 : decode cX3_stop 81 = .ok (.invokevirtual 80, 3) := dk_182 0 80 (dk_at dksX3_stop_3 11 rfl rfl)
theorem dX3_stop_84 : decode cX3_stop 84 = .ok (.ireturn, 1) := dk_172 (dk_at dksX3_stop_3 14 rfl rfl)
abbrev cX3_whyNot : ByteArray := prog_18_method_31_code
def yX3_whyNot : MethodName := ⟨RX3, "whyNot", "(IIZ)I"⟩
def dkwX3_whyNot_2 : List UInt8 := [153, 0, 7, 4, 167, 0, 4, 3, 160, 0, 8, 16, 8, 167, 0, 4, 3, 172]
abbrev dktX3_whyNot_2 : List UInt8 := dkwX3_whyNot_2 ++ []
def dkwX3_whyNot_1 : List UInt8 := [182, 0, 100, 154, 0, 7, 7, 167, 0, 32, 42, 27, 16, 7, 182, 0, 80, 28, 122, 4, 126, 29]
abbrev dktX3_whyNot_1 : List UInt8 := dkwX3_whyNot_1 ++ dktX3_whyNot_2
def dkwX3_whyNot_0 : List UInt8 := [42, 27, 182, 0, 118, 154, 0, 5, 4, 172, 28, 3, 6, 184, 0, 72, 154, 0, 5, 5, 172, 42, 27]
abbrev dktX3_whyNot_0 : List UInt8 := dkwX3_whyNot_0 ++ dktX3_whyNot_1
theorem dksX3_whyNot_0 : cX3_whyNot.data.toList.drop 0 = dktX3_whyNot_0 := by decide +kernel
theorem dksX3_whyNot_1 : cX3_whyNot.data.toList.drop 23 = dktX3_whyNot_1 := dk_seg dksX3_whyNot_0 23 rfl rfl
theorem dksX3_whyNot_2 : cX3_whyNot.data.toList.drop 45 = dktX3_whyNot_2 := dk_seg dksX3_whyNot_1 22 rfl rfl
theorem dX3_whyNot_0 : decode cX3_whyNot 0 = .ok (.aload_n 0, 1) := dk_42 (dk_at dksX3_whyNot_0 0 rfl rfl)
theorem dX3_whyNot_1 : decode cX3_whyNot 1 = .ok (.iload_n 1, 1) := dk_27 (dk_at dksX3_whyNot_0 1 rfl rfl)
theorem dX3_whyNot_2 : decode cX3_whyNot 2 = .ok (.invokevirtual 118, 3) := dk_182 0 118 (dk_at dksX3_whyNot_0 2 rfl rfl)
theorem dX3_whyNot_5 : decode cX3_whyNot 5 = .ok (.ifCond .ne 5, 3) := dk_154 0 5 (dk_at dksX3_whyNot_0 5 rfl rfl)
theorem dX3_whyNot_8 : decode cX3_whyNot 8 = .ok (.iconst 1, 1) := dk_4 (dk_at dksX3_whyNot_0 8 rfl rfl)
theorem dX3_whyNot_9 : decode cX3_whyNot 9 = .ok (.ireturn, 1) := dk_172 (dk_at dksX3_whyNot_0 9 rfl rfl)
theorem dX3_whyNot_10 : decode cX3_whyNot 10 = .ok (.iload_n 2, 1) := dk_28 (dk_at dksX3_whyNot_0 10 rfl rfl)
theorem dX3_whyNot_11 : decode cX3_whyNot 11 = .ok (.iconst 0, 1) := dk_3 (dk_at dksX3_whyNot_0 11 rfl rfl)
theorem dX3_whyNot_12 : decode cX3_whyNot 12 = .ok (.iconst 3, 1) := dk_6 (dk_at dksX3_whyNot_0 12 rfl rfl)
theorem dX3_whyNot_13 : decode cX3_whyNot 13 = .ok (.invokestatic 72, 3) := dk_184 0 72 (dk_at dksX3_whyNot_0 13 rfl rfl)
theorem dX3_whyNot_16 : decode cX3_whyNot 16 = .ok (.ifCond .ne 5, 3) := dk_154 0 5 (dk_at dksX3_whyNot_0 16 rfl rfl)
theorem dX3_whyNot_19 : decode cX3_whyNot 19 = .ok (.iconst 2, 1) := dk_5 (dk_at dksX3_whyNot_0 19 rfl rfl)
theorem dX3_whyNot_20 : decode cX3_whyNot 20 = .ok (.ireturn, 1) := dk_172 (dk_at dksX3_whyNot_0 20 rfl rfl)
theorem dX3_whyNot_21 : decode cX3_whyNot 21 = .ok (.aload_n 0, 1) := dk_42 (dk_at dksX3_whyNot_0 21 rfl rfl)
theorem dX3_whyNot_22 : decode cX3_whyNot 22 = .ok (.iload_n 1, 1) := dk_27 (dk_at dksX3_whyNot_0 22 rfl rfl)
theorem dX3_whyNot_23 : decode cX3_whyNot 23 = .ok (.invokevirtual 100, 3) := dk_182 0 100 (dk_at dksX3_whyNot_1 0 rfl rfl)
theorem dX3_whyNot_26 : decode cX3_whyNot 26 = .ok (.ifCond .ne 7, 3) := dk_154 0 7 (dk_at dksX3_whyNot_1 3 rfl rfl)
theorem dX3_whyNot_29 : decode cX3_whyNot 29 = .ok (.iconst 4, 1) := dk_7 (dk_at dksX3_whyNot_1 6 rfl rfl)
theorem dX3_whyNot_30 : decode cX3_whyNot 30 = .ok (.goto 32, 3) := dk_167 0 32 (dk_at dksX3_whyNot_1 7 rfl rfl)
theorem dX3_whyNot_33 : decode cX3_whyNot 33 = .ok (.aload_n 0, 1) := dk_42 (dk_at dksX3_whyNot_1 10 rfl rfl)
theorem dX3_whyNot_34 : decode cX3_whyNot 34 = .ok (.iload_n 1, 1) := dk_27 (dk_at dksX3_whyNot_1 11 rfl rfl)
theorem dX3_whyNot_35 : decode cX3_whyNot 35 = .ok (.bipush 7, 2) := dk_16 7 (dk_at dksX3_whyNot_1 12 rfl rfl)
theorem dX3_whyNot_37 : decode cX3_whyNot 37 = .ok (.invokevirtual 80, 3) := dk_182 0 80 (dk_at dksX3_whyNot_1 14 rfl rfl)
theorem dX3_whyNot_40 : decode cX3_whyNot 40 = .ok (.iload_n 2, 1) := dk_28 (dk_at dksX3_whyNot_1 17 rfl rfl)
theorem dX3_whyNot_41 : decode cX3_whyNot 41 = .ok (.ishr, 1) := dk_122 (dk_at dksX3_whyNot_1 18 rfl rfl)
theorem dX3_whyNot_42 : decode cX3_whyNot 42 = .ok (.iconst 1, 1) := dk_4 (dk_at dksX3_whyNot_1 19 rfl rfl)
theorem dX3_whyNot_43 : decode cX3_whyNot 43 = .ok (.iand, 1) := dk_126 (dk_at dksX3_whyNot_1 20 rfl rfl)
theorem dX3_whyNot_44 : decode cX3_whyNot 44 = .ok (.iload_n 3, 1) := dk_29 (dk_at dksX3_whyNot_1 21 rfl rfl)
theorem dX3_whyNot_45 : decode cX3_whyNot 45 = .ok (.ifCond .eq 7, 3) := dk_153 0 7 (dk_at dksX3_whyNot_2 0 rfl rfl)
theorem dX3_whyNot_48 : decode cX3_whyNot 48 = .ok (.iconst 1, 1) := dk_4 (dk_at dksX3_whyNot_2 3 rfl rfl)
theorem dX3_whyNot_49 : decode cX3_whyNot 49 = .ok (.goto 4, 3) := dk_167 0 4 (dk_at dksX3_whyNot_2 4 rfl rfl)
theorem dX3_whyNot_52 : decode cX3_whyNot 52 = .ok (.iconst 0, 1) := dk_3 (dk_at dksX3_whyNot_2 7 rfl rfl)
theorem dX3_whyNot_53 : decode cX3_whyNot 53 = .ok (.if_icmp .ne 8, 3) := dk_160 0 8 (dk_at dksX3_whyNot_2 8 rfl rfl)
theorem dX3_whyNot_56 : decode cX3_whyNot 56 = .ok (.bipush 8, 2) := dk_16 8 (dk_at dksX3_whyNot_2 11 rfl rfl)
theorem dX3_whyNot_58 : decode cX3_whyNot 58 = .ok (.goto 4, 3) := dk_167 0 4 (dk_at dksX3_whyNot_2 13 rfl rfl)
theorem dX3_whyNot_61 : decode cX3_whyNot 61 = .ok (.iconst 0, 1) := dk_3 (dk_at dksX3_whyNot_2 16 rfl rfl)
theorem dX3_whyNot_62 : decode cX3_whyNot 62 = .ok (.ireturn, 1) := dk_172 (dk_at dksX3_whyNot_2 17 rfl rfl)
abbrev cX3_go : ByteArray := prog_18_method_34_code
def yX3_go : MethodName := ⟨RX3, "go", "(II)I"⟩
def dkwX3_go_1 : List UInt8 := [42, 182, 0, 111, 42, 27, 28, 182, 0, 127, 42, 27, 16, 7, 182, 0, 80, 172]
abbrev dktX3_go_1 : List UInt8 := dkwX3_go_1 ++ []
def dkwX3_go_0 : List UInt8 := [42, 3, 181, 0, 41, 42, 27, 28, 3, 182, 0, 124, 62, 29, 158, 0, 10, 42, 29, 3, 182, 0, 97, 172]
abbrev dktX3_go_0 : List UInt8 := dkwX3_go_0 ++ dktX3_go_1
theorem dksX3_go_0 : cX3_go.data.toList.drop 0 = dktX3_go_0 := by decide +kernel
theorem dksX3_go_1 : cX3_go.data.toList.drop 24 = dktX3_go_1 := dk_seg dksX3_go_0 24 rfl rfl
theorem dX3_go_0 : decode cX3_go 0 = .ok (.aload_n 0, 1) := dk_42 (dk_at dksX3_go_0 0 rfl rfl)
theorem dX3_go_1 : decode cX3_go 1 = .ok (.iconst 0, 1) := dk_3 (dk_at dksX3_go_0 1 rfl rfl)
theorem dX3_go_2 : decode cX3_go 2 = .ok (.putfield 41, 3) := dk_181 0 41 (dk_at dksX3_go_0 2 rfl rfl)
theorem dX3_go_5 : decode cX3_go 5 = .ok (.aload_n 0, 1) := dk_42 (dk_at dksX3_go_0 5 rfl rfl)
theorem dX3_go_6 : decode cX3_go 6 = .ok (.iload_n 1, 1) := dk_27 (dk_at dksX3_go_0 6 rfl rfl)
theorem dX3_go_7 : decode cX3_go 7 = .ok (.iload_n 2, 1) := dk_28 (dk_at dksX3_go_0 7 rfl rfl)
theorem dX3_go_8 : decode cX3_go 8 = .ok (.iconst 0, 1) := dk_3 (dk_at dksX3_go_0 8 rfl rfl)
theorem dX3_go_9 : decode cX3_go 9 = .ok (.invokevirtual 124, 3) := dk_182 0 124 (dk_at dksX3_go_0 9 rfl rfl)
theorem dX3_go_12 : decode cX3_go 12 = .ok (.istore_n 3, 1) := dk_62 (dk_at dksX3_go_0 12 rfl rfl)
theorem dX3_go_13 : decode cX3_go 13 = .ok (.iload_n 3, 1) := dk_29 (dk_at dksX3_go_0 13 rfl rfl)
theorem dX3_go_14 : decode cX3_go 14 = .ok (.ifCond .le 10, 3) := dk_158 0 10 (dk_at dksX3_go_0 14 rfl rfl)
theorem dX3_go_17 : decode cX3_go 17 = .ok (.aload_n 0, 1) := dk_42 (dk_at dksX3_go_0 17 rfl rfl)
theorem dX3_go_18 : decode cX3_go 18 = .ok (.iload_n 3, 1) := dk_29 (dk_at dksX3_go_0 18 rfl rfl)
theorem dX3_go_19 : decode cX3_go 19 = .ok (.iconst 0, 1) := dk_3 (dk_at dksX3_go_0 19 rfl rfl)
theorem dX3_go_20 : decode cX3_go 20 = .ok (.invokevirtual 97, 3) := dk_182 0 97 (dk_at dksX3_go_0 20 rfl rfl)
theorem dX3_go_23 : decode cX3_go 23 = .ok (.ireturn, 1) := dk_172 (dk_at dksX3_go_0 23 rfl rfl)
theorem dX3_go_24 : decode cX3_go 24 = .ok (.aload_n 0, 1) := dk_42 (dk_at dksX3_go_1 0 rfl rfl)
theorem dX3_go_25 : decode cX3_go 25 = .ok (.invokevirtual 111, 3) := dk_182 0 111 (dk_at dksX3_go_1 1 rfl rfl)
theorem dX3_go_28 : decode cX3_go 28 = .ok (.aload_n 0, 1) := dk_42 (dk_at dksX3_go_1 4 rfl rfl)
theorem dX3_go_29 : decode cX3_go 29 = .ok (.iload_n 1, 1) := dk_27 (dk_at dksX3_go_1 5 rfl rfl)
theorem dX3_go_30 : decode cX3_go 30 = .ok (.iload_n 2, 1) := dk_28 (dk_at dksX3_go_1 6 rfl rfl)
theorem dX3_go_31 : decode cX3_go 31 = .ok (.invokevirtual 127, 3) := dk_182 0 127 (dk_at dksX3_go_1 7 rfl rfl)
theorem dX3_go_34 : decode cX3_go 34 = .ok (.aload_n 0, 1) := dk_42 (dk_at dksX3_go_1 10 rfl rfl)
theorem dX3_go_35 : decode cX3_go 35 = .ok (.iload_n 1, 1) := dk_27 (dk_at dksX3_go_1 11 rfl rfl)
theorem dX3_go_36 : decode cX3_go 36 = .ok (.bipush 7, 2) := dk_16 7 (dk_at dksX3_go_1 12 rfl rfl)
theorem dX3_go_38 : decode cX3_go 38 = .ok (.invokevirtual 80, 3) := dk_182 0 80 (dk_at dksX3_go_1 14 rfl rfl)
theorem dX3_go_41 : decode cX3_go 41 = .ok (.ireturn, 1) := dk_172 (dk_at dksX3_go_1 17 rfl rfl)
abbrev cX3_ends : ByteArray := prog_18_method_33_code
def yX3_ends : MethodName := ⟨RX3, "ends", "(II)V"⟩
def dkwX3_ends_2 : List UInt8 := [182, 0, 90, 177]
abbrev dktX3_ends_2 : List UInt8 := dkwX3_ends_2 ++ []
def dkwX3_ends_1 : List UInt8 := [6, 184, 0, 76, 42, 27, 16, 7, 182, 0, 80, 154, 0, 7, 3, 167, 0, 4, 4, 79, 42, 7, 27, 28]
abbrev dktX3_ends_1 : List UInt8 := dkwX3_ends_1 ++ dktX3_ends_2
def dkwX3_ends_0 : List UInt8 := [42, 180, 0, 7, 27, 16, 7, 184, 0, 76, 92, 46, 4, 28, 120, 2, 130, 126, 79, 42, 180, 0, 7, 27]
abbrev dktX3_ends_0 : List UInt8 := dkwX3_ends_0 ++ dktX3_ends_1
theorem dksX3_ends_0 : cX3_ends.data.toList.drop 0 = dktX3_ends_0 := by decide +kernel
theorem dksX3_ends_1 : cX3_ends.data.toList.drop 24 = dktX3_ends_1 := dk_seg dksX3_ends_0 24 rfl rfl
theorem dksX3_ends_2 : cX3_ends.data.toList.drop 48 = dktX3_ends_2 := dk_seg dksX3_ends_1 24 rfl rfl
theorem dX3_ends_0 : decode cX3_ends 0 = .ok (.aload_n 0, 1) := dk_42 (dk_at dksX3_ends_0 0 rfl rfl)
theorem dX3_ends_1 : decode cX3_ends 1 = .ok (.getfield 7, 3) := dk_180 0 7 (dk_at dksX3_ends_0 1 rfl rfl)
theorem dX3_ends_4 : decode cX3_ends 4 = .ok (.iload_n 1, 1) := dk_27 (dk_at dksX3_ends_0 4 rfl rfl)
theorem dX3_ends_5 : decode cX3_ends 5 = .ok (.bipush 7, 2) := dk_16 7 (dk_at dksX3_ends_0 5 rfl rfl)
theorem dX3_ends_7 : decode cX3_ends 7 = .ok (.invokestatic 76, 3) := dk_184 0 76 (dk_at dksX3_ends_0 7 rfl rfl)
theorem dX3_ends_10 : decode cX3_ends 10 = .ok (.dup2, 1) := dk_92 (dk_at dksX3_ends_0 10 rfl rfl)
theorem dX3_ends_11 : decode cX3_ends 11 = .ok (.iaload, 1) := dk_46 (dk_at dksX3_ends_0 11 rfl rfl)
theorem dX3_ends_12 : decode cX3_ends 12 = .ok (.iconst 1, 1) := dk_4 (dk_at dksX3_ends_0 12 rfl rfl)
theorem dX3_ends_13 : decode cX3_ends 13 = .ok (.iload_n 2, 1) := dk_28 (dk_at dksX3_ends_0 13 rfl rfl)
theorem dX3_ends_14 : decode cX3_ends 14 = .ok (.ishl, 1) := dk_120 (dk_at dksX3_ends_0 14 rfl rfl)
theorem dX3_ends_15 : decode cX3_ends 15 = .ok (.iconst (-1), 1) := dk_2 (dk_at dksX3_ends_0 15 rfl rfl)
theorem dX3_ends_16 : decode cX3_ends 16 = .ok (.ixor, 1) := dk_130 (dk_at dksX3_ends_0 16 rfl rfl)
theorem dX3_ends_17 : decode cX3_ends 17 = .ok (.iand, 1) := dk_126 (dk_at dksX3_ends_0 17 rfl rfl)
theorem dX3_ends_18 : decode cX3_ends 18 = .ok (.iastore, 1) := dk_79 (dk_at dksX3_ends_0 18 rfl rfl)
theorem dX3_ends_19 : decode cX3_ends 19 = .ok (.aload_n 0, 1) := dk_42 (dk_at dksX3_ends_0 19 rfl rfl)
theorem dX3_ends_20 : decode cX3_ends 20 = .ok (.getfield 7, 3) := dk_180 0 7 (dk_at dksX3_ends_0 20 rfl rfl)
theorem dX3_ends_23 : decode cX3_ends 23 = .ok (.iload_n 1, 1) := dk_27 (dk_at dksX3_ends_0 23 rfl rfl)
theorem dX3_ends_24 : decode cX3_ends 24 = .ok (.iconst 3, 1) := dk_6 (dk_at dksX3_ends_1 0 rfl rfl)
theorem dX3_ends_25 : decode cX3_ends 25 = .ok (.invokestatic 76, 3) := dk_184 0 76 (dk_at dksX3_ends_1 1 rfl rfl)
theorem dX3_ends_28 : decode cX3_ends 28 = .ok (.aload_n 0, 1) := dk_42 (dk_at dksX3_ends_1 4 rfl rfl)
theorem dX3_ends_29 : decode cX3_ends 29 = .ok (.iload_n 1, 1) := dk_27 (dk_at dksX3_ends_1 5 rfl rfl)
theorem dX3_ends_30 : decode cX3_ends 30 = .ok (.bipush 7, 2) := dk_16 7 (dk_at dksX3_ends_1 6 rfl rfl)
theorem dX3_ends_32 : decode cX3_ends 32 = .ok (.invokevirtual 80, 3) := dk_182 0 80 (dk_at dksX3_ends_1 8 rfl rfl)
theorem dX3_ends_35 : decode cX3_ends 35 = .ok (.ifCond .ne 7, 3) := dk_154 0 7 (dk_at dksX3_ends_1 11 rfl rfl)
theorem dX3_ends_38 : decode cX3_ends 38 = .ok (.iconst 0, 1) := dk_3 (dk_at dksX3_ends_1 14 rfl rfl)
theorem dX3_ends_39 : decode cX3_ends 39 = .ok (.goto 4, 3) := dk_167 0 4 (dk_at dksX3_ends_1 15 rfl rfl)
theorem dX3_ends_42 : decode cX3_ends 42 = .ok (.iconst 1, 1) := dk_4 (dk_at dksX3_ends_1 18 rfl rfl)
theorem dX3_ends_43 : decode cX3_ends 43 = .ok (.iastore, 1) := dk_79 (dk_at dksX3_ends_1 19 rfl rfl)
theorem dX3_ends_44 : decode cX3_ends 44 = .ok (.aload_n 0, 1) := dk_42 (dk_at dksX3_ends_1 20 rfl rfl)
theorem dX3_ends_45 : decode cX3_ends 45 = .ok (.iconst 4, 1) := dk_7 (dk_at dksX3_ends_1 21 rfl rfl)
theorem dX3_ends_46 : decode cX3_ends 46 = .ok (.iload_n 1, 1) := dk_27 (dk_at dksX3_ends_1 22 rfl rfl)
theorem dX3_ends_47 : decode cX3_ends 47 = .ok (.iload_n 2, 1) := dk_28 (dk_at dksX3_ends_1 23 rfl rfl)
theorem dX3_ends_48 : decode cX3_ends 48 = .ok (.invokevirtual 90, 3) := dk_182 0 90 (dk_at dksX3_ends_2 0 rfl rfl)
theorem dX3_ends_51 : decode cX3_ends 51 = .ok (.return_, 1) := dk_177 (dk_at dksX3_ends_2 3 rfl rfl)
abbrev cX3_resolve : ByteArray := prog_18_method_37_code
def yX3_resolve : MethodName := ⟨RX3, "resolve", "(I)I"⟩
def dkwX3_resolve_4 : List UInt8 := [42, 27, 8, 182, 0, 80, 172]
abbrev dktX3_resolve_4 : List UInt8 := dkwX3_resolve_4 ++ []
def dkwX3_resolve_3 : List UInt8 := [184, 0, 76, 5, 79, 42, 180, 0, 7, 27, 16, 7, 184, 0, 76, 3, 79, 42, 8, 27, 3, 182, 0, 90]
abbrev dktX3_resolve_3 : List UInt8 := dkwX3_resolve_3 ++ dktX3_resolve_4
def dkwX3_resolve_2 : List UInt8 := [16, 9, 42, 27, 5, 182, 0, 133, 182, 0, 97, 172, 42, 182, 0, 111, 42, 180, 0, 7, 27, 6]
abbrev dktX3_resolve_2 : List UInt8 := dkwX3_resolve_2 ++ dktX3_resolve_3
def dkwX3_resolve_1 : List UInt8 := [182, 0, 100, 154, 0, 10, 42, 7, 3, 182, 0, 97, 172, 42, 27, 5, 182, 0, 133, 155, 0, 16, 42]
abbrev dktX3_resolve_1 : List UInt8 := dkwX3_resolve_1 ++ dktX3_resolve_2
def dkwX3_resolve_0 : List UInt8 := [42, 3, 181, 0, 41, 42, 27, 182, 0, 118, 154, 0, 10, 42, 4, 3, 182, 0, 97, 172, 42, 27]
abbrev dktX3_resolve_0 : List UInt8 := dkwX3_resolve_0 ++ dktX3_resolve_1
theorem dksX3_resolve_0 : cX3_resolve.data.toList.drop 0 = dktX3_resolve_0 := by decide +kernel
theorem dksX3_resolve_1 : cX3_resolve.data.toList.drop 22 = dktX3_resolve_1 := dk_seg dksX3_resolve_0 22 rfl rfl
theorem dksX3_resolve_2 : cX3_resolve.data.toList.drop 45 = dktX3_resolve_2 := dk_seg dksX3_resolve_1 23 rfl rfl
theorem dksX3_resolve_3 : cX3_resolve.data.toList.drop 67 = dktX3_resolve_3 := dk_seg dksX3_resolve_2 22 rfl rfl
theorem dksX3_resolve_4 : cX3_resolve.data.toList.drop 91 = dktX3_resolve_4 := dk_seg dksX3_resolve_3 24 rfl rfl
theorem dX3_resolve_0 : decode cX3_resolve 0 = .ok (.aload_n 0, 1) := dk_42 (dk_at dksX3_resolve_0 0 rfl rfl)
theorem dX3_resolve_1 : decode cX3_resolve 1 = .ok (.iconst 0, 1) := dk_3 (dk_at dksX3_resolve_0 1 rfl rfl)
theorem dX3_resolve_2 : decode cX3_resolve 2 = .ok (.putfield 41, 3) := dk_181 0 41 (dk_at dksX3_resolve_0 2 rfl rfl)
theorem dX3_resolve_5 : decode cX3_resolve 5 = .ok (.aload_n 0, 1) := dk_42 (dk_at dksX3_resolve_0 5 rfl rfl)
theorem dX3_resolve_6 : decode cX3_resolve 6 = .ok (.iload_n 1, 1) := dk_27 (dk_at dksX3_resolve_0 6 rfl rfl)
theorem dX3_resolve_7 : decode cX3_resolve 7 = .ok (.invokevirtual 118, 3) := dk_182 0 118 (dk_at dksX3_resolve_0 7 rfl rfl)
theorem dX3_resolve_10 : decode cX3_resolve 10 = .ok (.ifCond .ne 10, 3) := dk_154 0 10 (dk_at dksX3_resolve_0 10 rfl rfl)
theorem dX3_resolve_13 : decode cX3_resolve 13 = .ok (.aload_n 0, 1) := dk_42 (dk_at dksX3_resolve_0 13 rfl rfl)
theorem dX3_resolve_14 : decode cX3_resolve 14 = .ok (.iconst 1, 1) := dk_4 (dk_at dksX3_resolve_0 14 rfl rfl)
theorem dX3_resolve_15 : decode cX3_resolve 15 = .ok (.iconst 0, 1) := dk_3 (dk_at dksX3_resolve_0 15 rfl rfl)
theorem dX3_resolve_16 : decode cX3_resolve 16 = .ok (.invokevirtual 97, 3) := dk_182 0 97 (dk_at dksX3_resolve_0 16 rfl rfl)
theorem dX3_resolve_19 : decode cX3_resolve 19 = .ok (.ireturn, 1) := dk_172 (dk_at dksX3_resolve_0 19 rfl rfl)
theorem dX3_resolve_20 : decode cX3_resolve 20 = .ok (.aload_n 0, 1) := dk_42 (dk_at dksX3_resolve_0 20 rfl rfl)
theorem dX3_resolve_21 : decode cX3_resolve 21 = .ok (.iload_n 1, 1) := dk_27 (dk_at dksX3_resolve_0 21 rfl rfl)
theorem dX3_resolve_22 : decode cX3_resolve 22 = .ok (.invokevirtual 100, 3) := dk_182 0 100 (dk_at dksX3_resolve_1 0 rfl rfl)
theorem dX3_resolve_25 : decode cX3_resolve 25 = .ok (.ifCond .ne 10, 3) := dk_154 0 10 (dk_at dksX3_resolve_1 3 rfl rfl)
theorem dX3_resolve_28 : decode cX3_resolve 28 = .ok (.aload_n 0, 1) := dk_42 (dk_at dksX3_resolve_1 6 rfl rfl)
theorem dX3_resolve_29 : decode cX3_resolve 29 = .ok (.iconst 4, 1) := dk_7 (dk_at dksX3_resolve_1 7 rfl rfl)
theorem dX3_resolve_30 : decode cX3_resolve 30 = .ok (.iconst 0, 1) := dk_3 (dk_at dksX3_resolve_1 8 rfl rfl)
theorem dX3_resolve_31 : decode cX3_resolve 31 = .ok (.invokevirtual 97, 3) := dk_182 0 97 (dk_at dksX3_resolve_1 9 rfl rfl)
theorem dX3_resolve_34 : decode cX3_resolve 34 = .ok (.ireturn, 1) := dk_172 (dk_at dksX3_resolve_1 12 rfl rfl)
theorem dX3_resolve_35 : decode cX3_resolve 35 = .ok (.aload_n 0, 1) := dk_42 (dk_at dksX3_resolve_1 13 rfl rfl)
theorem dX3_resolve_36 : decode cX3_resolve 36 = .ok (.iload_n 1, 1) := dk_27 (dk_at dksX3_resolve_1 14 rfl rfl)
theorem dX3_resolve_37 : decode cX3_resolve 37 = .ok (.iconst 2, 1) := dk_5 (dk_at dksX3_resolve_1 15 rfl rfl)
theorem dX3_resolve_38 : decode cX3_resolve 38 = .ok (.invokevirtual 133, 3) := dk_182 0 133 (dk_at dksX3_resolve_1 16 rfl rfl)
theorem dX3_resolve_41 : decode cX3_resolve 41 = .ok (.ifCond .lt 16, 3) := dk_155 0 16 (dk_at dksX3_resolve_1 19 rfl rfl)
theorem dX3_resolve_44 : decode cX3_resolve 44 = .ok (.aload_n 0, 1) := dk_42 (dk_at dksX3_resolve_1 22 rfl rfl)
theorem dX3_resolve_45 : decode cX3_resolve 45 = .ok (.bipush 9, 2) := dk_16 9 (dk_at dksX3_resolve_2 0 rfl rfl)
theorem dX3_resolve_47 : decode cX3_resolve 47 = .ok (.aload_n 0, 1) := dk_42 (dk_at dksX3_resolve_2 2 rfl rfl)
theorem dX3_resolve_48 : decode cX3_resolve 48 = .ok (.iload_n 1, 1) := dk_27 (dk_at dksX3_resolve_2 3 rfl rfl)
theorem dX3_resolve_49 : decode cX3_resolve 49 = .ok (.iconst 2, 1) := dk_5 (dk_at dksX3_resolve_2 4 rfl rfl)
theorem dX3_resolve_50 : decode cX3_resolve 50 = .ok (.invokevirtual 133, 3) := dk_182 0 133 (dk_at dksX3_resolve_2 5 rfl rfl)
theorem dX3_resolve_53 : decode cX3_resolve 53 = .ok (.invokevirtual 97, 3) := dk_182 0 97 (dk_at dksX3_resolve_2 8 rfl rfl)
theorem dX3_resolve_56 : decode cX3_resolve 56 = .ok (.ireturn, 1) := dk_172 (dk_at dksX3_resolve_2 11 rfl rfl)
theorem dX3_resolve_57 : decode cX3_resolve 57 = .ok (.aload_n 0, 1) := dk_42 (dk_at dksX3_resolve_2 12 rfl rfl)
theorem dX3_resolve_58 : decode cX3_resolve 58 = .ok (.invokevirtual 111, 3) := dk_182 0 111 (dk_at dksX3_resolve_2 13 rfl rfl)
theorem dX3_resolve_61 : decode cX3_resolve 61 = .ok (.aload_n 0, 1) := dk_42 (dk_at dksX3_resolve_2 16 rfl rfl)
theorem dX3_resolve_62 : decode cX3_resolve 62 = .ok (.getfield 7, 3) := dk_180 0 7 (dk_at dksX3_resolve_2 17 rfl rfl)
theorem dX3_resolve_65 : decode cX3_resolve 65 = .ok (.iload_n 1, 1) := dk_27 (dk_at dksX3_resolve_2 20 rfl rfl)
theorem dX3_resolve_66 : decode cX3_resolve 66 = .ok (.iconst 3, 1) := dk_6 (dk_at dksX3_resolve_2 21 rfl rfl)
theorem dX3_resolve_67 : decode cX3_resolve 67 = .ok (.invokestatic 76, 3) := dk_184 0 76 (dk_at dksX3_resolve_3 0 rfl rfl)
theorem dX3_resolve_70 : decode cX3_resolve 70 = .ok (.iconst 2, 1) := dk_5 (dk_at dksX3_resolve_3 3 rfl rfl)
theorem dX3_resolve_71 : decode cX3_resolve 71 = .ok (.iastore, 1) := dk_79 (dk_at dksX3_resolve_3 4 rfl rfl)
theorem dX3_resolve_72 : decode cX3_resolve 72 = .ok (.aload_n 0, 1) := dk_42 (dk_at dksX3_resolve_3 5 rfl rfl)
theorem dX3_resolve_73 : decode cX3_resolve 73 = .ok (.getfield 7, 3) := dk_180 0 7 (dk_at dksX3_resolve_3 6 rfl rfl)
theorem dX3_resolve_76 : decode cX3_resolve 76 = .ok (.iload_n 1, 1) := dk_27 (dk_at dksX3_resolve_3 9 rfl rfl)
theorem dX3_resolve_77 : decode cX3_resolve 77 = .ok (.bipush 7, 2) := dk_16 7 (dk_at dksX3_resolve_3 10 rfl rfl)
theorem dX3_resolve_79 : decode cX3_resolve 79 = .ok (.invokestatic 76, 3) := dk_184 0 76 (dk_at dksX3_resolve_3 12 rfl rfl)
theorem dX3_resolve_82 : decode cX3_resolve 82 = .ok (.iconst 0, 1) := dk_3 (dk_at dksX3_resolve_3 15 rfl rfl)
theorem dX3_resolve_83 : decode cX3_resolve 83 = .ok (.iastore, 1) := dk_79 (dk_at dksX3_resolve_3 16 rfl rfl)
theorem dX3_resolve_84 : decode cX3_resolve 84 = .ok (.aload_n 0, 1) := dk_42 (dk_at dksX3_resolve_3 17 rfl rfl)
theorem dX3_resolve_85 : decode cX3_resolve 85 = .ok (.iconst 5, 1) := dk_8 (dk_at dksX3_resolve_3 18 rfl rfl)
theorem dX3_resolve_86 : decode cX3_resolve 86 = .ok (.iload_n 1, 1) := dk_27 (dk_at dksX3_resolve_3 19 rfl rfl)
theorem dX3_resolve_87 : decode cX3_resolve 87 = .ok (.iconst 0, 1) := dk_3 (dk_at dksX3_resolve_3 20 rfl rfl)
theorem dX3_resolve_88 : decode cX3_resolve 88 = .ok (.invokevirtual 90, 3) := dk_182 0 90 (dk_at dksX3_resolve_3 21 rfl rfl)
theorem dX3_resolve_91 : decode cX3_resolve 91 = .ok (.aload_n 0, 1) := dk_42 (dk_at dksX3_resolve_4 0 rfl rfl)
theorem dX3_resolve_92 : decode cX3_resolve 92 = .ok (.iload_n 1, 1) := dk_27 (dk_at dksX3_resolve_4 1 rfl rfl)
theorem dX3_resolve_93 : decode cX3_resolve 93 = .ok (.iconst 5, 1) := dk_8 (dk_at dksX3_resolve_4 2 rfl rfl)
theorem dX3_resolve_94 : decode cX3_resolve 94 = .ok (.invokevirtual 80, 3) := dk_182 0 80 (dk_at dksX3_resolve_4 3 rfl rfl)
theorem dX3_resolve_97 : decode cX3_resolve 97 = .ok (.ireturn, 1) := dk_172 (dk_at dksX3_resolve_4 6 rfl rfl)
abbrev cX3_below : ByteArray := prog_18_method_36_code
def yX3_below : MethodName := ⟨RX3, "below", "(II)I"⟩
def dkwX3_below_2 : List UInt8 := [21, 4, 172, 132, 4, 1, 167, 255, 217, 2, 172]
abbrev dktX3_below_2 : List UInt8 := dkwX3_below_2 ++ []
def dkwX3_below_1 : List UInt8 := [162, 0, 33, 29, 21, 4, 122, 4, 126, 4, 160, 0, 17, 42, 21, 4, 6, 182, 0, 80, 28, 162, 0, 6]
abbrev dktX3_below_1 : List UInt8 := dkwX3_below_1 ++ dktX3_below_2
def dkwX3_below_0 : List UInt8 := [42, 27, 182, 0, 130, 4, 27, 120, 2, 130, 126, 62, 3, 54, 4, 21, 4, 42, 180, 0, 7, 16, 11, 46]
abbrev dktX3_below_0 : List UInt8 := dkwX3_below_0 ++ dktX3_below_1
theorem dksX3_below_0 : cX3_below.data.toList.drop 0 = dktX3_below_0 := by decide +kernel
theorem dksX3_below_1 : cX3_below.data.toList.drop 24 = dktX3_below_1 := dk_seg dksX3_below_0 24 rfl rfl
theorem dksX3_below_2 : cX3_below.data.toList.drop 48 = dktX3_below_2 := dk_seg dksX3_below_1 24 rfl rfl
theorem dX3_below_0 : decode cX3_below 0 = .ok (.aload_n 0, 1) := dk_42 (dk_at dksX3_below_0 0 rfl rfl)
theorem dX3_below_1 : decode cX3_below 1 = .ok (.iload_n 1, 1) := dk_27 (dk_at dksX3_below_0 1 rfl rfl)
theorem dX3_below_2 : decode cX3_below 2 = .ok (.invokevirtual 130, 3) := dk_182 0 130 (dk_at dksX3_below_0 2 rfl rfl)
theorem dX3_below_5 : decode cX3_below 5 = .ok (.iconst 1, 1) := dk_4 (dk_at dksX3_below_0 5 rfl rfl)
theorem dX3_below_6 : decode cX3_below 6 = .ok (.iload_n 1, 1) := dk_27 (dk_at dksX3_below_0 6 rfl rfl)
theorem dX3_below_7 : decode cX3_below 7 = .ok (.ishl, 1) := dk_120 (dk_at dksX3_below_0 7 rfl rfl)
theorem dX3_below_8 : decode cX3_below 8 = .ok (.iconst (-1), 1) := dk_2 (dk_at dksX3_below_0 8 rfl rfl)
theorem dX3_below_9 : decode cX3_below 9 = .ok (.ixor, 1) := dk_130 (dk_at dksX3_below_0 9 rfl rfl)
theorem dX3_below_10 : decode cX3_below 10 = .ok (.iand, 1) := dk_126 (dk_at dksX3_below_0 10 rfl rfl)
theorem dX3_below_11 : decode cX3_below 11 = .ok (.istore_n 3, 1) := dk_62 (dk_at dksX3_below_0 11 rfl rfl)
theorem dX3_below_12 : decode cX3_below 12 = .ok (.iconst 0, 1) := dk_3 (dk_at dksX3_below_0 12 rfl rfl)
theorem dX3_below_13 : decode cX3_below 13 = .ok (.istore 4, 2) := dk_54 4 (dk_at dksX3_below_0 13 rfl rfl)
theorem dX3_below_15 : decode cX3_below 15 = .ok (.iload 4, 2) := dk_21 4 (dk_at dksX3_below_0 15 rfl rfl)
theorem dX3_below_17 : decode cX3_below 17 = .ok (.aload_n 0, 1) := dk_42 (dk_at dksX3_below_0 17 rfl rfl)
theorem dX3_below_18 : decode cX3_below 18 = .ok (.getfield 7, 3) := dk_180 0 7 (dk_at dksX3_below_0 18 rfl rfl)
theorem dX3_below_21 : decode cX3_below 21 = .ok (.bipush 11, 2) := dk_16 11 (dk_at dksX3_below_0 21 rfl rfl)
theorem dX3_below_23 : decode cX3_below 23 = .ok (.iaload, 1) := dk_46 (dk_at dksX3_below_0 23 rfl rfl)
theorem dX3_below_24 : decode cX3_below 24 = .ok (.if_icmp .ge 33, 3) := dk_162 0 33 (dk_at dksX3_below_1 0 rfl rfl)
theorem dX3_below_27 : decode cX3_below 27 = .ok (.iload_n 3, 1) := dk_29 (dk_at dksX3_below_1 3 rfl rfl)
theorem dX3_below_28 : decode cX3_below 28 = .ok (.iload 4, 2) := dk_21 4 (dk_at dksX3_below_1 4 rfl rfl)
theorem dX3_below_30 : decode cX3_below 30 = .ok (.ishr, 1) := dk_122 (dk_at dksX3_below_1 6 rfl rfl)
theorem dX3_below_31 : decode cX3_below 31 = .ok (.iconst 1, 1) := dk_4 (dk_at dksX3_below_1 7 rfl rfl)
theorem dX3_below_32 : decode cX3_below 32 = .ok (.iand, 1) := dk_126 (dk_at dksX3_below_1 8 rfl rfl)
theorem dX3_below_33 : decode cX3_below 33 = .ok (.iconst 1, 1) := dk_4 (dk_at dksX3_below_1 9 rfl rfl)
theorem dX3_below_34 : decode cX3_below 34 = .ok (.if_icmp .ne 17, 3) := dk_160 0 17 (dk_at dksX3_below_1 10 rfl rfl)
theorem dX3_below_37 : decode cX3_below 37 = .ok (.aload_n 0, 1) := dk_42 (dk_at dksX3_below_1 13 rfl rfl)
theorem dX3_below_38 : decode cX3_below 38 = .ok (.iload 4, 2) := dk_21 4 (dk_at dksX3_below_1 14 rfl rfl)
theorem dX3_below_40 : decode cX3_below 40 = .ok (.iconst 3, 1) := dk_6 (dk_at dksX3_below_1 16 rfl rfl)
theorem dX3_below_41 : decode cX3_below 41 = .ok (.invokevirtual 80, 3) := dk_182 0 80 (dk_at dksX3_below_1 17 rfl rfl)
theorem dX3_below_44 : decode cX3_below 44 = .ok (.iload_n 2, 1) := dk_28 (dk_at dksX3_below_1 20 rfl rfl)
theorem dX3_below_45 : decode cX3_below 45 = .ok (.if_icmp .ge 6, 3) := dk_162 0 6 (dk_at dksX3_below_1 21 rfl rfl)
theorem dX3_below_48 : decode cX3_below 48 = .ok (.iload 4, 2) := dk_21 4 (dk_at dksX3_below_2 0 rfl rfl)
theorem dX3_below_50 : decode cX3_below 50 = .ok (.ireturn, 1) := dk_172 (dk_at dksX3_below_2 2 rfl rfl)
theorem dX3_below_51 : decode cX3_below 51 = .ok (.iinc 4 1, 3) := dk_132 4 1 (dk_at dksX3_below_2 3 rfl rfl)
theorem dX3_below_54 : decode cX3_below 54 = .ok (.goto (-39), 3) := dk_167 255 217 (dk_at dksX3_below_2 6 rfl rfl)
theorem dX3_below_57 : decode cX3_below 57 = .ok (.iconst (-1), 1) := dk_2 (dk_at dksX3_below_2 9 rfl rfl)
theorem dX3_below_58 : decode cX3_below 58 = .ok (.ireturn, 1) := dk_172 (dk_at dksX3_below_2 10 rfl rfl)
abbrev cX3_treeOf : ByteArray := prog_18_method_35_code
def yX3_treeOf : MethodName := ⟨RX3, "treeOf", "(I)I"⟩
def dkwX3_treeOf_2 : List UInt8 := [167, 0, 4, 3, 128, 61, 132, 3, 1, 167, 255, 207, 28, 172]
abbrev dktX3_treeOf_2 : List UInt8 := dkwX3_treeOf_2 ++ []
def dkwX3_treeOf_1 : List UInt8 := [182, 0, 80, 155, 0, 24, 28, 42, 29, 16, 8, 182, 0, 80, 122, 4, 126, 4, 160, 0, 9, 4, 29, 120]
abbrev dktX3_treeOf_1 : List UInt8 := dkwX3_treeOf_1 ++ dktX3_treeOf_2
def dkwX3_treeOf_0 : List UInt8 := [4, 27, 120, 61, 27, 4, 96, 62, 29, 42, 180, 0, 7, 16, 11, 46, 162, 0, 44, 28, 42, 29, 16, 8]
abbrev dktX3_treeOf_0 : List UInt8 := dkwX3_treeOf_0 ++ dktX3_treeOf_1
theorem dksX3_treeOf_0 : cX3_treeOf.data.toList.drop 0 = dktX3_treeOf_0 := by decide +kernel
theorem dksX3_treeOf_1 : cX3_treeOf.data.toList.drop 24 = dktX3_treeOf_1 := dk_seg dksX3_treeOf_0 24 rfl rfl
theorem dksX3_treeOf_2 : cX3_treeOf.data.toList.drop 48 = dktX3_treeOf_2 := dk_seg dksX3_treeOf_1 24 rfl rfl
theorem dX3_treeOf_0 : decode cX3_treeOf 0 = .ok (.iconst 1, 1) := dk_4 (dk_at dksX3_treeOf_0 0 rfl rfl)
theorem dX3_treeOf_1 : decode cX3_treeOf 1 = .ok (.iload_n 1, 1) := dk_27 (dk_at dksX3_treeOf_0 1 rfl rfl)
theorem dX3_treeOf_2 : decode cX3_treeOf 2 = .ok (.ishl, 1) := dk_120 (dk_at dksX3_treeOf_0 2 rfl rfl)
theorem dX3_treeOf_3 : decode cX3_treeOf 3 = .ok (.istore_n 2, 1) := dk_61 (dk_at dksX3_treeOf_0 3 rfl rfl)
theorem dX3_treeOf_4 : decode cX3_treeOf 4 = .ok (.iload_n 1, 1) := dk_27 (dk_at dksX3_treeOf_0 4 rfl rfl)
theorem dX3_treeOf_5 : decode cX3_treeOf 5 = .ok (.iconst 1, 1) := dk_4 (dk_at dksX3_treeOf_0 5 rfl rfl)
theorem dX3_treeOf_6 : decode cX3_treeOf 6 = .ok (.iadd, 1) := dk_96 (dk_at dksX3_treeOf_0 6 rfl rfl)
theorem dX3_treeOf_7 : decode cX3_treeOf 7 = .ok (.istore_n 3, 1) := dk_62 (dk_at dksX3_treeOf_0 7 rfl rfl)
theorem dX3_treeOf_8 : decode cX3_treeOf 8 = .ok (.iload_n 3, 1) := dk_29 (dk_at dksX3_treeOf_0 8 rfl rfl)
theorem dX3_treeOf_9 : decode cX3_treeOf 9 = .ok (.aload_n 0, 1) := dk_42 (dk_at dksX3_treeOf_0 9 rfl rfl)
theorem dX3_treeOf_10 : decode cX3_treeOf 10 = .ok (.getfield 7, 3) := dk_180 0 7 (dk_at dksX3_treeOf_0 10 rfl rfl)
theorem dX3_treeOf_13 : decode cX3_treeOf 13 = .ok (.bipush 11, 2) := dk_16 11 (dk_at dksX3_treeOf_0 13 rfl rfl)
theorem dX3_treeOf_15 : decode cX3_treeOf 15 = .ok (.iaload, 1) := dk_46 (dk_at dksX3_treeOf_0 15 rfl rfl)
theorem dX3_treeOf_16 : decode cX3_treeOf 16 = .ok (.if_icmp .ge 44, 3) := dk_162 0 44 (dk_at dksX3_treeOf_0 16 rfl rfl)
theorem dX3_treeOf_19 : decode cX3_treeOf 19 = .ok (.iload_n 2, 1) := dk_28 (dk_at dksX3_treeOf_0 19 rfl rfl)
theorem dX3_treeOf_20 : decode cX3_treeOf 20 = .ok (.aload_n 0, 1) := dk_42 (dk_at dksX3_treeOf_0 20 rfl rfl)
theorem dX3_treeOf_21 : decode cX3_treeOf 21 = .ok (.iload_n 3, 1) := dk_29 (dk_at dksX3_treeOf_0 21 rfl rfl)
theorem dX3_treeOf_22 : decode cX3_treeOf 22 = .ok (.bipush 8, 2) := dk_16 8 (dk_at dksX3_treeOf_0 22 rfl rfl)
theorem dX3_treeOf_24 : decode cX3_treeOf 24 = .ok (.invokevirtual 80, 3) := dk_182 0 80 (dk_at dksX3_treeOf_1 0 rfl rfl)
theorem dX3_treeOf_27 : decode cX3_treeOf 27 = .ok (.ifCond .lt 24, 3) := dk_155 0 24 (dk_at dksX3_treeOf_1 3 rfl rfl)
theorem dX3_treeOf_30 : decode cX3_treeOf 30 = .ok (.iload_n 2, 1) := dk_28 (dk_at dksX3_treeOf_1 6 rfl rfl)
theorem dX3_treeOf_31 : decode cX3_treeOf 31 = .ok (.aload_n 0, 1) := dk_42 (dk_at dksX3_treeOf_1 7 rfl rfl)
theorem dX3_treeOf_32 : decode cX3_treeOf 32 = .ok (.iload_n 3, 1) := dk_29 (dk_at dksX3_treeOf_1 8 rfl rfl)
theorem dX3_treeOf_33 : decode cX3_treeOf 33 = .ok (.bipush 8, 2) := dk_16 8 (dk_at dksX3_treeOf_1 9 rfl rfl)
theorem dX3_treeOf_35 : decode cX3_treeOf 35 = .ok (.invokevirtual 80, 3) := dk_182 0 80 (dk_at dksX3_treeOf_1 11 rfl rfl)
theorem dX3_treeOf_38 : decode cX3_treeOf 38 = .ok (.ishr, 1) := dk_122 (dk_at dksX3_treeOf_1 14 rfl rfl)
theorem dX3_treeOf_39 : decode cX3_treeOf 39 = .ok (.iconst 1, 1) := dk_4 (dk_at dksX3_treeOf_1 15 rfl rfl)
theorem dX3_treeOf_40 : decode cX3_treeOf 40 = .ok (.iand, 1) := dk_126 (dk_at dksX3_treeOf_1 16 rfl rfl)
theorem dX3_treeOf_41 : decode cX3_treeOf 41 = .ok (.iconst 1, 1) := dk_4 (dk_at dksX3_treeOf_1 17 rfl rfl)
theorem dX3_treeOf_42 : decode cX3_treeOf 42 = .ok (.if_icmp .ne 9, 3) := dk_160 0 9 (dk_at dksX3_treeOf_1 18 rfl rfl)
theorem dX3_treeOf_45 : decode cX3_treeOf 45 = .ok (.iconst 1, 1) := dk_4 (dk_at dksX3_treeOf_1 21 rfl rfl)
theorem dX3_treeOf_46 : decode cX3_treeOf 46 = .ok (.iload_n 3, 1) := dk_29 (dk_at dksX3_treeOf_1 22 rfl rfl)
theorem dX3_treeOf_47 : decode cX3_treeOf 47 = .ok (.ishl, 1) := dk_120 (dk_at dksX3_treeOf_1 23 rfl rfl)
theorem dX3_treeOf_48 : decode cX3_treeOf 48 = .ok (.goto 4, 3) := dk_167 0 4 (dk_at dksX3_treeOf_2 0 rfl rfl)
theorem dX3_treeOf_51 : decode cX3_treeOf 51 = .ok (.iconst 0, 1) := dk_3 (dk_at dksX3_treeOf_2 3 rfl rfl)
theorem dX3_treeOf_52 : decode cX3_treeOf 52 = .ok (.ior, 1) := dk_128 (dk_at dksX3_treeOf_2 4 rfl rfl)
theorem dX3_treeOf_53 : decode cX3_treeOf 53 = .ok (.istore_n 2, 1) := dk_61 (dk_at dksX3_treeOf_2 5 rfl rfl)
theorem dX3_treeOf_54 : decode cX3_treeOf 54 = .ok (.iinc 3 1, 3) := dk_132 3 1 (dk_at dksX3_treeOf_2 6 rfl rfl)
theorem dX3_treeOf_57 : decode cX3_treeOf 57 = .ok (.goto (-49), 3) := dk_167 255 207 (dk_at dksX3_treeOf_2 9 rfl rfl)
theorem dX3_treeOf_60 : decode cX3_treeOf 60 = .ok (.iload_n 2, 1) := dk_28 (dk_at dksX3_treeOf_2 12 rfl rfl)
theorem dX3_treeOf_61 : decode cX3_treeOf 61 = .ok (.ireturn, 1) := dk_172 (dk_at dksX3_treeOf_2 13 rfl rfl)
abbrev cX3_reopen : ByteArray := prog_18_method_38_code
def yX3_reopen : MethodName := ⟨RX3, "reopen", "(I)I"⟩
def dkwX3_reopen_7 : List UInt8 := [132, 4, 1, 167, 255, 213, 29, 172]
abbrev dktX3_reopen_7 : List UInt8 := dkwX3_reopen_7 ++ []
def dkwX3_reopen_6 : List UInt8 := [42, 180, 0, 7, 21, 4, 6, 184, 0, 76, 3, 79, 42, 16, 6, 21, 4, 3, 182, 0, 90, 132, 3, 1]
abbrev dktX3_reopen_6 : List UInt8 := dkwX3_reopen_6 ++ dktX3_reopen_7
def dkwX3_reopen_5 : List UInt8 := [182, 0, 111, 3, 62, 3, 54, 4, 21, 4, 27, 163, 0, 43, 28, 21, 4, 122, 4, 126, 4, 160, 0, 27]
abbrev dktX3_reopen_5 : List UInt8 := dkwX3_reopen_5 ++ dktX3_reopen_6
def dkwX3_reopen_4 : List UInt8 := [29, 16, 10, 182, 0, 80, 155, 0, 11, 42, 16, 11, 29, 182, 0, 97, 172, 132, 3, 1, 167, 255, 221, 42]
abbrev dktX3_reopen_4 : List UInt8 := dkwX3_reopen_4 ++ dktX3_reopen_5
def dkwX3_reopen_3 : List UInt8 := [182, 0, 80, 62, 167, 255, 224, 3, 62, 29, 27, 163, 0, 36, 28, 29, 122, 4, 126, 4, 160, 0, 21, 42]
abbrev dktX3_reopen_3 : List UInt8 := dkwX3_reopen_3 ++ dktX3_reopen_4
def dkwX3_reopen_2 : List UInt8 := [29, 6, 182, 0, 80, 5, 160, 0, 9, 4, 29, 120, 167, 0, 4, 3, 128, 61, 42, 29, 16, 8]
abbrev dktX3_reopen_2 : List UInt8 := dkwX3_reopen_2 ++ dktX3_reopen_3
def dkwX3_reopen_1 : List UInt8 := [182, 0, 80, 5, 159, 0, 10, 42, 7, 3, 182, 0, 97, 172, 3, 61, 27, 62, 29, 155, 0, 34, 28, 42]
abbrev dktX3_reopen_1 : List UInt8 := dkwX3_reopen_1 ++ dktX3_reopen_2
def dkwX3_reopen_0 : List UInt8 := [42, 3, 181, 0, 41, 42, 27, 182, 0, 118, 154, 0, 10, 42, 4, 3, 182, 0, 97, 172, 42, 27, 6]
abbrev dktX3_reopen_0 : List UInt8 := dkwX3_reopen_0 ++ dktX3_reopen_1
theorem dksX3_reopen_0 : cX3_reopen.data.toList.drop 0 = dktX3_reopen_0 := by decide +kernel
theorem dksX3_reopen_1 : cX3_reopen.data.toList.drop 23 = dktX3_reopen_1 := dk_seg dksX3_reopen_0 23 rfl rfl
theorem dksX3_reopen_2 : cX3_reopen.data.toList.drop 47 = dktX3_reopen_2 := dk_seg dksX3_reopen_1 24 rfl rfl
theorem dksX3_reopen_3 : cX3_reopen.data.toList.drop 69 = dktX3_reopen_3 := dk_seg dksX3_reopen_2 22 rfl rfl
theorem dksX3_reopen_4 : cX3_reopen.data.toList.drop 93 = dktX3_reopen_4 := dk_seg dksX3_reopen_3 24 rfl rfl
theorem dksX3_reopen_5 : cX3_reopen.data.toList.drop 117 = dktX3_reopen_5 := dk_seg dksX3_reopen_4 24 rfl rfl
theorem dksX3_reopen_6 : cX3_reopen.data.toList.drop 141 = dktX3_reopen_6 := dk_seg dksX3_reopen_5 24 rfl rfl
theorem dksX3_reopen_7 : cX3_reopen.data.toList.drop 165 = dktX3_reopen_7 := dk_seg dksX3_reopen_6 24 rfl rfl
theorem dX3_reopen_0 : decode cX3_reopen 0 = .ok (.aload_n 0, 1) := dk_42 (dk_at dksX3_reopen_0 0 rfl rfl)
theorem dX3_reopen_1 : decode cX3_reopen 1 = .ok (.iconst 0, 1) := dk_3 (dk_at dksX3_reopen_0 1 rfl rfl)
theorem dX3_reopen_2 : decode cX3_reopen 2 = .ok (.putfield 41, 3) := dk_181 0 41 (dk_at dksX3_reopen_0 2 rfl rfl)
theorem dX3_reopen_5 : decode cX3_reopen 5 = .ok (.aload_n 0, 1) := dk_42 (dk_at dksX3_reopen_0 5 rfl rfl)
theorem dX3_reopen_6 : decode cX3_reopen 6 = .ok (.iload_n 1, 1) := dk_27 (dk_at dksX3_reopen_0 6 rfl rfl)
theorem dX3_reopen_7 : decode cX3_reopen 7 = .ok (.invokevirtual 118, 3) := dk_182 0 118 (dk_at dksX3_reopen_0 7 rfl rfl)
theorem dX3_reopen_10 : decode cX3_reopen 10 = .ok (.ifCond .ne 10, 3) := dk_154 0 10 (dk_at dksX3_reopen_0 10 rfl rfl)
theorem dX3_reopen_13 : decode cX3_reopen 13 = .ok (.aload_n 0, 1) := dk_42 (dk_at dksX3_reopen_0 13 rfl rfl)
theorem dX3_reopen_14 : decode cX3_reopen 14 = .ok (.iconst 1, 1) := dk_4 (dk_at dksX3_reopen_0 14 rfl rfl)
theorem dX3_reopen_15 : decode cX3_reopen 15 = .ok (.iconst 0, 1) := dk_3 (dk_at dksX3_reopen_0 15 rfl rfl)
theorem dX3_reopen_16 : decode cX3_reopen 16 = .ok (.invokevirtual 97, 3) := dk_182 0 97 (dk_at dksX3_reopen_0 16 rfl rfl)
theorem dX3_reopen_19 : decode cX3_reopen 19 = .ok (.ireturn, 1) := dk_172 (dk_at dksX3_reopen_0 19 rfl rfl)
theorem dX3_reopen_20 : decode cX3_reopen 20 = .ok (.aload_n 0, 1) := dk_42 (dk_at dksX3_reopen_0 20 rfl rfl)
theorem dX3_reopen_21 : decode cX3_reopen 21 = .ok (.iload_n 1, 1) := dk_27 (dk_at dksX3_reopen_0 21 rfl rfl)
theorem dX3_reopen_22 : decode cX3_reopen 22 = .ok (.iconst 3, 1) := dk_6 (dk_at dksX3_reopen_0 22 rfl rfl)
theorem dX3_reopen_23 : decode cX3_reopen 23 = .ok (.invokevirtual 80, 3) := dk_182 0 80 (dk_at dksX3_reopen_1 0 rfl rfl)
theorem dX3_reopen_26 : decode cX3_reopen 26 = .ok (.iconst 2, 1) := dk_5 (dk_at dksX3_reopen_1 3 rfl rfl)
theorem dX3_reopen_27 : decode cX3_reopen 27 = .ok (.if_icmp .eq 10, 3) := dk_159 0 10 (dk_at dksX3_reopen_1 4 rfl rfl)
theorem dX3_reopen_30 : decode cX3_reopen 30 = .ok (.aload_n 0, 1) := dk_42 (dk_at dksX3_reopen_1 7 rfl rfl)
theorem dX3_reopen_31 : decode cX3_reopen 31 = .ok (.iconst 4, 1) := dk_7 (dk_at dksX3_reopen_1 8 rfl rfl)
theorem dX3_reopen_32 : decode cX3_reopen 32 = .ok (.iconst 0, 1) := dk_3 (dk_at dksX3_reopen_1 9 rfl rfl)
theorem dX3_reopen_33 : decode cX3_reopen 33 = .ok (.invokevirtual 97, 3) := dk_182 0 97 (dk_at dksX3_reopen_1 10 rfl rfl)
theorem dX3_reopen_36 : decode cX3_reopen 36 = .ok (.ireturn, 1) := dk_172 (dk_at dksX3_reopen_1 13 rfl rfl)
theorem dX3_reopen_37 : decode cX3_reopen 37 = .ok (.iconst 0, 1) := dk_3 (dk_at dksX3_reopen_1 14 rfl rfl)
theorem dX3_reopen_38 : decode cX3_reopen 38 = .ok (.istore_n 2, 1) := dk_61 (dk_at dksX3_reopen_1 15 rfl rfl)
theorem dX3_reopen_39 : decode cX3_reopen 39 = .ok (.iload_n 1, 1) := dk_27 (dk_at dksX3_reopen_1 16 rfl rfl)
theorem dX3_reopen_40 : decode cX3_reopen 40 = .ok (.istore_n 3, 1) := dk_62 (dk_at dksX3_reopen_1 17 rfl rfl)
theorem dX3_reopen_41 : decode cX3_reopen 41 = .ok (.iload_n 3, 1) := dk_29 (dk_at dksX3_reopen_1 18 rfl rfl)
theorem dX3_reopen_42 : decode cX3_reopen 42 = .ok (.ifCond .lt 34, 3) := dk_155 0 34 (dk_at dksX3_reopen_1 19 rfl rfl)
theorem dX3_reopen_45 : decode cX3_reopen 45 = .ok (.iload_n 2, 1) := dk_28 (dk_at dksX3_reopen_1 22 rfl rfl)
theorem dX3_reopen_46 : decode cX3_reopen 46 = .ok (.aload_n 0, 1) := dk_42 (dk_at dksX3_reopen_1 23 rfl rfl)
theorem dX3_reopen_47 : decode cX3_reopen 47 = .ok (.iload_n 3, 1) := dk_29 (dk_at dksX3_reopen_2 0 rfl rfl)
theorem dX3_reopen_48 : decode cX3_reopen 48 = .ok (.iconst 3, 1) := dk_6 (dk_at dksX3_reopen_2 1 rfl rfl)
theorem dX3_reopen_49 : decode cX3_reopen 49 = .ok (.invokevirtual 80, 3) := dk_182 0 80 (dk_at dksX3_reopen_2 2 rfl rfl)
theorem dX3_reopen_52 : decode cX3_reopen 52 = .ok (.iconst 2, 1) := dk_5 (dk_at dksX3_reopen_2 5 rfl rfl)
theorem dX3_reopen_53 : decode cX3_reopen 53 = .ok (.if_icmp .ne 9, 3) := dk_160 0 9 (dk_at dksX3_reopen_2 6 rfl rfl)
theorem dX3_reopen_56 : decode cX3_reopen 56 = .ok (.iconst 1, 1) := dk_4 (dk_at dksX3_reopen_2 9 rfl rfl)
theorem dX3_reopen_57 : decode cX3_reopen 57 = .ok (.iload_n 3, 1) := dk_29 (dk_at dksX3_reopen_2 10 rfl rfl)
theorem dX3_reopen_58 : decode cX3_reopen 58 = .ok (.ishl, 1) := dk_120 (dk_at dksX3_reopen_2 11 rfl rfl)
theorem dX3_reopen_59 : decode cX3_reopen 59 = .ok (.goto 4, 3) := dk_167 0 4 (dk_at dksX3_reopen_2 12 rfl rfl)
theorem dX3_reopen_62 : decode cX3_reopen 62 = .ok (.iconst 0, 1) := dk_3 (dk_at dksX3_reopen_2 15 rfl rfl)
theorem dX3_reopen_63 : decode cX3_reopen 63 = .ok (.ior, 1) := dk_128 (dk_at dksX3_reopen_2 16 rfl rfl)
theorem dX3_reopen_64 : decode cX3_reopen 64 = .ok (.istore_n 2, 1) := dk_61 (dk_at dksX3_reopen_2 17 rfl rfl)
theorem dX3_reopen_65 : decode cX3_reopen 65 = .ok (.aload_n 0, 1) := dk_42 (dk_at dksX3_reopen_2 18 rfl rfl)
theorem dX3_reopen_66 : decode cX3_reopen 66 = .ok (.iload_n 3, 1) := dk_29 (dk_at dksX3_reopen_2 19 rfl rfl)
theorem dX3_reopen_67 : decode cX3_reopen 67 = .ok (.bipush 8, 2) := dk_16 8 (dk_at dksX3_reopen_2 20 rfl rfl)
theorem dX3_reopen_69 : decode cX3_reopen 69 = .ok (.invokevirtual 80, 3) := dk_182 0 80 (dk_at dksX3_reopen_3 0 rfl rfl)
theorem dX3_reopen_72 : decode cX3_reopen 72 = .ok (.istore_n 3, 1) := dk_62 (dk_at dksX3_reopen_3 3 rfl rfl)
theorem dX3_reopen_73 : decode cX3_reopen 73 = .ok (.goto (-32), 3) := dk_167 255 224 (dk_at dksX3_reopen_3 4 rfl rfl)
theorem dX3_reopen_76 : decode cX3_reopen 76 = .ok (.iconst 0, 1) := dk_3 (dk_at dksX3_reopen_3 7 rfl rfl)
theorem dX3_reopen_77 : decode cX3_reopen 77 = .ok (.istore_n 3, 1) := dk_62 (dk_at dksX3_reopen_3 8 rfl rfl)
theorem dX3_reopen_78 : decode cX3_reopen 78 = .ok (.iload_n 3, 1) := dk_29 (dk_at dksX3_reopen_3 9 rfl rfl)
theorem dX3_reopen_79 : decode cX3_reopen 79 = .ok (.iload_n 1, 1) := dk_27 (dk_at dksX3_reopen_3 10 rfl rfl)
theorem dX3_reopen_80 : decode cX3_reopen 80 = .ok (.if_icmp .gt 36, 3) := dk_163 0 36 (dk_at dksX3_reopen_3 11 rfl rfl)
theorem dX3_reopen_83 : decode cX3_reopen 83 = .ok (.iload_n 2, 1) := dk_28 (dk_at dksX3_reopen_3 14 rfl rfl)
theorem dX3_reopen_84 : decode cX3_reopen 84 = .ok (.iload_n 3, 1) := dk_29 (dk_at dksX3_reopen_3 15 rfl rfl)
theorem dX3_reopen_85 : decode cX3_reopen 85 = .ok (.ishr, 1) := dk_122 (dk_at dksX3_reopen_3 16 rfl rfl)
theorem dX3_reopen_86 : decode cX3_reopen 86 = .ok (.iconst 1, 1) := dk_4 (dk_at dksX3_reopen_3 17 rfl rfl)
theorem dX3_reopen_87 : decode cX3_reopen 87 = .ok (.iand, 1) := dk_126 (dk_at dksX3_reopen_3 18 rfl rfl)
theorem dX3_reopen_88 : decode cX3_reopen 88 = .ok (.iconst 1, 1) := dk_4 (dk_at dksX3_reopen_3 19 rfl rfl)
theorem dX3_reopen_89 : decode cX3_reopen 89 = .ok (.if_icmp .ne 21, 3) := dk_160 0 21 (dk_at dksX3_reopen_3 20 rfl rfl)
theorem dX3_reopen_92 : decode cX3_reopen 92 = .ok (.aload_n 0, 1) := dk_42 (dk_at dksX3_reopen_3 23 rfl rfl)
theorem dX3_reopen_93 : decode cX3_reopen 93 = .ok (.iload_n 3, 1) := dk_29 (dk_at dksX3_reopen_4 0 rfl rfl)
theorem dX3_reopen_94 : decode cX3_reopen 94 = .ok (.bipush 10, 2) := dk_16 10 (dk_at dksX3_reopen_4 1 rfl rfl)
theorem dX3_reopen_96 : decode cX3_reopen 96 = .ok (.invokevirtual 80, 3) := dk_182 0 80 (dk_at dksX3_reopen_4 3 rfl rfl)
theorem dX3_reopen_99 : decode cX3_reopen 99 = .ok (.ifCond .lt 11, 3) := dk_155 0 11 (dk_at dksX3_reopen_4 6 rfl rfl)
theorem dX3_reopen_102 : decode cX3_reopen 102 = .ok (.aload_n 0, 1) := dk_42 (dk_at dksX3_reopen_4 9 rfl rfl)
theorem dX3_reopen_103 : decode cX3_reopen 103 = .ok (.bipush 11, 2) := dk_16 11 (dk_at dksX3_reopen_4 10 rfl rfl)
theorem dX3_reopen_105 : decode cX3_reopen 105 = .ok (.iload_n 3, 1) := dk_29 (dk_at dksX3_reopen_4 12 rfl rfl)
theorem dX3_reopen_106 : decode cX3_reopen 106 = .ok (.invokevirtual 97, 3) := dk_182 0 97 (dk_at dksX3_reopen_4 13 rfl rfl)
theorem dX3_reopen_109 : decode cX3_reopen 109 = .ok (.ireturn, 1) := dk_172 (dk_at dksX3_reopen_4 16 rfl rfl)
theorem dX3_reopen_110 : decode cX3_reopen 110 = .ok (.iinc 3 1, 3) := dk_132 3 1 (dk_at dksX3_reopen_4 17 rfl rfl)
theorem dX3_reopen_113 : decode cX3_reopen 113 = .ok (.goto (-35), 3) := dk_167 255 221 (dk_at dksX3_reopen_4 20 rfl rfl)
theorem dX3_reopen_116 : decode cX3_reopen 116 = .ok (.aload_n 0, 1) := dk_42 (dk_at dksX3_reopen_4 23 rfl rfl)
theorem dX3_reopen_117 : decode cX3_reopen 117 = .ok (.invokevirtual 111, 3) := dk_182 0 111 (dk_at dksX3_reopen_5 0 rfl rfl)
theorem dX3_reopen_120 : decode cX3_reopen 120 = .ok (.iconst 0, 1) := dk_3 (dk_at dksX3_reopen_5 3 rfl rfl)
theorem dX3_reopen_121 : decode cX3_reopen 121 = .ok (.istore_n 3, 1) := dk_62 (dk_at dksX3_reopen_5 4 rfl rfl)
theorem dX3_reopen_122 : decode cX3_reopen 122 = .ok (.iconst 0, 1) := dk_3 (dk_at dksX3_reopen_5 5 rfl rfl)
theorem dX3_reopen_123 : decode cX3_reopen 123 = .ok (.istore 4, 2) := dk_54 4 (dk_at dksX3_reopen_5 6 rfl rfl)
theorem dX3_reopen_125 : decode cX3_reopen 125 = .ok (.iload 4, 2) := dk_21 4 (dk_at dksX3_reopen_5 8 rfl rfl)
theorem dX3_reopen_127 : decode cX3_reopen 127 = .ok (.iload_n 1, 1) := dk_27 (dk_at dksX3_reopen_5 10 rfl rfl)
theorem dX3_reopen_128 : decode cX3_reopen 128 = .ok (.if_icmp .gt 43, 3) := dk_163 0 43 (dk_at dksX3_reopen_5 11 rfl rfl)
theorem dX3_reopen_131 : decode cX3_reopen 131 = .ok (.iload_n 2, 1) := dk_28 (dk_at dksX3_reopen_5 14 rfl rfl)
theorem dX3_reopen_132 : decode cX3_reopen 132 = .ok (.iload 4, 2) := dk_21 4 (dk_at dksX3_reopen_5 15 rfl rfl)
theorem dX3_reopen_134 : decode cX3_reopen 134 = .ok (.ishr, 1) := dk_122 (dk_at dksX3_reopen_5 17 rfl rfl)
theorem dX3_reopen_135 : decode cX3_reopen 135 = .ok (.iconst 1, 1) := dk_4 (dk_at dksX3_reopen_5 18 rfl rfl)
theorem dX3_reopen_136 : decode cX3_reopen 136 = .ok (.iand, 1) := dk_126 (dk_at dksX3_reopen_5 19 rfl rfl)
theorem dX3_reopen_137 : decode cX3_reopen 137 = .ok (.iconst 1, 1) := dk_4 (dk_at dksX3_reopen_5 20 rfl rfl)
theorem dX3_reopen_138 : decode cX3_reopen 138 = .ok (.if_icmp .ne 27, 3) := dk_160 0 27 (dk_at dksX3_reopen_5 21 rfl rfl)
theorem dX3_reopen_141 : decode cX3_reopen 141 = .ok (.aload_n 0, 1) := dk_42 (dk_at dksX3_reopen_6 0 rfl rfl)
theorem dX3_reopen_142 : decode cX3_reopen 142 = .ok (.getfield 7, 3) := dk_180 0 7 (dk_at dksX3_reopen_6 1 rfl rfl)
theorem dX3_reopen_145 : decode cX3_reopen 145 = .ok (.iload 4, 2) := dk_21 4 (dk_at dksX3_reopen_6 4 rfl rfl)
theorem dX3_reopen_147 : decode cX3_reopen 147 = .ok (.iconst 3, 1) := dk_6 (dk_at dksX3_reopen_6 6 rfl rfl)
theorem dX3_reopen_148 : decode cX3_reopen 148 = .ok (.invokestatic 76, 3) := dk_184 0 76 (dk_at dksX3_reopen_6 7 rfl rfl)
theorem dX3_reopen_151 : decode cX3_reopen 151 = .ok (.iconst 0, 1) := dk_3 (dk_at dksX3_reopen_6 10 rfl rfl)
theorem dX3_reopen_152 : decode cX3_reopen 152 = .ok (.iastore, 1) := dk_79 (dk_at dksX3_reopen_6 11 rfl rfl)
theorem dX3_reopen_153 : decode cX3_reopen 153 = .ok (.aload_n 0, 1) := dk_42 (dk_at dksX3_reopen_6 12 rfl rfl)
theorem dX3_reopen_154 : decode cX3_reopen 154 = .ok (.bipush 6, 2) := dk_16 6 (dk_at dksX3_reopen_6 13 rfl rfl)
theorem dX3_reopen_156 : decode cX3_reopen 156 = .ok (.iload 4, 2) := dk_21 4 (dk_at dksX3_reopen_6 15 rfl rfl)
theorem dX3_reopen_158 : decode cX3_reopen 158 = .ok (.iconst 0, 1) := dk_3 (dk_at dksX3_reopen_6 17 rfl rfl)
theorem dX3_reopen_159 : decode cX3_reopen 159 = .ok (.invokevirtual 90, 3) := dk_182 0 90 (dk_at dksX3_reopen_6 18 rfl rfl)
theorem dX3_reopen_162 : decode cX3_reopen 162 = .ok (.iinc 3 1, 3) := dk_132 3 1 (dk_at dksX3_reopen_6 21 rfl rfl)
theorem dX3_reopen_165 : decode cX3_reopen 165 = .ok (.iinc 4 1, 3) := dk_132 4 1 (dk_at dksX3_reopen_7 0 rfl rfl)
theorem dX3_reopen_168 : decode cX3_reopen 168 = .ok (.goto (-43), 3) := dk_167 255 213 (dk_at dksX3_reopen_7 3 rfl rfl)
theorem dX3_reopen_171 : decode cX3_reopen 171 = .ok (.iload_n 3, 1) := dk_29 (dk_at dksX3_reopen_7 6 rfl rfl)
theorem dX3_reopen_172 : decode cX3_reopen 172 = .ok (.ireturn, 1) := dk_172 (dk_at dksX3_reopen_7 7 rfl rfl)
abbrev cX3_close : ByteArray := prog_18_method_42_code
def yX3_close : MethodName := ⟨RX3, "close", "(I)I"⟩
def dkwX3_close_6 : List UInt8 := [182, 0, 142, 100, 172]
abbrev dktX3_close_6 : List UInt8 := dkwX3_close_6 ++ []
def dkwX3_close_5 : List UInt8 := [27, 6, 184, 0, 76, 6, 79, 42, 16, 7, 27, 3, 182, 0, 90, 42, 180, 0, 7, 16, 11, 46, 42, 6]
abbrev dktX3_close_5 : List UInt8 := dkwX3_close_5 ++ dktX3_close_6
def dkwX3_close_4 : List UInt8 := [156, 0, 7, 2, 167, 0, 8, 42, 28, 182, 0, 139, 182, 0, 97, 172, 42, 182, 0, 111, 42, 180, 0, 7]
abbrev dktX3_close_4 : List UInt8 := dkwX3_close_4 ++ dktX3_close_5
def dkwX3_close_3 : List UInt8 := [182, 0, 80, 5, 163, 0, 35, 28, 155, 0, 11, 42, 28, 182, 0, 139, 155, 0, 23, 42, 16, 12, 28]
abbrev dktX3_close_3 : List UInt8 := dkwX3_close_3 ++ dktX3_close_4
def dkwX3_close_2 : List UInt8 := [16, 9, 42, 27, 6, 182, 0, 133, 182, 0, 97, 172, 42, 27, 16, 10, 182, 0, 80, 61, 42, 27, 4]
abbrev dktX3_close_2 : List UInt8 := dkwX3_close_2 ++ dktX3_close_3
def dkwX3_close_1 : List UInt8 := [182, 0, 80, 5, 159, 0, 10, 42, 7, 3, 182, 0, 97, 172, 42, 27, 6, 182, 0, 133, 155, 0, 16, 42]
abbrev dktX3_close_1 : List UInt8 := dkwX3_close_1 ++ dktX3_close_2
def dkwX3_close_0 : List UInt8 := [42, 3, 181, 0, 41, 42, 27, 182, 0, 118, 154, 0, 10, 42, 4, 3, 182, 0, 97, 172, 42, 27, 6]
abbrev dktX3_close_0 : List UInt8 := dkwX3_close_0 ++ dktX3_close_1
theorem dksX3_close_0 : cX3_close.data.toList.drop 0 = dktX3_close_0 := by decide +kernel
theorem dksX3_close_1 : cX3_close.data.toList.drop 23 = dktX3_close_1 := dk_seg dksX3_close_0 23 rfl rfl
theorem dksX3_close_2 : cX3_close.data.toList.drop 47 = dktX3_close_2 := dk_seg dksX3_close_1 24 rfl rfl
theorem dksX3_close_3 : cX3_close.data.toList.drop 70 = dktX3_close_3 := dk_seg dksX3_close_2 23 rfl rfl
theorem dksX3_close_4 : cX3_close.data.toList.drop 93 = dktX3_close_4 := dk_seg dksX3_close_3 23 rfl rfl
theorem dksX3_close_5 : cX3_close.data.toList.drop 117 = dktX3_close_5 := dk_seg dksX3_close_4 24 rfl rfl
theorem dksX3_close_6 : cX3_close.data.toList.drop 141 = dktX3_close_6 := dk_seg dksX3_close_5 24 rfl rfl
theorem dX3_close_0 : decode cX3_close 0 = .ok (.aload_n 0, 1) := dk_42 (dk_at dksX3_close_0 0 rfl rfl)
theorem dX3_close_1 : decode cX3_close 1 = .ok (.iconst 0, 1) := dk_3 (dk_at dksX3_close_0 1 rfl rfl)
theorem dX3_close_2 : decode cX3_close 2 = .ok (.putfield 41, 3) := dk_181 0 41 (dk_at dksX3_close_0 2 rfl rfl)
theorem dX3_close_5 : decode cX3_close 5 = .ok (.aload_n 0, 1) := dk_42 (dk_at dksX3_close_0 5 rfl rfl)
theorem dX3_close_6 : decode cX3_close 6 = .ok (.iload_n 1, 1) := dk_27 (dk_at dksX3_close_0 6 rfl rfl)
theorem dX3_close_7 : decode cX3_close 7 = .ok (.invokevirtual 118, 3) := dk_182 0 118 (dk_at dksX3_close_0 7 rfl rfl)
theorem dX3_close_10 : decode cX3_close 10 = .ok (.ifCond .ne 10, 3) := dk_154 0 10 (dk_at dksX3_close_0 10 rfl rfl)
theorem dX3_close_13 : decode cX3_close 13 = .ok (.aload_n 0, 1) := dk_42 (dk_at dksX3_close_0 13 rfl rfl)
theorem dX3_close_14 : decode cX3_close 14 = .ok (.iconst 1, 1) := dk_4 (dk_at dksX3_close_0 14 rfl rfl)
theorem dX3_close_15 : decode cX3_close 15 = .ok (.iconst 0, 1) := dk_3 (dk_at dksX3_close_0 15 rfl rfl)
theorem dX3_close_16 : decode cX3_close 16 = .ok (.invokevirtual 97, 3) := dk_182 0 97 (dk_at dksX3_close_0 16 rfl rfl)
theorem dX3_close_19 : decode cX3_close 19 = .ok (.ireturn, 1) := dk_172 (dk_at dksX3_close_0 19 rfl rfl)
theorem dX3_close_20 : decode cX3_close 20 = .ok (.aload_n 0, 1) := dk_42 (dk_at dksX3_close_0 20 rfl rfl)
theorem dX3_close_21 : decode cX3_close 21 = .ok (.iload_n 1, 1) := dk_27 (dk_at dksX3_close_0 21 rfl rfl)
theorem dX3_close_22 : decode cX3_close 22 = .ok (.iconst 3, 1) := dk_6 (dk_at dksX3_close_0 22 rfl rfl)
theorem dX3_close_23 : decode cX3_close 23 = .ok (.invokevirtual 80, 3) := dk_182 0 80 (dk_at dksX3_close_1 0 rfl rfl)
theorem dX3_close_26 : decode cX3_close 26 = .ok (.iconst 2, 1) := dk_5 (dk_at dksX3_close_1 3 rfl rfl)
theorem dX3_close_27 : decode cX3_close 27 = .ok (.if_icmp .eq 10, 3) := dk_159 0 10 (dk_at dksX3_close_1 4 rfl rfl)
theorem dX3_close_30 : decode cX3_close 30 = .ok (.aload_n 0, 1) := dk_42 (dk_at dksX3_close_1 7 rfl rfl)
theorem dX3_close_31 : decode cX3_close 31 = .ok (.iconst 4, 1) := dk_7 (dk_at dksX3_close_1 8 rfl rfl)
theorem dX3_close_32 : decode cX3_close 32 = .ok (.iconst 0, 1) := dk_3 (dk_at dksX3_close_1 9 rfl rfl)
theorem dX3_close_33 : decode cX3_close 33 = .ok (.invokevirtual 97, 3) := dk_182 0 97 (dk_at dksX3_close_1 10 rfl rfl)
theorem dX3_close_36 : decode cX3_close 36 = .ok (.ireturn, 1) := dk_172 (dk_at dksX3_close_1 13 rfl rfl)
theorem dX3_close_37 : decode cX3_close 37 = .ok (.aload_n 0, 1) := dk_42 (dk_at dksX3_close_1 14 rfl rfl)
theorem dX3_close_38 : decode cX3_close 38 = .ok (.iload_n 1, 1) := dk_27 (dk_at dksX3_close_1 15 rfl rfl)
theorem dX3_close_39 : decode cX3_close 39 = .ok (.iconst 3, 1) := dk_6 (dk_at dksX3_close_1 16 rfl rfl)
theorem dX3_close_40 : decode cX3_close 40 = .ok (.invokevirtual 133, 3) := dk_182 0 133 (dk_at dksX3_close_1 17 rfl rfl)
theorem dX3_close_43 : decode cX3_close 43 = .ok (.ifCond .lt 16, 3) := dk_155 0 16 (dk_at dksX3_close_1 20 rfl rfl)
theorem dX3_close_46 : decode cX3_close 46 = .ok (.aload_n 0, 1) := dk_42 (dk_at dksX3_close_1 23 rfl rfl)
theorem dX3_close_47 : decode cX3_close 47 = .ok (.bipush 9, 2) := dk_16 9 (dk_at dksX3_close_2 0 rfl rfl)
theorem dX3_close_49 : decode cX3_close 49 = .ok (.aload_n 0, 1) := dk_42 (dk_at dksX3_close_2 2 rfl rfl)
theorem dX3_close_50 : decode cX3_close 50 = .ok (.iload_n 1, 1) := dk_27 (dk_at dksX3_close_2 3 rfl rfl)
theorem dX3_close_51 : decode cX3_close 51 = .ok (.iconst 3, 1) := dk_6 (dk_at dksX3_close_2 4 rfl rfl)
theorem dX3_close_52 : decode cX3_close 52 = .ok (.invokevirtual 133, 3) := dk_182 0 133 (dk_at dksX3_close_2 5 rfl rfl)
theorem dX3_close_55 : decode cX3_close 55 = .ok (.invokevirtual 97, 3) := dk_182 0 97 (dk_at dksX3_close_2 8 rfl rfl)
theorem dX3_close_58 : decode cX3_close 58 = .ok (.ireturn, 1) := dk_172 (dk_at dksX3_close_2 11 rfl rfl)
theorem dX3_close_59 : decode cX3_close 59 = .ok (.aload_n 0, 1) := dk_42 (dk_at dksX3_close_2 12 rfl rfl)
theorem dX3_close_60 : decode cX3_close 60 = .ok (.iload_n 1, 1) := dk_27 (dk_at dksX3_close_2 13 rfl rfl)
theorem dX3_close_61 : decode cX3_close 61 = .ok (.bipush 10, 2) := dk_16 10 (dk_at dksX3_close_2 14 rfl rfl)
theorem dX3_close_63 : decode cX3_close 63 = .ok (.invokevirtual 80, 3) := dk_182 0 80 (dk_at dksX3_close_2 16 rfl rfl)
theorem dX3_close_66 : decode cX3_close 66 = .ok (.istore_n 2, 1) := dk_61 (dk_at dksX3_close_2 19 rfl rfl)
theorem dX3_close_67 : decode cX3_close 67 = .ok (.aload_n 0, 1) := dk_42 (dk_at dksX3_close_2 20 rfl rfl)
theorem dX3_close_68 : decode cX3_close 68 = .ok (.iload_n 1, 1) := dk_27 (dk_at dksX3_close_2 21 rfl rfl)
theorem dX3_close_69 : decode cX3_close 69 = .ok (.iconst 1, 1) := dk_4 (dk_at dksX3_close_2 22 rfl rfl)
theorem dX3_close_70 : decode cX3_close 70 = .ok (.invokevirtual 80, 3) := dk_182 0 80 (dk_at dksX3_close_3 0 rfl rfl)
theorem dX3_close_73 : decode cX3_close 73 = .ok (.iconst 2, 1) := dk_5 (dk_at dksX3_close_3 3 rfl rfl)
theorem dX3_close_74 : decode cX3_close 74 = .ok (.if_icmp .gt 35, 3) := dk_163 0 35 (dk_at dksX3_close_3 4 rfl rfl)
theorem dX3_close_77 : decode cX3_close 77 = .ok (.iload_n 2, 1) := dk_28 (dk_at dksX3_close_3 7 rfl rfl)
theorem dX3_close_78 : decode cX3_close 78 = .ok (.ifCond .lt 11, 3) := dk_155 0 11 (dk_at dksX3_close_3 8 rfl rfl)
theorem dX3_close_81 : decode cX3_close 81 = .ok (.aload_n 0, 1) := dk_42 (dk_at dksX3_close_3 11 rfl rfl)
theorem dX3_close_82 : decode cX3_close 82 = .ok (.iload_n 2, 1) := dk_28 (dk_at dksX3_close_3 12 rfl rfl)
theorem dX3_close_83 : decode cX3_close 83 = .ok (.invokevirtual 139, 3) := dk_182 0 139 (dk_at dksX3_close_3 13 rfl rfl)
theorem dX3_close_86 : decode cX3_close 86 = .ok (.ifCond .lt 23, 3) := dk_155 0 23 (dk_at dksX3_close_3 16 rfl rfl)
theorem dX3_close_89 : decode cX3_close 89 = .ok (.aload_n 0, 1) := dk_42 (dk_at dksX3_close_3 19 rfl rfl)
theorem dX3_close_90 : decode cX3_close 90 = .ok (.bipush 12, 2) := dk_16 12 (dk_at dksX3_close_3 20 rfl rfl)
theorem dX3_close_92 : decode cX3_close 92 = .ok (.iload_n 2, 1) := dk_28 (dk_at dksX3_close_3 22 rfl rfl)
theorem dX3_close_93 : decode cX3_close 93 = .ok (.ifCond .ge 7, 3) := dk_156 0 7 (dk_at dksX3_close_4 0 rfl rfl)
theorem dX3_close_96 : decode cX3_close 96 = .ok (.iconst (-1), 1) := dk_2 (dk_at dksX3_close_4 3 rfl rfl)
theorem dX3_close_97 : decode cX3_close 97 = .ok (.goto 8, 3) := dk_167 0 8 (dk_at dksX3_close_4 4 rfl rfl)
theorem dX3_close_100 : decode cX3_close 100 = .ok (.aload_n 0, 1) := dk_42 (dk_at dksX3_close_4 7 rfl rfl)
theorem dX3_close_101 : decode cX3_close 101 = .ok (.iload_n 2, 1) := dk_28 (dk_at dksX3_close_4 8 rfl rfl)
theorem dX3_close_102 : decode cX3_close 102 = .ok (.invokevirtual 139, 3) := dk_182 0 139 (dk_at dksX3_close_4 9 rfl rfl)
theorem dX3_close_105 : decode cX3_close 105 = .ok (.invokevirtual 97, 3) := dk_182 0 97 (dk_at dksX3_close_4 12 rfl rfl)
theorem dX3_close_108 : decode cX3_close 108 = .ok (.ireturn, 1) := dk_172 (dk_at dksX3_close_4 15 rfl rfl)
theorem dX3_close_109 : decode cX3_close 109 = .ok (.aload_n 0, 1) := dk_42 (dk_at dksX3_close_4 16 rfl rfl)
theorem dX3_close_110 : decode cX3_close 110 = .ok (.invokevirtual 111, 3) := dk_182 0 111 (dk_at dksX3_close_4 17 rfl rfl)
theorem dX3_close_113 : decode cX3_close 113 = .ok (.aload_n 0, 1) := dk_42 (dk_at dksX3_close_4 20 rfl rfl)
theorem dX3_close_114 : decode cX3_close 114 = .ok (.getfield 7, 3) := dk_180 0 7 (dk_at dksX3_close_4 21 rfl rfl)
theorem dX3_close_117 : decode cX3_close 117 = .ok (.iload_n 1, 1) := dk_27 (dk_at dksX3_close_5 0 rfl rfl)
theorem dX3_close_118 : decode cX3_close 118 = .ok (.iconst 3, 1) := dk_6 (dk_at dksX3_close_5 1 rfl rfl)
theorem dX3_close_119 : decode cX3_close 119 = .ok (.invokestatic 76, 3) := dk_184 0 76 (dk_at dksX3_close_5 2 rfl rfl)
theorem dX3_close_122 : decode cX3_close 122 = .ok (.iconst 3, 1) := dk_6 (dk_at dksX3_close_5 5 rfl rfl)
theorem dX3_close_123 : decode cX3_close 123 = .ok (.iastore, 1) := dk_79 (dk_at dksX3_close_5 6 rfl rfl)
theorem dX3_close_124 : decode cX3_close 124 = .ok (.aload_n 0, 1) := dk_42 (dk_at dksX3_close_5 7 rfl rfl)
theorem dX3_close_125 : decode cX3_close 125 = .ok (.bipush 7, 2) := dk_16 7 (dk_at dksX3_close_5 8 rfl rfl)
theorem dX3_close_127 : decode cX3_close 127 = .ok (.iload_n 1, 1) := dk_27 (dk_at dksX3_close_5 10 rfl rfl)
theorem dX3_close_128 : decode cX3_close 128 = .ok (.iconst 0, 1) := dk_3 (dk_at dksX3_close_5 11 rfl rfl)
theorem dX3_close_129 : decode cX3_close 129 = .ok (.invokevirtual 90, 3) := dk_182 0 90 (dk_at dksX3_close_5 12 rfl rfl)
theorem dX3_close_132 : decode cX3_close 132 = .ok (.aload_n 0, 1) := dk_42 (dk_at dksX3_close_5 15 rfl rfl)
theorem dX3_close_133 : decode cX3_close 133 = .ok (.getfield 7, 3) := dk_180 0 7 (dk_at dksX3_close_5 16 rfl rfl)
theorem dX3_close_136 : decode cX3_close 136 = .ok (.bipush 11, 2) := dk_16 11 (dk_at dksX3_close_5 19 rfl rfl)
theorem dX3_close_138 : decode cX3_close 138 = .ok (.iaload, 1) := dk_46 (dk_at dksX3_close_5 21 rfl rfl)
theorem dX3_close_139 : decode cX3_close 139 = .ok (.aload_n 0, 1) := dk_42 (dk_at dksX3_close_5 22 rfl rfl)
theorem dX3_close_140 : decode cX3_close 140 = .ok (.iconst 3, 1) := dk_6 (dk_at dksX3_close_5 23 rfl rfl)
theorem dX3_close_141 : decode cX3_close 141 = .ok (.invokevirtual 142, 3) := dk_182 0 142 (dk_at dksX3_close_6 0 rfl rfl)
theorem dX3_close_144 : decode cX3_close 144 = .ok (.isub, 1) := dk_100 (dk_at dksX3_close_6 3 rfl rfl)
theorem dX3_close_145 : decode cX3_close 145 = .ok (.ireturn, 1) := dk_172 (dk_at dksX3_close_6 4 rfl rfl)
abbrev cX3_openAction : ByteArray := prog_18_method_41_code
def yX3_openAction : MethodName := ⟨RX3, "openAction", "(I)I"⟩
def dkwX3_openAction_1 : List UInt8 := [42, 28, 6, 182, 0, 136, 154, 0, 5, 28, 172, 132, 2, 1, 167, 255, 220, 2, 172]
abbrev dktX3_openAction_1 : List UInt8 := dkwX3_openAction_1 ++ []
def dkwX3_openAction_0 : List UInt8 := [3, 61, 28, 42, 180, 0, 7, 17, 1, 122, 46, 162, 0, 30, 42, 28, 3, 182, 0, 136, 27, 160, 0, 14]
abbrev dktX3_openAction_0 : List UInt8 := dkwX3_openAction_0 ++ dktX3_openAction_1
theorem dksX3_openAction_0 : cX3_openAction.data.toList.drop 0 = dktX3_openAction_0 := by decide +kernel
theorem dksX3_openAction_1 : cX3_openAction.data.toList.drop 24 = dktX3_openAction_1 := dk_seg dksX3_openAction_0 24 rfl rfl
theorem dX3_openAction_0 : decode cX3_openAction 0 = .ok (.iconst 0, 1) := dk_3 (dk_at dksX3_openAction_0 0 rfl rfl)
theorem dX3_openAction_1 : decode cX3_openAction 1 = .ok (.istore_n 2, 1) := dk_61 (dk_at dksX3_openAction_0 1 rfl rfl)
theorem dX3_openAction_2 : decode cX3_openAction 2 = .ok (.iload_n 2, 1) := dk_28 (dk_at dksX3_openAction_0 2 rfl rfl)
theorem dX3_openAction_3 : decode cX3_openAction 3 = .ok (.aload_n 0, 1) := dk_42 (dk_at dksX3_openAction_0 3 rfl rfl)
theorem dX3_openAction_4 : decode cX3_openAction 4 = .ok (.getfield 7, 3) := dk_180 0 7 (dk_at dksX3_openAction_0 4 rfl rfl)
theorem dX3_openAction_7 : decode cX3_openAction 7 = .ok (.sipush 378, 3) := dk_17 1 122 (dk_at dksX3_openAction_0 7 rfl rfl)
theorem dX3_openAction_10 : decode cX3_openAction 10 = .ok (.iaload, 1) := dk_46 (dk_at dksX3_openAction_0 10 rfl rfl)
theorem dX3_openAction_11 : decode cX3_openAction 11 = .ok (.if_icmp .ge 30, 3) := dk_162 0 30 (dk_at dksX3_openAction_0 11 rfl rfl)
theorem dX3_openAction_14 : decode cX3_openAction 14 = .ok (.aload_n 0, 1) := dk_42 (dk_at dksX3_openAction_0 14 rfl rfl)
theorem dX3_openAction_15 : decode cX3_openAction 15 = .ok (.iload_n 2, 1) := dk_28 (dk_at dksX3_openAction_0 15 rfl rfl)
theorem dX3_openAction_16 : decode cX3_openAction 16 = .ok (.iconst 0, 1) := dk_3 (dk_at dksX3_openAction_0 16 rfl rfl)
theorem dX3_openAction_17 : decode cX3_openAction 17 = .ok (.invokevirtual 136, 3) := dk_182 0 136 (dk_at dksX3_openAction_0 17 rfl rfl)
theorem dX3_openAction_20 : decode cX3_openAction 20 = .ok (.iload_n 1, 1) := dk_27 (dk_at dksX3_openAction_0 20 rfl rfl)
theorem dX3_openAction_21 : decode cX3_openAction 21 = .ok (.if_icmp .ne 14, 3) := dk_160 0 14 (dk_at dksX3_openAction_0 21 rfl rfl)
theorem dX3_openAction_24 : decode cX3_openAction 24 = .ok (.aload_n 0, 1) := dk_42 (dk_at dksX3_openAction_1 0 rfl rfl)
theorem dX3_openAction_25 : decode cX3_openAction 25 = .ok (.iload_n 2, 1) := dk_28 (dk_at dksX3_openAction_1 1 rfl rfl)
theorem dX3_openAction_26 : decode cX3_openAction 26 = .ok (.iconst 3, 1) := dk_6 (dk_at dksX3_openAction_1 2 rfl rfl)
theorem dX3_openAction_27 : decode cX3_openAction 27 = .ok (.invokevirtual 136, 3) := dk_182 0 136 (dk_at dksX3_openAction_1 3 rfl rfl)
theorem dX3_openAction_30 : decode cX3_openAction 30 = .ok (.ifCond .ne 5, 3) := dk_154 0 5 (dk_at dksX3_openAction_1 6 rfl rfl)
theorem dX3_openAction_33 : decode cX3_openAction 33 = .ok (.iload_n 2, 1) := dk_28 (dk_at dksX3_openAction_1 9 rfl rfl)
theorem dX3_openAction_34 : decode cX3_openAction 34 = .ok (.ireturn, 1) := dk_172 (dk_at dksX3_openAction_1 10 rfl rfl)
theorem dX3_openAction_35 : decode cX3_openAction 35 = .ok (.iinc 2 1, 3) := dk_132 2 1 (dk_at dksX3_openAction_1 11 rfl rfl)
theorem dX3_openAction_38 : decode cX3_openAction 38 = .ok (.goto (-36), 3) := dk_167 255 220 (dk_at dksX3_openAction_1 14 rfl rfl)
theorem dX3_openAction_41 : decode cX3_openAction 41 = .ok (.iconst (-1), 1) := dk_2 (dk_at dksX3_openAction_1 17 rfl rfl)
theorem dX3_openAction_42 : decode cX3_openAction 42 = .ok (.ireturn, 1) := dk_172 (dk_at dksX3_openAction_1 18 rfl rfl)
abbrev cX3_actionTold : ByteArray := prog_18_method_40_code
def yX3_actionTold : MethodName := ⟨RX3, "actionTold", "(II)I"⟩
def dkwX3_actionTold_0 : List UInt8 := [42, 180, 0, 7, 17, 1, 123, 7, 27, 104, 96, 28, 96, 46, 172]
abbrev dktX3_actionTold_0 : List UInt8 := dkwX3_actionTold_0 ++ []
theorem dksX3_actionTold_0 : cX3_actionTold.data.toList.drop 0 = dktX3_actionTold_0 := by decide +kernel
theorem dX3_actionTold_0 : decode cX3_actionTold 0 = .ok (.aload_n 0, 1) := dk_42 (dk_at dksX3_actionTold_0 0 rfl rfl)
theorem dX3_actionTold_1 : decode cX3_actionTold 1 = .ok (.getfield 7, 3) := dk_180 0 7 (dk_at dksX3_actionTold_0 1 rfl rfl)
theorem dX3_actionTold_4 : decode cX3_actionTold 4 = .ok (.sipush 379, 3) := dk_17 1 123 (dk_at dksX3_actionTold_0 4 rfl rfl)
theorem dX3_actionTold_7 : decode cX3_actionTold 7 = .ok (.iconst 4, 1) := dk_7 (dk_at dksX3_actionTold_0 7 rfl rfl)
theorem dX3_actionTold_8 : decode cX3_actionTold 8 = .ok (.iload_n 1, 1) := dk_27 (dk_at dksX3_actionTold_0 8 rfl rfl)
theorem dX3_actionTold_9 : decode cX3_actionTold 9 = .ok (.imul, 1) := dk_104 (dk_at dksX3_actionTold_0 9 rfl rfl)
theorem dX3_actionTold_10 : decode cX3_actionTold 10 = .ok (.iadd, 1) := dk_96 (dk_at dksX3_actionTold_0 10 rfl rfl)
theorem dX3_actionTold_11 : decode cX3_actionTold 11 = .ok (.iload_n 2, 1) := dk_28 (dk_at dksX3_actionTold_0 11 rfl rfl)
theorem dX3_actionTold_12 : decode cX3_actionTold 12 = .ok (.iadd, 1) := dk_96 (dk_at dksX3_actionTold_0 12 rfl rfl)
theorem dX3_actionTold_13 : decode cX3_actionTold 13 = .ok (.iaload, 1) := dk_46 (dk_at dksX3_actionTold_0 13 rfl rfl)
theorem dX3_actionTold_14 : decode cX3_actionTold 14 = .ok (.ireturn, 1) := dk_172 (dk_at dksX3_actionTold_0 14 rfl rfl)
abbrev cX3_inState : ByteArray := prog_18_method_39_code
def yX3_inState : MethodName := ⟨RX3, "inState", "(I)I"⟩
def dkwX3_inState_1 : List UInt8 := [160, 0, 7, 4, 167, 0, 4, 3, 96, 61, 132, 3, 1, 167, 255, 224, 28, 172]
abbrev dktX3_inState_1 : List UInt8 := dkwX3_inState_1 ++ []
def dkwX3_inState_0 : List UInt8 := [3, 61, 3, 62, 29, 42, 180, 0, 7, 16, 11, 46, 162, 0, 27, 28, 42, 29, 6, 182, 0, 80, 27]
abbrev dktX3_inState_0 : List UInt8 := dkwX3_inState_0 ++ dktX3_inState_1
theorem dksX3_inState_0 : cX3_inState.data.toList.drop 0 = dktX3_inState_0 := by decide +kernel
theorem dksX3_inState_1 : cX3_inState.data.toList.drop 23 = dktX3_inState_1 := dk_seg dksX3_inState_0 23 rfl rfl
theorem dX3_inState_0 : decode cX3_inState 0 = .ok (.iconst 0, 1) := dk_3 (dk_at dksX3_inState_0 0 rfl rfl)
theorem dX3_inState_1 : decode cX3_inState 1 = .ok (.istore_n 2, 1) := dk_61 (dk_at dksX3_inState_0 1 rfl rfl)
theorem dX3_inState_2 : decode cX3_inState 2 = .ok (.iconst 0, 1) := dk_3 (dk_at dksX3_inState_0 2 rfl rfl)
theorem dX3_inState_3 : decode cX3_inState 3 = .ok (.istore_n 3, 1) := dk_62 (dk_at dksX3_inState_0 3 rfl rfl)
theorem dX3_inState_4 : decode cX3_inState 4 = .ok (.iload_n 3, 1) := dk_29 (dk_at dksX3_inState_0 4 rfl rfl)
theorem dX3_inState_5 : decode cX3_inState 5 = .ok (.aload_n 0, 1) := dk_42 (dk_at dksX3_inState_0 5 rfl rfl)
theorem dX3_inState_6 : decode cX3_inState 6 = .ok (.getfield 7, 3) := dk_180 0 7 (dk_at dksX3_inState_0 6 rfl rfl)
theorem dX3_inState_9 : decode cX3_inState 9 = .ok (.bipush 11, 2) := dk_16 11 (dk_at dksX3_inState_0 9 rfl rfl)
theorem dX3_inState_11 : decode cX3_inState 11 = .ok (.iaload, 1) := dk_46 (dk_at dksX3_inState_0 11 rfl rfl)
theorem dX3_inState_12 : decode cX3_inState 12 = .ok (.if_icmp .ge 27, 3) := dk_162 0 27 (dk_at dksX3_inState_0 12 rfl rfl)
theorem dX3_inState_15 : decode cX3_inState 15 = .ok (.iload_n 2, 1) := dk_28 (dk_at dksX3_inState_0 15 rfl rfl)
theorem dX3_inState_16 : decode cX3_inState 16 = .ok (.aload_n 0, 1) := dk_42 (dk_at dksX3_inState_0 16 rfl rfl)
theorem dX3_inState_17 : decode cX3_inState 17 = .ok (.iload_n 3, 1) := dk_29 (dk_at dksX3_inState_0 17 rfl rfl)
theorem dX3_inState_18 : decode cX3_inState 18 = .ok (.iconst 3, 1) := dk_6 (dk_at dksX3_inState_0 18 rfl rfl)
theorem dX3_inState_19 : decode cX3_inState 19 = .ok (.invokevirtual 80, 3) := dk_182 0 80 (dk_at dksX3_inState_0 19 rfl rfl)
theorem dX3_inState_22 : decode cX3_inState 22 = .ok (.iload_n 1, 1) := dk_27 (dk_at dksX3_inState_0 22 rfl rfl)
theorem dX3_inState_23 : decode cX3_inState 23 = .ok (.if_icmp .ne 7, 3) := dk_160 0 7 (dk_at dksX3_inState_1 0 rfl rfl)
theorem dX3_inState_26 : decode cX3_inState 26 = .ok (.iconst 1, 1) := dk_4 (dk_at dksX3_inState_1 3 rfl rfl)
theorem dX3_inState_27 : decode cX3_inState 27 = .ok (.goto 4, 3) := dk_167 0 4 (dk_at dksX3_inState_1 4 rfl rfl)
theorem dX3_inState_30 : decode cX3_inState 30 = .ok (.iconst 0, 1) := dk_3 (dk_at dksX3_inState_1 7 rfl rfl)
theorem dX3_inState_31 : decode cX3_inState 31 = .ok (.iadd, 1) := dk_96 (dk_at dksX3_inState_1 8 rfl rfl)
theorem dX3_inState_32 : decode cX3_inState 32 = .ok (.istore_n 2, 1) := dk_61 (dk_at dksX3_inState_1 9 rfl rfl)
theorem dX3_inState_33 : decode cX3_inState 33 = .ok (.iinc 3 1, 3) := dk_132 3 1 (dk_at dksX3_inState_1 10 rfl rfl)
theorem dX3_inState_36 : decode cX3_inState 36 = .ok (.goto (-32), 3) := dk_167 255 224 (dk_at dksX3_inState_1 13 rfl rfl)
theorem dX3_inState_39 : decode cX3_inState 39 = .ok (.iload_n 2, 1) := dk_28 (dk_at dksX3_inState_1 16 rfl rfl)
theorem dX3_inState_40 : decode cX3_inState 40 = .ok (.ireturn, 1) := dk_172 (dk_at dksX3_inState_1 17 rfl rfl)
abbrev cX3_cause : ByteArray := prog_18_method_44_code
def yX3_cause : MethodName := ⟨RX3, "cause", "(II)I"⟩
def dkwX3_cause_4 : List UInt8 := [184, 0, 76, 28, 79, 42, 28, 182, 0, 130, 184, 0, 145, 172]
abbrev dktX3_cause_4 : List UInt8 := dkwX3_cause_4 ++ []
def dkwX3_cause_3 : List UInt8 := [155, 0, 11, 42, 16, 13, 3, 182, 0, 97, 172, 42, 182, 0, 111, 42, 180, 0, 7, 27, 16, 8]
abbrev dktX3_cause_3 : List UInt8 := dkwX3_cause_3 ++ dktX3_cause_4
def dkwX3_cause_2 : List UInt8 := [42, 28, 182, 0, 100, 154, 0, 10, 42, 7, 3, 182, 0, 97, 172, 42, 27, 16, 8, 182, 0, 80]
abbrev dktX3_cause_2 : List UInt8 := dkwX3_cause_2 ++ dktX3_cause_3
def dkwX3_cause_1 : List UInt8 := [182, 0, 97, 172, 28, 27, 161, 0, 10, 42, 5, 3, 182, 0, 97, 172, 42, 27, 182, 0, 100, 153, 0, 11]
abbrev dktX3_cause_1 : List UInt8 := dkwX3_cause_1 ++ dktX3_cause_2
def dkwX3_cause_0 : List UInt8 := [42, 3, 181, 0, 41, 42, 27, 182, 0, 118, 153, 0, 11, 42, 28, 182, 0, 118, 154, 0, 10, 42, 4, 3]
abbrev dktX3_cause_0 : List UInt8 := dkwX3_cause_0 ++ dktX3_cause_1
theorem dksX3_cause_0 : cX3_cause.data.toList.drop 0 = dktX3_cause_0 := by decide +kernel
theorem dksX3_cause_1 : cX3_cause.data.toList.drop 24 = dktX3_cause_1 := dk_seg dksX3_cause_0 24 rfl rfl
theorem dksX3_cause_2 : cX3_cause.data.toList.drop 48 = dktX3_cause_2 := dk_seg dksX3_cause_1 24 rfl rfl
theorem dksX3_cause_3 : cX3_cause.data.toList.drop 70 = dktX3_cause_3 := dk_seg dksX3_cause_2 22 rfl rfl
theorem dksX3_cause_4 : cX3_cause.data.toList.drop 92 = dktX3_cause_4 := dk_seg dksX3_cause_3 22 rfl rfl
theorem dX3_cause_0 : decode cX3_cause 0 = .ok (.aload_n 0, 1) := dk_42 (dk_at dksX3_cause_0 0 rfl rfl)
theorem dX3_cause_1 : decode cX3_cause 1 = .ok (.iconst 0, 1) := dk_3 (dk_at dksX3_cause_0 1 rfl rfl)
theorem dX3_cause_2 : decode cX3_cause 2 = .ok (.putfield 41, 3) := dk_181 0 41 (dk_at dksX3_cause_0 2 rfl rfl)
theorem dX3_cause_5 : decode cX3_cause 5 = .ok (.aload_n 0, 1) := dk_42 (dk_at dksX3_cause_0 5 rfl rfl)
theorem dX3_cause_6 : decode cX3_cause 6 = .ok (.iload_n 1, 1) := dk_27 (dk_at dksX3_cause_0 6 rfl rfl)
theorem dX3_cause_7 : decode cX3_cause 7 = .ok (.invokevirtual 118, 3) := dk_182 0 118 (dk_at dksX3_cause_0 7 rfl rfl)
theorem dX3_cause_10 : decode cX3_cause 10 = .ok (.ifCond .eq 11, 3) := dk_153 0 11 (dk_at dksX3_cause_0 10 rfl rfl)
theorem dX3_cause_13 : decode cX3_cause 13 = .ok (.aload_n 0, 1) := dk_42 (dk_at dksX3_cause_0 13 rfl rfl)
theorem dX3_cause_14 : decode cX3_cause 14 = .ok (.iload_n 2, 1) := dk_28 (dk_at dksX3_cause_0 14 rfl rfl)
theorem dX3_cause_15 : decode cX3_cause 15 = .ok (.invokevirtual 118, 3) := dk_182 0 118 (dk_at dksX3_cause_0 15 rfl rfl)
theorem dX3_cause_18 : decode cX3_cause 18 = .ok (.ifCond .ne 10, 3) := dk_154 0 10 (dk_at dksX3_cause_0 18 rfl rfl)
theorem dX3_cause_21 : decode cX3_cause 21 = .ok (.aload_n 0, 1) := dk_42 (dk_at dksX3_cause_0 21 rfl rfl)
theorem dX3_cause_22 : decode cX3_cause 22 = .ok (.iconst 1, 1) := dk_4 (dk_at dksX3_cause_0 22 rfl rfl)
theorem dX3_cause_23 : decode cX3_cause 23 = .ok (.iconst 0, 1) := dk_3 (dk_at dksX3_cause_0 23 rfl rfl)
theorem dX3_cause_24 : decode cX3_cause 24 = .ok (.invokevirtual 97, 3) := dk_182 0 97 (dk_at dksX3_cause_1 0 rfl rfl)
theorem dX3_cause_27 : decode cX3_cause 27 = .ok (.ireturn, 1) := dk_172 (dk_at dksX3_cause_1 3 rfl rfl)
theorem dX3_cause_28 : decode cX3_cause 28 = .ok (.iload_n 2, 1) := dk_28 (dk_at dksX3_cause_1 4 rfl rfl)
theorem dX3_cause_29 : decode cX3_cause 29 = .ok (.iload_n 1, 1) := dk_27 (dk_at dksX3_cause_1 5 rfl rfl)
theorem dX3_cause_30 : decode cX3_cause 30 = .ok (.if_icmp .lt 10, 3) := dk_161 0 10 (dk_at dksX3_cause_1 6 rfl rfl)
theorem dX3_cause_33 : decode cX3_cause 33 = .ok (.aload_n 0, 1) := dk_42 (dk_at dksX3_cause_1 9 rfl rfl)
theorem dX3_cause_34 : decode cX3_cause 34 = .ok (.iconst 2, 1) := dk_5 (dk_at dksX3_cause_1 10 rfl rfl)
theorem dX3_cause_35 : decode cX3_cause 35 = .ok (.iconst 0, 1) := dk_3 (dk_at dksX3_cause_1 11 rfl rfl)
theorem dX3_cause_36 : decode cX3_cause 36 = .ok (.invokevirtual 97, 3) := dk_182 0 97 (dk_at dksX3_cause_1 12 rfl rfl)
theorem dX3_cause_39 : decode cX3_cause 39 = .ok (.ireturn, 1) := dk_172 (dk_at dksX3_cause_1 15 rfl rfl)
theorem dX3_cause_40 : decode cX3_cause 40 = .ok (.aload_n 0, 1) := dk_42 (dk_at dksX3_cause_1 16 rfl rfl)
theorem dX3_cause_41 : decode cX3_cause 41 = .ok (.iload_n 1, 1) := dk_27 (dk_at dksX3_cause_1 17 rfl rfl)
theorem dX3_cause_42 : decode cX3_cause 42 = .ok (.invokevirtual 100, 3) := dk_182 0 100 (dk_at dksX3_cause_1 18 rfl rfl)
theorem dX3_cause_45 : decode cX3_cause 45 = .ok (.ifCond .eq 11, 3) := dk_153 0 11 (dk_at dksX3_cause_1 21 rfl rfl)
theorem dX3_cause_48 : decode cX3_cause 48 = .ok (.aload_n 0, 1) := dk_42 (dk_at dksX3_cause_2 0 rfl rfl)
theorem dX3_cause_49 : decode cX3_cause 49 = .ok (.iload_n 2, 1) := dk_28 (dk_at dksX3_cause_2 1 rfl rfl)
theorem dX3_cause_50 : decode cX3_cause 50 = .ok (.invokevirtual 100, 3) := dk_182 0 100 (dk_at dksX3_cause_2 2 rfl rfl)
theorem dX3_cause_53 : decode cX3_cause 53 = .ok (.ifCond .ne 10, 3) := dk_154 0 10 (dk_at dksX3_cause_2 5 rfl rfl)
theorem dX3_cause_56 : decode cX3_cause 56 = .ok (.aload_n 0, 1) := dk_42 (dk_at dksX3_cause_2 8 rfl rfl)
theorem dX3_cause_57 : decode cX3_cause 57 = .ok (.iconst 4, 1) := dk_7 (dk_at dksX3_cause_2 9 rfl rfl)
theorem dX3_cause_58 : decode cX3_cause 58 = .ok (.iconst 0, 1) := dk_3 (dk_at dksX3_cause_2 10 rfl rfl)
theorem dX3_cause_59 : decode cX3_cause 59 = .ok (.invokevirtual 97, 3) := dk_182 0 97 (dk_at dksX3_cause_2 11 rfl rfl)
theorem dX3_cause_62 : decode cX3_cause 62 = .ok (.ireturn, 1) := dk_172 (dk_at dksX3_cause_2 14 rfl rfl)
theorem dX3_cause_63 : decode cX3_cause 63 = .ok (.aload_n 0, 1) := dk_42 (dk_at dksX3_cause_2 15 rfl rfl)
theorem dX3_cause_64 : decode cX3_cause 64 = .ok (.iload_n 1, 1) := dk_27 (dk_at dksX3_cause_2 16 rfl rfl)
theorem dX3_cause_65 : decode cX3_cause 65 = .ok (.bipush 8, 2) := dk_16 8 (dk_at dksX3_cause_2 17 rfl rfl)
theorem dX3_cause_67 : decode cX3_cause 67 = .ok (.invokevirtual 80, 3) := dk_182 0 80 (dk_at dksX3_cause_2 19 rfl rfl)
theorem dX3_cause_70 : decode cX3_cause 70 = .ok (.ifCond .lt 11, 3) := dk_155 0 11 (dk_at dksX3_cause_3 0 rfl rfl)
theorem dX3_cause_73 : decode cX3_cause 73 = .ok (.aload_n 0, 1) := dk_42 (dk_at dksX3_cause_3 3 rfl rfl)
theorem dX3_cause_74 : decode cX3_cause 74 = .ok (.bipush 13, 2) := dk_16 13 (dk_at dksX3_cause_3 4 rfl rfl)
theorem dX3_cause_76 : decode cX3_cause 76 = .ok (.iconst 0, 1) := dk_3 (dk_at dksX3_cause_3 6 rfl rfl)
theorem dX3_cause_77 : decode cX3_cause 77 = .ok (.invokevirtual 97, 3) := dk_182 0 97 (dk_at dksX3_cause_3 7 rfl rfl)
theorem dX3_cause_80 : decode cX3_cause 80 = .ok (.ireturn, 1) := dk_172 (dk_at dksX3_cause_3 10 rfl rfl)
theorem dX3_cause_81 : decode cX3_cause 81 = .ok (.aload_n 0, 1) := dk_42 (dk_at dksX3_cause_3 11 rfl rfl)
theorem dX3_cause_82 : decode cX3_cause 82 = .ok (.invokevirtual 111, 3) := dk_182 0 111 (dk_at dksX3_cause_3 12 rfl rfl)
theorem dX3_cause_85 : decode cX3_cause 85 = .ok (.aload_n 0, 1) := dk_42 (dk_at dksX3_cause_3 15 rfl rfl)
theorem dX3_cause_86 : decode cX3_cause 86 = .ok (.getfield 7, 3) := dk_180 0 7 (dk_at dksX3_cause_3 16 rfl rfl)
theorem dX3_cause_89 : decode cX3_cause 89 = .ok (.iload_n 1, 1) := dk_27 (dk_at dksX3_cause_3 19 rfl rfl)
theorem dX3_cause_90 : decode cX3_cause 90 = .ok (.bipush 8, 2) := dk_16 8 (dk_at dksX3_cause_3 20 rfl rfl)
theorem dX3_cause_92 : decode cX3_cause 92 = .ok (.invokestatic 76, 3) := dk_184 0 76 (dk_at dksX3_cause_4 0 rfl rfl)
theorem dX3_cause_95 : decode cX3_cause 95 = .ok (.iload_n 2, 1) := dk_28 (dk_at dksX3_cause_4 3 rfl rfl)
theorem dX3_cause_96 : decode cX3_cause 96 = .ok (.iastore, 1) := dk_79 (dk_at dksX3_cause_4 4 rfl rfl)
theorem dX3_cause_97 : decode cX3_cause 97 = .ok (.aload_n 0, 1) := dk_42 (dk_at dksX3_cause_4 5 rfl rfl)
theorem dX3_cause_98 : decode cX3_cause 98 = .ok (.iload_n 2, 1) := dk_28 (dk_at dksX3_cause_4 6 rfl rfl)
theorem dX3_cause_99 : decode cX3_cause 99 = .ok (.invokevirtual 130, 3) := dk_182 0 130 (dk_at dksX3_cause_4 7 rfl rfl)
theorem dX3_cause_102 : decode cX3_cause 102 = .ok (.invokestatic 145, 3) := dk_184 0 145 (dk_at dksX3_cause_4 10 rfl rfl)
theorem dX3_cause_105 : decode cX3_cause 105 = .ok (.ireturn, 1) := dk_172 (dk_at dksX3_cause_4 13 rfl rfl)
abbrev cX3_bitsOf : ByteArray := prog_18_method_43_code
def yX3_bitsOf : MethodName := ⟨RX3, "bitsOf", "(I)I"⟩
def dkwX3_bitsOf_0 : List UInt8 := [3, 60, 26, 61, 28, 153, 0, 15, 132, 1, 1, 28, 28, 4, 100, 126, 61, 167, 255, 243, 27, 172]
abbrev dktX3_bitsOf_0 : List UInt8 := dkwX3_bitsOf_0 ++ []
theorem dksX3_bitsOf_0 : cX3_bitsOf.data.toList.drop 0 = dktX3_bitsOf_0 := by decide +kernel
theorem dX3_bitsOf_0 : decode cX3_bitsOf 0 = .ok (.iconst 0, 1) := dk_3 (dk_at dksX3_bitsOf_0 0 rfl rfl)
theorem dX3_bitsOf_1 : decode cX3_bitsOf 1 = .ok (.istore_n 1, 1) := dk_60 (dk_at dksX3_bitsOf_0 1 rfl rfl)
theorem dX3_bitsOf_2 : decode cX3_bitsOf 2 = .ok (.iload_n 0, 1) := dk_26 (dk_at dksX3_bitsOf_0 2 rfl rfl)
theorem dX3_bitsOf_3 : decode cX3_bitsOf 3 = .ok (.istore_n 2, 1) := dk_61 (dk_at dksX3_bitsOf_0 3 rfl rfl)
theorem dX3_bitsOf_4 : decode cX3_bitsOf 4 = .ok (.iload_n 2, 1) := dk_28 (dk_at dksX3_bitsOf_0 4 rfl rfl)
theorem dX3_bitsOf_5 : decode cX3_bitsOf 5 = .ok (.ifCond .eq 15, 3) := dk_153 0 15 (dk_at dksX3_bitsOf_0 5 rfl rfl)
theorem dX3_bitsOf_8 : decode cX3_bitsOf 8 = .ok (.iinc 1 1, 3) := dk_132 1 1 (dk_at dksX3_bitsOf_0 8 rfl rfl)
theorem dX3_bitsOf_11 : decode cX3_bitsOf 11 = .ok (.iload_n 2, 1) := dk_28 (dk_at dksX3_bitsOf_0 11 rfl rfl)
theorem dX3_bitsOf_12 : decode cX3_bitsOf 12 = .ok (.iload_n 2, 1) := dk_28 (dk_at dksX3_bitsOf_0 12 rfl rfl)
theorem dX3_bitsOf_13 : decode cX3_bitsOf 13 = .ok (.iconst 1, 1) := dk_4 (dk_at dksX3_bitsOf_0 13 rfl rfl)
theorem dX3_bitsOf_14 : decode cX3_bitsOf 14 = .ok (.isub, 1) := dk_100 (dk_at dksX3_bitsOf_0 14 rfl rfl)
theorem dX3_bitsOf_15 : decode cX3_bitsOf 15 = .ok (.iand, 1) := dk_126 (dk_at dksX3_bitsOf_0 15 rfl rfl)
theorem dX3_bitsOf_16 : decode cX3_bitsOf 16 = .ok (.istore_n 2, 1) := dk_61 (dk_at dksX3_bitsOf_0 16 rfl rfl)
theorem dX3_bitsOf_17 : decode cX3_bitsOf 17 = .ok (.goto (-13), 3) := dk_167 255 243 (dk_at dksX3_bitsOf_0 17 rfl rfl)
theorem dX3_bitsOf_20 : decode cX3_bitsOf 20 = .ok (.iload_n 1, 1) := dk_27 (dk_at dksX3_bitsOf_0 20 rfl rfl)
theorem dX3_bitsOf_21 : decode cX3_bitsOf 21 = .ok (.ireturn, 1) := dk_172 (dk_at dksX3_bitsOf_0 21 rfl rfl)
abbrev cX3_note : ByteArray := prog_18_method_45_code
def yX3_note : MethodName := ⟨RX3, "note", "(III)I"⟩
def dkwX3_note_5 : List UInt8 := [17, 1, 76, 92, 46, 4, 96, 79, 42, 180, 0, 7, 17, 1, 76, 46, 4, 100, 172]
abbrev dktX3_note_5 : List UInt8 := dkwX3_note_5 ++ []
def dkwX3_note_4 : List UInt8 := [42, 180, 0, 7, 21, 4, 4, 96, 28, 79, 42, 180, 0, 7, 21, 4, 5, 96, 29, 79, 42, 180, 0, 7]
abbrev dktX3_note_4 : List UInt8 := dkwX3_note_4 ++ dktX3_note_5
def dkwX3_note_3 : List UInt8 := [17, 1, 77, 6, 42, 180, 0, 7, 17, 1, 76, 46, 104, 96, 54, 4, 42, 180, 0, 7, 21, 4, 27, 79]
abbrev dktX3_note_3 : List UInt8 := dkwX3_note_3 ++ dktX3_note_4
def dkwX3_note_2 : List UInt8 := [180, 0, 7, 17, 1, 76, 46, 16, 12, 160, 0, 10, 42, 6, 3, 182, 0, 97, 172, 42, 182, 0, 111]
abbrev dktX3_note_2 : List UInt8 := dkwX3_note_2 ++ dktX3_note_3
def dkwX3_note_1 : List UInt8 := [184, 0, 72, 153, 0, 13, 29, 4, 16, 99, 184, 0, 72, 154, 0, 10, 42, 5, 3, 182, 0, 97, 172, 42]
abbrev dktX3_note_1 : List UInt8 := dkwX3_note_1 ++ dktX3_note_2
def dkwX3_note_0 : List UInt8 := [42, 3, 181, 0, 41, 27, 3, 7, 184, 0, 72, 153, 0, 27, 28, 3, 42, 180, 0, 7, 3, 46]
abbrev dktX3_note_0 : List UInt8 := dkwX3_note_0 ++ dktX3_note_1
theorem dksX3_note_0 : cX3_note.data.toList.drop 0 = dktX3_note_0 := by decide +kernel
theorem dksX3_note_1 : cX3_note.data.toList.drop 22 = dktX3_note_1 := dk_seg dksX3_note_0 22 rfl rfl
theorem dksX3_note_2 : cX3_note.data.toList.drop 46 = dktX3_note_2 := dk_seg dksX3_note_1 24 rfl rfl
theorem dksX3_note_3 : cX3_note.data.toList.drop 69 = dktX3_note_3 := dk_seg dksX3_note_2 23 rfl rfl
theorem dksX3_note_4 : cX3_note.data.toList.drop 93 = dktX3_note_4 := dk_seg dksX3_note_3 24 rfl rfl
theorem dksX3_note_5 : cX3_note.data.toList.drop 117 = dktX3_note_5 := dk_seg dksX3_note_4 24 rfl rfl
theorem dX3_note_0 : decode cX3_note 0 = .ok (.aload_n 0, 1) := dk_42 (dk_at dksX3_note_0 0 rfl rfl)
theorem dX3_note_1 : decode cX3_note 1 = .ok (.iconst 0, 1) := dk_3 (dk_at dksX3_note_0 1 rfl rfl)
theorem dX3_note_2 : decode cX3_note 2 = .ok (.putfield 41, 3) := dk_181 0 41 (dk_at dksX3_note_0 2 rfl rfl)
theorem dX3_note_5 : decode cX3_note 5 = .ok (.iload_n 1, 1) := dk_27 (dk_at dksX3_note_0 5 rfl rfl)
theorem dX3_note_6 : decode cX3_note 6 = .ok (.iconst 0, 1) := dk_3 (dk_at dksX3_note_0 6 rfl rfl)
theorem dX3_note_7 : decode cX3_note 7 = .ok (.iconst 4, 1) := dk_7 (dk_at dksX3_note_0 7 rfl rfl)
theorem dX3_note_8 : decode cX3_note 8 = .ok (.invokestatic 72, 3) := dk_184 0 72 (dk_at dksX3_note_0 8 rfl rfl)
theorem dX3_note_11 : decode cX3_note 11 = .ok (.ifCond .eq 27, 3) := dk_153 0 27 (dk_at dksX3_note_0 11 rfl rfl)
theorem dX3_note_14 : decode cX3_note 14 = .ok (.iload_n 2, 1) := dk_28 (dk_at dksX3_note_0 14 rfl rfl)
theorem dX3_note_15 : decode cX3_note 15 = .ok (.iconst 0, 1) := dk_3 (dk_at dksX3_note_0 15 rfl rfl)
theorem dX3_note_16 : decode cX3_note 16 = .ok (.aload_n 0, 1) := dk_42 (dk_at dksX3_note_0 16 rfl rfl)
theorem dX3_note_17 : decode cX3_note 17 = .ok (.getfield 7, 3) := dk_180 0 7 (dk_at dksX3_note_0 17 rfl rfl)
theorem dX3_note_20 : decode cX3_note 20 = .ok (.iconst 0, 1) := dk_3 (dk_at dksX3_note_0 20 rfl rfl)
theorem dX3_note_21 : decode cX3_note 21 = .ok (.iaload, 1) := dk_46 (dk_at dksX3_note_0 21 rfl rfl)
theorem dX3_note_22 : decode cX3_note 22 = .ok (.invokestatic 72, 3) := dk_184 0 72 (dk_at dksX3_note_1 0 rfl rfl)
theorem dX3_note_25 : decode cX3_note 25 = .ok (.ifCond .eq 13, 3) := dk_153 0 13 (dk_at dksX3_note_1 3 rfl rfl)
theorem dX3_note_28 : decode cX3_note 28 = .ok (.iload_n 3, 1) := dk_29 (dk_at dksX3_note_1 6 rfl rfl)
theorem dX3_note_29 : decode cX3_note 29 = .ok (.iconst 1, 1) := dk_4 (dk_at dksX3_note_1 7 rfl rfl)
theorem dX3_note_30 : decode cX3_note 30 = .ok (.bipush 99, 2) := dk_16 99 (dk_at dksX3_note_1 8 rfl rfl)
theorem dX3_note_32 : decode cX3_note 32 = .ok (.invokestatic 72, 3) := dk_184 0 72 (dk_at dksX3_note_1 10 rfl rfl)
theorem dX3_note_35 : decode cX3_note 35 = .ok (.ifCond .ne 10, 3) := dk_154 0 10 (dk_at dksX3_note_1 13 rfl rfl)
theorem dX3_note_38 : decode cX3_note 38 = .ok (.aload_n 0, 1) := dk_42 (dk_at dksX3_note_1 16 rfl rfl)
theorem dX3_note_39 : decode cX3_note 39 = .ok (.iconst 2, 1) := dk_5 (dk_at dksX3_note_1 17 rfl rfl)
theorem dX3_note_40 : decode cX3_note 40 = .ok (.iconst 0, 1) := dk_3 (dk_at dksX3_note_1 18 rfl rfl)
theorem dX3_note_41 : decode cX3_note 41 = .ok (.invokevirtual 97, 3) := dk_182 0 97 (dk_at dksX3_note_1 19 rfl rfl)
theorem dX3_note_44 : decode cX3_note 44 = .ok (.ireturn, 1) := dk_172 (dk_at dksX3_note_1 22 rfl rfl)
theorem dX3_note_45 : decode cX3_note 45 = .ok (.aload_n 0, 1) := dk_42 (dk_at dksX3_note_1 23 rfl rfl)
theorem dX3_note_46 : decode cX3_note 46 = .ok (.getfield 7, 3) := dk_180 0 7 (dk_at dksX3_note_2 0 rfl rfl)
theorem dX3_note_49 : decode cX3_note 49 = .ok (.sipush 332, 3) := dk_17 1 76 (dk_at dksX3_note_2 3 rfl rfl)
theorem dX3_note_52 : decode cX3_note 52 = .ok (.iaload, 1) := dk_46 (dk_at dksX3_note_2 6 rfl rfl)
theorem dX3_note_53 : decode cX3_note 53 = .ok (.bipush 12, 2) := dk_16 12 (dk_at dksX3_note_2 7 rfl rfl)
theorem dX3_note_55 : decode cX3_note 55 = .ok (.if_icmp .ne 10, 3) := dk_160 0 10 (dk_at dksX3_note_2 9 rfl rfl)
theorem dX3_note_58 : decode cX3_note 58 = .ok (.aload_n 0, 1) := dk_42 (dk_at dksX3_note_2 12 rfl rfl)
theorem dX3_note_59 : decode cX3_note 59 = .ok (.iconst 3, 1) := dk_6 (dk_at dksX3_note_2 13 rfl rfl)
theorem dX3_note_60 : decode cX3_note 60 = .ok (.iconst 0, 1) := dk_3 (dk_at dksX3_note_2 14 rfl rfl)
theorem dX3_note_61 : decode cX3_note 61 = .ok (.invokevirtual 97, 3) := dk_182 0 97 (dk_at dksX3_note_2 15 rfl rfl)
theorem dX3_note_64 : decode cX3_note 64 = .ok (.ireturn, 1) := dk_172 (dk_at dksX3_note_2 18 rfl rfl)
theorem dX3_note_65 : decode cX3_note 65 = .ok (.aload_n 0, 1) := dk_42 (dk_at dksX3_note_2 19 rfl rfl)
theorem dX3_note_66 : decode cX3_note 66 = .ok (.invokevirtual 111, 3) := dk_182 0 111 (dk_at dksX3_note_2 20 rfl rfl)
theorem dX3_note_69 : decode cX3_note 69 = .ok (.sipush 333, 3) := dk_17 1 77 (dk_at dksX3_note_3 0 rfl rfl)
theorem dX3_note_72 : decode cX3_note 72 = .ok (.iconst 3, 1) := dk_6 (dk_at dksX3_note_3 3 rfl rfl)
theorem dX3_note_73 : decode cX3_note 73 = .ok (.aload_n 0, 1) := dk_42 (dk_at dksX3_note_3 4 rfl rfl)
theorem dX3_note_74 : decode cX3_note 74 = .ok (.getfield 7, 3) := dk_180 0 7 (dk_at dksX3_note_3 5 rfl rfl)
theorem dX3_note_77 : decode cX3_note 77 = .ok (.sipush 332, 3) := dk_17 1 76 (dk_at dksX3_note_3 8 rfl rfl)
theorem dX3_note_80 : decode cX3_note 80 = .ok (.iaload, 1) := dk_46 (dk_at dksX3_note_3 11 rfl rfl)
theorem dX3_note_81 : decode cX3_note 81 = .ok (.imul, 1) := dk_104 (dk_at dksX3_note_3 12 rfl rfl)
theorem dX3_note_82 : decode cX3_note 82 = .ok (.iadd, 1) := dk_96 (dk_at dksX3_note_3 13 rfl rfl)
theorem dX3_note_83 : decode cX3_note 83 = .ok (.istore 4, 2) := dk_54 4 (dk_at dksX3_note_3 14 rfl rfl)
theorem dX3_note_85 : decode cX3_note 85 = .ok (.aload_n 0, 1) := dk_42 (dk_at dksX3_note_3 16 rfl rfl)
theorem dX3_note_86 : decode cX3_note 86 = .ok (.getfield 7, 3) := dk_180 0 7 (dk_at dksX3_note_3 17 rfl rfl)
theorem dX3_note_89 : decode cX3_note 89 = .ok (.iload 4, 2) := dk_21 4 (dk_at dksX3_note_3 20 rfl rfl)
theorem dX3_note_91 : decode cX3_note 91 = .ok (.iload_n 1, 1) := dk_27 (dk_at dksX3_note_3 22 rfl rfl)
theorem dX3_note_92 : decode cX3_note 92 = .ok (.iastore, 1) := dk_79 (dk_at dksX3_note_3 23 rfl rfl)
theorem dX3_note_93 : decode cX3_note 93 = .ok (.aload_n 0, 1) := dk_42 (dk_at dksX3_note_4 0 rfl rfl)
theorem dX3_note_94 : decode cX3_note 94 = .ok (.getfield 7, 3) := dk_180 0 7 (dk_at dksX3_note_4 1 rfl rfl)
theorem dX3_note_97 : decode cX3_note 97 = .ok (.iload 4, 2) := dk_21 4 (dk_at dksX3_note_4 4 rfl rfl)
theorem dX3_note_99 : decode cX3_note 99 = .ok (.iconst 1, 1) := dk_4 (dk_at dksX3_note_4 6 rfl rfl)
theorem dX3_note_100 : decode cX3_note 100 = .ok (.iadd, 1) := dk_96 (dk_at dksX3_note_4 7 rfl rfl)
theorem dX3_note_101 : decode cX3_note 101 = .ok (.iload_n 2, 1) := dk_28 (dk_at dksX3_note_4 8 rfl rfl)
theorem dX3_note_102 : decode cX3_note 102 = .ok (.iastore, 1) := dk_79 (dk_at dksX3_note_4 9 rfl rfl)
theorem dX3_note_103 : decode cX3_note 103 = .ok (.aload_n 0, 1) := dk_42 (dk_at dksX3_note_4 10 rfl rfl)
theorem dX3_note_104 : decode cX3_note 104 = .ok (.getfield 7, 3) := dk_180 0 7 (dk_at dksX3_note_4 11 rfl rfl)
theorem dX3_note_107 : decode cX3_note 107 = .ok (.iload 4, 2) := dk_21 4 (dk_at dksX3_note_4 14 rfl rfl)
theorem dX3_note_109 : decode cX3_note 109 = .ok (.iconst 2, 1) := dk_5 (dk_at dksX3_note_4 16 rfl rfl)
theorem dX3_note_110 : decode cX3_note 110 = .ok (.iadd, 1) := dk_96 (dk_at dksX3_note_4 17 rfl rfl)
theorem dX3_note_111 : decode cX3_note 111 = .ok (.iload_n 3, 1) := dk_29 (dk_at dksX3_note_4 18 rfl rfl)
theorem dX3_note_112 : decode cX3_note 112 = .ok (.iastore, 1) := dk_79 (dk_at dksX3_note_4 19 rfl rfl)
theorem dX3_note_113 : decode cX3_note 113 = .ok (.aload_n 0, 1) := dk_42 (dk_at dksX3_note_4 20 rfl rfl)
theorem dX3_note_114 : decode cX3_note 114 = .ok (.getfield 7, 3) := dk_180 0 7 (dk_at dksX3_note_4 21 rfl rfl)
theorem dX3_note_117 : decode cX3_note 117 = .ok (.sipush 332, 3) := dk_17 1 76 (dk_at dksX3_note_5 0 rfl rfl)
theorem dX3_note_120 : decode cX3_note 120 = .ok (.dup2, 1) := dk_92 (dk_at dksX3_note_5 3 rfl rfl)
theorem dX3_note_121 : decode cX3_note 121 = .ok (.iaload, 1) := dk_46 (dk_at dksX3_note_5 4 rfl rfl)
theorem dX3_note_122 : decode cX3_note 122 = .ok (.iconst 1, 1) := dk_4 (dk_at dksX3_note_5 5 rfl rfl)
theorem dX3_note_123 : decode cX3_note 123 = .ok (.iadd, 1) := dk_96 (dk_at dksX3_note_5 6 rfl rfl)
theorem dX3_note_124 : decode cX3_note 124 = .ok (.iastore, 1) := dk_79 (dk_at dksX3_note_5 7 rfl rfl)
theorem dX3_note_125 : decode cX3_note 125 = .ok (.aload_n 0, 1) := dk_42 (dk_at dksX3_note_5 8 rfl rfl)
theorem dX3_note_126 : decode cX3_note 126 = .ok (.getfield 7, 3) := dk_180 0 7 (dk_at dksX3_note_5 9 rfl rfl)
theorem dX3_note_129 : decode cX3_note 129 = .ok (.sipush 332, 3) := dk_17 1 76 (dk_at dksX3_note_5 12 rfl rfl)
theorem dX3_note_132 : decode cX3_note 132 = .ok (.iaload, 1) := dk_46 (dk_at dksX3_note_5 15 rfl rfl)
theorem dX3_note_133 : decode cX3_note 133 = .ok (.iconst 1, 1) := dk_4 (dk_at dksX3_note_5 16 rfl rfl)
theorem dX3_note_134 : decode cX3_note 134 = .ok (.isub, 1) := dk_100 (dk_at dksX3_note_5 17 rfl rfl)
theorem dX3_note_135 : decode cX3_note 135 = .ok (.ireturn, 1) := dk_172 (dk_at dksX3_note_5 18 rfl rfl)
abbrev cX3_link : ByteArray := prog_18_method_47_code
def yX3_link : MethodName := ⟨RX3, "link", "(II)I"⟩
def dkwX3_link_4 : List UInt8 := [184, 0, 76, 28, 79, 29, 172]
abbrev dktX3_link_4 : List UInt8 := dkwX3_link_4 ++ []
def dkwX3_link_3 : List UInt8 := [182, 0, 97, 172, 42, 182, 0, 111, 42, 27, 16, 9, 182, 0, 80, 62, 42, 180, 0, 7, 27, 16, 9]
abbrev dktX3_link_3 : List UInt8 := dkwX3_link_3 ++ dktX3_link_4
def dkwX3_link_2 : List UInt8 := [16, 10, 3, 182, 0, 97, 172, 42, 27, 16, 9, 182, 0, 80, 28, 160, 0, 11, 42, 16, 13, 3]
abbrev dktX3_link_2 : List UInt8 := dkwX3_link_2 ++ dktX3_link_3
def dkwX3_link_1 : List UInt8 := [100, 184, 0, 72, 154, 0, 10, 42, 4, 3, 182, 0, 97, 172, 42, 27, 28, 182, 0, 148, 154, 0, 11, 42]
abbrev dktX3_link_1 : List UInt8 := dkwX3_link_1 ++ dktX3_link_2
def dkwX3_link_0 : List UInt8 := [42, 3, 181, 0, 41, 42, 27, 182, 0, 118, 153, 0, 21, 28, 3, 42, 180, 0, 7, 17, 1, 76, 46, 4]
abbrev dktX3_link_0 : List UInt8 := dkwX3_link_0 ++ dktX3_link_1
theorem dksX3_link_0 : cX3_link.data.toList.drop 0 = dktX3_link_0 := by decide +kernel
theorem dksX3_link_1 : cX3_link.data.toList.drop 24 = dktX3_link_1 := dk_seg dksX3_link_0 24 rfl rfl
theorem dksX3_link_2 : cX3_link.data.toList.drop 48 = dktX3_link_2 := dk_seg dksX3_link_1 24 rfl rfl
theorem dksX3_link_3 : cX3_link.data.toList.drop 70 = dktX3_link_3 := dk_seg dksX3_link_2 22 rfl rfl
theorem dksX3_link_4 : cX3_link.data.toList.drop 93 = dktX3_link_4 := dk_seg dksX3_link_3 23 rfl rfl
theorem dX3_link_0 : decode cX3_link 0 = .ok (.aload_n 0, 1) := dk_42 (dk_at dksX3_link_0 0 rfl rfl)
theorem dX3_link_1 : decode cX3_link 1 = .ok (.iconst 0, 1) := dk_3 (dk_at dksX3_link_0 1 rfl rfl)
theorem dX3_link_2 : decode cX3_link 2 = .ok (.putfield 41, 3) := dk_181 0 41 (dk_at dksX3_link_0 2 rfl rfl)
theorem dX3_link_5 : decode cX3_link 5 = .ok (.aload_n 0, 1) := dk_42 (dk_at dksX3_link_0 5 rfl rfl)
theorem dX3_link_6 : decode cX3_link 6 = .ok (.iload_n 1, 1) := dk_27 (dk_at dksX3_link_0 6 rfl rfl)
theorem dX3_link_7 : decode cX3_link 7 = .ok (.invokevirtual 118, 3) := dk_182 0 118 (dk_at dksX3_link_0 7 rfl rfl)
theorem dX3_link_10 : decode cX3_link 10 = .ok (.ifCond .eq 21, 3) := dk_153 0 21 (dk_at dksX3_link_0 10 rfl rfl)
theorem dX3_link_13 : decode cX3_link 13 = .ok (.iload_n 2, 1) := dk_28 (dk_at dksX3_link_0 13 rfl rfl)
theorem dX3_link_14 : decode cX3_link 14 = .ok (.iconst 0, 1) := dk_3 (dk_at dksX3_link_0 14 rfl rfl)
theorem dX3_link_15 : decode cX3_link 15 = .ok (.aload_n 0, 1) := dk_42 (dk_at dksX3_link_0 15 rfl rfl)
theorem dX3_link_16 : decode cX3_link 16 = .ok (.getfield 7, 3) := dk_180 0 7 (dk_at dksX3_link_0 16 rfl rfl)
theorem dX3_link_19 : decode cX3_link 19 = .ok (.sipush 332, 3) := dk_17 1 76 (dk_at dksX3_link_0 19 rfl rfl)
theorem dX3_link_22 : decode cX3_link 22 = .ok (.iaload, 1) := dk_46 (dk_at dksX3_link_0 22 rfl rfl)
theorem dX3_link_23 : decode cX3_link 23 = .ok (.iconst 1, 1) := dk_4 (dk_at dksX3_link_0 23 rfl rfl)
theorem dX3_link_24 : decode cX3_link 24 = .ok (.isub, 1) := dk_100 (dk_at dksX3_link_1 0 rfl rfl)
theorem dX3_link_25 : decode cX3_link 25 = .ok (.invokestatic 72, 3) := dk_184 0 72 (dk_at dksX3_link_1 1 rfl rfl)
theorem dX3_link_28 : decode cX3_link 28 = .ok (.ifCond .ne 10, 3) := dk_154 0 10 (dk_at dksX3_link_1 4 rfl rfl)
theorem dX3_link_31 : decode cX3_link 31 = .ok (.aload_n 0, 1) := dk_42 (dk_at dksX3_link_1 7 rfl rfl)
theorem dX3_link_32 : decode cX3_link 32 = .ok (.iconst 1, 1) := dk_4 (dk_at dksX3_link_1 8 rfl rfl)
theorem dX3_link_33 : decode cX3_link 33 = .ok (.iconst 0, 1) := dk_3 (dk_at dksX3_link_1 9 rfl rfl)
theorem dX3_link_34 : decode cX3_link 34 = .ok (.invokevirtual 97, 3) := dk_182 0 97 (dk_at dksX3_link_1 10 rfl rfl)
theorem dX3_link_37 : decode cX3_link 37 = .ok (.ireturn, 1) := dk_172 (dk_at dksX3_link_1 13 rfl rfl)
theorem dX3_link_38 : decode cX3_link 38 = .ok (.aload_n 0, 1) := dk_42 (dk_at dksX3_link_1 14 rfl rfl)
theorem dX3_link_39 : decode cX3_link 39 = .ok (.iload_n 1, 1) := dk_27 (dk_at dksX3_link_1 15 rfl rfl)
theorem dX3_link_40 : decode cX3_link 40 = .ok (.iload_n 2, 1) := dk_28 (dk_at dksX3_link_1 16 rfl rfl)
theorem dX3_link_41 : decode cX3_link 41 = .ok (.invokevirtual 148, 3) := dk_182 0 148 (dk_at dksX3_link_1 17 rfl rfl)
theorem dX3_link_44 : decode cX3_link 44 = .ok (.ifCond .ne 11, 3) := dk_154 0 11 (dk_at dksX3_link_1 20 rfl rfl)
theorem dX3_link_47 : decode cX3_link 47 = .ok (.aload_n 0, 1) := dk_42 (dk_at dksX3_link_1 23 rfl rfl)
theorem dX3_link_48 : decode cX3_link 48 = .ok (.bipush 10, 2) := dk_16 10 (dk_at dksX3_link_2 0 rfl rfl)
theorem dX3_link_50 : decode cX3_link 50 = .ok (.iconst 0, 1) := dk_3 (dk_at dksX3_link_2 2 rfl rfl)
theorem dX3_link_51 : decode cX3_link 51 = .ok (.invokevirtual 97, 3) := dk_182 0 97 (dk_at dksX3_link_2 3 rfl rfl)
theorem dX3_link_54 : decode cX3_link 54 = .ok (.ireturn, 1) := dk_172 (dk_at dksX3_link_2 6 rfl rfl)
theorem dX3_link_55 : decode cX3_link 55 = .ok (.aload_n 0, 1) := dk_42 (dk_at dksX3_link_2 7 rfl rfl)
theorem dX3_link_56 : decode cX3_link 56 = .ok (.iload_n 1, 1) := dk_27 (dk_at dksX3_link_2 8 rfl rfl)
theorem dX3_link_57 : decode cX3_link 57 = .ok (.bipush 9, 2) := dk_16 9 (dk_at dksX3_link_2 9 rfl rfl)
theorem dX3_link_59 : decode cX3_link 59 = .ok (.invokevirtual 80, 3) := dk_182 0 80 (dk_at dksX3_link_2 11 rfl rfl)
theorem dX3_link_62 : decode cX3_link 62 = .ok (.iload_n 2, 1) := dk_28 (dk_at dksX3_link_2 14 rfl rfl)
theorem dX3_link_63 : decode cX3_link 63 = .ok (.if_icmp .ne 11, 3) := dk_160 0 11 (dk_at dksX3_link_2 15 rfl rfl)
theorem dX3_link_66 : decode cX3_link 66 = .ok (.aload_n 0, 1) := dk_42 (dk_at dksX3_link_2 18 rfl rfl)
theorem dX3_link_67 : decode cX3_link 67 = .ok (.bipush 13, 2) := dk_16 13 (dk_at dksX3_link_2 19 rfl rfl)
theorem dX3_link_69 : decode cX3_link 69 = .ok (.iconst 0, 1) := dk_3 (dk_at dksX3_link_2 21 rfl rfl)
theorem dX3_link_70 : decode cX3_link 70 = .ok (.invokevirtual 97, 3) := dk_182 0 97 (dk_at dksX3_link_3 0 rfl rfl)
theorem dX3_link_73 : decode cX3_link 73 = .ok (.ireturn, 1) := dk_172 (dk_at dksX3_link_3 3 rfl rfl)
theorem dX3_link_74 : decode cX3_link 74 = .ok (.aload_n 0, 1) := dk_42 (dk_at dksX3_link_3 4 rfl rfl)
theorem dX3_link_75 : decode cX3_link 75 = .ok (.invokevirtual 111, 3) := dk_182 0 111 (dk_at dksX3_link_3 5 rfl rfl)
theorem dX3_link_78 : decode cX3_link 78 = .ok (.aload_n 0, 1) := dk_42 (dk_at dksX3_link_3 8 rfl rfl)
theorem dX3_link_79 : decode cX3_link 79 = .ok (.iload_n 1, 1) := dk_27 (dk_at dksX3_link_3 9 rfl rfl)
theorem dX3_link_80 : decode cX3_link 80 = .ok (.bipush 9, 2) := dk_16 9 (dk_at dksX3_link_3 10 rfl rfl)
theorem dX3_link_82 : decode cX3_link 82 = .ok (.invokevirtual 80, 3) := dk_182 0 80 (dk_at dksX3_link_3 12 rfl rfl)
theorem dX3_link_85 : decode cX3_link 85 = .ok (.istore_n 3, 1) := dk_62 (dk_at dksX3_link_3 15 rfl rfl)
theorem dX3_link_86 : decode cX3_link 86 = .ok (.aload_n 0, 1) := dk_42 (dk_at dksX3_link_3 16 rfl rfl)
theorem dX3_link_87 : decode cX3_link 87 = .ok (.getfield 7, 3) := dk_180 0 7 (dk_at dksX3_link_3 17 rfl rfl)
theorem dX3_link_90 : decode cX3_link 90 = .ok (.iload_n 1, 1) := dk_27 (dk_at dksX3_link_3 20 rfl rfl)
theorem dX3_link_91 : decode cX3_link 91 = .ok (.bipush 9, 2) := dk_16 9 (dk_at dksX3_link_3 21 rfl rfl)
theorem dX3_link_93 : decode cX3_link 93 = .ok (.invokestatic 76, 3) := dk_184 0 76 (dk_at dksX3_link_4 0 rfl rfl)
theorem dX3_link_96 : decode cX3_link 96 = .ok (.iload_n 2, 1) := dk_28 (dk_at dksX3_link_4 3 rfl rfl)
theorem dX3_link_97 : decode cX3_link 97 = .ok (.iastore, 1) := dk_79 (dk_at dksX3_link_4 4 rfl rfl)
theorem dX3_link_98 : decode cX3_link 98 = .ok (.iload_n 3, 1) := dk_29 (dk_at dksX3_link_4 5 rfl rfl)
theorem dX3_link_99 : decode cX3_link 99 = .ok (.ireturn, 1) := dk_172 (dk_at dksX3_link_4 6 rfl rfl)
abbrev cX3_isSuspected : ByteArray := prog_18_method_46_code
def yX3_isSuspected : MethodName := ⟨RX3, "isSuspected", "(II)Z"⟩
def dkwX3_isSuspected_3 : List UInt8 := [163, 0, 7, 4, 167, 0, 4, 3, 172]
abbrev dktX3_isSuspected_3 : List UInt8 := dkwX3_isSuspected_3 ++ []
def dkwX3_isSuspected_2 : List UInt8 := [180, 0, 7, 29, 4, 96, 46, 100, 42, 180, 0, 7, 29, 5, 96, 46, 100, 42, 180, 0, 7, 16, 10, 46]
abbrev dktX3_isSuspected_2 : List UInt8 := dkwX3_isSuspected_2 ++ dktX3_isSuspected_3
def dkwX3_isSuspected_1 : List UInt8 := [180, 0, 7, 29, 4, 96, 46, 42, 27, 7, 182, 0, 80, 163, 0, 41, 42, 27, 7, 182, 0, 80, 42]
abbrev dktX3_isSuspected_1 : List UInt8 := dkwX3_isSuspected_1 ++ dktX3_isSuspected_2
def dkwX3_isSuspected_0 : List UInt8 := [17, 1, 77, 6, 28, 104, 96, 62, 42, 180, 0, 7, 29, 46, 42, 27, 3, 182, 0, 80, 160, 0, 58, 42]
abbrev dktX3_isSuspected_0 : List UInt8 := dkwX3_isSuspected_0 ++ dktX3_isSuspected_1
theorem dksX3_isSuspected_0 : cX3_isSuspected.data.toList.drop 0 = dktX3_isSuspected_0 := by decide +kernel
theorem dksX3_isSuspected_1 : cX3_isSuspected.data.toList.drop 24 = dktX3_isSuspected_1 := dk_seg dksX3_isSuspected_0 24 rfl rfl
theorem dksX3_isSuspected_2 : cX3_isSuspected.data.toList.drop 47 = dktX3_isSuspected_2 := dk_seg dksX3_isSuspected_1 23 rfl rfl
theorem dksX3_isSuspected_3 : cX3_isSuspected.data.toList.drop 71 = dktX3_isSuspected_3 := dk_seg dksX3_isSuspected_2 24 rfl rfl
theorem dX3_isSuspected_0 : decode cX3_isSuspected 0 = .ok (.sipush 333, 3) := dk_17 1 77 (dk_at dksX3_isSuspected_0 0 rfl rfl)
theorem dX3_isSuspected_3 : decode cX3_isSuspected 3 = .ok (.iconst 3, 1) := dk_6 (dk_at dksX3_isSuspected_0 3 rfl rfl)
theorem dX3_isSuspected_4 : decode cX3_isSuspected 4 = .ok (.iload_n 2, 1) := dk_28 (dk_at dksX3_isSuspected_0 4 rfl rfl)
theorem dX3_isSuspected_5 : decode cX3_isSuspected 5 = .ok (.imul, 1) := dk_104 (dk_at dksX3_isSuspected_0 5 rfl rfl)
theorem dX3_isSuspected_6 : decode cX3_isSuspected 6 = .ok (.iadd, 1) := dk_96 (dk_at dksX3_isSuspected_0 6 rfl rfl)
theorem dX3_isSuspected_7 : decode cX3_isSuspected 7 = .ok (.istore_n 3, 1) := dk_62 (dk_at dksX3_isSuspected_0 7 rfl rfl)
theorem dX3_isSuspected_8 : decode cX3_isSuspected 8 = .ok (.aload_n 0, 1) := dk_42 (dk_at dksX3_isSuspected_0 8 rfl rfl)
theorem dX3_isSuspected_9 : decode cX3_isSuspected 9 = .ok (.getfield 7, 3) := dk_180 0 7 (dk_at dksX3_isSuspected_0 9 rfl rfl)
theorem dX3_isSuspected_12 : decode cX3_isSuspected 12 = .ok (.iload_n 3, 1) := dk_29 (dk_at dksX3_isSuspected_0 12 rfl rfl)
theorem dX3_isSuspected_13 : decode cX3_isSuspected 13 = .ok (.iaload, 1) := dk_46 (dk_at dksX3_isSuspected_0 13 rfl rfl)
theorem dX3_isSuspected_14 : decode cX3_isSuspected 14 = .ok (.aload_n 0, 1) := dk_42 (dk_at dksX3_isSuspected_0 14 rfl rfl)
theorem dX3_isSuspected_15 : decode cX3_isSuspected 15 = .ok (.iload_n 1, 1) := dk_27 (dk_at dksX3_isSuspected_0 15 rfl rfl)
theorem dX3_isSuspected_16 : decode cX3_isSuspected 16 = .ok (.iconst 0, 1) := dk_3 (dk_at dksX3_isSuspected_0 16 rfl rfl)
theorem dX3_isSuspected_17 : decode cX3_isSuspected 17 = .ok (.invokevirtual 80, 3) := dk_182 0 80 (dk_at dksX3_isSuspected_0 17 rfl rfl)
theorem dX3_isSuspected_20 : decode cX3_isSuspected 20 = .ok (.if_icmp .ne 58, 3) := dk_160 0 58 (dk_at dksX3_isSuspected_0 20 rfl rfl)
theorem dX3_isSuspected_23 : decode cX3_isSuspected 23 = .ok (.aload_n 0, 1) := dk_42 (dk_at dksX3_isSuspected_0 23 rfl rfl)
theorem dX3_isSuspected_24 : decode cX3_isSuspected 24 = .ok (.getfield 7, 3) := dk_180 0 7 (dk_at dksX3_isSuspected_1 0 rfl rfl)
theorem dX3_isSuspected_27 : decode cX3_isSuspected 27 = .ok (.iload_n 3, 1) := dk_29 (dk_at dksX3_isSuspected_1 3 rfl rfl)
theorem dX3_isSuspected_28 : decode cX3_isSuspected 28 = .ok (.iconst 1, 1) := dk_4 (dk_at dksX3_isSuspected_1 4 rfl rfl)
theorem dX3_isSuspected_29 : decode cX3_isSuspected 29 = .ok (.iadd, 1) := dk_96 (dk_at dksX3_isSuspected_1 5 rfl rfl)
theorem dX3_isSuspected_30 : decode cX3_isSuspected 30 = .ok (.iaload, 1) := dk_46 (dk_at dksX3_isSuspected_1 6 rfl rfl)
theorem dX3_isSuspected_31 : decode cX3_isSuspected 31 = .ok (.aload_n 0, 1) := dk_42 (dk_at dksX3_isSuspected_1 7 rfl rfl)
theorem dX3_isSuspected_32 : decode cX3_isSuspected 32 = .ok (.iload_n 1, 1) := dk_27 (dk_at dksX3_isSuspected_1 8 rfl rfl)
theorem dX3_isSuspected_33 : decode cX3_isSuspected 33 = .ok (.iconst 4, 1) := dk_7 (dk_at dksX3_isSuspected_1 9 rfl rfl)
theorem dX3_isSuspected_34 : decode cX3_isSuspected 34 = .ok (.invokevirtual 80, 3) := dk_182 0 80 (dk_at dksX3_isSuspected_1 10 rfl rfl)
theorem dX3_isSuspected_37 : decode cX3_isSuspected 37 = .ok (.if_icmp .gt 41, 3) := dk_163 0 41 (dk_at dksX3_isSuspected_1 13 rfl rfl)
theorem dX3_isSuspected_40 : decode cX3_isSuspected 40 = .ok (.aload_n 0, 1) := dk_42 (dk_at dksX3_isSuspected_1 16 rfl rfl)
theorem dX3_isSuspected_41 : decode cX3_isSuspected 41 = .ok (.iload_n 1, 1) := dk_27 (dk_at dksX3_isSuspected_1 17 rfl rfl)
theorem dX3_isSuspected_42 : decode cX3_isSuspected 42 = .ok (.iconst 4, 1) := dk_7 (dk_at dksX3_isSuspected_1 18 rfl rfl)
theorem dX3_isSuspected_43 : decode cX3_isSuspected 43 = .ok (.invokevirtual 80, 3) := dk_182 0 80 (dk_at dksX3_isSuspected_1 19 rfl rfl)
theorem dX3_isSuspected_46 : decode cX3_isSuspected 46 = .ok (.aload_n 0, 1) := dk_42 (dk_at dksX3_isSuspected_1 22 rfl rfl)
theorem dX3_isSuspected_47 : decode cX3_isSuspected 47 = .ok (.getfield 7, 3) := dk_180 0 7 (dk_at dksX3_isSuspected_2 0 rfl rfl)
theorem dX3_isSuspected_50 : decode cX3_isSuspected 50 = .ok (.iload_n 3, 1) := dk_29 (dk_at dksX3_isSuspected_2 3 rfl rfl)
theorem dX3_isSuspected_51 : decode cX3_isSuspected 51 = .ok (.iconst 1, 1) := dk_4 (dk_at dksX3_isSuspected_2 4 rfl rfl)
theorem dX3_isSuspected_52 : decode cX3_isSuspected 52 = .ok (.iadd, 1) := dk_96 (dk_at dksX3_isSuspected_2 5 rfl rfl)
theorem dX3_isSuspected_53 : decode cX3_isSuspected 53 = .ok (.iaload, 1) := dk_46 (dk_at dksX3_isSuspected_2 6 rfl rfl)
theorem dX3_isSuspected_54 : decode cX3_isSuspected 54 = .ok (.isub, 1) := dk_100 (dk_at dksX3_isSuspected_2 7 rfl rfl)
theorem dX3_isSuspected_55 : decode cX3_isSuspected 55 = .ok (.aload_n 0, 1) := dk_42 (dk_at dksX3_isSuspected_2 8 rfl rfl)
theorem dX3_isSuspected_56 : decode cX3_isSuspected 56 = .ok (.getfield 7, 3) := dk_180 0 7 (dk_at dksX3_isSuspected_2 9 rfl rfl)
theorem dX3_isSuspected_59 : decode cX3_isSuspected 59 = .ok (.iload_n 3, 1) := dk_29 (dk_at dksX3_isSuspected_2 12 rfl rfl)
theorem dX3_isSuspected_60 : decode cX3_isSuspected 60 = .ok (.iconst 2, 1) := dk_5 (dk_at dksX3_isSuspected_2 13 rfl rfl)
theorem dX3_isSuspected_61 : decode cX3_isSuspected 61 = .ok (.iadd, 1) := dk_96 (dk_at dksX3_isSuspected_2 14 rfl rfl)
theorem dX3_isSuspected_62 : decode cX3_isSuspected 62 = .ok (.iaload, 1) := dk_46 (dk_at dksX3_isSuspected_2 15 rfl rfl)
theorem dX3_isSuspected_63 : decode cX3_isSuspected 63 = .ok (.isub, 1) := dk_100 (dk_at dksX3_isSuspected_2 16 rfl rfl)
theorem dX3_isSuspected_64 : decode cX3_isSuspected 64 = .ok (.aload_n 0, 1) := dk_42 (dk_at dksX3_isSuspected_2 17 rfl rfl)
theorem dX3_isSuspected_65 : decode cX3_isSuspected 65 = .ok (.getfield 7, 3) := dk_180 0 7 (dk_at dksX3_isSuspected_2 18 rfl rfl)
theorem dX3_isSuspected_68 : decode cX3_isSuspected 68 = .ok (.bipush 10, 2) := dk_16 10 (dk_at dksX3_isSuspected_2 21 rfl rfl)
theorem dX3_isSuspected_70 : decode cX3_isSuspected 70 = .ok (.iaload, 1) := dk_46 (dk_at dksX3_isSuspected_2 23 rfl rfl)
theorem dX3_isSuspected_71 : decode cX3_isSuspected 71 = .ok (.if_icmp .gt 7, 3) := dk_163 0 7 (dk_at dksX3_isSuspected_3 0 rfl rfl)
theorem dX3_isSuspected_74 : decode cX3_isSuspected 74 = .ok (.iconst 1, 1) := dk_4 (dk_at dksX3_isSuspected_3 3 rfl rfl)
theorem dX3_isSuspected_75 : decode cX3_isSuspected 75 = .ok (.goto 4, 3) := dk_167 0 4 (dk_at dksX3_isSuspected_3 4 rfl rfl)
theorem dX3_isSuspected_78 : decode cX3_isSuspected 78 = .ok (.iconst 0, 1) := dk_3 (dk_at dksX3_isSuspected_3 7 rfl rfl)
theorem dX3_isSuspected_79 : decode cX3_isSuspected 79 = .ok (.ireturn, 1) := dk_172 (dk_at dksX3_isSuspected_3 8 rfl rfl)
abbrev cX3_review : ByteArray := prog_18_method_48_code
def yX3_review : MethodName := ⟨RX3, "review", "(I)I"⟩
def dkwX3_review_9 : List UInt8 := [17, 1, 113, 92, 46, 4, 96, 79, 42, 180, 0, 7, 17, 1, 113, 46, 4, 100, 172]
abbrev dktX3_review_9 : List UInt8 := dkwX3_review_9 ++ []
def dkwX3_review_8 : List UInt8 := [16, 10, 184, 0, 76, 42, 180, 0, 7, 17, 1, 113, 46, 79, 132, 2, 1, 167, 255, 214, 42, 180, 0, 7]
abbrev dktX3_review_8 : List UInt8 := dkwX3_review_8 ++ dktX3_review_9
def dkwX3_review_7 : List UInt8 := [180, 0, 7, 16, 11, 46, 162, 0, 37, 27, 28, 122, 4, 126, 4, 160, 0, 22, 42, 180, 0, 7, 28]
abbrev dktX3_review_7 : List UInt8 := dkwX3_review_7 ++ dktX3_review_8
def dkwX3_review_6 : List UInt8 := [42, 180, 0, 7, 17, 1, 114, 42, 180, 0, 7, 17, 1, 113, 46, 96, 27, 79, 3, 61, 28, 42]
abbrev dktX3_review_6 : List UInt8 := dkwX3_review_6 ++ dktX3_review_7
def dkwX3_review_5 : List UInt8 := [182, 0, 80, 155, 0, 11, 42, 16, 11, 28, 182, 0, 97, 172, 132, 2, 1, 167, 255, 215, 42, 182, 0, 111]
abbrev dktX3_review_5 : List UInt8 := dkwX3_review_5 ++ dktX3_review_6
def dkwX3_review_4 : List UInt8 := [42, 180, 0, 7, 16, 11, 46, 162, 0, 36, 27, 28, 122, 4, 126, 4, 160, 0, 21, 42, 28, 16, 10]
abbrev dktX3_review_4 : List UInt8 := dkwX3_review_4 ++ dktX3_review_5
def dkwX3_review_3 : List UInt8 := [6, 182, 0, 80, 5, 159, 0, 10, 42, 7, 28, 182, 0, 97, 172, 132, 2, 1, 167, 255, 216, 3, 61, 28]
abbrev dktX3_review_3 : List UInt8 := dkwX3_review_3 ++ dktX3_review_4
def dkwX3_review_2 : List UInt8 := [3, 61, 28, 42, 180, 0, 7, 16, 11, 46, 162, 0, 35, 27, 28, 122, 4, 126, 4, 160, 0, 20, 42, 28]
abbrev dktX3_review_2 : List UInt8 := dkwX3_review_2 ++ dktX3_review_3
def dkwX3_review_1 : List UInt8 := [182, 0, 97, 172, 42, 180, 0, 7, 17, 1, 113, 46, 16, 8, 160, 0, 10, 42, 6, 3, 182, 0, 97, 172]
abbrev dktX3_review_1 : List UInt8 := dkwX3_review_1 ++ dktX3_review_2
def dkwX3_review_0 : List UInt8 := [42, 3, 181, 0, 41, 27, 158, 0, 15, 27, 42, 180, 0, 7, 16, 11, 46, 122, 153, 0, 10, 42, 5, 3]
abbrev dktX3_review_0 : List UInt8 := dkwX3_review_0 ++ dktX3_review_1
theorem dksX3_review_0 : cX3_review.data.toList.drop 0 = dktX3_review_0 := by decide +kernel
theorem dksX3_review_1 : cX3_review.data.toList.drop 24 = dktX3_review_1 := dk_seg dksX3_review_0 24 rfl rfl
theorem dksX3_review_2 : cX3_review.data.toList.drop 48 = dktX3_review_2 := dk_seg dksX3_review_1 24 rfl rfl
theorem dksX3_review_3 : cX3_review.data.toList.drop 72 = dktX3_review_3 := dk_seg dksX3_review_2 24 rfl rfl
theorem dksX3_review_4 : cX3_review.data.toList.drop 96 = dktX3_review_4 := dk_seg dksX3_review_3 24 rfl rfl
theorem dksX3_review_5 : cX3_review.data.toList.drop 119 = dktX3_review_5 := dk_seg dksX3_review_4 23 rfl rfl
theorem dksX3_review_6 : cX3_review.data.toList.drop 143 = dktX3_review_6 := dk_seg dksX3_review_5 24 rfl rfl
theorem dksX3_review_7 : cX3_review.data.toList.drop 165 = dktX3_review_7 := dk_seg dksX3_review_6 22 rfl rfl
theorem dksX3_review_8 : cX3_review.data.toList.drop 188 = dktX3_review_8 := dk_seg dksX3_review_7 23 rfl rfl
theorem dksX3_review_9 : cX3_review.data.toList.drop 212 = dktX3_review_9 := dk_seg dksX3_review_8 24 rfl rfl
theorem dX3_review_0 : decode cX3_review 0 = .ok (.aload_n 0, 1) := dk_42 (dk_at dksX3_review_0 0 rfl rfl)
theorem dX3_review_1 : decode cX3_review 1 = .ok (.iconst 0, 1) := dk_3 (dk_at dksX3_review_0 1 rfl rfl)
theorem dX3_review_2 : decode cX3_review 2 = .ok (.putfield 41, 3) := dk_181 0 41 (dk_at dksX3_review_0 2 rfl rfl)
theorem dX3_review_5 : decode cX3_review 5 = .ok (.iload_n 1, 1) := dk_27 (dk_at dksX3_review_0 5 rfl rfl)
theorem dX3_review_6 : decode cX3_review 6 = .ok (.ifCond .le 15, 3) := dk_158 0 15 (dk_at dksX3_review_0 6 rfl rfl)
theorem dX3_review_9 : decode cX3_review 9 = .ok (.iload_n 1, 1) := dk_27 (dk_at dksX3_review_0 9 rfl rfl)
theorem dX3_review_10 : decode cX3_review 10 = .ok (.aload_n 0, 1) := dk_42 (dk_at dksX3_review_0 10 rfl rfl)
theorem dX3_review_11 : decode cX3_review 11 = .ok (.getfield 7, 3) := dk_180 0 7 (dk_at dksX3_review_0 11 rfl rfl)
theorem dX3_review_14 : decode cX3_review 14 = .ok (.bipush 11, 2) := dk_16 11 (dk_at dksX3_review_0 14 rfl rfl)
theorem dX3_review_16 : decode cX3_review 16 = .ok (.iaload, 1) := dk_46 (dk_at dksX3_review_0 16 rfl rfl)
theorem dX3_review_17 : decode cX3_review 17 = .ok (.ishr, 1) := dk_122 (dk_at dksX3_review_0 17 rfl rfl)
theorem dX3_review_18 : decode cX3_review 18 = .ok (.ifCond .eq 10, 3) := dk_153 0 10 (dk_at dksX3_review_0 18 rfl rfl)
theorem dX3_review_21 : decode cX3_review 21 = .ok (.aload_n 0, 1) := dk_42 (dk_at dksX3_review_0 21 rfl rfl)
theorem dX3_review_22 : decode cX3_review 22 = .ok (.iconst 2, 1) := dk_5 (dk_at dksX3_review_0 22 rfl rfl)
theorem dX3_review_23 : decode cX3_review 23 = .ok (.iconst 0, 1) := dk_3 (dk_at dksX3_review_0 23 rfl rfl)
theorem dX3_review_24 : decode cX3_review 24 = .ok (.invokevirtual 97, 3) := dk_182 0 97 (dk_at dksX3_review_1 0 rfl rfl)
theorem dX3_review_27 : decode cX3_review 27 = .ok (.ireturn, 1) := dk_172 (dk_at dksX3_review_1 3 rfl rfl)
theorem dX3_review_28 : decode cX3_review 28 = .ok (.aload_n 0, 1) := dk_42 (dk_at dksX3_review_1 4 rfl rfl)
theorem dX3_review_29 : decode cX3_review 29 = .ok (.getfield 7, 3) := dk_180 0 7 (dk_at dksX3_review_1 5 rfl rfl)
theorem dX3_review_32 : decode cX3_review 32 = .ok (.sipush 369, 3) := dk_17 1 113 (dk_at dksX3_review_1 8 rfl rfl)
theorem dX3_review_35 : decode cX3_review 35 = .ok (.iaload, 1) := dk_46 (dk_at dksX3_review_1 11 rfl rfl)
theorem dX3_review_36 : decode cX3_review 36 = .ok (.bipush 8, 2) := dk_16 8 (dk_at dksX3_review_1 12 rfl rfl)
theorem dX3_review_38 : decode cX3_review 38 = .ok (.if_icmp .ne 10, 3) := dk_160 0 10 (dk_at dksX3_review_1 14 rfl rfl)
theorem dX3_review_41 : decode cX3_review 41 = .ok (.aload_n 0, 1) := dk_42 (dk_at dksX3_review_1 17 rfl rfl)
theorem dX3_review_42 : decode cX3_review 42 = .ok (.iconst 3, 1) := dk_6 (dk_at dksX3_review_1 18 rfl rfl)
theorem dX3_review_43 : decode cX3_review 43 = .ok (.iconst 0, 1) := dk_3 (dk_at dksX3_review_1 19 rfl rfl)
theorem dX3_review_44 : decode cX3_review 44 = .ok (.invokevirtual 97, 3) := dk_182 0 97 (dk_at dksX3_review_1 20 rfl rfl)
theorem dX3_review_47 : decode cX3_review 47 = .ok (.ireturn, 1) := dk_172 (dk_at dksX3_review_1 23 rfl rfl)
theorem dX3_review_48 : decode cX3_review 48 = .ok (.iconst 0, 1) := dk_3 (dk_at dksX3_review_2 0 rfl rfl)
theorem dX3_review_49 : decode cX3_review 49 = .ok (.istore_n 2, 1) := dk_61 (dk_at dksX3_review_2 1 rfl rfl)
theorem dX3_review_50 : decode cX3_review 50 = .ok (.iload_n 2, 1) := dk_28 (dk_at dksX3_review_2 2 rfl rfl)
theorem dX3_review_51 : decode cX3_review 51 = .ok (.aload_n 0, 1) := dk_42 (dk_at dksX3_review_2 3 rfl rfl)
theorem dX3_review_52 : decode cX3_review 52 = .ok (.getfield 7, 3) := dk_180 0 7 (dk_at dksX3_review_2 4 rfl rfl)
theorem dX3_review_55 : decode cX3_review 55 = .ok (.bipush 11, 2) := dk_16 11 (dk_at dksX3_review_2 7 rfl rfl)
theorem dX3_review_57 : decode cX3_review 57 = .ok (.iaload, 1) := dk_46 (dk_at dksX3_review_2 9 rfl rfl)
theorem dX3_review_58 : decode cX3_review 58 = .ok (.if_icmp .ge 35, 3) := dk_162 0 35 (dk_at dksX3_review_2 10 rfl rfl)
theorem dX3_review_61 : decode cX3_review 61 = .ok (.iload_n 1, 1) := dk_27 (dk_at dksX3_review_2 13 rfl rfl)
theorem dX3_review_62 : decode cX3_review 62 = .ok (.iload_n 2, 1) := dk_28 (dk_at dksX3_review_2 14 rfl rfl)
theorem dX3_review_63 : decode cX3_review 63 = .ok (.ishr, 1) := dk_122 (dk_at dksX3_review_2 15 rfl rfl)
theorem dX3_review_64 : decode cX3_review 64 = .ok (.iconst 1, 1) := dk_4 (dk_at dksX3_review_2 16 rfl rfl)
theorem dX3_review_65 : decode cX3_review 65 = .ok (.iand, 1) := dk_126 (dk_at dksX3_review_2 17 rfl rfl)
theorem dX3_review_66 : decode cX3_review 66 = .ok (.iconst 1, 1) := dk_4 (dk_at dksX3_review_2 18 rfl rfl)
theorem dX3_review_67 : decode cX3_review 67 = .ok (.if_icmp .ne 20, 3) := dk_160 0 20 (dk_at dksX3_review_2 19 rfl rfl)
theorem dX3_review_70 : decode cX3_review 70 = .ok (.aload_n 0, 1) := dk_42 (dk_at dksX3_review_2 22 rfl rfl)
theorem dX3_review_71 : decode cX3_review 71 = .ok (.iload_n 2, 1) := dk_28 (dk_at dksX3_review_2 23 rfl rfl)
theorem dX3_review_72 : decode cX3_review 72 = .ok (.iconst 3, 1) := dk_6 (dk_at dksX3_review_3 0 rfl rfl)
theorem dX3_review_73 : decode cX3_review 73 = .ok (.invokevirtual 80, 3) := dk_182 0 80 (dk_at dksX3_review_3 1 rfl rfl)
theorem dX3_review_76 : decode cX3_review 76 = .ok (.iconst 2, 1) := dk_5 (dk_at dksX3_review_3 4 rfl rfl)
theorem dX3_review_77 : decode cX3_review 77 = .ok (.if_icmp .eq 10, 3) := dk_159 0 10 (dk_at dksX3_review_3 5 rfl rfl)
theorem dX3_review_80 : decode cX3_review 80 = .ok (.aload_n 0, 1) := dk_42 (dk_at dksX3_review_3 8 rfl rfl)
theorem dX3_review_81 : decode cX3_review 81 = .ok (.iconst 4, 1) := dk_7 (dk_at dksX3_review_3 9 rfl rfl)
theorem dX3_review_82 : decode cX3_review 82 = .ok (.iload_n 2, 1) := dk_28 (dk_at dksX3_review_3 10 rfl rfl)
theorem dX3_review_83 : decode cX3_review 83 = .ok (.invokevirtual 97, 3) := dk_182 0 97 (dk_at dksX3_review_3 11 rfl rfl)
theorem dX3_review_86 : decode cX3_review 86 = .ok (.ireturn, 1) := dk_172 (dk_at dksX3_review_3 14 rfl rfl)
theorem dX3_review_87 : decode cX3_review 87 = .ok (.iinc 2 1, 3) := dk_132 2 1 (dk_at dksX3_review_3 15 rfl rfl)
theorem dX3_review_90 : decode cX3_review 90 = .ok (.goto (-40), 3) := dk_167 255 216 (dk_at dksX3_review_3 18 rfl rfl)
theorem dX3_review_93 : decode cX3_review 93 = .ok (.iconst 0, 1) := dk_3 (dk_at dksX3_review_3 21 rfl rfl)
theorem dX3_review_94 : decode cX3_review 94 = .ok (.istore_n 2, 1) := dk_61 (dk_at dksX3_review_3 22 rfl rfl)
theorem dX3_review_95 : decode cX3_review 95 = .ok (.iload_n 2, 1) := dk_28 (dk_at dksX3_review_3 23 rfl rfl)
theorem dX3_review_96 : decode cX3_review 96 = .ok (.aload_n 0, 1) := dk_42 (dk_at dksX3_review_4 0 rfl rfl)
theorem dX3_review_97 : decode cX3_review 97 = .ok (.getfield 7, 3) := dk_180 0 7 (dk_at dksX3_review_4 1 rfl rfl)
theorem dX3_review_100 : decode cX3_review 100 = .ok (.bipush 11, 2) := dk_16 11 (dk_at dksX3_review_4 4 rfl rfl)
theorem dX3_review_102 : decode cX3_review 102 = .ok (.iaload, 1) := dk_46 (dk_at dksX3_review_4 6 rfl rfl)
theorem dX3_review_103 : decode cX3_review 103 = .ok (.if_icmp .ge 36, 3) := dk_162 0 36 (dk_at dksX3_review_4 7 rfl rfl)
theorem dX3_review_106 : decode cX3_review 106 = .ok (.iload_n 1, 1) := dk_27 (dk_at dksX3_review_4 10 rfl rfl)
theorem dX3_review_107 : decode cX3_review 107 = .ok (.iload_n 2, 1) := dk_28 (dk_at dksX3_review_4 11 rfl rfl)
theorem dX3_review_108 : decode cX3_review 108 = .ok (.ishr, 1) := dk_122 (dk_at dksX3_review_4 12 rfl rfl)
theorem dX3_review_109 : decode cX3_review 109 = .ok (.iconst 1, 1) := dk_4 (dk_at dksX3_review_4 13 rfl rfl)
theorem dX3_review_110 : decode cX3_review 110 = .ok (.iand, 1) := dk_126 (dk_at dksX3_review_4 14 rfl rfl)
theorem dX3_review_111 : decode cX3_review 111 = .ok (.iconst 1, 1) := dk_4 (dk_at dksX3_review_4 15 rfl rfl)
theorem dX3_review_112 : decode cX3_review 112 = .ok (.if_icmp .ne 21, 3) := dk_160 0 21 (dk_at dksX3_review_4 16 rfl rfl)
theorem dX3_review_115 : decode cX3_review 115 = .ok (.aload_n 0, 1) := dk_42 (dk_at dksX3_review_4 19 rfl rfl)
theorem dX3_review_116 : decode cX3_review 116 = .ok (.iload_n 2, 1) := dk_28 (dk_at dksX3_review_4 20 rfl rfl)
theorem dX3_review_117 : decode cX3_review 117 = .ok (.bipush 10, 2) := dk_16 10 (dk_at dksX3_review_4 21 rfl rfl)
theorem dX3_review_119 : decode cX3_review 119 = .ok (.invokevirtual 80, 3) := dk_182 0 80 (dk_at dksX3_review_5 0 rfl rfl)
theorem dX3_review_122 : decode cX3_review 122 = .ok (.ifCond .lt 11, 3) := dk_155 0 11 (dk_at dksX3_review_5 3 rfl rfl)
theorem dX3_review_125 : decode cX3_review 125 = .ok (.aload_n 0, 1) := dk_42 (dk_at dksX3_review_5 6 rfl rfl)
theorem dX3_review_126 : decode cX3_review 126 = .ok (.bipush 11, 2) := dk_16 11 (dk_at dksX3_review_5 7 rfl rfl)
theorem dX3_review_128 : decode cX3_review 128 = .ok (.iload_n 2, 1) := dk_28 (dk_at dksX3_review_5 9 rfl rfl)
theorem dX3_review_129 : decode cX3_review 129 = .ok (.invokevirtual 97, 3) := dk_182 0 97 (dk_at dksX3_review_5 10 rfl rfl)
theorem dX3_review_132 : decode cX3_review 132 = .ok (.ireturn, 1) := dk_172 (dk_at dksX3_review_5 13 rfl rfl)
theorem dX3_review_133 : decode cX3_review 133 = .ok (.iinc 2 1, 3) := dk_132 2 1 (dk_at dksX3_review_5 14 rfl rfl)
theorem dX3_review_136 : decode cX3_review 136 = .ok (.goto (-41), 3) := dk_167 255 215 (dk_at dksX3_review_5 17 rfl rfl)
theorem dX3_review_139 : decode cX3_review 139 = .ok (.aload_n 0, 1) := dk_42 (dk_at dksX3_review_5 20 rfl rfl)
theorem dX3_review_140 : decode cX3_review 140 = .ok (.invokevirtual 111, 3) := dk_182 0 111 (dk_at dksX3_review_5 21 rfl rfl)
theorem dX3_review_143 : decode cX3_review 143 = .ok (.aload_n 0, 1) := dk_42 (dk_at dksX3_review_6 0 rfl rfl)
theorem dX3_review_144 : decode cX3_review 144 = .ok (.getfield 7, 3) := dk_180 0 7 (dk_at dksX3_review_6 1 rfl rfl)
theorem dX3_review_147 : decode cX3_review 147 = .ok (.sipush 370, 3) := dk_17 1 114 (dk_at dksX3_review_6 4 rfl rfl)
theorem dX3_review_150 : decode cX3_review 150 = .ok (.aload_n 0, 1) := dk_42 (dk_at dksX3_review_6 7 rfl rfl)
theorem dX3_review_151 : decode cX3_review 151 = .ok (.getfield 7, 3) := dk_180 0 7 (dk_at dksX3_review_6 8 rfl rfl)
theorem dX3_review_154 : decode cX3_review 154 = .ok (.sipush 369, 3) := dk_17 1 113 (dk_at dksX3_review_6 11 rfl rfl)
theorem dX3_review_157 : decode cX3_review 157 = .ok (.iaload, 1) := dk_46 (dk_at dksX3_review_6 14 rfl rfl)
theorem dX3_review_158 : decode cX3_review 158 = .ok (.iadd, 1) := dk_96 (dk_at dksX3_review_6 15 rfl rfl)
theorem dX3_review_159 : decode cX3_review 159 = .ok (.iload_n 1, 1) := dk_27 (dk_at dksX3_review_6 16 rfl rfl)
theorem dX3_review_160 : decode cX3_review 160 = .ok (.iastore, 1) := dk_79 (dk_at dksX3_review_6 17 rfl rfl)
theorem dX3_review_161 : decode cX3_review 161 = .ok (.iconst 0, 1) := dk_3 (dk_at dksX3_review_6 18 rfl rfl)
theorem dX3_review_162 : decode cX3_review 162 = .ok (.istore_n 2, 1) := dk_61 (dk_at dksX3_review_6 19 rfl rfl)
theorem dX3_review_163 : decode cX3_review 163 = .ok (.iload_n 2, 1) := dk_28 (dk_at dksX3_review_6 20 rfl rfl)
theorem dX3_review_164 : decode cX3_review 164 = .ok (.aload_n 0, 1) := dk_42 (dk_at dksX3_review_6 21 rfl rfl)
theorem dX3_review_165 : decode cX3_review 165 = .ok (.getfield 7, 3) := dk_180 0 7 (dk_at dksX3_review_7 0 rfl rfl)
theorem dX3_review_168 : decode cX3_review 168 = .ok (.bipush 11, 2) := dk_16 11 (dk_at dksX3_review_7 3 rfl rfl)
theorem dX3_review_170 : decode cX3_review 170 = .ok (.iaload, 1) := dk_46 (dk_at dksX3_review_7 5 rfl rfl)
theorem dX3_review_171 : decode cX3_review 171 = .ok (.if_icmp .ge 37, 3) := dk_162 0 37 (dk_at dksX3_review_7 6 rfl rfl)
theorem dX3_review_174 : decode cX3_review 174 = .ok (.iload_n 1, 1) := dk_27 (dk_at dksX3_review_7 9 rfl rfl)
theorem dX3_review_175 : decode cX3_review 175 = .ok (.iload_n 2, 1) := dk_28 (dk_at dksX3_review_7 10 rfl rfl)
theorem dX3_review_176 : decode cX3_review 176 = .ok (.ishr, 1) := dk_122 (dk_at dksX3_review_7 11 rfl rfl)
theorem dX3_review_177 : decode cX3_review 177 = .ok (.iconst 1, 1) := dk_4 (dk_at dksX3_review_7 12 rfl rfl)
theorem dX3_review_178 : decode cX3_review 178 = .ok (.iand, 1) := dk_126 (dk_at dksX3_review_7 13 rfl rfl)
theorem dX3_review_179 : decode cX3_review 179 = .ok (.iconst 1, 1) := dk_4 (dk_at dksX3_review_7 14 rfl rfl)
theorem dX3_review_180 : decode cX3_review 180 = .ok (.if_icmp .ne 22, 3) := dk_160 0 22 (dk_at dksX3_review_7 15 rfl rfl)
theorem dX3_review_183 : decode cX3_review 183 = .ok (.aload_n 0, 1) := dk_42 (dk_at dksX3_review_7 18 rfl rfl)
theorem dX3_review_184 : decode cX3_review 184 = .ok (.getfield 7, 3) := dk_180 0 7 (dk_at dksX3_review_7 19 rfl rfl)
theorem dX3_review_187 : decode cX3_review 187 = .ok (.iload_n 2, 1) := dk_28 (dk_at dksX3_review_7 22 rfl rfl)
theorem dX3_review_188 : decode cX3_review 188 = .ok (.bipush 10, 2) := dk_16 10 (dk_at dksX3_review_8 0 rfl rfl)
theorem dX3_review_190 : decode cX3_review 190 = .ok (.invokestatic 76, 3) := dk_184 0 76 (dk_at dksX3_review_8 2 rfl rfl)
theorem dX3_review_193 : decode cX3_review 193 = .ok (.aload_n 0, 1) := dk_42 (dk_at dksX3_review_8 5 rfl rfl)
theorem dX3_review_194 : decode cX3_review 194 = .ok (.getfield 7, 3) := dk_180 0 7 (dk_at dksX3_review_8 6 rfl rfl)
theorem dX3_review_197 : decode cX3_review 197 = .ok (.sipush 369, 3) := dk_17 1 113 (dk_at dksX3_review_8 9 rfl rfl)
theorem dX3_review_200 : decode cX3_review 200 = .ok (.iaload, 1) := dk_46 (dk_at dksX3_review_8 12 rfl rfl)
theorem dX3_review_201 : decode cX3_review 201 = .ok (.iastore, 1) := dk_79 (dk_at dksX3_review_8 13 rfl rfl)
theorem dX3_review_202 : decode cX3_review 202 = .ok (.iinc 2 1, 3) := dk_132 2 1 (dk_at dksX3_review_8 14 rfl rfl)
theorem dX3_review_205 : decode cX3_review 205 = .ok (.goto (-42), 3) := dk_167 255 214 (dk_at dksX3_review_8 17 rfl rfl)
theorem dX3_review_208 : decode cX3_review 208 = .ok (.aload_n 0, 1) := dk_42 (dk_at dksX3_review_8 20 rfl rfl)
theorem dX3_review_209 : decode cX3_review 209 = .ok (.getfield 7, 3) := dk_180 0 7 (dk_at dksX3_review_8 21 rfl rfl)
theorem dX3_review_212 : decode cX3_review 212 = .ok (.sipush 369, 3) := dk_17 1 113 (dk_at dksX3_review_9 0 rfl rfl)
theorem dX3_review_215 : decode cX3_review 215 = .ok (.dup2, 1) := dk_92 (dk_at dksX3_review_9 3 rfl rfl)
theorem dX3_review_216 : decode cX3_review 216 = .ok (.iaload, 1) := dk_46 (dk_at dksX3_review_9 4 rfl rfl)
theorem dX3_review_217 : decode cX3_review 217 = .ok (.iconst 1, 1) := dk_4 (dk_at dksX3_review_9 5 rfl rfl)
theorem dX3_review_218 : decode cX3_review 218 = .ok (.iadd, 1) := dk_96 (dk_at dksX3_review_9 6 rfl rfl)
theorem dX3_review_219 : decode cX3_review 219 = .ok (.iastore, 1) := dk_79 (dk_at dksX3_review_9 7 rfl rfl)
theorem dX3_review_220 : decode cX3_review 220 = .ok (.aload_n 0, 1) := dk_42 (dk_at dksX3_review_9 8 rfl rfl)
theorem dX3_review_221 : decode cX3_review 221 = .ok (.getfield 7, 3) := dk_180 0 7 (dk_at dksX3_review_9 9 rfl rfl)
theorem dX3_review_224 : decode cX3_review 224 = .ok (.sipush 369, 3) := dk_17 1 113 (dk_at dksX3_review_9 12 rfl rfl)
theorem dX3_review_227 : decode cX3_review 227 = .ok (.iaload, 1) := dk_46 (dk_at dksX3_review_9 15 rfl rfl)
theorem dX3_review_228 : decode cX3_review 228 = .ok (.iconst 1, 1) := dk_4 (dk_at dksX3_review_9 16 rfl rfl)
theorem dX3_review_229 : decode cX3_review 229 = .ok (.isub, 1) := dk_100 (dk_at dksX3_review_9 17 rfl rfl)
theorem dX3_review_230 : decode cX3_review 230 = .ok (.ireturn, 1) := dk_172 (dk_at dksX3_review_9 18 rfl rfl)
abbrev cX3_action : ByteArray := prog_18_method_49_code
def yX3_action : MethodName := ⟨RX3, "action", "(III)I"⟩
def dkwX3_action_6 : List UInt8 := [96, 79, 42, 180, 0, 7, 17, 1, 122, 46, 4, 100, 172]
abbrev dktX3_action_6 : List UInt8 := dkwX3_action_6 ++ []
def dkwX3_action_5 : List UInt8 := [5, 96, 29, 79, 42, 180, 0, 7, 21, 4, 6, 96, 3, 79, 42, 180, 0, 7, 17, 1, 122, 92, 46, 4]
abbrev dktX3_action_5 : List UInt8 := dkwX3_action_5 ++ dktX3_action_6
def dkwX3_action_4 : List UInt8 := [42, 180, 0, 7, 21, 4, 27, 79, 42, 180, 0, 7, 21, 4, 4, 96, 28, 79, 42, 180, 0, 7, 21, 4]
abbrev dktX3_action_4 : List UInt8 := dkwX3_action_4 ++ dktX3_action_5
def dkwX3_action_3 : List UInt8 := [182, 0, 97, 172, 42, 182, 0, 111, 17, 1, 123, 7, 42, 180, 0, 7, 17, 1, 122, 46, 104, 96, 54, 4]
abbrev dktX3_action_3 : List UInt8 := dkwX3_action_3 ++ dktX3_action_4
def dkwX3_action_2 : List UInt8 := [5, 3, 182, 0, 97, 172, 42, 180, 0, 7, 17, 1, 122, 46, 16, 20, 160, 0, 10, 42, 6, 3]
abbrev dktX3_action_2 : List UInt8 := dkwX3_action_2 ++ dktX3_action_3
def dkwX3_action_1 : List UInt8 := [184, 0, 94, 154, 0, 10, 42, 4, 3, 182, 0, 97, 172, 29, 4, 16, 9, 184, 0, 72, 154, 0, 10, 42]
abbrev dktX3_action_1 : List UInt8 := dkwX3_action_1 ++ dktX3_action_2
def dkwX3_action_0 : List UInt8 := [42, 3, 181, 0, 41, 27, 3, 42, 180, 0, 7, 17, 1, 113, 46, 4, 100, 184, 0, 72, 153, 0, 10, 28]
abbrev dktX3_action_0 : List UInt8 := dkwX3_action_0 ++ dktX3_action_1
theorem dksX3_action_0 : cX3_action.data.toList.drop 0 = dktX3_action_0 := by decide +kernel
theorem dksX3_action_1 : cX3_action.data.toList.drop 24 = dktX3_action_1 := dk_seg dksX3_action_0 24 rfl rfl
theorem dksX3_action_2 : cX3_action.data.toList.drop 48 = dktX3_action_2 := dk_seg dksX3_action_1 24 rfl rfl
theorem dksX3_action_3 : cX3_action.data.toList.drop 70 = dktX3_action_3 := dk_seg dksX3_action_2 22 rfl rfl
theorem dksX3_action_4 : cX3_action.data.toList.drop 94 = dktX3_action_4 := dk_seg dksX3_action_3 24 rfl rfl
theorem dksX3_action_5 : cX3_action.data.toList.drop 118 = dktX3_action_5 := dk_seg dksX3_action_4 24 rfl rfl
theorem dksX3_action_6 : cX3_action.data.toList.drop 142 = dktX3_action_6 := dk_seg dksX3_action_5 24 rfl rfl
theorem dX3_action_0 : decode cX3_action 0 = .ok (.aload_n 0, 1) := dk_42 (dk_at dksX3_action_0 0 rfl rfl)
theorem dX3_action_1 : decode cX3_action 1 = .ok (.iconst 0, 1) := dk_3 (dk_at dksX3_action_0 1 rfl rfl)
theorem dX3_action_2 : decode cX3_action 2 = .ok (.putfield 41, 3) := dk_181 0 41 (dk_at dksX3_action_0 2 rfl rfl)
theorem dX3_action_5 : decode cX3_action 5 = .ok (.iload_n 1, 1) := dk_27 (dk_at dksX3_action_0 5 rfl rfl)
theorem dX3_action_6 : decode cX3_action 6 = .ok (.iconst 0, 1) := dk_3 (dk_at dksX3_action_0 6 rfl rfl)
theorem dX3_action_7 : decode cX3_action 7 = .ok (.aload_n 0, 1) := dk_42 (dk_at dksX3_action_0 7 rfl rfl)
theorem dX3_action_8 : decode cX3_action 8 = .ok (.getfield 7, 3) := dk_180 0 7 (dk_at dksX3_action_0 8 rfl rfl)
theorem dX3_action_11 : decode cX3_action 11 = .ok (.sipush 369, 3) := dk_17 1 113 (dk_at dksX3_action_0 11 rfl rfl)
theorem dX3_action_14 : decode cX3_action 14 = .ok (.iaload, 1) := dk_46 (dk_at dksX3_action_0 14 rfl rfl)
theorem dX3_action_15 : decode cX3_action 15 = .ok (.iconst 1, 1) := dk_4 (dk_at dksX3_action_0 15 rfl rfl)
theorem dX3_action_16 : decode cX3_action 16 = .ok (.isub, 1) := dk_100 (dk_at dksX3_action_0 16 rfl rfl)
theorem dX3_action_17 : decode cX3_action 17 = .ok (.invokestatic 72, 3) := dk_184 0 72 (dk_at dksX3_action_0 17 rfl rfl)
theorem dX3_action_20 : decode cX3_action 20 = .ok (.ifCond .eq 10, 3) := dk_153 0 10 (dk_at dksX3_action_0 20 rfl rfl)
theorem dX3_action_23 : decode cX3_action 23 = .ok (.iload_n 2, 1) := dk_28 (dk_at dksX3_action_0 23 rfl rfl)
theorem dX3_action_24 : decode cX3_action 24 = .ok (.invokestatic 94, 3) := dk_184 0 94 (dk_at dksX3_action_1 0 rfl rfl)
theorem dX3_action_27 : decode cX3_action 27 = .ok (.ifCond .ne 10, 3) := dk_154 0 10 (dk_at dksX3_action_1 3 rfl rfl)
theorem dX3_action_30 : decode cX3_action 30 = .ok (.aload_n 0, 1) := dk_42 (dk_at dksX3_action_1 6 rfl rfl)
theorem dX3_action_31 : decode cX3_action 31 = .ok (.iconst 1, 1) := dk_4 (dk_at dksX3_action_1 7 rfl rfl)
theorem dX3_action_32 : decode cX3_action 32 = .ok (.iconst 0, 1) := dk_3 (dk_at dksX3_action_1 8 rfl rfl)
theorem dX3_action_33 : decode cX3_action 33 = .ok (.invokevirtual 97, 3) := dk_182 0 97 (dk_at dksX3_action_1 9 rfl rfl)
theorem dX3_action_36 : decode cX3_action 36 = .ok (.ireturn, 1) := dk_172 (dk_at dksX3_action_1 12 rfl rfl)
theorem dX3_action_37 : decode cX3_action 37 = .ok (.iload_n 3, 1) := dk_29 (dk_at dksX3_action_1 13 rfl rfl)
theorem dX3_action_38 : decode cX3_action 38 = .ok (.iconst 1, 1) := dk_4 (dk_at dksX3_action_1 14 rfl rfl)
theorem dX3_action_39 : decode cX3_action 39 = .ok (.bipush 9, 2) := dk_16 9 (dk_at dksX3_action_1 15 rfl rfl)
theorem dX3_action_41 : decode cX3_action 41 = .ok (.invokestatic 72, 3) := dk_184 0 72 (dk_at dksX3_action_1 17 rfl rfl)
theorem dX3_action_44 : decode cX3_action 44 = .ok (.ifCond .ne 10, 3) := dk_154 0 10 (dk_at dksX3_action_1 20 rfl rfl)
theorem dX3_action_47 : decode cX3_action 47 = .ok (.aload_n 0, 1) := dk_42 (dk_at dksX3_action_1 23 rfl rfl)
theorem dX3_action_48 : decode cX3_action 48 = .ok (.iconst 2, 1) := dk_5 (dk_at dksX3_action_2 0 rfl rfl)
theorem dX3_action_49 : decode cX3_action 49 = .ok (.iconst 0, 1) := dk_3 (dk_at dksX3_action_2 1 rfl rfl)
theorem dX3_action_50 : decode cX3_action 50 = .ok (.invokevirtual 97, 3) := dk_182 0 97 (dk_at dksX3_action_2 2 rfl rfl)
theorem dX3_action_53 : decode cX3_action 53 = .ok (.ireturn, 1) := dk_172 (dk_at dksX3_action_2 5 rfl rfl)
theorem dX3_action_54 : decode cX3_action 54 = .ok (.aload_n 0, 1) := dk_42 (dk_at dksX3_action_2 6 rfl rfl)
theorem dX3_action_55 : decode cX3_action 55 = .ok (.getfield 7, 3) := dk_180 0 7 (dk_at dksX3_action_2 7 rfl rfl)
theorem dX3_action_58 : decode cX3_action 58 = .ok (.sipush 378, 3) := dk_17 1 122 (dk_at dksX3_action_2 10 rfl rfl)
theorem dX3_action_61 : decode cX3_action 61 = .ok (.iaload, 1) := dk_46 (dk_at dksX3_action_2 13 rfl rfl)
theorem dX3_action_62 : decode cX3_action 62 = .ok (.bipush 20, 2) := dk_16 20 (dk_at dksX3_action_2 14 rfl rfl)
theorem dX3_action_64 : decode cX3_action 64 = .ok (.if_icmp .ne 10, 3) := dk_160 0 10 (dk_at dksX3_action_2 16 rfl rfl)
theorem dX3_action_67 : decode cX3_action 67 = .ok (.aload_n 0, 1) := dk_42 (dk_at dksX3_action_2 19 rfl rfl)
theorem dX3_action_68 : decode cX3_action 68 = .ok (.iconst 3, 1) := dk_6 (dk_at dksX3_action_2 20 rfl rfl)
theorem dX3_action_69 : decode cX3_action 69 = .ok (.iconst 0, 1) := dk_3 (dk_at dksX3_action_2 21 rfl rfl)
theorem dX3_action_70 : decode cX3_action 70 = .ok (.invokevirtual 97, 3) := dk_182 0 97 (dk_at dksX3_action_3 0 rfl rfl)
theorem dX3_action_73 : decode cX3_action 73 = .ok (.ireturn, 1) := dk_172 (dk_at dksX3_action_3 3 rfl rfl)
theorem dX3_action_74 : decode cX3_action 74 = .ok (.aload_n 0, 1) := dk_42 (dk_at dksX3_action_3 4 rfl rfl)
theorem dX3_action_75 : decode cX3_action 75 = .ok (.invokevirtual 111, 3) := dk_182 0 111 (dk_at dksX3_action_3 5 rfl rfl)
theorem dX3_action_78 : decode cX3_action 78 = .ok (.sipush 379, 3) := dk_17 1 123 (dk_at dksX3_action_3 8 rfl rfl)
theorem dX3_action_81 : decode cX3_action 81 = .ok (.iconst 4, 1) := dk_7 (dk_at dksX3_action_3 11 rfl rfl)
theorem dX3_action_82 : decode cX3_action 82 = .ok (.aload_n 0, 1) := dk_42 (dk_at dksX3_action_3 12 rfl rfl)
theorem dX3_action_83 : decode cX3_action 83 = .ok (.getfield 7, 3) := dk_180 0 7 (dk_at dksX3_action_3 13 rfl rfl)
theorem dX3_action_86 : decode cX3_action 86 = .ok (.sipush 378, 3) := dk_17 1 122 (dk_at dksX3_action_3 16 rfl rfl)
theorem dX3_action_89 : decode cX3_action 89 = .ok (.iaload, 1) := dk_46 (dk_at dksX3_action_3 19 rfl rfl)
theorem dX3_action_90 : decode cX3_action 90 = .ok (.imul, 1) := dk_104 (dk_at dksX3_action_3 20 rfl rfl)
theorem dX3_action_91 : decode cX3_action 91 = .ok (.iadd, 1) := dk_96 (dk_at dksX3_action_3 21 rfl rfl)
theorem dX3_action_92 : decode cX3_action 92 = .ok (.istore 4, 2) := dk_54 4 (dk_at dksX3_action_3 22 rfl rfl)
theorem dX3_action_94 : decode cX3_action 94 = .ok (.aload_n 0, 1) := dk_42 (dk_at dksX3_action_4 0 rfl rfl)
theorem dX3_action_95 : decode cX3_action 95 = .ok (.getfield 7, 3) := dk_180 0 7 (dk_at dksX3_action_4 1 rfl rfl)
theorem dX3_action_98 : decode cX3_action 98 = .ok (.iload 4, 2) := dk_21 4 (dk_at dksX3_action_4 4 rfl rfl)
theorem dX3_action_100 : decode cX3_action 100 = .ok (.iload_n 1, 1) := dk_27 (dk_at dksX3_action_4 6 rfl rfl)
theorem dX3_action_101 : decode cX3_action 101 = .ok (.iastore, 1) := dk_79 (dk_at dksX3_action_4 7 rfl rfl)
theorem dX3_action_102 : decode cX3_action 102 = .ok (.aload_n 0, 1) := dk_42 (dk_at dksX3_action_4 8 rfl rfl)
theorem dX3_action_103 : decode cX3_action 103 = .ok (.getfield 7, 3) := dk_180 0 7 (dk_at dksX3_action_4 9 rfl rfl)
theorem dX3_action_106 : decode cX3_action 106 = .ok (.iload 4, 2) := dk_21 4 (dk_at dksX3_action_4 12 rfl rfl)
theorem dX3_action_108 : decode cX3_action 108 = .ok (.iconst 1, 1) := dk_4 (dk_at dksX3_action_4 14 rfl rfl)
theorem dX3_action_109 : decode cX3_action 109 = .ok (.iadd, 1) := dk_96 (dk_at dksX3_action_4 15 rfl rfl)
theorem dX3_action_110 : decode cX3_action 110 = .ok (.iload_n 2, 1) := dk_28 (dk_at dksX3_action_4 16 rfl rfl)
theorem dX3_action_111 : decode cX3_action 111 = .ok (.iastore, 1) := dk_79 (dk_at dksX3_action_4 17 rfl rfl)
theorem dX3_action_112 : decode cX3_action 112 = .ok (.aload_n 0, 1) := dk_42 (dk_at dksX3_action_4 18 rfl rfl)
theorem dX3_action_113 : decode cX3_action 113 = .ok (.getfield 7, 3) := dk_180 0 7 (dk_at dksX3_action_4 19 rfl rfl)
theorem dX3_action_116 : decode cX3_action 116 = .ok (.iload 4, 2) := dk_21 4 (dk_at dksX3_action_4 22 rfl rfl)
theorem dX3_action_118 : decode cX3_action 118 = .ok (.iconst 2, 1) := dk_5 (dk_at dksX3_action_5 0 rfl rfl)
theorem dX3_action_119 : decode cX3_action 119 = .ok (.iadd, 1) := dk_96 (dk_at dksX3_action_5 1 rfl rfl)
theorem dX3_action_120 : decode cX3_action 120 = .ok (.iload_n 3, 1) := dk_29 (dk_at dksX3_action_5 2 rfl rfl)
theorem dX3_action_121 : decode cX3_action 121 = .ok (.iastore, 1) := dk_79 (dk_at dksX3_action_5 3 rfl rfl)
theorem dX3_action_122 : decode cX3_action 122 = .ok (.aload_n 0, 1) := dk_42 (dk_at dksX3_action_5 4 rfl rfl)
theorem dX3_action_123 : decode cX3_action 123 = .ok (.getfield 7, 3) := dk_180 0 7 (dk_at dksX3_action_5 5 rfl rfl)
theorem dX3_action_126 : decode cX3_action 126 = .ok (.iload 4, 2) := dk_21 4 (dk_at dksX3_action_5 8 rfl rfl)
theorem dX3_action_128 : decode cX3_action 128 = .ok (.iconst 3, 1) := dk_6 (dk_at dksX3_action_5 10 rfl rfl)
theorem dX3_action_129 : decode cX3_action 129 = .ok (.iadd, 1) := dk_96 (dk_at dksX3_action_5 11 rfl rfl)
theorem dX3_action_130 : decode cX3_action 130 = .ok (.iconst 0, 1) := dk_3 (dk_at dksX3_action_5 12 rfl rfl)
theorem dX3_action_131 : decode cX3_action 131 = .ok (.iastore, 1) := dk_79 (dk_at dksX3_action_5 13 rfl rfl)
theorem dX3_action_132 : decode cX3_action 132 = .ok (.aload_n 0, 1) := dk_42 (dk_at dksX3_action_5 14 rfl rfl)
theorem dX3_action_133 : decode cX3_action 133 = .ok (.getfield 7, 3) := dk_180 0 7 (dk_at dksX3_action_5 15 rfl rfl)
theorem dX3_action_136 : decode cX3_action 136 = .ok (.sipush 378, 3) := dk_17 1 122 (dk_at dksX3_action_5 18 rfl rfl)
theorem dX3_action_139 : decode cX3_action 139 = .ok (.dup2, 1) := dk_92 (dk_at dksX3_action_5 21 rfl rfl)
theorem dX3_action_140 : decode cX3_action 140 = .ok (.iaload, 1) := dk_46 (dk_at dksX3_action_5 22 rfl rfl)
theorem dX3_action_141 : decode cX3_action 141 = .ok (.iconst 1, 1) := dk_4 (dk_at dksX3_action_5 23 rfl rfl)
theorem dX3_action_142 : decode cX3_action 142 = .ok (.iadd, 1) := dk_96 (dk_at dksX3_action_6 0 rfl rfl)
theorem dX3_action_143 : decode cX3_action 143 = .ok (.iastore, 1) := dk_79 (dk_at dksX3_action_6 1 rfl rfl)
theorem dX3_action_144 : decode cX3_action 144 = .ok (.aload_n 0, 1) := dk_42 (dk_at dksX3_action_6 2 rfl rfl)
theorem dX3_action_145 : decode cX3_action 145 = .ok (.getfield 7, 3) := dk_180 0 7 (dk_at dksX3_action_6 3 rfl rfl)
theorem dX3_action_148 : decode cX3_action 148 = .ok (.sipush 378, 3) := dk_17 1 122 (dk_at dksX3_action_6 6 rfl rfl)
theorem dX3_action_151 : decode cX3_action 151 = .ok (.iaload, 1) := dk_46 (dk_at dksX3_action_6 9 rfl rfl)
theorem dX3_action_152 : decode cX3_action 152 = .ok (.iconst 1, 1) := dk_4 (dk_at dksX3_action_6 10 rfl rfl)
theorem dX3_action_153 : decode cX3_action 153 = .ok (.isub, 1) := dk_100 (dk_at dksX3_action_6 11 rfl rfl)
theorem dX3_action_154 : decode cX3_action 154 = .ok (.ireturn, 1) := dk_172 (dk_at dksX3_action_6 12 rfl rfl)
abbrev cX3_finish : ByteArray := prog_18_method_51_code
def yX3_finish : MethodName := ⟨RX3, "finish", "(I)I"⟩
def dkwX3_finish_3 : List UInt8 := [182, 0, 136, 3, 182, 0, 152, 42, 42, 27, 3, 182, 0, 136, 4, 182, 0, 152, 100, 172]
abbrev dktX3_finish_3 : List UInt8 := dkwX3_finish_3 ++ []
def dkwX3_finish_2 : List UInt8 := [42, 182, 0, 111, 42, 180, 0, 7, 17, 1, 123, 7, 27, 104, 96, 6, 96, 4, 79, 42, 42, 27, 3]
abbrev dktX3_finish_2 : List UInt8 := dkwX3_finish_2 ++ dktX3_finish_3
def dkwX3_finish_1 : List UInt8 := [4, 3, 182, 0, 97, 172, 42, 27, 6, 182, 0, 136, 4, 160, 0, 11, 42, 16, 13, 3, 182, 0, 97, 172]
abbrev dktX3_finish_1 : List UInt8 := dkwX3_finish_1 ++ dktX3_finish_2
def dkwX3_finish_0 : List UInt8 := [42, 3, 181, 0, 41, 27, 3, 42, 180, 0, 7, 17, 1, 122, 46, 4, 100, 184, 0, 72, 154, 0, 10, 42]
abbrev dktX3_finish_0 : List UInt8 := dkwX3_finish_0 ++ dktX3_finish_1
theorem dksX3_finish_0 : cX3_finish.data.toList.drop 0 = dktX3_finish_0 := by decide +kernel
theorem dksX3_finish_1 : cX3_finish.data.toList.drop 24 = dktX3_finish_1 := dk_seg dksX3_finish_0 24 rfl rfl
theorem dksX3_finish_2 : cX3_finish.data.toList.drop 48 = dktX3_finish_2 := dk_seg dksX3_finish_1 24 rfl rfl
theorem dksX3_finish_3 : cX3_finish.data.toList.drop 71 = dktX3_finish_3 := dk_seg dksX3_finish_2 23 rfl rfl
theorem dX3_finish_0 : decode cX3_finish 0 = .ok (.aload_n 0, 1) := dk_42 (dk_at dksX3_finish_0 0 rfl rfl)
theorem dX3_finish_1 : decode cX3_finish 1 = .ok (.iconst 0, 1) := dk_3 (dk_at dksX3_finish_0 1 rfl rfl)
theorem dX3_finish_2 : decode cX3_finish 2 = .ok (.putfield 41, 3) := dk_181 0 41 (dk_at dksX3_finish_0 2 rfl rfl)
theorem dX3_finish_5 : decode cX3_finish 5 = .ok (.iload_n 1, 1) := dk_27 (dk_at dksX3_finish_0 5 rfl rfl)
theorem dX3_finish_6 : decode cX3_finish 6 = .ok (.iconst 0, 1) := dk_3 (dk_at dksX3_finish_0 6 rfl rfl)
theorem dX3_finish_7 : decode cX3_finish 7 = .ok (.aload_n 0, 1) := dk_42 (dk_at dksX3_finish_0 7 rfl rfl)
theorem dX3_finish_8 : decode cX3_finish 8 = .ok (.getfield 7, 3) := dk_180 0 7 (dk_at dksX3_finish_0 8 rfl rfl)
theorem dX3_finish_11 : decode cX3_finish 11 = .ok (.sipush 378, 3) := dk_17 1 122 (dk_at dksX3_finish_0 11 rfl rfl)
theorem dX3_finish_14 : decode cX3_finish 14 = .ok (.iaload, 1) := dk_46 (dk_at dksX3_finish_0 14 rfl rfl)
theorem dX3_finish_15 : decode cX3_finish 15 = .ok (.iconst 1, 1) := dk_4 (dk_at dksX3_finish_0 15 rfl rfl)
theorem dX3_finish_16 : decode cX3_finish 16 = .ok (.isub, 1) := dk_100 (dk_at dksX3_finish_0 16 rfl rfl)
theorem dX3_finish_17 : decode cX3_finish 17 = .ok (.invokestatic 72, 3) := dk_184 0 72 (dk_at dksX3_finish_0 17 rfl rfl)
theorem dX3_finish_20 : decode cX3_finish 20 = .ok (.ifCond .ne 10, 3) := dk_154 0 10 (dk_at dksX3_finish_0 20 rfl rfl)
theorem dX3_finish_23 : decode cX3_finish 23 = .ok (.aload_n 0, 1) := dk_42 (dk_at dksX3_finish_0 23 rfl rfl)
theorem dX3_finish_24 : decode cX3_finish 24 = .ok (.iconst 1, 1) := dk_4 (dk_at dksX3_finish_1 0 rfl rfl)
theorem dX3_finish_25 : decode cX3_finish 25 = .ok (.iconst 0, 1) := dk_3 (dk_at dksX3_finish_1 1 rfl rfl)
theorem dX3_finish_26 : decode cX3_finish 26 = .ok (.invokevirtual 97, 3) := dk_182 0 97 (dk_at dksX3_finish_1 2 rfl rfl)
theorem dX3_finish_29 : decode cX3_finish 29 = .ok (.ireturn, 1) := dk_172 (dk_at dksX3_finish_1 5 rfl rfl)
theorem dX3_finish_30 : decode cX3_finish 30 = .ok (.aload_n 0, 1) := dk_42 (dk_at dksX3_finish_1 6 rfl rfl)
theorem dX3_finish_31 : decode cX3_finish 31 = .ok (.iload_n 1, 1) := dk_27 (dk_at dksX3_finish_1 7 rfl rfl)
theorem dX3_finish_32 : decode cX3_finish 32 = .ok (.iconst 3, 1) := dk_6 (dk_at dksX3_finish_1 8 rfl rfl)
theorem dX3_finish_33 : decode cX3_finish 33 = .ok (.invokevirtual 136, 3) := dk_182 0 136 (dk_at dksX3_finish_1 9 rfl rfl)
theorem dX3_finish_36 : decode cX3_finish 36 = .ok (.iconst 1, 1) := dk_4 (dk_at dksX3_finish_1 12 rfl rfl)
theorem dX3_finish_37 : decode cX3_finish 37 = .ok (.if_icmp .ne 11, 3) := dk_160 0 11 (dk_at dksX3_finish_1 13 rfl rfl)
theorem dX3_finish_40 : decode cX3_finish 40 = .ok (.aload_n 0, 1) := dk_42 (dk_at dksX3_finish_1 16 rfl rfl)
theorem dX3_finish_41 : decode cX3_finish 41 = .ok (.bipush 13, 2) := dk_16 13 (dk_at dksX3_finish_1 17 rfl rfl)
theorem dX3_finish_43 : decode cX3_finish 43 = .ok (.iconst 0, 1) := dk_3 (dk_at dksX3_finish_1 19 rfl rfl)
theorem dX3_finish_44 : decode cX3_finish 44 = .ok (.invokevirtual 97, 3) := dk_182 0 97 (dk_at dksX3_finish_1 20 rfl rfl)
theorem dX3_finish_47 : decode cX3_finish 47 = .ok (.ireturn, 1) := dk_172 (dk_at dksX3_finish_1 23 rfl rfl)
theorem dX3_finish_48 : decode cX3_finish 48 = .ok (.aload_n 0, 1) := dk_42 (dk_at dksX3_finish_2 0 rfl rfl)
theorem dX3_finish_49 : decode cX3_finish 49 = .ok (.invokevirtual 111, 3) := dk_182 0 111 (dk_at dksX3_finish_2 1 rfl rfl)
theorem dX3_finish_52 : decode cX3_finish 52 = .ok (.aload_n 0, 1) := dk_42 (dk_at dksX3_finish_2 4 rfl rfl)
theorem dX3_finish_53 : decode cX3_finish 53 = .ok (.getfield 7, 3) := dk_180 0 7 (dk_at dksX3_finish_2 5 rfl rfl)
theorem dX3_finish_56 : decode cX3_finish 56 = .ok (.sipush 379, 3) := dk_17 1 123 (dk_at dksX3_finish_2 8 rfl rfl)
theorem dX3_finish_59 : decode cX3_finish 59 = .ok (.iconst 4, 1) := dk_7 (dk_at dksX3_finish_2 11 rfl rfl)
theorem dX3_finish_60 : decode cX3_finish 60 = .ok (.iload_n 1, 1) := dk_27 (dk_at dksX3_finish_2 12 rfl rfl)
theorem dX3_finish_61 : decode cX3_finish 61 = .ok (.imul, 1) := dk_104 (dk_at dksX3_finish_2 13 rfl rfl)
theorem dX3_finish_62 : decode cX3_finish 62 = .ok (.iadd, 1) := dk_96 (dk_at dksX3_finish_2 14 rfl rfl)
theorem dX3_finish_63 : decode cX3_finish 63 = .ok (.iconst 3, 1) := dk_6 (dk_at dksX3_finish_2 15 rfl rfl)
theorem dX3_finish_64 : decode cX3_finish 64 = .ok (.iadd, 1) := dk_96 (dk_at dksX3_finish_2 16 rfl rfl)
theorem dX3_finish_65 : decode cX3_finish 65 = .ok (.iconst 1, 1) := dk_4 (dk_at dksX3_finish_2 17 rfl rfl)
theorem dX3_finish_66 : decode cX3_finish 66 = .ok (.iastore, 1) := dk_79 (dk_at dksX3_finish_2 18 rfl rfl)
theorem dX3_finish_67 : decode cX3_finish 67 = .ok (.aload_n 0, 1) := dk_42 (dk_at dksX3_finish_2 19 rfl rfl)
theorem dX3_finish_68 : decode cX3_finish 68 = .ok (.aload_n 0, 1) := dk_42 (dk_at dksX3_finish_2 20 rfl rfl)
theorem dX3_finish_69 : decode cX3_finish 69 = .ok (.iload_n 1, 1) := dk_27 (dk_at dksX3_finish_2 21 rfl rfl)
theorem dX3_finish_70 : decode cX3_finish 70 = .ok (.iconst 0, 1) := dk_3 (dk_at dksX3_finish_2 22 rfl rfl)
theorem dX3_finish_71 : decode cX3_finish 71 = .ok (.invokevirtual 136, 3) := dk_182 0 136 (dk_at dksX3_finish_3 0 rfl rfl)
theorem dX3_finish_74 : decode cX3_finish 74 = .ok (.iconst 0, 1) := dk_3 (dk_at dksX3_finish_3 3 rfl rfl)
theorem dX3_finish_75 : decode cX3_finish 75 = .ok (.invokevirtual 152, 3) := dk_182 0 152 (dk_at dksX3_finish_3 4 rfl rfl)
theorem dX3_finish_78 : decode cX3_finish 78 = .ok (.aload_n 0, 1) := dk_42 (dk_at dksX3_finish_3 7 rfl rfl)
theorem dX3_finish_79 : decode cX3_finish 79 = .ok (.aload_n 0, 1) := dk_42 (dk_at dksX3_finish_3 8 rfl rfl)
theorem dX3_finish_80 : decode cX3_finish 80 = .ok (.iload_n 1, 1) := dk_27 (dk_at dksX3_finish_3 9 rfl rfl)
theorem dX3_finish_81 : decode cX3_finish 81 = .ok (.iconst 0, 1) := dk_3 (dk_at dksX3_finish_3 10 rfl rfl)
theorem dX3_finish_82 : decode cX3_finish 82 = .ok (.invokevirtual 136, 3) := dk_182 0 136 (dk_at dksX3_finish_3 11 rfl rfl)
theorem dX3_finish_85 : decode cX3_finish 85 = .ok (.iconst 1, 1) := dk_4 (dk_at dksX3_finish_3 14 rfl rfl)
theorem dX3_finish_86 : decode cX3_finish 86 = .ok (.invokevirtual 152, 3) := dk_182 0 152 (dk_at dksX3_finish_3 15 rfl rfl)
theorem dX3_finish_89 : decode cX3_finish 89 = .ok (.isub, 1) := dk_100 (dk_at dksX3_finish_3 18 rfl rfl)
theorem dX3_finish_90 : decode cX3_finish 90 = .ok (.ireturn, 1) := dk_172 (dk_at dksX3_finish_3 19 rfl rfl)
abbrev cX3_actionsOf : ByteArray := prog_18_method_50_code
def yX3_actionsOf : MethodName := ⟨RX3, "actionsOf", "(II)I"⟩
def dkwX3_actionsOf_2 : List UInt8 := [6, 182, 0, 136, 167, 0, 10, 42, 21, 4, 5, 182, 0, 136, 96, 62, 132, 4, 1, 167, 255, 196, 29, 172]
abbrev dktX3_actionsOf_2 : List UInt8 := dkwX3_actionsOf_2 ++ []
def dkwX3_actionsOf_1 : List UInt8 := [182, 0, 136, 27, 160, 0, 36, 29, 28, 154, 0, 7, 4, 167, 0, 25, 28, 4, 160, 0, 13, 42, 21, 4]
abbrev dktX3_actionsOf_1 : List UInt8 := dkwX3_actionsOf_1 ++ dktX3_actionsOf_2
def dkwX3_actionsOf_0 : List UInt8 := [3, 62, 3, 54, 4, 21, 4, 42, 180, 0, 7, 17, 1, 122, 46, 162, 0, 53, 42, 21, 4, 3]
abbrev dktX3_actionsOf_0 : List UInt8 := dkwX3_actionsOf_0 ++ dktX3_actionsOf_1
theorem dksX3_actionsOf_0 : cX3_actionsOf.data.toList.drop 0 = dktX3_actionsOf_0 := by decide +kernel
theorem dksX3_actionsOf_1 : cX3_actionsOf.data.toList.drop 22 = dktX3_actionsOf_1 := dk_seg dksX3_actionsOf_0 22 rfl rfl
theorem dksX3_actionsOf_2 : cX3_actionsOf.data.toList.drop 46 = dktX3_actionsOf_2 := dk_seg dksX3_actionsOf_1 24 rfl rfl
theorem dX3_actionsOf_0 : decode cX3_actionsOf 0 = .ok (.iconst 0, 1) := dk_3 (dk_at dksX3_actionsOf_0 0 rfl rfl)
theorem dX3_actionsOf_1 : decode cX3_actionsOf 1 = .ok (.istore_n 3, 1) := dk_62 (dk_at dksX3_actionsOf_0 1 rfl rfl)
theorem dX3_actionsOf_2 : decode cX3_actionsOf 2 = .ok (.iconst 0, 1) := dk_3 (dk_at dksX3_actionsOf_0 2 rfl rfl)
theorem dX3_actionsOf_3 : decode cX3_actionsOf 3 = .ok (.istore 4, 2) := dk_54 4 (dk_at dksX3_actionsOf_0 3 rfl rfl)
theorem dX3_actionsOf_5 : decode cX3_actionsOf 5 = .ok (.iload 4, 2) := dk_21 4 (dk_at dksX3_actionsOf_0 5 rfl rfl)
theorem dX3_actionsOf_7 : decode cX3_actionsOf 7 = .ok (.aload_n 0, 1) := dk_42 (dk_at dksX3_actionsOf_0 7 rfl rfl)
theorem dX3_actionsOf_8 : decode cX3_actionsOf 8 = .ok (.getfield 7, 3) := dk_180 0 7 (dk_at dksX3_actionsOf_0 8 rfl rfl)
theorem dX3_actionsOf_11 : decode cX3_actionsOf 11 = .ok (.sipush 378, 3) := dk_17 1 122 (dk_at dksX3_actionsOf_0 11 rfl rfl)
theorem dX3_actionsOf_14 : decode cX3_actionsOf 14 = .ok (.iaload, 1) := dk_46 (dk_at dksX3_actionsOf_0 14 rfl rfl)
theorem dX3_actionsOf_15 : decode cX3_actionsOf 15 = .ok (.if_icmp .ge 53, 3) := dk_162 0 53 (dk_at dksX3_actionsOf_0 15 rfl rfl)
theorem dX3_actionsOf_18 : decode cX3_actionsOf 18 = .ok (.aload_n 0, 1) := dk_42 (dk_at dksX3_actionsOf_0 18 rfl rfl)
theorem dX3_actionsOf_19 : decode cX3_actionsOf 19 = .ok (.iload 4, 2) := dk_21 4 (dk_at dksX3_actionsOf_0 19 rfl rfl)
theorem dX3_actionsOf_21 : decode cX3_actionsOf 21 = .ok (.iconst 0, 1) := dk_3 (dk_at dksX3_actionsOf_0 21 rfl rfl)
theorem dX3_actionsOf_22 : decode cX3_actionsOf 22 = .ok (.invokevirtual 136, 3) := dk_182 0 136 (dk_at dksX3_actionsOf_1 0 rfl rfl)
theorem dX3_actionsOf_25 : decode cX3_actionsOf 25 = .ok (.iload_n 1, 1) := dk_27 (dk_at dksX3_actionsOf_1 3 rfl rfl)
theorem dX3_actionsOf_26 : decode cX3_actionsOf 26 = .ok (.if_icmp .ne 36, 3) := dk_160 0 36 (dk_at dksX3_actionsOf_1 4 rfl rfl)
theorem dX3_actionsOf_29 : decode cX3_actionsOf 29 = .ok (.iload_n 3, 1) := dk_29 (dk_at dksX3_actionsOf_1 7 rfl rfl)
theorem dX3_actionsOf_30 : decode cX3_actionsOf 30 = .ok (.iload_n 2, 1) := dk_28 (dk_at dksX3_actionsOf_1 8 rfl rfl)
theorem dX3_actionsOf_31 : decode cX3_actionsOf 31 = .ok (.ifCond .ne 7, 3) := dk_154 0 7 (dk_at dksX3_actionsOf_1 9 rfl rfl)
theorem dX3_actionsOf_34 : decode cX3_actionsOf 34 = .ok (.iconst 1, 1) := dk_4 (dk_at dksX3_actionsOf_1 12 rfl rfl)
theorem dX3_actionsOf_35 : decode cX3_actionsOf 35 = .ok (.goto 25, 3) := dk_167 0 25 (dk_at dksX3_actionsOf_1 13 rfl rfl)
theorem dX3_actionsOf_38 : decode cX3_actionsOf 38 = .ok (.iload_n 2, 1) := dk_28 (dk_at dksX3_actionsOf_1 16 rfl rfl)
theorem dX3_actionsOf_39 : decode cX3_actionsOf 39 = .ok (.iconst 1, 1) := dk_4 (dk_at dksX3_actionsOf_1 17 rfl rfl)
theorem dX3_actionsOf_40 : decode cX3_actionsOf 40 = .ok (.if_icmp .ne 13, 3) := dk_160 0 13 (dk_at dksX3_actionsOf_1 18 rfl rfl)
theorem dX3_actionsOf_43 : decode cX3_actionsOf 43 = .ok (.aload_n 0, 1) := dk_42 (dk_at dksX3_actionsOf_1 21 rfl rfl)
theorem dX3_actionsOf_44 : decode cX3_actionsOf 44 = .ok (.iload 4, 2) := dk_21 4 (dk_at dksX3_actionsOf_1 22 rfl rfl)
theorem dX3_actionsOf_46 : decode cX3_actionsOf 46 = .ok (.iconst 3, 1) := dk_6 (dk_at dksX3_actionsOf_2 0 rfl rfl)
theorem dX3_actionsOf_47 : decode cX3_actionsOf 47 = .ok (.invokevirtual 136, 3) := dk_182 0 136 (dk_at dksX3_actionsOf_2 1 rfl rfl)
theorem dX3_actionsOf_50 : decode cX3_actionsOf 50 = .ok (.goto 10, 3) := dk_167 0 10 (dk_at dksX3_actionsOf_2 4 rfl rfl)
theorem dX3_actionsOf_53 : decode cX3_actionsOf 53 = .ok (.aload_n 0, 1) := dk_42 (dk_at dksX3_actionsOf_2 7 rfl rfl)
theorem dX3_actionsOf_54 : decode cX3_actionsOf 54 = .ok (.iload 4, 2) := dk_21 4 (dk_at dksX3_actionsOf_2 8 rfl rfl)
theorem dX3_actionsOf_56 : decode cX3_actionsOf 56 = .ok (.iconst 2, 1) := dk_5 (dk_at dksX3_actionsOf_2 10 rfl rfl)
theorem dX3_actionsOf_57 : decode cX3_actionsOf 57 = .ok (.invokevirtual 136, 3) := dk_182 0 136 (dk_at dksX3_actionsOf_2 11 rfl rfl)
theorem dX3_actionsOf_60 : decode cX3_actionsOf 60 = .ok (.iadd, 1) := dk_96 (dk_at dksX3_actionsOf_2 14 rfl rfl)
theorem dX3_actionsOf_61 : decode cX3_actionsOf 61 = .ok (.istore_n 3, 1) := dk_62 (dk_at dksX3_actionsOf_2 15 rfl rfl)
theorem dX3_actionsOf_62 : decode cX3_actionsOf 62 = .ok (.iinc 4 1, 3) := dk_132 4 1 (dk_at dksX3_actionsOf_2 16 rfl rfl)
theorem dX3_actionsOf_65 : decode cX3_actionsOf 65 = .ok (.goto (-60), 3) := dk_167 255 196 (dk_at dksX3_actionsOf_2 19 rfl rfl)
theorem dX3_actionsOf_68 : decode cX3_actionsOf 68 = .ok (.iload_n 3, 1) := dk_29 (dk_at dksX3_actionsOf_2 22 rfl rfl)
theorem dX3_actionsOf_69 : decode cX3_actionsOf 69 = .ok (.ireturn, 1) := dk_172 (dk_at dksX3_actionsOf_2 23 rfl rfl)
abbrev cX3_pass : ByteArray := prog_18_method_53_code
def yX3_pass : MethodName := ⟨RX3, "pass", "(I)I"⟩
def dkwX3_pass_4 : List UInt8 := [4, 96, 79, 132, 4, 1, 167, 255, 204, 132, 3, 1, 167, 255, 180, 28, 172]
abbrev dktX3_pass_4 : List UInt8 := dkwX3_pass_4 ++ []
def dkwX3_pass_3 : List UInt8 := [42, 21, 4, 182, 0, 155, 96, 61, 167, 0, 19, 42, 180, 0, 7, 21, 4, 16, 18, 184, 0, 76, 92, 46]
abbrev dktX3_pass_3 : List UInt8 := dkwX3_pass_3 ++ dktX3_pass_4
def dkwX3_pass_2 : List UInt8 := [54, 4, 21, 4, 42, 180, 0, 7, 16, 11, 46, 162, 0, 46, 42, 21, 4, 182, 0, 100, 153, 0, 15, 28]
abbrev dktX3_pass_2 : List UInt8 := dkwX3_pass_2 ++ dktX3_pass_3
def dkwX3_pass_1 : List UInt8 := [182, 0, 111, 3, 61, 3, 62, 29, 27, 162, 0, 77, 42, 180, 0, 7, 3, 92, 46, 4, 96, 79, 3]
abbrev dktX3_pass_1 : List UInt8 := dkwX3_pass_1 ++ dktX3_pass_2
def dkwX3_pass_0 : List UInt8 := [42, 3, 181, 0, 41, 27, 4, 17, 2, 88, 184, 0, 72, 154, 0, 10, 42, 5, 3, 182, 0, 97, 172, 42]
abbrev dktX3_pass_0 : List UInt8 := dkwX3_pass_0 ++ dktX3_pass_1
theorem dksX3_pass_0 : cX3_pass.data.toList.drop 0 = dktX3_pass_0 := by decide +kernel
theorem dksX3_pass_1 : cX3_pass.data.toList.drop 24 = dktX3_pass_1 := dk_seg dksX3_pass_0 24 rfl rfl
theorem dksX3_pass_2 : cX3_pass.data.toList.drop 47 = dktX3_pass_2 := dk_seg dksX3_pass_1 23 rfl rfl
theorem dksX3_pass_3 : cX3_pass.data.toList.drop 71 = dktX3_pass_3 := dk_seg dksX3_pass_2 24 rfl rfl
theorem dksX3_pass_4 : cX3_pass.data.toList.drop 95 = dktX3_pass_4 := dk_seg dksX3_pass_3 24 rfl rfl
theorem dX3_pass_0 : decode cX3_pass 0 = .ok (.aload_n 0, 1) := dk_42 (dk_at dksX3_pass_0 0 rfl rfl)
theorem dX3_pass_1 : decode cX3_pass 1 = .ok (.iconst 0, 1) := dk_3 (dk_at dksX3_pass_0 1 rfl rfl)
theorem dX3_pass_2 : decode cX3_pass 2 = .ok (.putfield 41, 3) := dk_181 0 41 (dk_at dksX3_pass_0 2 rfl rfl)
theorem dX3_pass_5 : decode cX3_pass 5 = .ok (.iload_n 1, 1) := dk_27 (dk_at dksX3_pass_0 5 rfl rfl)
theorem dX3_pass_6 : decode cX3_pass 6 = .ok (.iconst 1, 1) := dk_4 (dk_at dksX3_pass_0 6 rfl rfl)
theorem dX3_pass_7 : decode cX3_pass 7 = .ok (.sipush 600, 3) := dk_17 2 88 (dk_at dksX3_pass_0 7 rfl rfl)
theorem dX3_pass_10 : decode cX3_pass 10 = .ok (.invokestatic 72, 3) := dk_184 0 72 (dk_at dksX3_pass_0 10 rfl rfl)
theorem dX3_pass_13 : decode cX3_pass 13 = .ok (.ifCond .ne 10, 3) := dk_154 0 10 (dk_at dksX3_pass_0 13 rfl rfl)
theorem dX3_pass_16 : decode cX3_pass 16 = .ok (.aload_n 0, 1) := dk_42 (dk_at dksX3_pass_0 16 rfl rfl)
theorem dX3_pass_17 : decode cX3_pass 17 = .ok (.iconst 2, 1) := dk_5 (dk_at dksX3_pass_0 17 rfl rfl)
theorem dX3_pass_18 : decode cX3_pass 18 = .ok (.iconst 0, 1) := dk_3 (dk_at dksX3_pass_0 18 rfl rfl)
theorem dX3_pass_19 : decode cX3_pass 19 = .ok (.invokevirtual 97, 3) := dk_182 0 97 (dk_at dksX3_pass_0 19 rfl rfl)
theorem dX3_pass_22 : decode cX3_pass 22 = .ok (.ireturn, 1) := dk_172 (dk_at dksX3_pass_0 22 rfl rfl)
theorem dX3_pass_23 : decode cX3_pass 23 = .ok (.aload_n 0, 1) := dk_42 (dk_at dksX3_pass_0 23 rfl rfl)
theorem dX3_pass_24 : decode cX3_pass 24 = .ok (.invokevirtual 111, 3) := dk_182 0 111 (dk_at dksX3_pass_1 0 rfl rfl)
theorem dX3_pass_27 : decode cX3_pass 27 = .ok (.iconst 0, 1) := dk_3 (dk_at dksX3_pass_1 3 rfl rfl)
theorem dX3_pass_28 : decode cX3_pass 28 = .ok (.istore_n 2, 1) := dk_61 (dk_at dksX3_pass_1 4 rfl rfl)
theorem dX3_pass_29 : decode cX3_pass 29 = .ok (.iconst 0, 1) := dk_3 (dk_at dksX3_pass_1 5 rfl rfl)
theorem dX3_pass_30 : decode cX3_pass 30 = .ok (.istore_n 3, 1) := dk_62 (dk_at dksX3_pass_1 6 rfl rfl)
theorem dX3_pass_31 : decode cX3_pass 31 = .ok (.iload_n 3, 1) := dk_29 (dk_at dksX3_pass_1 7 rfl rfl)
theorem dX3_pass_32 : decode cX3_pass 32 = .ok (.iload_n 1, 1) := dk_27 (dk_at dksX3_pass_1 8 rfl rfl)
theorem dX3_pass_33 : decode cX3_pass 33 = .ok (.if_icmp .ge 77, 3) := dk_162 0 77 (dk_at dksX3_pass_1 9 rfl rfl)
theorem dX3_pass_36 : decode cX3_pass 36 = .ok (.aload_n 0, 1) := dk_42 (dk_at dksX3_pass_1 12 rfl rfl)
theorem dX3_pass_37 : decode cX3_pass 37 = .ok (.getfield 7, 3) := dk_180 0 7 (dk_at dksX3_pass_1 13 rfl rfl)
theorem dX3_pass_40 : decode cX3_pass 40 = .ok (.iconst 0, 1) := dk_3 (dk_at dksX3_pass_1 16 rfl rfl)
theorem dX3_pass_41 : decode cX3_pass 41 = .ok (.dup2, 1) := dk_92 (dk_at dksX3_pass_1 17 rfl rfl)
theorem dX3_pass_42 : decode cX3_pass 42 = .ok (.iaload, 1) := dk_46 (dk_at dksX3_pass_1 18 rfl rfl)
theorem dX3_pass_43 : decode cX3_pass 43 = .ok (.iconst 1, 1) := dk_4 (dk_at dksX3_pass_1 19 rfl rfl)
theorem dX3_pass_44 : decode cX3_pass 44 = .ok (.iadd, 1) := dk_96 (dk_at dksX3_pass_1 20 rfl rfl)
theorem dX3_pass_45 : decode cX3_pass 45 = .ok (.iastore, 1) := dk_79 (dk_at dksX3_pass_1 21 rfl rfl)
theorem dX3_pass_46 : decode cX3_pass 46 = .ok (.iconst 0, 1) := dk_3 (dk_at dksX3_pass_1 22 rfl rfl)
theorem dX3_pass_47 : decode cX3_pass 47 = .ok (.istore 4, 2) := dk_54 4 (dk_at dksX3_pass_2 0 rfl rfl)
theorem dX3_pass_49 : decode cX3_pass 49 = .ok (.iload 4, 2) := dk_21 4 (dk_at dksX3_pass_2 2 rfl rfl)
theorem dX3_pass_51 : decode cX3_pass 51 = .ok (.aload_n 0, 1) := dk_42 (dk_at dksX3_pass_2 4 rfl rfl)
theorem dX3_pass_52 : decode cX3_pass 52 = .ok (.getfield 7, 3) := dk_180 0 7 (dk_at dksX3_pass_2 5 rfl rfl)
theorem dX3_pass_55 : decode cX3_pass 55 = .ok (.bipush 11, 2) := dk_16 11 (dk_at dksX3_pass_2 8 rfl rfl)
theorem dX3_pass_57 : decode cX3_pass 57 = .ok (.iaload, 1) := dk_46 (dk_at dksX3_pass_2 10 rfl rfl)
theorem dX3_pass_58 : decode cX3_pass 58 = .ok (.if_icmp .ge 46, 3) := dk_162 0 46 (dk_at dksX3_pass_2 11 rfl rfl)
theorem dX3_pass_61 : decode cX3_pass 61 = .ok (.aload_n 0, 1) := dk_42 (dk_at dksX3_pass_2 14 rfl rfl)
theorem dX3_pass_62 : decode cX3_pass 62 = .ok (.iload 4, 2) := dk_21 4 (dk_at dksX3_pass_2 15 rfl rfl)
theorem dX3_pass_64 : decode cX3_pass 64 = .ok (.invokevirtual 100, 3) := dk_182 0 100 (dk_at dksX3_pass_2 17 rfl rfl)
theorem dX3_pass_67 : decode cX3_pass 67 = .ok (.ifCond .eq 15, 3) := dk_153 0 15 (dk_at dksX3_pass_2 20 rfl rfl)
theorem dX3_pass_70 : decode cX3_pass 70 = .ok (.iload_n 2, 1) := dk_28 (dk_at dksX3_pass_2 23 rfl rfl)
theorem dX3_pass_71 : decode cX3_pass 71 = .ok (.aload_n 0, 1) := dk_42 (dk_at dksX3_pass_3 0 rfl rfl)
theorem dX3_pass_72 : decode cX3_pass 72 = .ok (.iload 4, 2) := dk_21 4 (dk_at dksX3_pass_3 1 rfl rfl)
theorem dX3_pass_74 : decode cX3_pass 74 = .ok (.invokevirtual 155, 3) := dk_182 0 155 (dk_at dksX3_pass_3 3 rfl rfl)
theorem dX3_pass_77 : decode cX3_pass 77 = .ok (.iadd, 1) := dk_96 (dk_at dksX3_pass_3 6 rfl rfl)
theorem dX3_pass_78 : decode cX3_pass 78 = .ok (.istore_n 2, 1) := dk_61 (dk_at dksX3_pass_3 7 rfl rfl)
theorem dX3_pass_79 : decode cX3_pass 79 = .ok (.goto 19, 3) := dk_167 0 19 (dk_at dksX3_pass_3 8 rfl rfl)
theorem dX3_pass_82 : decode cX3_pass 82 = .ok (.aload_n 0, 1) := dk_42 (dk_at dksX3_pass_3 11 rfl rfl)
theorem dX3_pass_83 : decode cX3_pass 83 = .ok (.getfield 7, 3) := dk_180 0 7 (dk_at dksX3_pass_3 12 rfl rfl)
theorem dX3_pass_86 : decode cX3_pass 86 = .ok (.iload 4, 2) := dk_21 4 (dk_at dksX3_pass_3 15 rfl rfl)
theorem dX3_pass_88 : decode cX3_pass 88 = .ok (.bipush 18, 2) := dk_16 18 (dk_at dksX3_pass_3 17 rfl rfl)
theorem dX3_pass_90 : decode cX3_pass 90 = .ok (.invokestatic 76, 3) := dk_184 0 76 (dk_at dksX3_pass_3 19 rfl rfl)
theorem dX3_pass_93 : decode cX3_pass 93 = .ok (.dup2, 1) := dk_92 (dk_at dksX3_pass_3 22 rfl rfl)
theorem dX3_pass_94 : decode cX3_pass 94 = .ok (.iaload, 1) := dk_46 (dk_at dksX3_pass_3 23 rfl rfl)
theorem dX3_pass_95 : decode cX3_pass 95 = .ok (.iconst 1, 1) := dk_4 (dk_at dksX3_pass_4 0 rfl rfl)
theorem dX3_pass_96 : decode cX3_pass 96 = .ok (.iadd, 1) := dk_96 (dk_at dksX3_pass_4 1 rfl rfl)
theorem dX3_pass_97 : decode cX3_pass 97 = .ok (.iastore, 1) := dk_79 (dk_at dksX3_pass_4 2 rfl rfl)
theorem dX3_pass_98 : decode cX3_pass 98 = .ok (.iinc 4 1, 3) := dk_132 4 1 (dk_at dksX3_pass_4 3 rfl rfl)
theorem dX3_pass_101 : decode cX3_pass 101 = .ok (.goto (-52), 3) := dk_167 255 204 (dk_at dksX3_pass_4 6 rfl rfl)
theorem dX3_pass_104 : decode cX3_pass 104 = .ok (.iinc 3 1, 3) := dk_132 3 1 (dk_at dksX3_pass_4 9 rfl rfl)
theorem dX3_pass_107 : decode cX3_pass 107 = .ok (.goto (-76), 3) := dk_167 255 180 (dk_at dksX3_pass_4 12 rfl rfl)
theorem dX3_pass_110 : decode cX3_pass 110 = .ok (.iload_n 2, 1) := dk_28 (dk_at dksX3_pass_4 15 rfl rfl)
theorem dX3_pass_111 : decode cX3_pass 111 = .ok (.ireturn, 1) := dk_172 (dk_at dksX3_pass_4 16 rfl rfl)
abbrev cX3_minute : ByteArray := prog_18_method_52_code
def yX3_minute : MethodName := ⟨RX3, "minute", "(I)I"⟩
def dkwX3_minute_9 : List UInt8 := [161, 0, 10, 42, 27, 21, 4, 182, 0, 127, 132, 4, 1, 167, 255, 170, 28, 172]
abbrev dktX3_minute_9 : List UInt8 := dkwX3_minute_9 ++ []
def dkwX3_minute_8 : List UInt8 := [158, 0, 33, 42, 27, 16, 13, 21, 4, 96, 182, 0, 80, 42, 180, 0, 7, 16, 6, 21, 4, 96, 46]
abbrev dktX3_minute_8 : List UInt8 := dkwX3_minute_8 ++ dktX3_minute_9
def dkwX3_minute_7 : List UInt8 := [16, 13, 21, 4, 96, 184, 0, 76, 92, 46, 4, 96, 79, 42, 180, 0, 7, 16, 6, 21, 4, 96, 46]
abbrev dktX3_minute_7 : List UInt8 := dkwX3_minute_7 ++ dktX3_minute_8
def dkwX3_minute_6 : List UInt8 := [162, 0, 86, 42, 27, 16, 7, 182, 0, 80, 21, 4, 122, 4, 126, 4, 160, 0, 64, 42, 180, 0, 7, 27]
abbrev dktX3_minute_6 : List UInt8 := dkwX3_minute_6 ++ dktX3_minute_7
def dkwX3_minute_5 : List UInt8 := [184, 0, 76, 92, 46, 29, 153, 0, 7, 4, 167, 0, 4, 3, 96, 79, 3, 54, 4, 21, 4, 7]
abbrev dktX3_minute_5 : List UInt8 := dkwX3_minute_5 ++ dktX3_minute_6
def dkwX3_minute_4 : List UInt8 := [27, 42, 27, 4, 182, 0, 80, 4, 100, 182, 0, 121, 87, 4, 61, 42, 180, 0, 7, 27, 16, 17]
abbrev dktX3_minute_4 : List UInt8 := dkwX3_minute_4 ++ dktX3_minute_5
def dkwX3_minute_3 : List UInt8 := [4, 182, 0, 80, 4, 160, 0, 18, 42, 180, 0, 7, 27, 16, 11, 184, 0, 76, 4, 79, 167, 0, 19, 42]
abbrev dktX3_minute_3 : List UInt8 := dkwX3_minute_3 ++ dktX3_minute_4
def dkwX3_minute_2 : List UInt8 := [182, 0, 80, 100, 42, 180, 0, 7, 5, 42, 27, 4, 182, 0, 80, 96, 4, 100, 46, 161, 0, 44, 42, 27]
abbrev dktX3_minute_2 : List UInt8 := dkwX3_minute_2 ++ dktX3_minute_3
def dkwX3_minute_1 : List UInt8 := [180, 0, 7, 27, 8, 184, 0, 76, 92, 46, 4, 96, 79, 42, 27, 8, 182, 0, 80, 42, 27, 16, 6]
abbrev dktX3_minute_1 : List UInt8 := dkwX3_minute_1 ++ dktX3_minute_2
def dkwX3_minute_0 : List UInt8 := [3, 61, 42, 27, 6, 182, 0, 80, 4, 160, 0, 7, 4, 167, 0, 4, 3, 62, 29, 154, 0, 90, 42]
abbrev dktX3_minute_0 : List UInt8 := dkwX3_minute_0 ++ dktX3_minute_1
theorem dksX3_minute_0 : cX3_minute.data.toList.drop 0 = dktX3_minute_0 := by decide +kernel
theorem dksX3_minute_1 : cX3_minute.data.toList.drop 23 = dktX3_minute_1 := dk_seg dksX3_minute_0 23 rfl rfl
theorem dksX3_minute_2 : cX3_minute.data.toList.drop 46 = dktX3_minute_2 := dk_seg dksX3_minute_1 23 rfl rfl
theorem dksX3_minute_3 : cX3_minute.data.toList.drop 70 = dktX3_minute_3 := dk_seg dksX3_minute_2 24 rfl rfl
theorem dksX3_minute_4 : cX3_minute.data.toList.drop 94 = dktX3_minute_4 := dk_seg dksX3_minute_3 24 rfl rfl
theorem dksX3_minute_5 : cX3_minute.data.toList.drop 116 = dktX3_minute_5 := dk_seg dksX3_minute_4 22 rfl rfl
theorem dksX3_minute_6 : cX3_minute.data.toList.drop 138 = dktX3_minute_6 := dk_seg dksX3_minute_5 22 rfl rfl
theorem dksX3_minute_7 : cX3_minute.data.toList.drop 162 = dktX3_minute_7 := dk_seg dksX3_minute_6 24 rfl rfl
theorem dksX3_minute_8 : cX3_minute.data.toList.drop 185 = dktX3_minute_8 := dk_seg dksX3_minute_7 23 rfl rfl
theorem dksX3_minute_9 : cX3_minute.data.toList.drop 208 = dktX3_minute_9 := dk_seg dksX3_minute_8 23 rfl rfl
theorem dX3_minute_0 : decode cX3_minute 0 = .ok (.iconst 0, 1) := dk_3 (dk_at dksX3_minute_0 0 rfl rfl)
theorem dX3_minute_1 : decode cX3_minute 1 = .ok (.istore_n 2, 1) := dk_61 (dk_at dksX3_minute_0 1 rfl rfl)
theorem dX3_minute_2 : decode cX3_minute 2 = .ok (.aload_n 0, 1) := dk_42 (dk_at dksX3_minute_0 2 rfl rfl)
theorem dX3_minute_3 : decode cX3_minute 3 = .ok (.iload_n 1, 1) := dk_27 (dk_at dksX3_minute_0 3 rfl rfl)
theorem dX3_minute_4 : decode cX3_minute 4 = .ok (.iconst 3, 1) := dk_6 (dk_at dksX3_minute_0 4 rfl rfl)
theorem dX3_minute_5 : decode cX3_minute 5 = .ok (.invokevirtual 80, 3) := dk_182 0 80 (dk_at dksX3_minute_0 5 rfl rfl)
theorem dX3_minute_8 : decode cX3_minute 8 = .ok (.iconst 1, 1) := dk_4 (dk_at dksX3_minute_0 8 rfl rfl)
theorem dX3_minute_9 : decode cX3_minute 9 = .ok (.if_icmp .ne 7, 3) := dk_160 0 7 (dk_at dksX3_minute_0 9 rfl rfl)
theorem dX3_minute_12 : decode cX3_minute 12 = .ok (.iconst 1, 1) := dk_4 (dk_at dksX3_minute_0 12 rfl rfl)
theorem dX3_minute_13 : decode cX3_minute 13 = .ok (.goto 4, 3) := dk_167 0 4 (dk_at dksX3_minute_0 13 rfl rfl)
theorem dX3_minute_16 : decode cX3_minute 16 = .ok (.iconst 0, 1) := dk_3 (dk_at dksX3_minute_0 16 rfl rfl)
theorem dX3_minute_17 : decode cX3_minute 17 = .ok (.istore_n 3, 1) := dk_62 (dk_at dksX3_minute_0 17 rfl rfl)
theorem dX3_minute_18 : decode cX3_minute 18 = .ok (.iload_n 3, 1) := dk_29 (dk_at dksX3_minute_0 18 rfl rfl)
theorem dX3_minute_19 : decode cX3_minute 19 = .ok (.ifCond .ne 90, 3) := dk_154 0 90 (dk_at dksX3_minute_0 19 rfl rfl)
theorem dX3_minute_22 : decode cX3_minute 22 = .ok (.aload_n 0, 1) := dk_42 (dk_at dksX3_minute_0 22 rfl rfl)
theorem dX3_minute_23 : decode cX3_minute 23 = .ok (.getfield 7, 3) := dk_180 0 7 (dk_at dksX3_minute_1 0 rfl rfl)
theorem dX3_minute_26 : decode cX3_minute 26 = .ok (.iload_n 1, 1) := dk_27 (dk_at dksX3_minute_1 3 rfl rfl)
theorem dX3_minute_27 : decode cX3_minute 27 = .ok (.iconst 5, 1) := dk_8 (dk_at dksX3_minute_1 4 rfl rfl)
theorem dX3_minute_28 : decode cX3_minute 28 = .ok (.invokestatic 76, 3) := dk_184 0 76 (dk_at dksX3_minute_1 5 rfl rfl)
theorem dX3_minute_31 : decode cX3_minute 31 = .ok (.dup2, 1) := dk_92 (dk_at dksX3_minute_1 8 rfl rfl)
theorem dX3_minute_32 : decode cX3_minute 32 = .ok (.iaload, 1) := dk_46 (dk_at dksX3_minute_1 9 rfl rfl)
theorem dX3_minute_33 : decode cX3_minute 33 = .ok (.iconst 1, 1) := dk_4 (dk_at dksX3_minute_1 10 rfl rfl)
theorem dX3_minute_34 : decode cX3_minute 34 = .ok (.iadd, 1) := dk_96 (dk_at dksX3_minute_1 11 rfl rfl)
theorem dX3_minute_35 : decode cX3_minute 35 = .ok (.iastore, 1) := dk_79 (dk_at dksX3_minute_1 12 rfl rfl)
theorem dX3_minute_36 : decode cX3_minute 36 = .ok (.aload_n 0, 1) := dk_42 (dk_at dksX3_minute_1 13 rfl rfl)
theorem dX3_minute_37 : decode cX3_minute 37 = .ok (.iload_n 1, 1) := dk_27 (dk_at dksX3_minute_1 14 rfl rfl)
theorem dX3_minute_38 : decode cX3_minute 38 = .ok (.iconst 5, 1) := dk_8 (dk_at dksX3_minute_1 15 rfl rfl)
theorem dX3_minute_39 : decode cX3_minute 39 = .ok (.invokevirtual 80, 3) := dk_182 0 80 (dk_at dksX3_minute_1 16 rfl rfl)
theorem dX3_minute_42 : decode cX3_minute 42 = .ok (.aload_n 0, 1) := dk_42 (dk_at dksX3_minute_1 19 rfl rfl)
theorem dX3_minute_43 : decode cX3_minute 43 = .ok (.iload_n 1, 1) := dk_27 (dk_at dksX3_minute_1 20 rfl rfl)
theorem dX3_minute_44 : decode cX3_minute 44 = .ok (.bipush 6, 2) := dk_16 6 (dk_at dksX3_minute_1 21 rfl rfl)
theorem dX3_minute_46 : decode cX3_minute 46 = .ok (.invokevirtual 80, 3) := dk_182 0 80 (dk_at dksX3_minute_2 0 rfl rfl)
theorem dX3_minute_49 : decode cX3_minute 49 = .ok (.isub, 1) := dk_100 (dk_at dksX3_minute_2 3 rfl rfl)
theorem dX3_minute_50 : decode cX3_minute 50 = .ok (.aload_n 0, 1) := dk_42 (dk_at dksX3_minute_2 4 rfl rfl)
theorem dX3_minute_51 : decode cX3_minute 51 = .ok (.getfield 7, 3) := dk_180 0 7 (dk_at dksX3_minute_2 5 rfl rfl)
theorem dX3_minute_54 : decode cX3_minute 54 = .ok (.iconst 2, 1) := dk_5 (dk_at dksX3_minute_2 8 rfl rfl)
theorem dX3_minute_55 : decode cX3_minute 55 = .ok (.aload_n 0, 1) := dk_42 (dk_at dksX3_minute_2 9 rfl rfl)
theorem dX3_minute_56 : decode cX3_minute 56 = .ok (.iload_n 1, 1) := dk_27 (dk_at dksX3_minute_2 10 rfl rfl)
theorem dX3_minute_57 : decode cX3_minute 57 = .ok (.iconst 1, 1) := dk_4 (dk_at dksX3_minute_2 11 rfl rfl)
theorem dX3_minute_58 : decode cX3_minute 58 = .ok (.invokevirtual 80, 3) := dk_182 0 80 (dk_at dksX3_minute_2 12 rfl rfl)
theorem dX3_minute_61 : decode cX3_minute 61 = .ok (.iadd, 1) := dk_96 (dk_at dksX3_minute_2 15 rfl rfl)
theorem dX3_minute_62 : decode cX3_minute 62 = .ok (.iconst 1, 1) := dk_4 (dk_at dksX3_minute_2 16 rfl rfl)
theorem dX3_minute_63 : decode cX3_minute 63 = .ok (.isub, 1) := dk_100 (dk_at dksX3_minute_2 17 rfl rfl)
theorem dX3_minute_64 : decode cX3_minute 64 = .ok (.iaload, 1) := dk_46 (dk_at dksX3_minute_2 18 rfl rfl)
theorem dX3_minute_65 : decode cX3_minute 65 = .ok (.if_icmp .lt 44, 3) := dk_161 0 44 (dk_at dksX3_minute_2 19 rfl rfl)
theorem dX3_minute_68 : decode cX3_minute 68 = .ok (.aload_n 0, 1) := dk_42 (dk_at dksX3_minute_2 22 rfl rfl)
theorem dX3_minute_69 : decode cX3_minute 69 = .ok (.iload_n 1, 1) := dk_27 (dk_at dksX3_minute_2 23 rfl rfl)
theorem dX3_minute_70 : decode cX3_minute 70 = .ok (.iconst 1, 1) := dk_4 (dk_at dksX3_minute_3 0 rfl rfl)
theorem dX3_minute_71 : decode cX3_minute 71 = .ok (.invokevirtual 80, 3) := dk_182 0 80 (dk_at dksX3_minute_3 1 rfl rfl)
theorem dX3_minute_74 : decode cX3_minute 74 = .ok (.iconst 1, 1) := dk_4 (dk_at dksX3_minute_3 4 rfl rfl)
theorem dX3_minute_75 : decode cX3_minute 75 = .ok (.if_icmp .ne 18, 3) := dk_160 0 18 (dk_at dksX3_minute_3 5 rfl rfl)
theorem dX3_minute_78 : decode cX3_minute 78 = .ok (.aload_n 0, 1) := dk_42 (dk_at dksX3_minute_3 8 rfl rfl)
theorem dX3_minute_79 : decode cX3_minute 79 = .ok (.getfield 7, 3) := dk_180 0 7 (dk_at dksX3_minute_3 9 rfl rfl)
theorem dX3_minute_82 : decode cX3_minute 82 = .ok (.iload_n 1, 1) := dk_27 (dk_at dksX3_minute_3 12 rfl rfl)
theorem dX3_minute_83 : decode cX3_minute 83 = .ok (.bipush 11, 2) := dk_16 11 (dk_at dksX3_minute_3 13 rfl rfl)
theorem dX3_minute_85 : decode cX3_minute 85 = .ok (.invokestatic 76, 3) := dk_184 0 76 (dk_at dksX3_minute_3 15 rfl rfl)
theorem dX3_minute_88 : decode cX3_minute 88 = .ok (.iconst 1, 1) := dk_4 (dk_at dksX3_minute_3 18 rfl rfl)
theorem dX3_minute_89 : decode cX3_minute 89 = .ok (.iastore, 1) := dk_79 (dk_at dksX3_minute_3 19 rfl rfl)
theorem dX3_minute_90 : decode cX3_minute 90 = .ok (.goto 19, 3) := dk_167 0 19 (dk_at dksX3_minute_3 20 rfl rfl)
theorem dX3_minute_93 : decode cX3_minute 93 = .ok (.aload_n 0, 1) := dk_42 (dk_at dksX3_minute_3 23 rfl rfl)
theorem dX3_minute_94 : decode cX3_minute 94 = .ok (.iload_n 1, 1) := dk_27 (dk_at dksX3_minute_4 0 rfl rfl)
theorem dX3_minute_95 : decode cX3_minute 95 = .ok (.aload_n 0, 1) := dk_42 (dk_at dksX3_minute_4 1 rfl rfl)
theorem dX3_minute_96 : decode cX3_minute 96 = .ok (.iload_n 1, 1) := dk_27 (dk_at dksX3_minute_4 2 rfl rfl)
theorem dX3_minute_97 : decode cX3_minute 97 = .ok (.iconst 1, 1) := dk_4 (dk_at dksX3_minute_4 3 rfl rfl)
theorem dX3_minute_98 : decode cX3_minute 98 = .ok (.invokevirtual 80, 3) := dk_182 0 80 (dk_at dksX3_minute_4 4 rfl rfl)
theorem dX3_minute_101 : decode cX3_minute 101 = .ok (.iconst 1, 1) := dk_4 (dk_at dksX3_minute_4 7 rfl rfl)
theorem dX3_minute_102 : decode cX3_minute 102 = .ok (.isub, 1) := dk_100 (dk_at dksX3_minute_4 8 rfl rfl)
theorem dX3_minute_103 : decode cX3_minute 103 = .ok (.invokevirtual 121, 3) := dk_182 0 121 (dk_at dksX3_minute_4 9 rfl rfl)
theorem dX3_minute_106 : decode cX3_minute 106 = .ok (.pop, 1) := dk_87 (dk_at dksX3_minute_4 12 rfl rfl)
theorem dX3_minute_107 : decode cX3_minute 107 = .ok (.iconst 1, 1) := dk_4 (dk_at dksX3_minute_4 13 rfl rfl)
theorem dX3_minute_108 : decode cX3_minute 108 = .ok (.istore_n 2, 1) := dk_61 (dk_at dksX3_minute_4 14 rfl rfl)
theorem dX3_minute_109 : decode cX3_minute 109 = .ok (.aload_n 0, 1) := dk_42 (dk_at dksX3_minute_4 15 rfl rfl)
theorem dX3_minute_110 : decode cX3_minute 110 = .ok (.getfield 7, 3) := dk_180 0 7 (dk_at dksX3_minute_4 16 rfl rfl)
theorem dX3_minute_113 : decode cX3_minute 113 = .ok (.iload_n 1, 1) := dk_27 (dk_at dksX3_minute_4 19 rfl rfl)
theorem dX3_minute_114 : decode cX3_minute 114 = .ok (.bipush 17, 2) := dk_16 17 (dk_at dksX3_minute_4 20 rfl rfl)
theorem dX3_minute_116 : decode cX3_minute 116 = .ok (.invokestatic 76, 3) := dk_184 0 76 (dk_at dksX3_minute_5 0 rfl rfl)
theorem dX3_minute_119 : decode cX3_minute 119 = .ok (.dup2, 1) := dk_92 (dk_at dksX3_minute_5 3 rfl rfl)
theorem dX3_minute_120 : decode cX3_minute 120 = .ok (.iaload, 1) := dk_46 (dk_at dksX3_minute_5 4 rfl rfl)
theorem dX3_minute_121 : decode cX3_minute 121 = .ok (.iload_n 3, 1) := dk_29 (dk_at dksX3_minute_5 5 rfl rfl)
theorem dX3_minute_122 : decode cX3_minute 122 = .ok (.ifCond .eq 7, 3) := dk_153 0 7 (dk_at dksX3_minute_5 6 rfl rfl)
theorem dX3_minute_125 : decode cX3_minute 125 = .ok (.iconst 1, 1) := dk_4 (dk_at dksX3_minute_5 9 rfl rfl)
theorem dX3_minute_126 : decode cX3_minute 126 = .ok (.goto 4, 3) := dk_167 0 4 (dk_at dksX3_minute_5 10 rfl rfl)
theorem dX3_minute_129 : decode cX3_minute 129 = .ok (.iconst 0, 1) := dk_3 (dk_at dksX3_minute_5 13 rfl rfl)
theorem dX3_minute_130 : decode cX3_minute 130 = .ok (.iadd, 1) := dk_96 (dk_at dksX3_minute_5 14 rfl rfl)
theorem dX3_minute_131 : decode cX3_minute 131 = .ok (.iastore, 1) := dk_79 (dk_at dksX3_minute_5 15 rfl rfl)
theorem dX3_minute_132 : decode cX3_minute 132 = .ok (.iconst 0, 1) := dk_3 (dk_at dksX3_minute_5 16 rfl rfl)
theorem dX3_minute_133 : decode cX3_minute 133 = .ok (.istore 4, 2) := dk_54 4 (dk_at dksX3_minute_5 17 rfl rfl)
theorem dX3_minute_135 : decode cX3_minute 135 = .ok (.iload 4, 2) := dk_21 4 (dk_at dksX3_minute_5 19 rfl rfl)
theorem dX3_minute_137 : decode cX3_minute 137 = .ok (.iconst 4, 1) := dk_7 (dk_at dksX3_minute_5 21 rfl rfl)
theorem dX3_minute_138 : decode cX3_minute 138 = .ok (.if_icmp .ge 86, 3) := dk_162 0 86 (dk_at dksX3_minute_6 0 rfl rfl)
theorem dX3_minute_141 : decode cX3_minute 141 = .ok (.aload_n 0, 1) := dk_42 (dk_at dksX3_minute_6 3 rfl rfl)
theorem dX3_minute_142 : decode cX3_minute 142 = .ok (.iload_n 1, 1) := dk_27 (dk_at dksX3_minute_6 4 rfl rfl)
theorem dX3_minute_143 : decode cX3_minute 143 = .ok (.bipush 7, 2) := dk_16 7 (dk_at dksX3_minute_6 5 rfl rfl)
theorem dX3_minute_145 : decode cX3_minute 145 = .ok (.invokevirtual 80, 3) := dk_182 0 80 (dk_at dksX3_minute_6 7 rfl rfl)
theorem dX3_minute_148 : decode cX3_minute 148 = .ok (.iload 4, 2) := dk_21 4 (dk_at dksX3_minute_6 10 rfl rfl)
theorem dX3_minute_150 : decode cX3_minute 150 = .ok (.ishr, 1) := dk_122 (dk_at dksX3_minute_6 12 rfl rfl)
theorem dX3_minute_151 : decode cX3_minute 151 = .ok (.iconst 1, 1) := dk_4 (dk_at dksX3_minute_6 13 rfl rfl)
theorem dX3_minute_152 : decode cX3_minute 152 = .ok (.iand, 1) := dk_126 (dk_at dksX3_minute_6 14 rfl rfl)
theorem dX3_minute_153 : decode cX3_minute 153 = .ok (.iconst 1, 1) := dk_4 (dk_at dksX3_minute_6 15 rfl rfl)
theorem dX3_minute_154 : decode cX3_minute 154 = .ok (.if_icmp .ne 64, 3) := dk_160 0 64 (dk_at dksX3_minute_6 16 rfl rfl)
theorem dX3_minute_157 : decode cX3_minute 157 = .ok (.aload_n 0, 1) := dk_42 (dk_at dksX3_minute_6 19 rfl rfl)
theorem dX3_minute_158 : decode cX3_minute 158 = .ok (.getfield 7, 3) := dk_180 0 7 (dk_at dksX3_minute_6 20 rfl rfl)
theorem dX3_minute_161 : decode cX3_minute 161 = .ok (.iload_n 1, 1) := dk_27 (dk_at dksX3_minute_6 23 rfl rfl)
theorem dX3_minute_162 : decode cX3_minute 162 = .ok (.bipush 13, 2) := dk_16 13 (dk_at dksX3_minute_7 0 rfl rfl)
theorem dX3_minute_164 : decode cX3_minute 164 = .ok (.iload 4, 2) := dk_21 4 (dk_at dksX3_minute_7 2 rfl rfl)
theorem dX3_minute_166 : decode cX3_minute 166 = .ok (.iadd, 1) := dk_96 (dk_at dksX3_minute_7 4 rfl rfl)
theorem dX3_minute_167 : decode cX3_minute 167 = .ok (.invokestatic 76, 3) := dk_184 0 76 (dk_at dksX3_minute_7 5 rfl rfl)
theorem dX3_minute_170 : decode cX3_minute 170 = .ok (.dup2, 1) := dk_92 (dk_at dksX3_minute_7 8 rfl rfl)
theorem dX3_minute_171 : decode cX3_minute 171 = .ok (.iaload, 1) := dk_46 (dk_at dksX3_minute_7 9 rfl rfl)
theorem dX3_minute_172 : decode cX3_minute 172 = .ok (.iconst 1, 1) := dk_4 (dk_at dksX3_minute_7 10 rfl rfl)
theorem dX3_minute_173 : decode cX3_minute 173 = .ok (.iadd, 1) := dk_96 (dk_at dksX3_minute_7 11 rfl rfl)
theorem dX3_minute_174 : decode cX3_minute 174 = .ok (.iastore, 1) := dk_79 (dk_at dksX3_minute_7 12 rfl rfl)
theorem dX3_minute_175 : decode cX3_minute 175 = .ok (.aload_n 0, 1) := dk_42 (dk_at dksX3_minute_7 13 rfl rfl)
theorem dX3_minute_176 : decode cX3_minute 176 = .ok (.getfield 7, 3) := dk_180 0 7 (dk_at dksX3_minute_7 14 rfl rfl)
theorem dX3_minute_179 : decode cX3_minute 179 = .ok (.bipush 6, 2) := dk_16 6 (dk_at dksX3_minute_7 17 rfl rfl)
theorem dX3_minute_181 : decode cX3_minute 181 = .ok (.iload 4, 2) := dk_21 4 (dk_at dksX3_minute_7 19 rfl rfl)
theorem dX3_minute_183 : decode cX3_minute 183 = .ok (.iadd, 1) := dk_96 (dk_at dksX3_minute_7 21 rfl rfl)
theorem dX3_minute_184 : decode cX3_minute 184 = .ok (.iaload, 1) := dk_46 (dk_at dksX3_minute_7 22 rfl rfl)
theorem dX3_minute_185 : decode cX3_minute 185 = .ok (.ifCond .le 33, 3) := dk_158 0 33 (dk_at dksX3_minute_8 0 rfl rfl)
theorem dX3_minute_188 : decode cX3_minute 188 = .ok (.aload_n 0, 1) := dk_42 (dk_at dksX3_minute_8 3 rfl rfl)
theorem dX3_minute_189 : decode cX3_minute 189 = .ok (.iload_n 1, 1) := dk_27 (dk_at dksX3_minute_8 4 rfl rfl)
theorem dX3_minute_190 : decode cX3_minute 190 = .ok (.bipush 13, 2) := dk_16 13 (dk_at dksX3_minute_8 5 rfl rfl)
theorem dX3_minute_192 : decode cX3_minute 192 = .ok (.iload 4, 2) := dk_21 4 (dk_at dksX3_minute_8 7 rfl rfl)
theorem dX3_minute_194 : decode cX3_minute 194 = .ok (.iadd, 1) := dk_96 (dk_at dksX3_minute_8 9 rfl rfl)
theorem dX3_minute_195 : decode cX3_minute 195 = .ok (.invokevirtual 80, 3) := dk_182 0 80 (dk_at dksX3_minute_8 10 rfl rfl)
theorem dX3_minute_198 : decode cX3_minute 198 = .ok (.aload_n 0, 1) := dk_42 (dk_at dksX3_minute_8 13 rfl rfl)
theorem dX3_minute_199 : decode cX3_minute 199 = .ok (.getfield 7, 3) := dk_180 0 7 (dk_at dksX3_minute_8 14 rfl rfl)
theorem dX3_minute_202 : decode cX3_minute 202 = .ok (.bipush 6, 2) := dk_16 6 (dk_at dksX3_minute_8 17 rfl rfl)
theorem dX3_minute_204 : decode cX3_minute 204 = .ok (.iload 4, 2) := dk_21 4 (dk_at dksX3_minute_8 19 rfl rfl)
theorem dX3_minute_206 : decode cX3_minute 206 = .ok (.iadd, 1) := dk_96 (dk_at dksX3_minute_8 21 rfl rfl)
theorem dX3_minute_207 : decode cX3_minute 207 = .ok (.iaload, 1) := dk_46 (dk_at dksX3_minute_8 22 rfl rfl)
theorem dX3_minute_208 : decode cX3_minute 208 = .ok (.if_icmp .lt 10, 3) := dk_161 0 10 (dk_at dksX3_minute_9 0 rfl rfl)
theorem dX3_minute_211 : decode cX3_minute 211 = .ok (.aload_n 0, 1) := dk_42 (dk_at dksX3_minute_9 3 rfl rfl)
theorem dX3_minute_212 : decode cX3_minute 212 = .ok (.iload_n 1, 1) := dk_27 (dk_at dksX3_minute_9 4 rfl rfl)
theorem dX3_minute_213 : decode cX3_minute 213 = .ok (.iload 4, 2) := dk_21 4 (dk_at dksX3_minute_9 5 rfl rfl)
theorem dX3_minute_215 : decode cX3_minute 215 = .ok (.invokevirtual 127, 3) := dk_182 0 127 (dk_at dksX3_minute_9 7 rfl rfl)
theorem dX3_minute_218 : decode cX3_minute 218 = .ok (.iinc 4 1, 3) := dk_132 4 1 (dk_at dksX3_minute_9 10 rfl rfl)
theorem dX3_minute_221 : decode cX3_minute 221 = .ok (.goto (-86), 3) := dk_167 255 170 (dk_at dksX3_minute_9 13 rfl rfl)
theorem dX3_minute_224 : decode cX3_minute 224 = .ok (.iload_n 2, 1) := dk_28 (dk_at dksX3_minute_9 16 rfl rfl)
theorem dX3_minute_225 : decode cX3_minute 225 = .ok (.ireturn, 1) := dk_172 (dk_at dksX3_minute_9 17 rfl rfl)
abbrev cX3_append : ByteArray := prog_18_method_54_code
def yX3_append : MethodName := ⟨RX3, "append", "(C)I"⟩
def dkwX3_append_2 : List UInt8 := [181, 0, 158, 42, 180, 0, 158, 172]
abbrev dktX3_append_2 : List UInt8 := dkwX3_append_2 ++ []
def dkwX3_append_1 : List UInt8 := [158, 0, 5, 3, 172, 42, 180, 0, 29, 42, 180, 0, 158, 27, 79, 42, 89, 180, 0, 158, 4, 96]
abbrev dktX3_append_1 : List UInt8 := dkwX3_append_1 ++ dktX3_append_2
def dkwX3_append_0 : List UInt8 := [42, 42, 180, 0, 158, 16, 60, 160, 0, 7, 4, 167, 0, 4, 3, 181, 0, 41, 42, 180, 0, 41]
abbrev dktX3_append_0 : List UInt8 := dkwX3_append_0 ++ dktX3_append_1
theorem dksX3_append_0 : cX3_append.data.toList.drop 0 = dktX3_append_0 := by decide +kernel
theorem dksX3_append_1 : cX3_append.data.toList.drop 22 = dktX3_append_1 := dk_seg dksX3_append_0 22 rfl rfl
theorem dksX3_append_2 : cX3_append.data.toList.drop 44 = dktX3_append_2 := dk_seg dksX3_append_1 22 rfl rfl
theorem dX3_append_0 : decode cX3_append 0 = .ok (.aload_n 0, 1) := dk_42 (dk_at dksX3_append_0 0 rfl rfl)
theorem dX3_append_1 : decode cX3_append 1 = .ok (.aload_n 0, 1) := dk_42 (dk_at dksX3_append_0 1 rfl rfl)
theorem dX3_append_2 : decode cX3_append 2 = .ok (.getfield 158, 3) := dk_180 0 158 (dk_at dksX3_append_0 2 rfl rfl)
theorem dX3_append_5 : decode cX3_append 5 = .ok (.bipush 60, 2) := dk_16 60 (dk_at dksX3_append_0 5 rfl rfl)
theorem dX3_append_7 : decode cX3_append 7 = .ok (.if_icmp .ne 7, 3) := dk_160 0 7 (dk_at dksX3_append_0 7 rfl rfl)
theorem dX3_append_10 : decode cX3_append 10 = .ok (.iconst 1, 1) := dk_4 (dk_at dksX3_append_0 10 rfl rfl)
theorem dX3_append_11 : decode cX3_append 11 = .ok (.goto 4, 3) := dk_167 0 4 (dk_at dksX3_append_0 11 rfl rfl)
theorem dX3_append_14 : decode cX3_append 14 = .ok (.iconst 0, 1) := dk_3 (dk_at dksX3_append_0 14 rfl rfl)
theorem dX3_append_15 : decode cX3_append 15 = .ok (.putfield 41, 3) := dk_181 0 41 (dk_at dksX3_append_0 15 rfl rfl)
theorem dX3_append_18 : decode cX3_append 18 = .ok (.aload_n 0, 1) := dk_42 (dk_at dksX3_append_0 18 rfl rfl)
theorem dX3_append_19 : decode cX3_append 19 = .ok (.getfield 41, 3) := dk_180 0 41 (dk_at dksX3_append_0 19 rfl rfl)
theorem dX3_append_22 : decode cX3_append 22 = .ok (.ifCond .le 5, 3) := dk_158 0 5 (dk_at dksX3_append_1 0 rfl rfl)
theorem dX3_append_25 : decode cX3_append 25 = .ok (.iconst 0, 1) := dk_3 (dk_at dksX3_append_1 3 rfl rfl)
theorem dX3_append_26 : decode cX3_append 26 = .ok (.ireturn, 1) := dk_172 (dk_at dksX3_append_1 4 rfl rfl)
theorem dX3_append_27 : decode cX3_append 27 = .ok (.aload_n 0, 1) := dk_42 (dk_at dksX3_append_1 5 rfl rfl)
theorem dX3_append_28 : decode cX3_append 28 = .ok (.getfield 29, 3) := dk_180 0 29 (dk_at dksX3_append_1 6 rfl rfl)
theorem dX3_append_31 : decode cX3_append 31 = .ok (.aload_n 0, 1) := dk_42 (dk_at dksX3_append_1 9 rfl rfl)
theorem dX3_append_32 : decode cX3_append 32 = .ok (.getfield 158, 3) := dk_180 0 158 (dk_at dksX3_append_1 10 rfl rfl)
theorem dX3_append_35 : decode cX3_append 35 = .ok (.iload_n 1, 1) := dk_27 (dk_at dksX3_append_1 13 rfl rfl)
theorem dX3_append_36 : decode cX3_append 36 = .ok (.iastore, 1) := dk_79 (dk_at dksX3_append_1 14 rfl rfl)
theorem dX3_append_37 : decode cX3_append 37 = .ok (.aload_n 0, 1) := dk_42 (dk_at dksX3_append_1 15 rfl rfl)
theorem dX3_append_38 : decode cX3_append 38 = .ok (.dup, 1) := dk_89 (dk_at dksX3_append_1 16 rfl rfl)
theorem dX3_append_39 : decode cX3_append 39 = .ok (.getfield 158, 3) := dk_180 0 158 (dk_at dksX3_append_1 17 rfl rfl)
theorem dX3_append_42 : decode cX3_append 42 = .ok (.iconst 1, 1) := dk_4 (dk_at dksX3_append_1 20 rfl rfl)
theorem dX3_append_43 : decode cX3_append 43 = .ok (.iadd, 1) := dk_96 (dk_at dksX3_append_1 21 rfl rfl)
theorem dX3_append_44 : decode cX3_append 44 = .ok (.putfield 158, 3) := dk_181 0 158 (dk_at dksX3_append_2 0 rfl rfl)
theorem dX3_append_47 : decode cX3_append 47 = .ok (.aload_n 0, 1) := dk_42 (dk_at dksX3_append_2 3 rfl rfl)
theorem dX3_append_48 : decode cX3_append 48 = .ok (.getfield 158, 3) := dk_180 0 158 (dk_at dksX3_append_2 4 rfl rfl)
theorem dX3_append_51 : decode cX3_append 51 = .ok (.ireturn, 1) := dk_172 (dk_at dksX3_append_2 7 rfl rfl)
abbrev cX3_run : ByteArray := prog_18_method_61_code
def yX3_run : MethodName := ⟨RX3, "run", "()I"⟩
def dkwX3_run_6 : List UInt8 := [180, 0, 16, 182, 0, 65, 42, 180, 0, 167, 172]
abbrev dktX3_run_6 : List UInt8 := dkwX3_run_6 ++ []
def dkwX3_run_5 : List UInt8 := [181, 0, 22, 42, 180, 0, 16, 3, 42, 180, 0, 7, 3, 184, 0, 57, 42, 5, 182, 0, 50, 172, 42, 42]
abbrev dktX3_run_5 : List UInt8 := dkwX3_run_5 ++ dktX3_run_6
def dkwX3_run_4 : List UInt8 := [167, 0, 4, 3, 96, 61, 167, 255, 219, 42, 3, 181, 0, 61, 42, 180, 0, 41, 158, 0, 27, 42, 28]
abbrev dktX3_run_4 : List UInt8 := dkwX3_run_4 ++ dktX3_run_5
def dkwX3_run_3 : List UInt8 := [180, 0, 41, 154, 0, 28, 42, 7, 28, 104, 182, 0, 209, 28, 42, 180, 0, 41, 154, 0, 7, 4]
abbrev dktX3_run_3 : List UInt8 := dkwX3_run_3 ++ dktX3_run_4
def dkwX3_run_2 : List UInt8 := [180, 0, 16, 3, 184, 0, 57, 42, 4, 181, 0, 61, 3, 61, 28, 42, 180, 0, 167, 162, 0, 35, 42]
abbrev dktX3_run_2 : List UInt8 := dkwX3_run_2 ++ dktX3_run_3
def dkwX3_run_1 : List UInt8 := [181, 0, 32, 42, 3, 181, 0, 158, 27, 154, 0, 9, 42, 4, 182, 0, 50, 172, 42, 180, 0, 7, 3, 42]
abbrev dktX3_run_1 : List UInt8 := dkwX3_run_1 ++ dktX3_run_2
def dkwX3_run_0 : List UInt8 := [42, 3, 181, 0, 41, 42, 182, 0, 206, 60, 42, 27, 153, 0, 7, 2, 167, 0, 7, 42, 180, 0, 161]
abbrev dktX3_run_0 : List UInt8 := dkwX3_run_0 ++ dktX3_run_1
theorem dksX3_run_0 : cX3_run.data.toList.drop 0 = dktX3_run_0 := by decide +kernel
theorem dksX3_run_1 : cX3_run.data.toList.drop 23 = dktX3_run_1 := dk_seg dksX3_run_0 23 rfl rfl
theorem dksX3_run_2 : cX3_run.data.toList.drop 47 = dktX3_run_2 := dk_seg dksX3_run_1 24 rfl rfl
theorem dksX3_run_3 : cX3_run.data.toList.drop 70 = dktX3_run_3 := dk_seg dksX3_run_2 23 rfl rfl
theorem dksX3_run_4 : cX3_run.data.toList.drop 92 = dktX3_run_4 := dk_seg dksX3_run_3 22 rfl rfl
theorem dksX3_run_5 : cX3_run.data.toList.drop 115 = dktX3_run_5 := dk_seg dksX3_run_4 23 rfl rfl
theorem dksX3_run_6 : cX3_run.data.toList.drop 139 = dktX3_run_6 := dk_seg dksX3_run_5 24 rfl rfl
theorem dX3_run_0 : decode cX3_run 0 = .ok (.aload_n 0, 1) := dk_42 (dk_at dksX3_run_0 0 rfl rfl)
theorem dX3_run_1 : decode cX3_run 1 = .ok (.iconst 0, 1) := dk_3 (dk_at dksX3_run_0 1 rfl rfl)
theorem dX3_run_2 : decode cX3_run 2 = .ok (.putfield 41, 3) := dk_181 0 41 (dk_at dksX3_run_0 2 rfl rfl)
theorem dX3_run_5 : decode cX3_run 5 = .ok (.aload_n 0, 1) := dk_42 (dk_at dksX3_run_0 5 rfl rfl)
theorem dX3_run_6 : decode cX3_run 6 = .ok (.invokevirtual 206, 3) := dk_182 0 206 (dk_at dksX3_run_0 6 rfl rfl)
theorem dX3_run_9 : decode cX3_run 9 = .ok (.istore_n 1, 1) := dk_60 (dk_at dksX3_run_0 9 rfl rfl)
theorem dX3_run_10 : decode cX3_run 10 = .ok (.aload_n 0, 1) := dk_42 (dk_at dksX3_run_0 10 rfl rfl)
theorem dX3_run_11 : decode cX3_run 11 = .ok (.iload_n 1, 1) := dk_27 (dk_at dksX3_run_0 11 rfl rfl)
theorem dX3_run_12 : decode cX3_run 12 = .ok (.ifCond .eq 7, 3) := dk_153 0 7 (dk_at dksX3_run_0 12 rfl rfl)
theorem dX3_run_15 : decode cX3_run 15 = .ok (.iconst (-1), 1) := dk_2 (dk_at dksX3_run_0 15 rfl rfl)
theorem dX3_run_16 : decode cX3_run 16 = .ok (.goto 7, 3) := dk_167 0 7 (dk_at dksX3_run_0 16 rfl rfl)
theorem dX3_run_19 : decode cX3_run 19 = .ok (.aload_n 0, 1) := dk_42 (dk_at dksX3_run_0 19 rfl rfl)
theorem dX3_run_20 : decode cX3_run 20 = .ok (.getfield 161, 3) := dk_180 0 161 (dk_at dksX3_run_0 20 rfl rfl)
theorem dX3_run_23 : decode cX3_run 23 = .ok (.putfield 32, 3) := dk_181 0 32 (dk_at dksX3_run_1 0 rfl rfl)
theorem dX3_run_26 : decode cX3_run 26 = .ok (.aload_n 0, 1) := dk_42 (dk_at dksX3_run_1 3 rfl rfl)
theorem dX3_run_27 : decode cX3_run 27 = .ok (.iconst 0, 1) := dk_3 (dk_at dksX3_run_1 4 rfl rfl)
theorem dX3_run_28 : decode cX3_run 28 = .ok (.putfield 158, 3) := dk_181 0 158 (dk_at dksX3_run_1 5 rfl rfl)
theorem dX3_run_31 : decode cX3_run 31 = .ok (.iload_n 1, 1) := dk_27 (dk_at dksX3_run_1 8 rfl rfl)
theorem dX3_run_32 : decode cX3_run 32 = .ok (.ifCond .ne 9, 3) := dk_154 0 9 (dk_at dksX3_run_1 9 rfl rfl)
theorem dX3_run_35 : decode cX3_run 35 = .ok (.aload_n 0, 1) := dk_42 (dk_at dksX3_run_1 12 rfl rfl)
theorem dX3_run_36 : decode cX3_run 36 = .ok (.iconst 1, 1) := dk_4 (dk_at dksX3_run_1 13 rfl rfl)
theorem dX3_run_37 : decode cX3_run 37 = .ok (.invokevirtual 50, 3) := dk_182 0 50 (dk_at dksX3_run_1 14 rfl rfl)
theorem dX3_run_40 : decode cX3_run 40 = .ok (.ireturn, 1) := dk_172 (dk_at dksX3_run_1 17 rfl rfl)
theorem dX3_run_41 : decode cX3_run 41 = .ok (.aload_n 0, 1) := dk_42 (dk_at dksX3_run_1 18 rfl rfl)
theorem dX3_run_42 : decode cX3_run 42 = .ok (.getfield 7, 3) := dk_180 0 7 (dk_at dksX3_run_1 19 rfl rfl)
theorem dX3_run_45 : decode cX3_run 45 = .ok (.iconst 0, 1) := dk_3 (dk_at dksX3_run_1 22 rfl rfl)
theorem dX3_run_46 : decode cX3_run 46 = .ok (.aload_n 0, 1) := dk_42 (dk_at dksX3_run_1 23 rfl rfl)
theorem dX3_run_47 : decode cX3_run 47 = .ok (.getfield 16, 3) := dk_180 0 16 (dk_at dksX3_run_2 0 rfl rfl)
theorem dX3_run_50 : decode cX3_run 50 = .ok (.iconst 0, 1) := dk_3 (dk_at dksX3_run_2 3 rfl rfl)
theorem dX3_run_51 : decode cX3_run 51 = .ok (.invokestatic 57, 3) := dk_184 0 57 (dk_at dksX3_run_2 4 rfl rfl)
theorem dX3_run_54 : decode cX3_run 54 = .ok (.aload_n 0, 1) := dk_42 (dk_at dksX3_run_2 7 rfl rfl)
theorem dX3_run_55 : decode cX3_run 55 = .ok (.iconst 1, 1) := dk_4 (dk_at dksX3_run_2 8 rfl rfl)
theorem dX3_run_56 : decode cX3_run 56 = .ok (.putfield 61, 3) := dk_181 0 61 (dk_at dksX3_run_2 9 rfl rfl)
theorem dX3_run_59 : decode cX3_run 59 = .ok (.iconst 0, 1) := dk_3 (dk_at dksX3_run_2 12 rfl rfl)
theorem dX3_run_60 : decode cX3_run 60 = .ok (.istore_n 2, 1) := dk_61 (dk_at dksX3_run_2 13 rfl rfl)
theorem dX3_run_61 : decode cX3_run 61 = .ok (.iload_n 2, 1) := dk_28 (dk_at dksX3_run_2 14 rfl rfl)
theorem dX3_run_62 : decode cX3_run 62 = .ok (.aload_n 0, 1) := dk_42 (dk_at dksX3_run_2 15 rfl rfl)
theorem dX3_run_63 : decode cX3_run 63 = .ok (.getfield 167, 3) := dk_180 0 167 (dk_at dksX3_run_2 16 rfl rfl)
theorem dX3_run_66 : decode cX3_run 66 = .ok (.if_icmp .ge 35, 3) := dk_162 0 35 (dk_at dksX3_run_2 19 rfl rfl)
theorem dX3_run_69 : decode cX3_run 69 = .ok (.aload_n 0, 1) := dk_42 (dk_at dksX3_run_2 22 rfl rfl)
theorem dX3_run_70 : decode cX3_run 70 = .ok (.getfield 41, 3) := dk_180 0 41 (dk_at dksX3_run_3 0 rfl rfl)
theorem dX3_run_73 : decode cX3_run 73 = .ok (.ifCond .ne 28, 3) := dk_154 0 28 (dk_at dksX3_run_3 3 rfl rfl)
theorem dX3_run_76 : decode cX3_run 76 = .ok (.aload_n 0, 1) := dk_42 (dk_at dksX3_run_3 6 rfl rfl)
theorem dX3_run_77 : decode cX3_run 77 = .ok (.iconst 4, 1) := dk_7 (dk_at dksX3_run_3 7 rfl rfl)
theorem dX3_run_78 : decode cX3_run 78 = .ok (.iload_n 2, 1) := dk_28 (dk_at dksX3_run_3 8 rfl rfl)
theorem dX3_run_79 : decode cX3_run 79 = .ok (.imul, 1) := dk_104 (dk_at dksX3_run_3 9 rfl rfl)
theorem dX3_run_80 : decode cX3_run 80 = .ok (.invokevirtual 209, 3) := dk_182 0 209 (dk_at dksX3_run_3 10 rfl rfl)
theorem dX3_run_83 : decode cX3_run 83 = .ok (.iload_n 2, 1) := dk_28 (dk_at dksX3_run_3 13 rfl rfl)
theorem dX3_run_84 : decode cX3_run 84 = .ok (.aload_n 0, 1) := dk_42 (dk_at dksX3_run_3 14 rfl rfl)
theorem dX3_run_85 : decode cX3_run 85 = .ok (.getfield 41, 3) := dk_180 0 41 (dk_at dksX3_run_3 15 rfl rfl)
theorem dX3_run_88 : decode cX3_run 88 = .ok (.ifCond .ne 7, 3) := dk_154 0 7 (dk_at dksX3_run_3 18 rfl rfl)
theorem dX3_run_91 : decode cX3_run 91 = .ok (.iconst 1, 1) := dk_4 (dk_at dksX3_run_3 21 rfl rfl)
theorem dX3_run_92 : decode cX3_run 92 = .ok (.goto 4, 3) := dk_167 0 4 (dk_at dksX3_run_4 0 rfl rfl)
theorem dX3_run_95 : decode cX3_run 95 = .ok (.iconst 0, 1) := dk_3 (dk_at dksX3_run_4 3 rfl rfl)
theorem dX3_run_96 : decode cX3_run 96 = .ok (.iadd, 1) := dk_96 (dk_at dksX3_run_4 4 rfl rfl)
theorem dX3_run_97 : decode cX3_run 97 = .ok (.istore_n 2, 1) := dk_61 (dk_at dksX3_run_4 5 rfl rfl)
theorem dX3_run_98 : decode cX3_run 98 = .ok (.goto (-37), 3) := dk_167 255 219 (dk_at dksX3_run_4 6 rfl rfl)
theorem dX3_run_101 : decode cX3_run 101 = .ok (.aload_n 0, 1) := dk_42 (dk_at dksX3_run_4 9 rfl rfl)
theorem dX3_run_102 : decode cX3_run 102 = .ok (.iconst 0, 1) := dk_3 (dk_at dksX3_run_4 10 rfl rfl)
theorem dX3_run_103 : decode cX3_run 103 = .ok (.putfield 61, 3) := dk_181 0 61 (dk_at dksX3_run_4 11 rfl rfl)
theorem dX3_run_106 : decode cX3_run 106 = .ok (.aload_n 0, 1) := dk_42 (dk_at dksX3_run_4 14 rfl rfl)
theorem dX3_run_107 : decode cX3_run 107 = .ok (.getfield 41, 3) := dk_180 0 41 (dk_at dksX3_run_4 15 rfl rfl)
theorem dX3_run_110 : decode cX3_run 110 = .ok (.ifCond .le 27, 3) := dk_158 0 27 (dk_at dksX3_run_4 18 rfl rfl)
theorem dX3_run_113 : decode cX3_run 113 = .ok (.aload_n 0, 1) := dk_42 (dk_at dksX3_run_4 21 rfl rfl)
theorem dX3_run_114 : decode cX3_run 114 = .ok (.iload_n 2, 1) := dk_28 (dk_at dksX3_run_4 22 rfl rfl)
theorem dX3_run_115 : decode cX3_run 115 = .ok (.putfield 22, 3) := dk_181 0 22 (dk_at dksX3_run_5 0 rfl rfl)
theorem dX3_run_118 : decode cX3_run 118 = .ok (.aload_n 0, 1) := dk_42 (dk_at dksX3_run_5 3 rfl rfl)
theorem dX3_run_119 : decode cX3_run 119 = .ok (.getfield 16, 3) := dk_180 0 16 (dk_at dksX3_run_5 4 rfl rfl)
theorem dX3_run_122 : decode cX3_run 122 = .ok (.iconst 0, 1) := dk_3 (dk_at dksX3_run_5 7 rfl rfl)
theorem dX3_run_123 : decode cX3_run 123 = .ok (.aload_n 0, 1) := dk_42 (dk_at dksX3_run_5 8 rfl rfl)
theorem dX3_run_124 : decode cX3_run 124 = .ok (.getfield 7, 3) := dk_180 0 7 (dk_at dksX3_run_5 9 rfl rfl)
theorem dX3_run_127 : decode cX3_run 127 = .ok (.iconst 0, 1) := dk_3 (dk_at dksX3_run_5 12 rfl rfl)
theorem dX3_run_128 : decode cX3_run 128 = .ok (.invokestatic 57, 3) := dk_184 0 57 (dk_at dksX3_run_5 13 rfl rfl)
theorem dX3_run_131 : decode cX3_run 131 = .ok (.aload_n 0, 1) := dk_42 (dk_at dksX3_run_5 16 rfl rfl)
theorem dX3_run_132 : decode cX3_run 132 = .ok (.iconst 2, 1) := dk_5 (dk_at dksX3_run_5 17 rfl rfl)
theorem dX3_run_133 : decode cX3_run 133 = .ok (.invokevirtual 50, 3) := dk_182 0 50 (dk_at dksX3_run_5 18 rfl rfl)
theorem dX3_run_136 : decode cX3_run 136 = .ok (.ireturn, 1) := dk_172 (dk_at dksX3_run_5 21 rfl rfl)
theorem dX3_run_137 : decode cX3_run 137 = .ok (.aload_n 0, 1) := dk_42 (dk_at dksX3_run_5 22 rfl rfl)
theorem dX3_run_138 : decode cX3_run 138 = .ok (.aload_n 0, 1) := dk_42 (dk_at dksX3_run_5 23 rfl rfl)
theorem dX3_run_139 : decode cX3_run 139 = .ok (.getfield 16, 3) := dk_180 0 16 (dk_at dksX3_run_6 0 rfl rfl)
theorem dX3_run_142 : decode cX3_run 142 = .ok (.invokevirtual 65, 3) := dk_182 0 65 (dk_at dksX3_run_6 3 rfl rfl)
theorem dX3_run_145 : decode cX3_run 145 = .ok (.aload_n 0, 1) := dk_42 (dk_at dksX3_run_6 6 rfl rfl)
theorem dX3_run_146 : decode cX3_run 146 = .ok (.getfield 167, 3) := dk_180 0 167 (dk_at dksX3_run_6 7 rfl rfl)
theorem dX3_run_149 : decode cX3_run 149 = .ok (.ireturn, 1) := dk_172 (dk_at dksX3_run_6 10 rfl rfl)
abbrev cX3_isText : ByteArray := prog_18_method_59_code
def yX3_isText : MethodName := ⟨RX3, "isText", "()Z"⟩
def dkwX3_isText_1 : List UInt8 := [182, 0, 170, 154, 255, 241, 42, 180, 0, 161, 42, 180, 0, 158, 160, 0, 7, 4, 167, 0, 4, 3, 172]
abbrev dktX3_isText_1 : List UInt8 := dkwX3_isText_1 ++ []
def dkwX3_isText_0 : List UInt8 := [42, 3, 181, 0, 161, 42, 3, 181, 0, 167, 42, 182, 0, 176, 154, 0, 5, 3, 172, 42, 16, 59]
abbrev dktX3_isText_0 : List UInt8 := dkwX3_isText_0 ++ dktX3_isText_1
theorem dksX3_isText_0 : cX3_isText.data.toList.drop 0 = dktX3_isText_0 := by decide +kernel
theorem dksX3_isText_1 : cX3_isText.data.toList.drop 22 = dktX3_isText_1 := dk_seg dksX3_isText_0 22 rfl rfl
theorem dX3_isText_0 : decode cX3_isText 0 = .ok (.aload_n 0, 1) := dk_42 (dk_at dksX3_isText_0 0 rfl rfl)
theorem dX3_isText_1 : decode cX3_isText 1 = .ok (.iconst 0, 1) := dk_3 (dk_at dksX3_isText_0 1 rfl rfl)
theorem dX3_isText_2 : decode cX3_isText 2 = .ok (.putfield 161, 3) := dk_181 0 161 (dk_at dksX3_isText_0 2 rfl rfl)
theorem dX3_isText_5 : decode cX3_isText 5 = .ok (.aload_n 0, 1) := dk_42 (dk_at dksX3_isText_0 5 rfl rfl)
theorem dX3_isText_6 : decode cX3_isText 6 = .ok (.iconst 0, 1) := dk_3 (dk_at dksX3_isText_0 6 rfl rfl)
theorem dX3_isText_7 : decode cX3_isText 7 = .ok (.putfield 167, 3) := dk_181 0 167 (dk_at dksX3_isText_0 7 rfl rfl)
theorem dX3_isText_10 : decode cX3_isText 10 = .ok (.aload_n 0, 1) := dk_42 (dk_at dksX3_isText_0 10 rfl rfl)
theorem dX3_isText_11 : decode cX3_isText 11 = .ok (.invokevirtual 176, 3) := dk_182 0 176 (dk_at dksX3_isText_0 11 rfl rfl)
theorem dX3_isText_14 : decode cX3_isText 14 = .ok (.ifCond .ne 5, 3) := dk_154 0 5 (dk_at dksX3_isText_0 14 rfl rfl)
theorem dX3_isText_17 : decode cX3_isText 17 = .ok (.iconst 0, 1) := dk_3 (dk_at dksX3_isText_0 17 rfl rfl)
theorem dX3_isText_18 : decode cX3_isText 18 = .ok (.ireturn, 1) := dk_172 (dk_at dksX3_isText_0 18 rfl rfl)
theorem dX3_isText_19 : decode cX3_isText 19 = .ok (.aload_n 0, 1) := dk_42 (dk_at dksX3_isText_0 19 rfl rfl)
theorem dX3_isText_20 : decode cX3_isText 20 = .ok (.bipush 59, 2) := dk_16 59 (dk_at dksX3_isText_0 20 rfl rfl)
theorem dX3_isText_22 : decode cX3_isText 22 = .ok (.invokevirtual 170, 3) := dk_182 0 170 (dk_at dksX3_isText_1 0 rfl rfl)
theorem dX3_isText_25 : decode cX3_isText 25 = .ok (.ifCond .ne (-15), 3) := dk_154 255 241 (dk_at dksX3_isText_1 3 rfl rfl)
theorem dX3_isText_28 : decode cX3_isText 28 = .ok (.aload_n 0, 1) := dk_42 (dk_at dksX3_isText_1 6 rfl rfl)
theorem dX3_isText_29 : decode cX3_isText 29 = .ok (.getfield 161, 3) := dk_180 0 161 (dk_at dksX3_isText_1 7 rfl rfl)
theorem dX3_isText_32 : decode cX3_isText 32 = .ok (.aload_n 0, 1) := dk_42 (dk_at dksX3_isText_1 10 rfl rfl)
theorem dX3_isText_33 : decode cX3_isText 33 = .ok (.getfield 158, 3) := dk_180 0 158 (dk_at dksX3_isText_1 11 rfl rfl)
theorem dX3_isText_36 : decode cX3_isText 36 = .ok (.if_icmp .ne 7, 3) := dk_160 0 7 (dk_at dksX3_isText_1 14 rfl rfl)
theorem dX3_isText_39 : decode cX3_isText 39 = .ok (.iconst 1, 1) := dk_4 (dk_at dksX3_isText_1 17 rfl rfl)
theorem dX3_isText_40 : decode cX3_isText 40 = .ok (.goto 4, 3) := dk_167 0 4 (dk_at dksX3_isText_1 18 rfl rfl)
theorem dX3_isText_43 : decode cX3_isText 43 = .ok (.iconst 0, 1) := dk_3 (dk_at dksX3_isText_1 21 rfl rfl)
theorem dX3_isText_44 : decode cX3_isText 44 = .ok (.ireturn, 1) := dk_172 (dk_at dksX3_isText_1 22 rfl rfl)
abbrev cX3_entry : ByteArray := prog_18_method_58_code
def yX3_entry : MethodName := ⟨RX3, "entry", "()Z"⟩
def dkwX3_entry_12 : List UInt8 := [3, 172]
abbrev dktX3_entry_12 : List UInt8 := dkwX3_entry_12 ++ []
def dkwX3_entry_11 : List UInt8 := [42, 16, 116, 182, 0, 170, 153, 0, 18, 42, 27, 4, 96, 6, 182, 0, 173, 153, 0, 7, 4, 167, 0, 4]
abbrev dktX3_entry_11 : List UInt8 := dkwX3_entry_11 ++ dktX3_entry_12
def dkwX3_entry_10 : List UInt8 := [182, 0, 170, 154, 0, 30, 42, 16, 111, 182, 0, 170, 154, 0, 21, 42, 16, 99, 182, 0, 170, 154, 0, 12]
abbrev dktX3_entry_10 : List UInt8 := dkwX3_entry_10 ++ dktX3_entry_11
def dkwX3_entry_9 : List UInt8 := [153, 0, 18, 42, 27, 5, 96, 4, 182, 0, 173, 153, 0, 7, 4, 167, 0, 4, 3, 172, 42, 16, 114]
abbrev dktX3_entry_9 : List UInt8 := dkwX3_entry_9 ++ dktX3_entry_10
def dkwX3_entry_8 : List UInt8 := [182, 0, 170, 153, 0, 40, 42, 27, 4, 96, 6, 182, 0, 173, 153, 0, 27, 42, 16, 61, 182, 0, 170]
abbrev dktX3_entry_8 : List UInt8 := dkwX3_entry_8 ++ dktX3_entry_9
def dkwX3_entry_7 : List UInt8 := [153, 0, 18, 42, 27, 5, 96, 4, 182, 0, 173, 153, 0, 7, 4, 167, 0, 4, 3, 172, 42, 16, 118]
abbrev dktX3_entry_7 : List UInt8 := dkwX3_entry_7 ++ dktX3_entry_8
def dkwX3_entry_6 : List UInt8 := [182, 0, 170, 153, 0, 40, 42, 27, 4, 96, 6, 182, 0, 173, 153, 0, 27, 42, 16, 58, 182, 0, 170]
abbrev dktX3_entry_6 : List UInt8 := dkwX3_entry_6 ++ dktX3_entry_7
def dkwX3_entry_5 : List UInt8 := [182, 0, 173, 153, 0, 7, 4, 167, 0, 4, 3, 172, 42, 16, 115, 182, 0, 170, 154, 0, 12, 42, 16, 103]
abbrev dktX3_entry_5 : List UInt8 := dkwX3_entry_5 ++ dktX3_entry_6
def dkwX3_entry_4 : List UInt8 := [96, 6, 182, 0, 173, 153, 0, 27, 42, 16, 62, 182, 0, 170, 153, 0, 18, 42, 27, 5, 96, 4]
abbrev dktX3_entry_4 : List UInt8 := dkwX3_entry_4 ++ dktX3_entry_5
def dkwX3_entry_3 : List UInt8 := [182, 0, 173, 153, 0, 7, 4, 167, 0, 4, 3, 172, 42, 16, 104, 182, 0, 170, 153, 0, 40, 42, 27, 4]
abbrev dktX3_entry_3 : List UInt8 := dkwX3_entry_3 ++ dktX3_entry_4
def dkwX3_entry_2 : List UInt8 := [182, 0, 170, 153, 0, 31, 42, 27, 4, 96, 4, 182, 0, 173, 153, 0, 18, 42, 27, 5, 96, 4]
abbrev dktX3_entry_2 : List UInt8 := dkwX3_entry_2 ++ dktX3_entry_3
def dkwX3_entry_1 : List UInt8 := [3, 79, 42, 180, 0, 35, 27, 5, 96, 3, 79, 42, 89, 180, 0, 167, 4, 96, 181, 0, 167, 42, 16, 110]
abbrev dktX3_entry_1 : List UInt8 := dkwX3_entry_1 ++ dktX3_entry_2
def dkwX3_entry_0 : List UInt8 := [7, 42, 180, 0, 167, 104, 60, 42, 180, 0, 35, 27, 42, 182, 0, 164, 79, 42, 180, 0, 35, 27, 4, 96]
abbrev dktX3_entry_0 : List UInt8 := dkwX3_entry_0 ++ dktX3_entry_1
theorem dksX3_entry_0 : cX3_entry.data.toList.drop 0 = dktX3_entry_0 := by decide +kernel
theorem dksX3_entry_1 : cX3_entry.data.toList.drop 24 = dktX3_entry_1 := dk_seg dksX3_entry_0 24 rfl rfl
theorem dksX3_entry_2 : cX3_entry.data.toList.drop 48 = dktX3_entry_2 := dk_seg dksX3_entry_1 24 rfl rfl
theorem dksX3_entry_3 : cX3_entry.data.toList.drop 70 = dktX3_entry_3 := dk_seg dksX3_entry_2 22 rfl rfl
theorem dksX3_entry_4 : cX3_entry.data.toList.drop 94 = dktX3_entry_4 := dk_seg dksX3_entry_3 24 rfl rfl
theorem dksX3_entry_5 : cX3_entry.data.toList.drop 116 = dktX3_entry_5 := dk_seg dksX3_entry_4 22 rfl rfl
theorem dksX3_entry_6 : cX3_entry.data.toList.drop 140 = dktX3_entry_6 := dk_seg dksX3_entry_5 24 rfl rfl
theorem dksX3_entry_7 : cX3_entry.data.toList.drop 163 = dktX3_entry_7 := dk_seg dksX3_entry_6 23 rfl rfl
theorem dksX3_entry_8 : cX3_entry.data.toList.drop 186 = dktX3_entry_8 := dk_seg dksX3_entry_7 23 rfl rfl
theorem dksX3_entry_9 : cX3_entry.data.toList.drop 209 = dktX3_entry_9 := dk_seg dksX3_entry_8 23 rfl rfl
theorem dksX3_entry_10 : cX3_entry.data.toList.drop 232 = dktX3_entry_10 := dk_seg dksX3_entry_9 23 rfl rfl
theorem dksX3_entry_11 : cX3_entry.data.toList.drop 256 = dktX3_entry_11 := dk_seg dksX3_entry_10 24 rfl rfl
theorem dksX3_entry_12 : cX3_entry.data.toList.drop 280 = dktX3_entry_12 := dk_seg dksX3_entry_11 24 rfl rfl
theorem dX3_entry_0 : decode cX3_entry 0 = .ok (.iconst 4, 1) := dk_7 (dk_at dksX3_entry_0 0 rfl rfl)
theorem dX3_entry_1 : decode cX3_entry 1 = .ok (.aload_n 0, 1) := dk_42 (dk_at dksX3_entry_0 1 rfl rfl)
theorem dX3_entry_2 : decode cX3_entry 2 = .ok (.getfield 167, 3) := dk_180 0 167 (dk_at dksX3_entry_0 2 rfl rfl)
theorem dX3_entry_5 : decode cX3_entry 5 = .ok (.imul, 1) := dk_104 (dk_at dksX3_entry_0 5 rfl rfl)
theorem dX3_entry_6 : decode cX3_entry 6 = .ok (.istore_n 1, 1) := dk_60 (dk_at dksX3_entry_0 6 rfl rfl)
theorem dX3_entry_7 : decode cX3_entry 7 = .ok (.aload_n 0, 1) := dk_42 (dk_at dksX3_entry_0 7 rfl rfl)
theorem dX3_entry_8 : decode cX3_entry 8 = .ok (.getfield 35, 3) := dk_180 0 35 (dk_at dksX3_entry_0 8 rfl rfl)
theorem dX3_entry_11 : decode cX3_entry 11 = .ok (.iload_n 1, 1) := dk_27 (dk_at dksX3_entry_0 11 rfl rfl)
theorem dX3_entry_12 : decode cX3_entry 12 = .ok (.aload_n 0, 1) := dk_42 (dk_at dksX3_entry_0 12 rfl rfl)
theorem dX3_entry_13 : decode cX3_entry 13 = .ok (.invokevirtual 164, 3) := dk_182 0 164 (dk_at dksX3_entry_0 13 rfl rfl)
theorem dX3_entry_16 : decode cX3_entry 16 = .ok (.iastore, 1) := dk_79 (dk_at dksX3_entry_0 16 rfl rfl)
theorem dX3_entry_17 : decode cX3_entry 17 = .ok (.aload_n 0, 1) := dk_42 (dk_at dksX3_entry_0 17 rfl rfl)
theorem dX3_entry_18 : decode cX3_entry 18 = .ok (.getfield 35, 3) := dk_180 0 35 (dk_at dksX3_entry_0 18 rfl rfl)
theorem dX3_entry_21 : decode cX3_entry 21 = .ok (.iload_n 1, 1) := dk_27 (dk_at dksX3_entry_0 21 rfl rfl)
theorem dX3_entry_22 : decode cX3_entry 22 = .ok (.iconst 1, 1) := dk_4 (dk_at dksX3_entry_0 22 rfl rfl)
theorem dX3_entry_23 : decode cX3_entry 23 = .ok (.iadd, 1) := dk_96 (dk_at dksX3_entry_0 23 rfl rfl)
theorem dX3_entry_24 : decode cX3_entry 24 = .ok (.iconst 0, 1) := dk_3 (dk_at dksX3_entry_1 0 rfl rfl)
theorem dX3_entry_25 : decode cX3_entry 25 = .ok (.iastore, 1) := dk_79 (dk_at dksX3_entry_1 1 rfl rfl)
theorem dX3_entry_26 : decode cX3_entry 26 = .ok (.aload_n 0, 1) := dk_42 (dk_at dksX3_entry_1 2 rfl rfl)
theorem dX3_entry_27 : decode cX3_entry 27 = .ok (.getfield 35, 3) := dk_180 0 35 (dk_at dksX3_entry_1 3 rfl rfl)
theorem dX3_entry_30 : decode cX3_entry 30 = .ok (.iload_n 1, 1) := dk_27 (dk_at dksX3_entry_1 6 rfl rfl)
theorem dX3_entry_31 : decode cX3_entry 31 = .ok (.iconst 2, 1) := dk_5 (dk_at dksX3_entry_1 7 rfl rfl)
theorem dX3_entry_32 : decode cX3_entry 32 = .ok (.iadd, 1) := dk_96 (dk_at dksX3_entry_1 8 rfl rfl)
theorem dX3_entry_33 : decode cX3_entry 33 = .ok (.iconst 0, 1) := dk_3 (dk_at dksX3_entry_1 9 rfl rfl)
theorem dX3_entry_34 : decode cX3_entry 34 = .ok (.iastore, 1) := dk_79 (dk_at dksX3_entry_1 10 rfl rfl)
theorem dX3_entry_35 : decode cX3_entry 35 = .ok (.aload_n 0, 1) := dk_42 (dk_at dksX3_entry_1 11 rfl rfl)
theorem dX3_entry_36 : decode cX3_entry 36 = .ok (.dup, 1) := dk_89 (dk_at dksX3_entry_1 12 rfl rfl)
theorem dX3_entry_37 : decode cX3_entry 37 = .ok (.getfield 167, 3) := dk_180 0 167 (dk_at dksX3_entry_1 13 rfl rfl)
theorem dX3_entry_40 : decode cX3_entry 40 = .ok (.iconst 1, 1) := dk_4 (dk_at dksX3_entry_1 16 rfl rfl)
theorem dX3_entry_41 : decode cX3_entry 41 = .ok (.iadd, 1) := dk_96 (dk_at dksX3_entry_1 17 rfl rfl)
theorem dX3_entry_42 : decode cX3_entry 42 = .ok (.putfield 167, 3) := dk_181 0 167 (dk_at dksX3_entry_1 18 rfl rfl)
theorem dX3_entry_45 : decode cX3_entry 45 = .ok (.aload_n 0, 1) := dk_42 (dk_at dksX3_entry_1 21 rfl rfl)
theorem dX3_entry_46 : decode cX3_entry 46 = .ok (.bipush 110, 2) := dk_16 110 (dk_at dksX3_entry_1 22 rfl rfl)
theorem dX3_entry_48 : decode cX3_entry 48 = .ok (.invokevirtual 170, 3) := dk_182 0 170 (dk_at dksX3_entry_2 0 rfl rfl)
theorem dX3_entry_51 : decode cX3_entry 51 = .ok (.ifCond .eq 31, 3) := dk_153 0 31 (dk_at dksX3_entry_2 3 rfl rfl)
theorem dX3_entry_54 : decode cX3_entry 54 = .ok (.aload_n 0, 1) := dk_42 (dk_at dksX3_entry_2 6 rfl rfl)
theorem dX3_entry_55 : decode cX3_entry 55 = .ok (.iload_n 1, 1) := dk_27 (dk_at dksX3_entry_2 7 rfl rfl)
theorem dX3_entry_56 : decode cX3_entry 56 = .ok (.iconst 1, 1) := dk_4 (dk_at dksX3_entry_2 8 rfl rfl)
theorem dX3_entry_57 : decode cX3_entry 57 = .ok (.iadd, 1) := dk_96 (dk_at dksX3_entry_2 9 rfl rfl)
theorem dX3_entry_58 : decode cX3_entry 58 = .ok (.iconst 1, 1) := dk_4 (dk_at dksX3_entry_2 10 rfl rfl)
theorem dX3_entry_59 : decode cX3_entry 59 = .ok (.invokevirtual 173, 3) := dk_182 0 173 (dk_at dksX3_entry_2 11 rfl rfl)
theorem dX3_entry_62 : decode cX3_entry 62 = .ok (.ifCond .eq 18, 3) := dk_153 0 18 (dk_at dksX3_entry_2 14 rfl rfl)
theorem dX3_entry_65 : decode cX3_entry 65 = .ok (.aload_n 0, 1) := dk_42 (dk_at dksX3_entry_2 17 rfl rfl)
theorem dX3_entry_66 : decode cX3_entry 66 = .ok (.iload_n 1, 1) := dk_27 (dk_at dksX3_entry_2 18 rfl rfl)
theorem dX3_entry_67 : decode cX3_entry 67 = .ok (.iconst 2, 1) := dk_5 (dk_at dksX3_entry_2 19 rfl rfl)
theorem dX3_entry_68 : decode cX3_entry 68 = .ok (.iadd, 1) := dk_96 (dk_at dksX3_entry_2 20 rfl rfl)
theorem dX3_entry_69 : decode cX3_entry 69 = .ok (.iconst 1, 1) := dk_4 (dk_at dksX3_entry_2 21 rfl rfl)
theorem dX3_entry_70 : decode cX3_entry 70 = .ok (.invokevirtual 173, 3) := dk_182 0 173 (dk_at dksX3_entry_3 0 rfl rfl)
theorem dX3_entry_73 : decode cX3_entry 73 = .ok (.ifCond .eq 7, 3) := dk_153 0 7 (dk_at dksX3_entry_3 3 rfl rfl)
theorem dX3_entry_76 : decode cX3_entry 76 = .ok (.iconst 1, 1) := dk_4 (dk_at dksX3_entry_3 6 rfl rfl)
theorem dX3_entry_77 : decode cX3_entry 77 = .ok (.goto 4, 3) := dk_167 0 4 (dk_at dksX3_entry_3 7 rfl rfl)
theorem dX3_entry_80 : decode cX3_entry 80 = .ok (.iconst 0, 1) := dk_3 (dk_at dksX3_entry_3 10 rfl rfl)
theorem dX3_entry_81 : decode cX3_entry 81 = .ok (.ireturn, 1) := dk_172 (dk_at dksX3_entry_3 11 rfl rfl)
theorem dX3_entry_82 : decode cX3_entry 82 = .ok (.aload_n 0, 1) := dk_42 (dk_at dksX3_entry_3 12 rfl rfl)
theorem dX3_entry_83 : decode cX3_entry 83 = .ok (.bipush 104, 2) := dk_16 104 (dk_at dksX3_entry_3 13 rfl rfl)
theorem dX3_entry_85 : decode cX3_entry 85 = .ok (.invokevirtual 170, 3) := dk_182 0 170 (dk_at dksX3_entry_3 15 rfl rfl)
theorem dX3_entry_88 : decode cX3_entry 88 = .ok (.ifCond .eq 40, 3) := dk_153 0 40 (dk_at dksX3_entry_3 18 rfl rfl)
theorem dX3_entry_91 : decode cX3_entry 91 = .ok (.aload_n 0, 1) := dk_42 (dk_at dksX3_entry_3 21 rfl rfl)
theorem dX3_entry_92 : decode cX3_entry 92 = .ok (.iload_n 1, 1) := dk_27 (dk_at dksX3_entry_3 22 rfl rfl)
theorem dX3_entry_93 : decode cX3_entry 93 = .ok (.iconst 1, 1) := dk_4 (dk_at dksX3_entry_3 23 rfl rfl)
theorem dX3_entry_94 : decode cX3_entry 94 = .ok (.iadd, 1) := dk_96 (dk_at dksX3_entry_4 0 rfl rfl)
theorem dX3_entry_95 : decode cX3_entry 95 = .ok (.iconst 3, 1) := dk_6 (dk_at dksX3_entry_4 1 rfl rfl)
theorem dX3_entry_96 : decode cX3_entry 96 = .ok (.invokevirtual 173, 3) := dk_182 0 173 (dk_at dksX3_entry_4 2 rfl rfl)
theorem dX3_entry_99 : decode cX3_entry 99 = .ok (.ifCond .eq 27, 3) := dk_153 0 27 (dk_at dksX3_entry_4 5 rfl rfl)
theorem dX3_entry_102 : decode cX3_entry 102 = .ok (.aload_n 0, 1) := dk_42 (dk_at dksX3_entry_4 8 rfl rfl)
theorem dX3_entry_103 : decode cX3_entry 103 = .ok (.bipush 62, 2) := dk_16 62 (dk_at dksX3_entry_4 9 rfl rfl)
theorem dX3_entry_105 : decode cX3_entry 105 = .ok (.invokevirtual 170, 3) := dk_182 0 170 (dk_at dksX3_entry_4 11 rfl rfl)
theorem dX3_entry_108 : decode cX3_entry 108 = .ok (.ifCond .eq 18, 3) := dk_153 0 18 (dk_at dksX3_entry_4 14 rfl rfl)
theorem dX3_entry_111 : decode cX3_entry 111 = .ok (.aload_n 0, 1) := dk_42 (dk_at dksX3_entry_4 17 rfl rfl)
theorem dX3_entry_112 : decode cX3_entry 112 = .ok (.iload_n 1, 1) := dk_27 (dk_at dksX3_entry_4 18 rfl rfl)
theorem dX3_entry_113 : decode cX3_entry 113 = .ok (.iconst 2, 1) := dk_5 (dk_at dksX3_entry_4 19 rfl rfl)
theorem dX3_entry_114 : decode cX3_entry 114 = .ok (.iadd, 1) := dk_96 (dk_at dksX3_entry_4 20 rfl rfl)
theorem dX3_entry_115 : decode cX3_entry 115 = .ok (.iconst 1, 1) := dk_4 (dk_at dksX3_entry_4 21 rfl rfl)
theorem dX3_entry_116 : decode cX3_entry 116 = .ok (.invokevirtual 173, 3) := dk_182 0 173 (dk_at dksX3_entry_5 0 rfl rfl)
theorem dX3_entry_119 : decode cX3_entry 119 = .ok (.ifCond .eq 7, 3) := dk_153 0 7 (dk_at dksX3_entry_5 3 rfl rfl)
theorem dX3_entry_122 : decode cX3_entry 122 = .ok (.iconst 1, 1) := dk_4 (dk_at dksX3_entry_5 6 rfl rfl)
theorem dX3_entry_123 : decode cX3_entry 123 = .ok (.goto 4, 3) := dk_167 0 4 (dk_at dksX3_entry_5 7 rfl rfl)
theorem dX3_entry_126 : decode cX3_entry 126 = .ok (.iconst 0, 1) := dk_3 (dk_at dksX3_entry_5 10 rfl rfl)
theorem dX3_entry_127 : decode cX3_entry 127 = .ok (.ireturn, 1) := dk_172 (dk_at dksX3_entry_5 11 rfl rfl)
theorem dX3_entry_128 : decode cX3_entry 128 = .ok (.aload_n 0, 1) := dk_42 (dk_at dksX3_entry_5 12 rfl rfl)
theorem dX3_entry_129 : decode cX3_entry 129 = .ok (.bipush 115, 2) := dk_16 115 (dk_at dksX3_entry_5 13 rfl rfl)
theorem dX3_entry_131 : decode cX3_entry 131 = .ok (.invokevirtual 170, 3) := dk_182 0 170 (dk_at dksX3_entry_5 15 rfl rfl)
theorem dX3_entry_134 : decode cX3_entry 134 = .ok (.ifCond .ne 12, 3) := dk_154 0 12 (dk_at dksX3_entry_5 18 rfl rfl)
theorem dX3_entry_137 : decode cX3_entry 137 = .ok (.aload_n 0, 1) := dk_42 (dk_at dksX3_entry_5 21 rfl rfl)
theorem dX3_entry_138 : decode cX3_entry 138 = .ok (.bipush 103, 2) := dk_16 103 (dk_at dksX3_entry_5 22 rfl rfl)
theorem dX3_entry_140 : decode cX3_entry 140 = .ok (.invokevirtual 170, 3) := dk_182 0 170 (dk_at dksX3_entry_6 0 rfl rfl)
theorem dX3_entry_143 : decode cX3_entry 143 = .ok (.ifCond .eq 40, 3) := dk_153 0 40 (dk_at dksX3_entry_6 3 rfl rfl)
theorem dX3_entry_146 : decode cX3_entry 146 = .ok (.aload_n 0, 1) := dk_42 (dk_at dksX3_entry_6 6 rfl rfl)
theorem dX3_entry_147 : decode cX3_entry 147 = .ok (.iload_n 1, 1) := dk_27 (dk_at dksX3_entry_6 7 rfl rfl)
theorem dX3_entry_148 : decode cX3_entry 148 = .ok (.iconst 1, 1) := dk_4 (dk_at dksX3_entry_6 8 rfl rfl)
theorem dX3_entry_149 : decode cX3_entry 149 = .ok (.iadd, 1) := dk_96 (dk_at dksX3_entry_6 9 rfl rfl)
theorem dX3_entry_150 : decode cX3_entry 150 = .ok (.iconst 3, 1) := dk_6 (dk_at dksX3_entry_6 10 rfl rfl)
theorem dX3_entry_151 : decode cX3_entry 151 = .ok (.invokevirtual 173, 3) := dk_182 0 173 (dk_at dksX3_entry_6 11 rfl rfl)
theorem dX3_entry_154 : decode cX3_entry 154 = .ok (.ifCond .eq 27, 3) := dk_153 0 27 (dk_at dksX3_entry_6 14 rfl rfl)
theorem dX3_entry_157 : decode cX3_entry 157 = .ok (.aload_n 0, 1) := dk_42 (dk_at dksX3_entry_6 17 rfl rfl)
theorem dX3_entry_158 : decode cX3_entry 158 = .ok (.bipush 58, 2) := dk_16 58 (dk_at dksX3_entry_6 18 rfl rfl)
theorem dX3_entry_160 : decode cX3_entry 160 = .ok (.invokevirtual 170, 3) := dk_182 0 170 (dk_at dksX3_entry_6 20 rfl rfl)
theorem dX3_entry_163 : decode cX3_entry 163 = .ok (.ifCond .eq 18, 3) := dk_153 0 18 (dk_at dksX3_entry_7 0 rfl rfl)
theorem dX3_entry_166 : decode cX3_entry 166 = .ok (.aload_n 0, 1) := dk_42 (dk_at dksX3_entry_7 3 rfl rfl)
theorem dX3_entry_167 : decode cX3_entry 167 = .ok (.iload_n 1, 1) := dk_27 (dk_at dksX3_entry_7 4 rfl rfl)
theorem dX3_entry_168 : decode cX3_entry 168 = .ok (.iconst 2, 1) := dk_5 (dk_at dksX3_entry_7 5 rfl rfl)
theorem dX3_entry_169 : decode cX3_entry 169 = .ok (.iadd, 1) := dk_96 (dk_at dksX3_entry_7 6 rfl rfl)
theorem dX3_entry_170 : decode cX3_entry 170 = .ok (.iconst 1, 1) := dk_4 (dk_at dksX3_entry_7 7 rfl rfl)
theorem dX3_entry_171 : decode cX3_entry 171 = .ok (.invokevirtual 173, 3) := dk_182 0 173 (dk_at dksX3_entry_7 8 rfl rfl)
theorem dX3_entry_174 : decode cX3_entry 174 = .ok (.ifCond .eq 7, 3) := dk_153 0 7 (dk_at dksX3_entry_7 11 rfl rfl)
theorem dX3_entry_177 : decode cX3_entry 177 = .ok (.iconst 1, 1) := dk_4 (dk_at dksX3_entry_7 14 rfl rfl)
theorem dX3_entry_178 : decode cX3_entry 178 = .ok (.goto 4, 3) := dk_167 0 4 (dk_at dksX3_entry_7 15 rfl rfl)
theorem dX3_entry_181 : decode cX3_entry 181 = .ok (.iconst 0, 1) := dk_3 (dk_at dksX3_entry_7 18 rfl rfl)
theorem dX3_entry_182 : decode cX3_entry 182 = .ok (.ireturn, 1) := dk_172 (dk_at dksX3_entry_7 19 rfl rfl)
theorem dX3_entry_183 : decode cX3_entry 183 = .ok (.aload_n 0, 1) := dk_42 (dk_at dksX3_entry_7 20 rfl rfl)
theorem dX3_entry_184 : decode cX3_entry 184 = .ok (.bipush 118, 2) := dk_16 118 (dk_at dksX3_entry_7 21 rfl rfl)
theorem dX3_entry_186 : decode cX3_entry 186 = .ok (.invokevirtual 170, 3) := dk_182 0 170 (dk_at dksX3_entry_8 0 rfl rfl)
theorem dX3_entry_189 : decode cX3_entry 189 = .ok (.ifCond .eq 40, 3) := dk_153 0 40 (dk_at dksX3_entry_8 3 rfl rfl)
theorem dX3_entry_192 : decode cX3_entry 192 = .ok (.aload_n 0, 1) := dk_42 (dk_at dksX3_entry_8 6 rfl rfl)
theorem dX3_entry_193 : decode cX3_entry 193 = .ok (.iload_n 1, 1) := dk_27 (dk_at dksX3_entry_8 7 rfl rfl)
theorem dX3_entry_194 : decode cX3_entry 194 = .ok (.iconst 1, 1) := dk_4 (dk_at dksX3_entry_8 8 rfl rfl)
theorem dX3_entry_195 : decode cX3_entry 195 = .ok (.iadd, 1) := dk_96 (dk_at dksX3_entry_8 9 rfl rfl)
theorem dX3_entry_196 : decode cX3_entry 196 = .ok (.iconst 3, 1) := dk_6 (dk_at dksX3_entry_8 10 rfl rfl)
theorem dX3_entry_197 : decode cX3_entry 197 = .ok (.invokevirtual 173, 3) := dk_182 0 173 (dk_at dksX3_entry_8 11 rfl rfl)
theorem dX3_entry_200 : decode cX3_entry 200 = .ok (.ifCond .eq 27, 3) := dk_153 0 27 (dk_at dksX3_entry_8 14 rfl rfl)
theorem dX3_entry_203 : decode cX3_entry 203 = .ok (.aload_n 0, 1) := dk_42 (dk_at dksX3_entry_8 17 rfl rfl)
theorem dX3_entry_204 : decode cX3_entry 204 = .ok (.bipush 61, 2) := dk_16 61 (dk_at dksX3_entry_8 18 rfl rfl)
theorem dX3_entry_206 : decode cX3_entry 206 = .ok (.invokevirtual 170, 3) := dk_182 0 170 (dk_at dksX3_entry_8 20 rfl rfl)
theorem dX3_entry_209 : decode cX3_entry 209 = .ok (.ifCond .eq 18, 3) := dk_153 0 18 (dk_at dksX3_entry_9 0 rfl rfl)
theorem dX3_entry_212 : decode cX3_entry 212 = .ok (.aload_n 0, 1) := dk_42 (dk_at dksX3_entry_9 3 rfl rfl)
theorem dX3_entry_213 : decode cX3_entry 213 = .ok (.iload_n 1, 1) := dk_27 (dk_at dksX3_entry_9 4 rfl rfl)
theorem dX3_entry_214 : decode cX3_entry 214 = .ok (.iconst 2, 1) := dk_5 (dk_at dksX3_entry_9 5 rfl rfl)
theorem dX3_entry_215 : decode cX3_entry 215 = .ok (.iadd, 1) := dk_96 (dk_at dksX3_entry_9 6 rfl rfl)
theorem dX3_entry_216 : decode cX3_entry 216 = .ok (.iconst 1, 1) := dk_4 (dk_at dksX3_entry_9 7 rfl rfl)
theorem dX3_entry_217 : decode cX3_entry 217 = .ok (.invokevirtual 173, 3) := dk_182 0 173 (dk_at dksX3_entry_9 8 rfl rfl)
theorem dX3_entry_220 : decode cX3_entry 220 = .ok (.ifCond .eq 7, 3) := dk_153 0 7 (dk_at dksX3_entry_9 11 rfl rfl)
theorem dX3_entry_223 : decode cX3_entry 223 = .ok (.iconst 1, 1) := dk_4 (dk_at dksX3_entry_9 14 rfl rfl)
theorem dX3_entry_224 : decode cX3_entry 224 = .ok (.goto 4, 3) := dk_167 0 4 (dk_at dksX3_entry_9 15 rfl rfl)
theorem dX3_entry_227 : decode cX3_entry 227 = .ok (.iconst 0, 1) := dk_3 (dk_at dksX3_entry_9 18 rfl rfl)
theorem dX3_entry_228 : decode cX3_entry 228 = .ok (.ireturn, 1) := dk_172 (dk_at dksX3_entry_9 19 rfl rfl)
theorem dX3_entry_229 : decode cX3_entry 229 = .ok (.aload_n 0, 1) := dk_42 (dk_at dksX3_entry_9 20 rfl rfl)
theorem dX3_entry_230 : decode cX3_entry 230 = .ok (.bipush 114, 2) := dk_16 114 (dk_at dksX3_entry_9 21 rfl rfl)
theorem dX3_entry_232 : decode cX3_entry 232 = .ok (.invokevirtual 170, 3) := dk_182 0 170 (dk_at dksX3_entry_10 0 rfl rfl)
theorem dX3_entry_235 : decode cX3_entry 235 = .ok (.ifCond .ne 30, 3) := dk_154 0 30 (dk_at dksX3_entry_10 3 rfl rfl)
theorem dX3_entry_238 : decode cX3_entry 238 = .ok (.aload_n 0, 1) := dk_42 (dk_at dksX3_entry_10 6 rfl rfl)
theorem dX3_entry_239 : decode cX3_entry 239 = .ok (.bipush 111, 2) := dk_16 111 (dk_at dksX3_entry_10 7 rfl rfl)
theorem dX3_entry_241 : decode cX3_entry 241 = .ok (.invokevirtual 170, 3) := dk_182 0 170 (dk_at dksX3_entry_10 9 rfl rfl)
theorem dX3_entry_244 : decode cX3_entry 244 = .ok (.ifCond .ne 21, 3) := dk_154 0 21 (dk_at dksX3_entry_10 12 rfl rfl)
theorem dX3_entry_247 : decode cX3_entry 247 = .ok (.aload_n 0, 1) := dk_42 (dk_at dksX3_entry_10 15 rfl rfl)
theorem dX3_entry_248 : decode cX3_entry 248 = .ok (.bipush 99, 2) := dk_16 99 (dk_at dksX3_entry_10 16 rfl rfl)
theorem dX3_entry_250 : decode cX3_entry 250 = .ok (.invokevirtual 170, 3) := dk_182 0 170 (dk_at dksX3_entry_10 18 rfl rfl)
theorem dX3_entry_253 : decode cX3_entry 253 = .ok (.ifCond .ne 12, 3) := dk_154 0 12 (dk_at dksX3_entry_10 21 rfl rfl)
theorem dX3_entry_256 : decode cX3_entry 256 = .ok (.aload_n 0, 1) := dk_42 (dk_at dksX3_entry_11 0 rfl rfl)
theorem dX3_entry_257 : decode cX3_entry 257 = .ok (.bipush 116, 2) := dk_16 116 (dk_at dksX3_entry_11 1 rfl rfl)
theorem dX3_entry_259 : decode cX3_entry 259 = .ok (.invokevirtual 170, 3) := dk_182 0 170 (dk_at dksX3_entry_11 3 rfl rfl)
theorem dX3_entry_262 : decode cX3_entry 262 = .ok (.ifCond .eq 18, 3) := dk_153 0 18 (dk_at dksX3_entry_11 6 rfl rfl)
theorem dX3_entry_265 : decode cX3_entry 265 = .ok (.aload_n 0, 1) := dk_42 (dk_at dksX3_entry_11 9 rfl rfl)
theorem dX3_entry_266 : decode cX3_entry 266 = .ok (.iload_n 1, 1) := dk_27 (dk_at dksX3_entry_11 10 rfl rfl)
theorem dX3_entry_267 : decode cX3_entry 267 = .ok (.iconst 1, 1) := dk_4 (dk_at dksX3_entry_11 11 rfl rfl)
theorem dX3_entry_268 : decode cX3_entry 268 = .ok (.iadd, 1) := dk_96 (dk_at dksX3_entry_11 12 rfl rfl)
theorem dX3_entry_269 : decode cX3_entry 269 = .ok (.iconst 3, 1) := dk_6 (dk_at dksX3_entry_11 13 rfl rfl)
theorem dX3_entry_270 : decode cX3_entry 270 = .ok (.invokevirtual 173, 3) := dk_182 0 173 (dk_at dksX3_entry_11 14 rfl rfl)
theorem dX3_entry_273 : decode cX3_entry 273 = .ok (.ifCond .eq 7, 3) := dk_153 0 7 (dk_at dksX3_entry_11 17 rfl rfl)
theorem dX3_entry_276 : decode cX3_entry 276 = .ok (.iconst 1, 1) := dk_4 (dk_at dksX3_entry_11 20 rfl rfl)
theorem dX3_entry_277 : decode cX3_entry 277 = .ok (.goto 4, 3) := dk_167 0 4 (dk_at dksX3_entry_11 21 rfl rfl)
theorem dX3_entry_280 : decode cX3_entry 280 = .ok (.iconst 0, 1) := dk_3 (dk_at dksX3_entry_12 0 rfl rfl)
theorem dX3_entry_281 : decode cX3_entry 281 = .ok (.ireturn, 1) := dk_172 (dk_at dksX3_entry_12 1 rfl rfl)
abbrev cX3_here : ByteArray := prog_18_method_55_code
def yX3_here : MethodName := ⟨RX3, "here", "()I"⟩
def dkwX3_here_1 : List UInt8 := [172]
abbrev dktX3_here_1 : List UInt8 := dkwX3_here_1 ++ []
def dkwX3_here_0 : List UInt8 := [42, 180, 0, 161, 42, 180, 0, 158, 162, 0, 15, 42, 180, 0, 29, 42, 180, 0, 161, 46, 167, 0, 4, 2]
abbrev dktX3_here_0 : List UInt8 := dkwX3_here_0 ++ dktX3_here_1
theorem dksX3_here_0 : cX3_here.data.toList.drop 0 = dktX3_here_0 := by decide +kernel
theorem dksX3_here_1 : cX3_here.data.toList.drop 24 = dktX3_here_1 := dk_seg dksX3_here_0 24 rfl rfl
theorem dX3_here_0 : decode cX3_here 0 = .ok (.aload_n 0, 1) := dk_42 (dk_at dksX3_here_0 0 rfl rfl)
theorem dX3_here_1 : decode cX3_here 1 = .ok (.getfield 161, 3) := dk_180 0 161 (dk_at dksX3_here_0 1 rfl rfl)
theorem dX3_here_4 : decode cX3_here 4 = .ok (.aload_n 0, 1) := dk_42 (dk_at dksX3_here_0 4 rfl rfl)
theorem dX3_here_5 : decode cX3_here 5 = .ok (.getfield 158, 3) := dk_180 0 158 (dk_at dksX3_here_0 5 rfl rfl)
theorem dX3_here_8 : decode cX3_here 8 = .ok (.if_icmp .ge 15, 3) := dk_162 0 15 (dk_at dksX3_here_0 8 rfl rfl)
theorem dX3_here_11 : decode cX3_here 11 = .ok (.aload_n 0, 1) := dk_42 (dk_at dksX3_here_0 11 rfl rfl)
theorem dX3_here_12 : decode cX3_here 12 = .ok (.getfield 29, 3) := dk_180 0 29 (dk_at dksX3_here_0 12 rfl rfl)
theorem dX3_here_15 : decode cX3_here 15 = .ok (.aload_n 0, 1) := dk_42 (dk_at dksX3_here_0 15 rfl rfl)
theorem dX3_here_16 : decode cX3_here 16 = .ok (.getfield 161, 3) := dk_180 0 161 (dk_at dksX3_here_0 16 rfl rfl)
theorem dX3_here_19 : decode cX3_here 19 = .ok (.iaload, 1) := dk_46 (dk_at dksX3_here_0 19 rfl rfl)
theorem dX3_here_20 : decode cX3_here 20 = .ok (.goto 4, 3) := dk_167 0 4 (dk_at dksX3_here_0 20 rfl rfl)
theorem dX3_here_23 : decode cX3_here 23 = .ok (.iconst (-1), 1) := dk_2 (dk_at dksX3_here_0 23 rfl rfl)
theorem dX3_here_24 : decode cX3_here 24 = .ok (.ireturn, 1) := dk_172 (dk_at dksX3_here_1 0 rfl rfl)
abbrev cX3_skips : ByteArray := prog_18_method_56_code
def yX3_skips : MethodName := ⟨RX3, "skips", "(I)Z"⟩
def dkwX3_skips_1 : List UInt8 := [167, 0, 4, 3, 96, 181, 0, 161, 28, 172]
abbrev dktX3_skips_1 : List UInt8 := dkwX3_skips_1 ++ []
def dkwX3_skips_0 : List UInt8 := [42, 182, 0, 164, 27, 160, 0, 7, 4, 167, 0, 4, 3, 61, 42, 89, 180, 0, 161, 28, 153, 0, 7, 4]
abbrev dktX3_skips_0 : List UInt8 := dkwX3_skips_0 ++ dktX3_skips_1
theorem dksX3_skips_0 : cX3_skips.data.toList.drop 0 = dktX3_skips_0 := by decide +kernel
theorem dksX3_skips_1 : cX3_skips.data.toList.drop 24 = dktX3_skips_1 := dk_seg dksX3_skips_0 24 rfl rfl
theorem dX3_skips_0 : decode cX3_skips 0 = .ok (.aload_n 0, 1) := dk_42 (dk_at dksX3_skips_0 0 rfl rfl)
theorem dX3_skips_1 : decode cX3_skips 1 = .ok (.invokevirtual 164, 3) := dk_182 0 164 (dk_at dksX3_skips_0 1 rfl rfl)
theorem dX3_skips_4 : decode cX3_skips 4 = .ok (.iload_n 1, 1) := dk_27 (dk_at dksX3_skips_0 4 rfl rfl)
theorem dX3_skips_5 : decode cX3_skips 5 = .ok (.if_icmp .ne 7, 3) := dk_160 0 7 (dk_at dksX3_skips_0 5 rfl rfl)
theorem dX3_skips_8 : decode cX3_skips 8 = .ok (.iconst 1, 1) := dk_4 (dk_at dksX3_skips_0 8 rfl rfl)
theorem dX3_skips_9 : decode cX3_skips 9 = .ok (.goto 4, 3) := dk_167 0 4 (dk_at dksX3_skips_0 9 rfl rfl)
theorem dX3_skips_12 : decode cX3_skips 12 = .ok (.iconst 0, 1) := dk_3 (dk_at dksX3_skips_0 12 rfl rfl)
theorem dX3_skips_13 : decode cX3_skips 13 = .ok (.istore_n 2, 1) := dk_61 (dk_at dksX3_skips_0 13 rfl rfl)
theorem dX3_skips_14 : decode cX3_skips 14 = .ok (.aload_n 0, 1) := dk_42 (dk_at dksX3_skips_0 14 rfl rfl)
theorem dX3_skips_15 : decode cX3_skips 15 = .ok (.dup, 1) := dk_89 (dk_at dksX3_skips_0 15 rfl rfl)
theorem dX3_skips_16 : decode cX3_skips 16 = .ok (.getfield 161, 3) := dk_180 0 161 (dk_at dksX3_skips_0 16 rfl rfl)
theorem dX3_skips_19 : decode cX3_skips 19 = .ok (.iload_n 2, 1) := dk_28 (dk_at dksX3_skips_0 19 rfl rfl)
theorem dX3_skips_20 : decode cX3_skips 20 = .ok (.ifCond .eq 7, 3) := dk_153 0 7 (dk_at dksX3_skips_0 20 rfl rfl)
theorem dX3_skips_23 : decode cX3_skips 23 = .ok (.iconst 1, 1) := dk_4 (dk_at dksX3_skips_0 23 rfl rfl)
theorem dX3_skips_24 : decode cX3_skips 24 = .ok (.goto 4, 3) := dk_167 0 4 (dk_at dksX3_skips_1 0 rfl rfl)
theorem dX3_skips_27 : decode cX3_skips 27 = .ok (.iconst 0, 1) := dk_3 (dk_at dksX3_skips_1 3 rfl rfl)
theorem dX3_skips_28 : decode cX3_skips 28 = .ok (.iadd, 1) := dk_96 (dk_at dksX3_skips_1 4 rfl rfl)
theorem dX3_skips_29 : decode cX3_skips 29 = .ok (.putfield 161, 3) := dk_181 0 161 (dk_at dksX3_skips_1 5 rfl rfl)
theorem dX3_skips_32 : decode cX3_skips 32 = .ok (.iload_n 2, 1) := dk_28 (dk_at dksX3_skips_1 8 rfl rfl)
theorem dX3_skips_33 : decode cX3_skips 33 = .ok (.ireturn, 1) := dk_172 (dk_at dksX3_skips_1 9 rfl rfl)
abbrev cX3_number : ByteArray := prog_18_method_57_code
def yX3_number : MethodName := ⟨RX3, "number", "(II)Z"⟩
def dkwX3_number_2 : List UInt8 := [180, 0, 161, 4, 96, 181, 0, 161, 132, 3, 1, 167, 255, 201, 29, 158, 0, 7, 4, 167, 0, 4, 3, 172]
abbrev dktX3_number_2 : List UInt8 := dkwX3_number_2 ++ []
def dkwX3_number_1 : List UInt8 := [180, 0, 35, 27, 16, 10, 42, 180, 0, 35, 27, 46, 104, 42, 182, 0, 164, 96, 16, 48, 100, 79, 42, 89]
abbrev dktX3_number_1 : List UInt8 := dkwX3_number_1 ++ dktX3_number_2
def dkwX3_number_0 : List UInt8 := [3, 62, 29, 28, 162, 0, 56, 42, 182, 0, 164, 16, 48, 16, 57, 184, 0, 72, 153, 0, 42, 42]
abbrev dktX3_number_0 : List UInt8 := dkwX3_number_0 ++ dktX3_number_1
theorem dksX3_number_0 : cX3_number.data.toList.drop 0 = dktX3_number_0 := by decide +kernel
theorem dksX3_number_1 : cX3_number.data.toList.drop 22 = dktX3_number_1 := dk_seg dksX3_number_0 22 rfl rfl
theorem dksX3_number_2 : cX3_number.data.toList.drop 46 = dktX3_number_2 := dk_seg dksX3_number_1 24 rfl rfl
theorem dX3_number_0 : decode cX3_number 0 = .ok (.iconst 0, 1) := dk_3 (dk_at dksX3_number_0 0 rfl rfl)
theorem dX3_number_1 : decode cX3_number 1 = .ok (.istore_n 3, 1) := dk_62 (dk_at dksX3_number_0 1 rfl rfl)
theorem dX3_number_2 : decode cX3_number 2 = .ok (.iload_n 3, 1) := dk_29 (dk_at dksX3_number_0 2 rfl rfl)
theorem dX3_number_3 : decode cX3_number 3 = .ok (.iload_n 2, 1) := dk_28 (dk_at dksX3_number_0 3 rfl rfl)
theorem dX3_number_4 : decode cX3_number 4 = .ok (.if_icmp .ge 56, 3) := dk_162 0 56 (dk_at dksX3_number_0 4 rfl rfl)
theorem dX3_number_7 : decode cX3_number 7 = .ok (.aload_n 0, 1) := dk_42 (dk_at dksX3_number_0 7 rfl rfl)
theorem dX3_number_8 : decode cX3_number 8 = .ok (.invokevirtual 164, 3) := dk_182 0 164 (dk_at dksX3_number_0 8 rfl rfl)
theorem dX3_number_11 : decode cX3_number 11 = .ok (.bipush 48, 2) := dk_16 48 (dk_at dksX3_number_0 11 rfl rfl)
theorem dX3_number_13 : decode cX3_number 13 = .ok (.bipush 57, 2) := dk_16 57 (dk_at dksX3_number_0 13 rfl rfl)
theorem dX3_number_15 : decode cX3_number 15 = .ok (.invokestatic 72, 3) := dk_184 0 72 (dk_at dksX3_number_0 15 rfl rfl)
theorem dX3_number_18 : decode cX3_number 18 = .ok (.ifCond .eq 42, 3) := dk_153 0 42 (dk_at dksX3_number_0 18 rfl rfl)
theorem dX3_number_21 : decode cX3_number 21 = .ok (.aload_n 0, 1) := dk_42 (dk_at dksX3_number_0 21 rfl rfl)
theorem dX3_number_22 : decode cX3_number 22 = .ok (.getfield 35, 3) := dk_180 0 35 (dk_at dksX3_number_1 0 rfl rfl)
theorem dX3_number_25 : decode cX3_number 25 = .ok (.iload_n 1, 1) := dk_27 (dk_at dksX3_number_1 3 rfl rfl)
theorem dX3_number_26 : decode cX3_number 26 = .ok (.bipush 10, 2) := dk_16 10 (dk_at dksX3_number_1 4 rfl rfl)
theorem dX3_number_28 : decode cX3_number 28 = .ok (.aload_n 0, 1) := dk_42 (dk_at dksX3_number_1 6 rfl rfl)
theorem dX3_number_29 : decode cX3_number 29 = .ok (.getfield 35, 3) := dk_180 0 35 (dk_at dksX3_number_1 7 rfl rfl)
theorem dX3_number_32 : decode cX3_number 32 = .ok (.iload_n 1, 1) := dk_27 (dk_at dksX3_number_1 10 rfl rfl)
theorem dX3_number_33 : decode cX3_number 33 = .ok (.iaload, 1) := dk_46 (dk_at dksX3_number_1 11 rfl rfl)
theorem dX3_number_34 : decode cX3_number 34 = .ok (.imul, 1) := dk_104 (dk_at dksX3_number_1 12 rfl rfl)
theorem dX3_number_35 : decode cX3_number 35 = .ok (.aload_n 0, 1) := dk_42 (dk_at dksX3_number_1 13 rfl rfl)
theorem dX3_number_36 : decode cX3_number 36 = .ok (.invokevirtual 164, 3) := dk_182 0 164 (dk_at dksX3_number_1 14 rfl rfl)
theorem dX3_number_39 : decode cX3_number 39 = .ok (.iadd, 1) := dk_96 (dk_at dksX3_number_1 17 rfl rfl)
theorem dX3_number_40 : decode cX3_number 40 = .ok (.bipush 48, 2) := dk_16 48 (dk_at dksX3_number_1 18 rfl rfl)
theorem dX3_number_42 : decode cX3_number 42 = .ok (.isub, 1) := dk_100 (dk_at dksX3_number_1 20 rfl rfl)
theorem dX3_number_43 : decode cX3_number 43 = .ok (.iastore, 1) := dk_79 (dk_at dksX3_number_1 21 rfl rfl)
theorem dX3_number_44 : decode cX3_number 44 = .ok (.aload_n 0, 1) := dk_42 (dk_at dksX3_number_1 22 rfl rfl)
theorem dX3_number_45 : decode cX3_number 45 = .ok (.dup, 1) := dk_89 (dk_at dksX3_number_1 23 rfl rfl)
theorem dX3_number_46 : decode cX3_number 46 = .ok (.getfield 161, 3) := dk_180 0 161 (dk_at dksX3_number_2 0 rfl rfl)
theorem dX3_number_49 : decode cX3_number 49 = .ok (.iconst 1, 1) := dk_4 (dk_at dksX3_number_2 3 rfl rfl)
theorem dX3_number_50 : decode cX3_number 50 = .ok (.iadd, 1) := dk_96 (dk_at dksX3_number_2 4 rfl rfl)
theorem dX3_number_51 : decode cX3_number 51 = .ok (.putfield 161, 3) := dk_181 0 161 (dk_at dksX3_number_2 5 rfl rfl)
theorem dX3_number_54 : decode cX3_number 54 = .ok (.iinc 3 1, 3) := dk_132 3 1 (dk_at dksX3_number_2 8 rfl rfl)
theorem dX3_number_57 : decode cX3_number 57 = .ok (.goto (-55), 3) := dk_167 255 201 (dk_at dksX3_number_2 11 rfl rfl)
theorem dX3_number_60 : decode cX3_number 60 = .ok (.iload_n 3, 1) := dk_29 (dk_at dksX3_number_2 14 rfl rfl)
theorem dX3_number_61 : decode cX3_number 61 = .ok (.ifCond .le 7, 3) := dk_158 0 7 (dk_at dksX3_number_2 15 rfl rfl)
theorem dX3_number_64 : decode cX3_number 64 = .ok (.iconst 1, 1) := dk_4 (dk_at dksX3_number_2 18 rfl rfl)
theorem dX3_number_65 : decode cX3_number 65 = .ok (.goto 4, 3) := dk_167 0 4 (dk_at dksX3_number_2 19 rfl rfl)
theorem dX3_number_68 : decode cX3_number 68 = .ok (.iconst 0, 1) := dk_3 (dk_at dksX3_number_2 22 rfl rfl)
theorem dX3_number_69 : decode cX3_number 69 = .ok (.ireturn, 1) := dk_172 (dk_at dksX3_number_2 23 rfl rfl)
abbrev cX3_carriesOut : ByteArray := prog_18_method_60_code
def yX3_carriesOut : MethodName := ⟨RX3, "carriesOut", "(I)V"⟩
def dkwX3_carriesOut_5 : List UInt8 := [182, 0, 200, 87, 167, 0, 9, 42, 28, 182, 0, 203, 87, 177]
abbrev dktX3_carriesOut_5 : List UInt8 := dkwX3_carriesOut_5 ++ []
def dkwX3_carriesOut_4 : List UInt8 := [167, 0, 36, 42, 28, 182, 0, 194, 87, 167, 0, 27, 42, 28, 182, 0, 197, 87, 167, 0, 18, 42, 28]
abbrev dktX3_carriesOut_4 : List UInt8 := dkwX3_carriesOut_4 ++ dktX3_carriesOut_5
def dkwX3_carriesOut_3 : List UInt8 := [182, 0, 185, 87, 167, 0, 56, 42, 28, 29, 182, 0, 188, 87, 167, 0, 46, 42, 28, 29, 182, 0, 191, 87]
abbrev dktX3_carriesOut_3 : List UInt8 := dkwX3_carriesOut_3 ++ dktX3_carriesOut_4
def dkwX3_carriesOut_2 : List UInt8 := [42, 28, 29, 182, 0, 179, 87, 167, 0, 76, 42, 28, 29, 182, 0, 182, 87, 167, 0, 66, 42, 28, 29]
abbrev dktX3_carriesOut_2 : List UInt8 := dkwX3_carriesOut_2 ++ dktX3_carriesOut_3
def dkwX3_carriesOut_1 : List UInt8 := [170, 0, 0, 0, 0, 0, 0, 173, 0, 0, 0, 99, 0, 0, 0, 118, 0, 0, 0, 164, 0, 0, 0, 173, 0, 0, 0, 173, 0, 0, 0, 173, 0, 0, 0, 126, 0, 0, 0, 106, 0, 0, 0, 173, 0, 0, 0, 173, 0, 0, 0, 173, 0, 0, 0, 173, 0, 0, 0, 173, 0, 0, 0, 96, 0, 0, 0, 155, 0, 0, 0, 173, 0, 0, 0, 173, 0, 0, 0, 146, 0, 0, 0, 116, 0, 0, 0, 173, 0, 0, 0, 173, 0, 0, 0, 136]
abbrev dktX3_carriesOut_1 : List UInt8 := dkwX3_carriesOut_1 ++ dktX3_carriesOut_2
def dkwX3_carriesOut_0 : List UInt8 := [42, 180, 0, 35, 27, 4, 96, 46, 61, 42, 180, 0, 35, 27, 5, 96, 46, 62, 42, 180, 0, 35, 27, 46]
abbrev dktX3_carriesOut_0 : List UInt8 := dkwX3_carriesOut_0 ++ dktX3_carriesOut_1
theorem dksX3_carriesOut_0 : cX3_carriesOut.data.toList.drop 0 = dktX3_carriesOut_0 := by decide +kernel
theorem dksX3_carriesOut_1 : cX3_carriesOut.data.toList.drop 24 = dktX3_carriesOut_1 := dk_seg dksX3_carriesOut_0 24 rfl rfl
theorem dksX3_carriesOut_2 : cX3_carriesOut.data.toList.drop 120 = dktX3_carriesOut_2 := dk_seg dksX3_carriesOut_1 96 rfl rfl
theorem dksX3_carriesOut_3 : cX3_carriesOut.data.toList.drop 143 = dktX3_carriesOut_3 := dk_seg dksX3_carriesOut_2 23 rfl rfl
theorem dksX3_carriesOut_4 : cX3_carriesOut.data.toList.drop 167 = dktX3_carriesOut_4 := dk_seg dksX3_carriesOut_3 24 rfl rfl
theorem dksX3_carriesOut_5 : cX3_carriesOut.data.toList.drop 190 = dktX3_carriesOut_5 := dk_seg dksX3_carriesOut_4 23 rfl rfl
theorem dX3_carriesOut_0 : decode cX3_carriesOut 0 = .ok (.aload_n 0, 1) := dk_42 (dk_at dksX3_carriesOut_0 0 rfl rfl)
theorem dX3_carriesOut_1 : decode cX3_carriesOut 1 = .ok (.getfield 35, 3) := dk_180 0 35 (dk_at dksX3_carriesOut_0 1 rfl rfl)
theorem dX3_carriesOut_4 : decode cX3_carriesOut 4 = .ok (.iload_n 1, 1) := dk_27 (dk_at dksX3_carriesOut_0 4 rfl rfl)
theorem dX3_carriesOut_5 : decode cX3_carriesOut 5 = .ok (.iconst 1, 1) := dk_4 (dk_at dksX3_carriesOut_0 5 rfl rfl)
theorem dX3_carriesOut_6 : decode cX3_carriesOut 6 = .ok (.iadd, 1) := dk_96 (dk_at dksX3_carriesOut_0 6 rfl rfl)
theorem dX3_carriesOut_7 : decode cX3_carriesOut 7 = .ok (.iaload, 1) := dk_46 (dk_at dksX3_carriesOut_0 7 rfl rfl)
theorem dX3_carriesOut_8 : decode cX3_carriesOut 8 = .ok (.istore_n 2, 1) := dk_61 (dk_at dksX3_carriesOut_0 8 rfl rfl)
theorem dX3_carriesOut_9 : decode cX3_carriesOut 9 = .ok (.aload_n 0, 1) := dk_42 (dk_at dksX3_carriesOut_0 9 rfl rfl)
theorem dX3_carriesOut_10 : decode cX3_carriesOut 10 = .ok (.getfield 35, 3) := dk_180 0 35 (dk_at dksX3_carriesOut_0 10 rfl rfl)
theorem dX3_carriesOut_13 : decode cX3_carriesOut 13 = .ok (.iload_n 1, 1) := dk_27 (dk_at dksX3_carriesOut_0 13 rfl rfl)
theorem dX3_carriesOut_14 : decode cX3_carriesOut 14 = .ok (.iconst 2, 1) := dk_5 (dk_at dksX3_carriesOut_0 14 rfl rfl)
theorem dX3_carriesOut_15 : decode cX3_carriesOut 15 = .ok (.iadd, 1) := dk_96 (dk_at dksX3_carriesOut_0 15 rfl rfl)
theorem dX3_carriesOut_16 : decode cX3_carriesOut 16 = .ok (.iaload, 1) := dk_46 (dk_at dksX3_carriesOut_0 16 rfl rfl)
theorem dX3_carriesOut_17 : decode cX3_carriesOut 17 = .ok (.istore_n 3, 1) := dk_62 (dk_at dksX3_carriesOut_0 17 rfl rfl)
theorem dX3_carriesOut_18 : decode cX3_carriesOut 18 = .ok (.aload_n 0, 1) := dk_42 (dk_at dksX3_carriesOut_0 18 rfl rfl)
theorem dX3_carriesOut_19 : decode cX3_carriesOut 19 = .ok (.getfield 35, 3) := dk_180 0 35 (dk_at dksX3_carriesOut_0 19 rfl rfl)
theorem dX3_carriesOut_22 : decode cX3_carriesOut 22 = .ok (.iload_n 1, 1) := dk_27 (dk_at dksX3_carriesOut_0 22 rfl rfl)
theorem dX3_carriesOut_23 : decode cX3_carriesOut 23 = .ok (.iaload, 1) := dk_46 (dk_at dksX3_carriesOut_0 23 rfl rfl)
theorem dX3_carriesOut_24 : decode cX3_carriesOut 24 = .ok (.tableswitch 173 99 118 #[164, 173, 173, 173, 126, 106, 173, 173, 173, 173, 173, 96, 155, 173, 173, 146, 116, 173, 173, 136], 96) := by decide +kernel
theorem dX3_carriesOut_120 : decode cX3_carriesOut 120 = .ok (.aload_n 0, 1) := dk_42 (dk_at dksX3_carriesOut_2 0 rfl rfl)
theorem dX3_carriesOut_121 : decode cX3_carriesOut 121 = .ok (.iload_n 2, 1) := dk_28 (dk_at dksX3_carriesOut_2 1 rfl rfl)
theorem dX3_carriesOut_122 : decode cX3_carriesOut 122 = .ok (.iload_n 3, 1) := dk_29 (dk_at dksX3_carriesOut_2 2 rfl rfl)
theorem dX3_carriesOut_123 : decode cX3_carriesOut 123 = .ok (.invokevirtual 179, 3) := dk_182 0 179 (dk_at dksX3_carriesOut_2 3 rfl rfl)
theorem dX3_carriesOut_126 : decode cX3_carriesOut 126 = .ok (.pop, 1) := dk_87 (dk_at dksX3_carriesOut_2 6 rfl rfl)
theorem dX3_carriesOut_127 : decode cX3_carriesOut 127 = .ok (.goto 76, 3) := dk_167 0 76 (dk_at dksX3_carriesOut_2 7 rfl rfl)
theorem dX3_carriesOut_130 : decode cX3_carriesOut 130 = .ok (.aload_n 0, 1) := dk_42 (dk_at dksX3_carriesOut_2 10 rfl rfl)
theorem dX3_carriesOut_131 : decode cX3_carriesOut 131 = .ok (.iload_n 2, 1) := dk_28 (dk_at dksX3_carriesOut_2 11 rfl rfl)
theorem dX3_carriesOut_132 : decode cX3_carriesOut 132 = .ok (.iload_n 3, 1) := dk_29 (dk_at dksX3_carriesOut_2 12 rfl rfl)
theorem dX3_carriesOut_133 : decode cX3_carriesOut 133 = .ok (.invokevirtual 182, 3) := dk_182 0 182 (dk_at dksX3_carriesOut_2 13 rfl rfl)
theorem dX3_carriesOut_136 : decode cX3_carriesOut 136 = .ok (.pop, 1) := dk_87 (dk_at dksX3_carriesOut_2 16 rfl rfl)
theorem dX3_carriesOut_137 : decode cX3_carriesOut 137 = .ok (.goto 66, 3) := dk_167 0 66 (dk_at dksX3_carriesOut_2 17 rfl rfl)
theorem dX3_carriesOut_140 : decode cX3_carriesOut 140 = .ok (.aload_n 0, 1) := dk_42 (dk_at dksX3_carriesOut_2 20 rfl rfl)
theorem dX3_carriesOut_141 : decode cX3_carriesOut 141 = .ok (.iload_n 2, 1) := dk_28 (dk_at dksX3_carriesOut_2 21 rfl rfl)
theorem dX3_carriesOut_142 : decode cX3_carriesOut 142 = .ok (.iload_n 3, 1) := dk_29 (dk_at dksX3_carriesOut_2 22 rfl rfl)
theorem dX3_carriesOut_143 : decode cX3_carriesOut 143 = .ok (.invokevirtual 185, 3) := dk_182 0 185 (dk_at dksX3_carriesOut_3 0 rfl rfl)
theorem dX3_carriesOut_146 : decode cX3_carriesOut 146 = .ok (.pop, 1) := dk_87 (dk_at dksX3_carriesOut_3 3 rfl rfl)
theorem dX3_carriesOut_147 : decode cX3_carriesOut 147 = .ok (.goto 56, 3) := dk_167 0 56 (dk_at dksX3_carriesOut_3 4 rfl rfl)
theorem dX3_carriesOut_150 : decode cX3_carriesOut 150 = .ok (.aload_n 0, 1) := dk_42 (dk_at dksX3_carriesOut_3 7 rfl rfl)
theorem dX3_carriesOut_151 : decode cX3_carriesOut 151 = .ok (.iload_n 2, 1) := dk_28 (dk_at dksX3_carriesOut_3 8 rfl rfl)
theorem dX3_carriesOut_152 : decode cX3_carriesOut 152 = .ok (.iload_n 3, 1) := dk_29 (dk_at dksX3_carriesOut_3 9 rfl rfl)
theorem dX3_carriesOut_153 : decode cX3_carriesOut 153 = .ok (.invokevirtual 188, 3) := dk_182 0 188 (dk_at dksX3_carriesOut_3 10 rfl rfl)
theorem dX3_carriesOut_156 : decode cX3_carriesOut 156 = .ok (.pop, 1) := dk_87 (dk_at dksX3_carriesOut_3 13 rfl rfl)
theorem dX3_carriesOut_157 : decode cX3_carriesOut 157 = .ok (.goto 46, 3) := dk_167 0 46 (dk_at dksX3_carriesOut_3 14 rfl rfl)
theorem dX3_carriesOut_160 : decode cX3_carriesOut 160 = .ok (.aload_n 0, 1) := dk_42 (dk_at dksX3_carriesOut_3 17 rfl rfl)
theorem dX3_carriesOut_161 : decode cX3_carriesOut 161 = .ok (.iload_n 2, 1) := dk_28 (dk_at dksX3_carriesOut_3 18 rfl rfl)
theorem dX3_carriesOut_162 : decode cX3_carriesOut 162 = .ok (.iload_n 3, 1) := dk_29 (dk_at dksX3_carriesOut_3 19 rfl rfl)
theorem dX3_carriesOut_163 : decode cX3_carriesOut 163 = .ok (.invokevirtual 191, 3) := dk_182 0 191 (dk_at dksX3_carriesOut_3 20 rfl rfl)
theorem dX3_carriesOut_166 : decode cX3_carriesOut 166 = .ok (.pop, 1) := dk_87 (dk_at dksX3_carriesOut_3 23 rfl rfl)
theorem dX3_carriesOut_167 : decode cX3_carriesOut 167 = .ok (.goto 36, 3) := dk_167 0 36 (dk_at dksX3_carriesOut_4 0 rfl rfl)
theorem dX3_carriesOut_170 : decode cX3_carriesOut 170 = .ok (.aload_n 0, 1) := dk_42 (dk_at dksX3_carriesOut_4 3 rfl rfl)
theorem dX3_carriesOut_171 : decode cX3_carriesOut 171 = .ok (.iload_n 2, 1) := dk_28 (dk_at dksX3_carriesOut_4 4 rfl rfl)
theorem dX3_carriesOut_172 : decode cX3_carriesOut 172 = .ok (.invokevirtual 194, 3) := dk_182 0 194 (dk_at dksX3_carriesOut_4 5 rfl rfl)
theorem dX3_carriesOut_175 : decode cX3_carriesOut 175 = .ok (.pop, 1) := dk_87 (dk_at dksX3_carriesOut_4 8 rfl rfl)
theorem dX3_carriesOut_176 : decode cX3_carriesOut 176 = .ok (.goto 27, 3) := dk_167 0 27 (dk_at dksX3_carriesOut_4 9 rfl rfl)
theorem dX3_carriesOut_179 : decode cX3_carriesOut 179 = .ok (.aload_n 0, 1) := dk_42 (dk_at dksX3_carriesOut_4 12 rfl rfl)
theorem dX3_carriesOut_180 : decode cX3_carriesOut 180 = .ok (.iload_n 2, 1) := dk_28 (dk_at dksX3_carriesOut_4 13 rfl rfl)
theorem dX3_carriesOut_181 : decode cX3_carriesOut 181 = .ok (.invokevirtual 197, 3) := dk_182 0 197 (dk_at dksX3_carriesOut_4 14 rfl rfl)
theorem dX3_carriesOut_184 : decode cX3_carriesOut 184 = .ok (.pop, 1) := dk_87 (dk_at dksX3_carriesOut_4 17 rfl rfl)
theorem dX3_carriesOut_185 : decode cX3_carriesOut 185 = .ok (.goto 18, 3) := dk_167 0 18 (dk_at dksX3_carriesOut_4 18 rfl rfl)
theorem dX3_carriesOut_188 : decode cX3_carriesOut 188 = .ok (.aload_n 0, 1) := dk_42 (dk_at dksX3_carriesOut_4 21 rfl rfl)
theorem dX3_carriesOut_189 : decode cX3_carriesOut 189 = .ok (.iload_n 2, 1) := dk_28 (dk_at dksX3_carriesOut_4 22 rfl rfl)
theorem dX3_carriesOut_190 : decode cX3_carriesOut 190 = .ok (.invokevirtual 200, 3) := dk_182 0 200 (dk_at dksX3_carriesOut_5 0 rfl rfl)
theorem dX3_carriesOut_193 : decode cX3_carriesOut 193 = .ok (.pop, 1) := dk_87 (dk_at dksX3_carriesOut_5 3 rfl rfl)
theorem dX3_carriesOut_194 : decode cX3_carriesOut 194 = .ok (.goto 9, 3) := dk_167 0 9 (dk_at dksX3_carriesOut_5 4 rfl rfl)
theorem dX3_carriesOut_197 : decode cX3_carriesOut 197 = .ok (.aload_n 0, 1) := dk_42 (dk_at dksX3_carriesOut_5 7 rfl rfl)
theorem dX3_carriesOut_198 : decode cX3_carriesOut 198 = .ok (.iload_n 2, 1) := dk_28 (dk_at dksX3_carriesOut_5 8 rfl rfl)
theorem dX3_carriesOut_199 : decode cX3_carriesOut 199 = .ok (.invokevirtual 203, 3) := dk_182 0 203 (dk_at dksX3_carriesOut_5 9 rfl rfl)
theorem dX3_carriesOut_202 : decode cX3_carriesOut 202 = .ok (.pop, 1) := dk_87 (dk_at dksX3_carriesOut_5 12 rfl rfl)
theorem dX3_carriesOut_203 : decode cX3_carriesOut 203 = .ok (.return_, 1) := dk_177 (dk_at dksX3_carriesOut_5 13 rfl rfl)
abbrev cX3_faultPosition : ByteArray := prog_18_method_62_code
def yX3_faultPosition : MethodName := ⟨RX3, "faultPosition", "()I"⟩
def dkwX3_faultPosition_0 : List UInt8 := [42, 3, 181, 0, 41, 42, 180, 0, 32, 172]
abbrev dktX3_faultPosition_0 : List UInt8 := dkwX3_faultPosition_0 ++ []
theorem dksX3_faultPosition_0 : cX3_faultPosition.data.toList.drop 0 = dktX3_faultPosition_0 := by decide +kernel
theorem dX3_faultPosition_0 : decode cX3_faultPosition 0 = .ok (.aload_n 0, 1) := dk_42 (dk_at dksX3_faultPosition_0 0 rfl rfl)
theorem dX3_faultPosition_1 : decode cX3_faultPosition 1 = .ok (.iconst 0, 1) := dk_3 (dk_at dksX3_faultPosition_0 1 rfl rfl)
theorem dX3_faultPosition_2 : decode cX3_faultPosition 2 = .ok (.putfield 41, 3) := dk_181 0 41 (dk_at dksX3_faultPosition_0 2 rfl rfl)
theorem dX3_faultPosition_5 : decode cX3_faultPosition 5 = .ok (.aload_n 0, 1) := dk_42 (dk_at dksX3_faultPosition_0 5 rfl rfl)
theorem dX3_faultPosition_6 : decode cX3_faultPosition 6 = .ok (.getfield 32, 3) := dk_180 0 32 (dk_at dksX3_faultPosition_0 6 rfl rfl)
theorem dX3_faultPosition_9 : decode cX3_faultPosition 9 = .ok (.ireturn, 1) := dk_172 (dk_at dksX3_faultPosition_0 9 rfl rfl)
abbrev cX3_reason : ByteArray := prog_18_method_63_code
def yX3_reason : MethodName := ⟨RX3, "reason", "(I)I"⟩
def dkwX3_reason_2 : List UInt8 := [180, 0, 44, 167, 0, 19, 27, 4, 160, 0, 10, 42, 180, 0, 47, 167, 0, 7, 42, 180, 0, 22, 172]
abbrev dktX3_reason_2 : List UInt8 := dkwX3_reason_2 ++ []
def dkwX3_reason_1 : List UInt8 := [167, 0, 4, 3, 181, 0, 41, 42, 180, 0, 41, 158, 0, 7, 3, 167, 0, 30, 27, 154, 0, 10, 42]
abbrev dktX3_reason_1 : List UInt8 := dkwX3_reason_1 ++ dktX3_reason_2
def dkwX3_reason_0 : List UInt8 := [42, 27, 3, 5, 184, 0, 72, 154, 0, 7, 4, 167, 0, 15, 42, 180, 0, 44, 154, 0, 7, 5]
abbrev dktX3_reason_0 : List UInt8 := dkwX3_reason_0 ++ dktX3_reason_1
theorem dksX3_reason_0 : cX3_reason.data.toList.drop 0 = dktX3_reason_0 := by decide +kernel
theorem dksX3_reason_1 : cX3_reason.data.toList.drop 22 = dktX3_reason_1 := dk_seg dksX3_reason_0 22 rfl rfl
theorem dksX3_reason_2 : cX3_reason.data.toList.drop 45 = dktX3_reason_2 := dk_seg dksX3_reason_1 23 rfl rfl
theorem dX3_reason_0 : decode cX3_reason 0 = .ok (.aload_n 0, 1) := dk_42 (dk_at dksX3_reason_0 0 rfl rfl)
theorem dX3_reason_1 : decode cX3_reason 1 = .ok (.iload_n 1, 1) := dk_27 (dk_at dksX3_reason_0 1 rfl rfl)
theorem dX3_reason_2 : decode cX3_reason 2 = .ok (.iconst 0, 1) := dk_3 (dk_at dksX3_reason_0 2 rfl rfl)
theorem dX3_reason_3 : decode cX3_reason 3 = .ok (.iconst 2, 1) := dk_5 (dk_at dksX3_reason_0 3 rfl rfl)
theorem dX3_reason_4 : decode cX3_reason 4 = .ok (.invokestatic 72, 3) := dk_184 0 72 (dk_at dksX3_reason_0 4 rfl rfl)
theorem dX3_reason_7 : decode cX3_reason 7 = .ok (.ifCond .ne 7, 3) := dk_154 0 7 (dk_at dksX3_reason_0 7 rfl rfl)
theorem dX3_reason_10 : decode cX3_reason 10 = .ok (.iconst 1, 1) := dk_4 (dk_at dksX3_reason_0 10 rfl rfl)
theorem dX3_reason_11 : decode cX3_reason 11 = .ok (.goto 15, 3) := dk_167 0 15 (dk_at dksX3_reason_0 11 rfl rfl)
theorem dX3_reason_14 : decode cX3_reason 14 = .ok (.aload_n 0, 1) := dk_42 (dk_at dksX3_reason_0 14 rfl rfl)
theorem dX3_reason_15 : decode cX3_reason 15 = .ok (.getfield 44, 3) := dk_180 0 44 (dk_at dksX3_reason_0 15 rfl rfl)
theorem dX3_reason_18 : decode cX3_reason 18 = .ok (.ifCond .ne 7, 3) := dk_154 0 7 (dk_at dksX3_reason_0 18 rfl rfl)
theorem dX3_reason_21 : decode cX3_reason 21 = .ok (.iconst 2, 1) := dk_5 (dk_at dksX3_reason_0 21 rfl rfl)
theorem dX3_reason_22 : decode cX3_reason 22 = .ok (.goto 4, 3) := dk_167 0 4 (dk_at dksX3_reason_1 0 rfl rfl)
theorem dX3_reason_25 : decode cX3_reason 25 = .ok (.iconst 0, 1) := dk_3 (dk_at dksX3_reason_1 3 rfl rfl)
theorem dX3_reason_26 : decode cX3_reason 26 = .ok (.putfield 41, 3) := dk_181 0 41 (dk_at dksX3_reason_1 4 rfl rfl)
theorem dX3_reason_29 : decode cX3_reason 29 = .ok (.aload_n 0, 1) := dk_42 (dk_at dksX3_reason_1 7 rfl rfl)
theorem dX3_reason_30 : decode cX3_reason 30 = .ok (.getfield 41, 3) := dk_180 0 41 (dk_at dksX3_reason_1 8 rfl rfl)
theorem dX3_reason_33 : decode cX3_reason 33 = .ok (.ifCond .le 7, 3) := dk_158 0 7 (dk_at dksX3_reason_1 11 rfl rfl)
theorem dX3_reason_36 : decode cX3_reason 36 = .ok (.iconst 0, 1) := dk_3 (dk_at dksX3_reason_1 14 rfl rfl)
theorem dX3_reason_37 : decode cX3_reason 37 = .ok (.goto 30, 3) := dk_167 0 30 (dk_at dksX3_reason_1 15 rfl rfl)
theorem dX3_reason_40 : decode cX3_reason 40 = .ok (.iload_n 1, 1) := dk_27 (dk_at dksX3_reason_1 18 rfl rfl)
theorem dX3_reason_41 : decode cX3_reason 41 = .ok (.ifCond .ne 10, 3) := dk_154 0 10 (dk_at dksX3_reason_1 19 rfl rfl)
theorem dX3_reason_44 : decode cX3_reason 44 = .ok (.aload_n 0, 1) := dk_42 (dk_at dksX3_reason_1 22 rfl rfl)
theorem dX3_reason_45 : decode cX3_reason 45 = .ok (.getfield 44, 3) := dk_180 0 44 (dk_at dksX3_reason_2 0 rfl rfl)
theorem dX3_reason_48 : decode cX3_reason 48 = .ok (.goto 19, 3) := dk_167 0 19 (dk_at dksX3_reason_2 3 rfl rfl)
theorem dX3_reason_51 : decode cX3_reason 51 = .ok (.iload_n 1, 1) := dk_27 (dk_at dksX3_reason_2 6 rfl rfl)
theorem dX3_reason_52 : decode cX3_reason 52 = .ok (.iconst 1, 1) := dk_4 (dk_at dksX3_reason_2 7 rfl rfl)
theorem dX3_reason_53 : decode cX3_reason 53 = .ok (.if_icmp .ne 10, 3) := dk_160 0 10 (dk_at dksX3_reason_2 8 rfl rfl)
theorem dX3_reason_56 : decode cX3_reason 56 = .ok (.aload_n 0, 1) := dk_42 (dk_at dksX3_reason_2 11 rfl rfl)
theorem dX3_reason_57 : decode cX3_reason 57 = .ok (.getfield 47, 3) := dk_180 0 47 (dk_at dksX3_reason_2 12 rfl rfl)
theorem dX3_reason_60 : decode cX3_reason 60 = .ok (.goto 7, 3) := dk_167 0 7 (dk_at dksX3_reason_2 15 rfl rfl)
theorem dX3_reason_63 : decode cX3_reason 63 = .ok (.aload_n 0, 1) := dk_42 (dk_at dksX3_reason_2 18 rfl rfl)
theorem dX3_reason_64 : decode cX3_reason 64 = .ok (.getfield 22, 3) := dk_180 0 22 (dk_at dksX3_reason_2 19 rfl rfl)
theorem dX3_reason_67 : decode cX3_reason 67 = .ok (.ireturn, 1) := dk_172 (dk_at dksX3_reason_2 22 rfl rfl)
abbrev cX3_incident : ByteArray := prog_18_method_65_code
def yX3_incident : MethodName := ⟨RX3, "incident", "(II)I"⟩
def dkwX3_incident_2 : List UInt8 := [42, 27, 182, 0, 213, 167, 0, 9, 42, 27, 28, 182, 0, 80, 172]
abbrev dktX3_incident_2 : List UInt8 := dkwX3_incident_2 ++ []
def dkwX3_incident_1 : List UInt8 := [167, 0, 4, 5, 181, 0, 41, 42, 180, 0, 41, 158, 0, 7, 3, 167, 0, 23, 28, 16, 6, 160, 0, 11]
abbrev dktX3_incident_1 : List UInt8 := dkwX3_incident_1 ++ dktX3_incident_2
def dkwX3_incident_0 : List UInt8 := [42, 42, 27, 182, 0, 118, 154, 0, 7, 4, 167, 0, 18, 28, 3, 16, 12, 184, 0, 72, 153, 0, 7, 3]
abbrev dktX3_incident_0 : List UInt8 := dkwX3_incident_0 ++ dktX3_incident_1
theorem dksX3_incident_0 : cX3_incident.data.toList.drop 0 = dktX3_incident_0 := by decide +kernel
theorem dksX3_incident_1 : cX3_incident.data.toList.drop 24 = dktX3_incident_1 := dk_seg dksX3_incident_0 24 rfl rfl
theorem dksX3_incident_2 : cX3_incident.data.toList.drop 48 = dktX3_incident_2 := dk_seg dksX3_incident_1 24 rfl rfl
theorem dX3_incident_0 : decode cX3_incident 0 = .ok (.aload_n 0, 1) := dk_42 (dk_at dksX3_incident_0 0 rfl rfl)
theorem dX3_incident_1 : decode cX3_incident 1 = .ok (.aload_n 0, 1) := dk_42 (dk_at dksX3_incident_0 1 rfl rfl)
theorem dX3_incident_2 : decode cX3_incident 2 = .ok (.iload_n 1, 1) := dk_27 (dk_at dksX3_incident_0 2 rfl rfl)
theorem dX3_incident_3 : decode cX3_incident 3 = .ok (.invokevirtual 118, 3) := dk_182 0 118 (dk_at dksX3_incident_0 3 rfl rfl)
theorem dX3_incident_6 : decode cX3_incident 6 = .ok (.ifCond .ne 7, 3) := dk_154 0 7 (dk_at dksX3_incident_0 6 rfl rfl)
theorem dX3_incident_9 : decode cX3_incident 9 = .ok (.iconst 1, 1) := dk_4 (dk_at dksX3_incident_0 9 rfl rfl)
theorem dX3_incident_10 : decode cX3_incident 10 = .ok (.goto 18, 3) := dk_167 0 18 (dk_at dksX3_incident_0 10 rfl rfl)
theorem dX3_incident_13 : decode cX3_incident 13 = .ok (.iload_n 2, 1) := dk_28 (dk_at dksX3_incident_0 13 rfl rfl)
theorem dX3_incident_14 : decode cX3_incident 14 = .ok (.iconst 0, 1) := dk_3 (dk_at dksX3_incident_0 14 rfl rfl)
theorem dX3_incident_15 : decode cX3_incident 15 = .ok (.bipush 12, 2) := dk_16 12 (dk_at dksX3_incident_0 15 rfl rfl)
theorem dX3_incident_17 : decode cX3_incident 17 = .ok (.invokestatic 72, 3) := dk_184 0 72 (dk_at dksX3_incident_0 17 rfl rfl)
theorem dX3_incident_20 : decode cX3_incident 20 = .ok (.ifCond .eq 7, 3) := dk_153 0 7 (dk_at dksX3_incident_0 20 rfl rfl)
theorem dX3_incident_23 : decode cX3_incident 23 = .ok (.iconst 0, 1) := dk_3 (dk_at dksX3_incident_0 23 rfl rfl)
theorem dX3_incident_24 : decode cX3_incident 24 = .ok (.goto 4, 3) := dk_167 0 4 (dk_at dksX3_incident_1 0 rfl rfl)
theorem dX3_incident_27 : decode cX3_incident 27 = .ok (.iconst 2, 1) := dk_5 (dk_at dksX3_incident_1 3 rfl rfl)
theorem dX3_incident_28 : decode cX3_incident 28 = .ok (.putfield 41, 3) := dk_181 0 41 (dk_at dksX3_incident_1 4 rfl rfl)
theorem dX3_incident_31 : decode cX3_incident 31 = .ok (.aload_n 0, 1) := dk_42 (dk_at dksX3_incident_1 7 rfl rfl)
theorem dX3_incident_32 : decode cX3_incident 32 = .ok (.getfield 41, 3) := dk_180 0 41 (dk_at dksX3_incident_1 8 rfl rfl)
theorem dX3_incident_35 : decode cX3_incident 35 = .ok (.ifCond .le 7, 3) := dk_158 0 7 (dk_at dksX3_incident_1 11 rfl rfl)
theorem dX3_incident_38 : decode cX3_incident 38 = .ok (.iconst 0, 1) := dk_3 (dk_at dksX3_incident_1 14 rfl rfl)
theorem dX3_incident_39 : decode cX3_incident 39 = .ok (.goto 23, 3) := dk_167 0 23 (dk_at dksX3_incident_1 15 rfl rfl)
theorem dX3_incident_42 : decode cX3_incident 42 = .ok (.iload_n 2, 1) := dk_28 (dk_at dksX3_incident_1 18 rfl rfl)
theorem dX3_incident_43 : decode cX3_incident 43 = .ok (.bipush 6, 2) := dk_16 6 (dk_at dksX3_incident_1 19 rfl rfl)
theorem dX3_incident_45 : decode cX3_incident 45 = .ok (.if_icmp .ne 11, 3) := dk_160 0 11 (dk_at dksX3_incident_1 21 rfl rfl)
theorem dX3_incident_48 : decode cX3_incident 48 = .ok (.aload_n 0, 1) := dk_42 (dk_at dksX3_incident_2 0 rfl rfl)
theorem dX3_incident_49 : decode cX3_incident 49 = .ok (.iload_n 1, 1) := dk_27 (dk_at dksX3_incident_2 1 rfl rfl)
theorem dX3_incident_50 : decode cX3_incident 50 = .ok (.invokevirtual 213, 3) := dk_182 0 213 (dk_at dksX3_incident_2 2 rfl rfl)
theorem dX3_incident_53 : decode cX3_incident 53 = .ok (.goto 9, 3) := dk_167 0 9 (dk_at dksX3_incident_2 5 rfl rfl)
theorem dX3_incident_56 : decode cX3_incident 56 = .ok (.aload_n 0, 1) := dk_42 (dk_at dksX3_incident_2 8 rfl rfl)
theorem dX3_incident_57 : decode cX3_incident 57 = .ok (.iload_n 1, 1) := dk_27 (dk_at dksX3_incident_2 9 rfl rfl)
theorem dX3_incident_58 : decode cX3_incident 58 = .ok (.iload_n 2, 1) := dk_28 (dk_at dksX3_incident_2 10 rfl rfl)
theorem dX3_incident_59 : decode cX3_incident 59 = .ok (.invokevirtual 80, 3) := dk_182 0 80 (dk_at dksX3_incident_2 11 rfl rfl)
theorem dX3_incident_62 : decode cX3_incident 62 = .ok (.ireturn, 1) := dk_172 (dk_at dksX3_incident_2 14 rfl rfl)
abbrev cX3_ageOf : ByteArray := prog_18_method_64_code
def yX3_ageOf : MethodName := ⟨RX3, "ageOf", "(I)I"⟩
def dkwX3_ageOf_0 : List UInt8 := [42, 27, 8, 182, 0, 80, 42, 27, 16, 6, 182, 0, 80, 100, 172]
abbrev dktX3_ageOf_0 : List UInt8 := dkwX3_ageOf_0 ++ []
theorem dksX3_ageOf_0 : cX3_ageOf.data.toList.drop 0 = dktX3_ageOf_0 := by decide +kernel
theorem dX3_ageOf_0 : decode cX3_ageOf 0 = .ok (.aload_n 0, 1) := dk_42 (dk_at dksX3_ageOf_0 0 rfl rfl)
theorem dX3_ageOf_1 : decode cX3_ageOf 1 = .ok (.iload_n 1, 1) := dk_27 (dk_at dksX3_ageOf_0 1 rfl rfl)
theorem dX3_ageOf_2 : decode cX3_ageOf 2 = .ok (.iconst 5, 1) := dk_8 (dk_at dksX3_ageOf_0 2 rfl rfl)
theorem dX3_ageOf_3 : decode cX3_ageOf 3 = .ok (.invokevirtual 80, 3) := dk_182 0 80 (dk_at dksX3_ageOf_0 3 rfl rfl)
theorem dX3_ageOf_6 : decode cX3_ageOf 6 = .ok (.aload_n 0, 1) := dk_42 (dk_at dksX3_ageOf_0 6 rfl rfl)
theorem dX3_ageOf_7 : decode cX3_ageOf 7 = .ok (.iload_n 1, 1) := dk_27 (dk_at dksX3_ageOf_0 7 rfl rfl)
theorem dX3_ageOf_8 : decode cX3_ageOf 8 = .ok (.bipush 6, 2) := dk_16 6 (dk_at dksX3_ageOf_0 8 rfl rfl)
theorem dX3_ageOf_10 : decode cX3_ageOf 10 = .ok (.invokevirtual 80, 3) := dk_182 0 80 (dk_at dksX3_ageOf_0 10 rfl rfl)
theorem dX3_ageOf_13 : decode cX3_ageOf 13 = .ok (.isub, 1) := dk_100 (dk_at dksX3_ageOf_0 13 rfl rfl)
theorem dX3_ageOf_14 : decode cX3_ageOf 14 = .ok (.ireturn, 1) := dk_172 (dk_at dksX3_ageOf_0 14 rfl rfl)
abbrev cX3_count : ByteArray := prog_18_method_66_code
def yX3_count : MethodName := ⟨RX3, "count", "(II)I"⟩
def dkwX3_count_2 : List UInt8 := [126, 4, 160, 0, 15, 42, 27, 16, 13, 28, 96, 182, 0, 80, 167, 0, 4, 2, 172]
abbrev dktX3_count_2 : List UInt8 := dkwX3_count_2 ++ []
def dkwX3_count_1 : List UInt8 := [181, 0, 41, 42, 180, 0, 41, 158, 0, 7, 3, 167, 0, 31, 42, 27, 16, 7, 182, 0, 80, 28, 122, 4]
abbrev dktX3_count_1 : List UInt8 := dkwX3_count_1 ++ dktX3_count_2
def dkwX3_count_0 : List UInt8 := [42, 42, 27, 182, 0, 118, 153, 0, 16, 28, 3, 6, 184, 0, 72, 153, 0, 7, 3, 167, 0, 4, 4]
abbrev dktX3_count_0 : List UInt8 := dkwX3_count_0 ++ dktX3_count_1
theorem dksX3_count_0 : cX3_count.data.toList.drop 0 = dktX3_count_0 := by decide +kernel
theorem dksX3_count_1 : cX3_count.data.toList.drop 23 = dktX3_count_1 := dk_seg dksX3_count_0 23 rfl rfl
theorem dksX3_count_2 : cX3_count.data.toList.drop 47 = dktX3_count_2 := dk_seg dksX3_count_1 24 rfl rfl
theorem dX3_count_0 : decode cX3_count 0 = .ok (.aload_n 0, 1) := dk_42 (dk_at dksX3_count_0 0 rfl rfl)
theorem dX3_count_1 : decode cX3_count 1 = .ok (.aload_n 0, 1) := dk_42 (dk_at dksX3_count_0 1 rfl rfl)
theorem dX3_count_2 : decode cX3_count 2 = .ok (.iload_n 1, 1) := dk_27 (dk_at dksX3_count_0 2 rfl rfl)
theorem dX3_count_3 : decode cX3_count 3 = .ok (.invokevirtual 118, 3) := dk_182 0 118 (dk_at dksX3_count_0 3 rfl rfl)
theorem dX3_count_6 : decode cX3_count 6 = .ok (.ifCond .eq 16, 3) := dk_153 0 16 (dk_at dksX3_count_0 6 rfl rfl)
theorem dX3_count_9 : decode cX3_count 9 = .ok (.iload_n 2, 1) := dk_28 (dk_at dksX3_count_0 9 rfl rfl)
theorem dX3_count_10 : decode cX3_count 10 = .ok (.iconst 0, 1) := dk_3 (dk_at dksX3_count_0 10 rfl rfl)
theorem dX3_count_11 : decode cX3_count 11 = .ok (.iconst 3, 1) := dk_6 (dk_at dksX3_count_0 11 rfl rfl)
theorem dX3_count_12 : decode cX3_count 12 = .ok (.invokestatic 72, 3) := dk_184 0 72 (dk_at dksX3_count_0 12 rfl rfl)
theorem dX3_count_15 : decode cX3_count 15 = .ok (.ifCond .eq 7, 3) := dk_153 0 7 (dk_at dksX3_count_0 15 rfl rfl)
theorem dX3_count_18 : decode cX3_count 18 = .ok (.iconst 0, 1) := dk_3 (dk_at dksX3_count_0 18 rfl rfl)
theorem dX3_count_19 : decode cX3_count 19 = .ok (.goto 4, 3) := dk_167 0 4 (dk_at dksX3_count_0 19 rfl rfl)
theorem dX3_count_22 : decode cX3_count 22 = .ok (.iconst 1, 1) := dk_4 (dk_at dksX3_count_0 22 rfl rfl)
theorem dX3_count_23 : decode cX3_count 23 = .ok (.putfield 41, 3) := dk_181 0 41 (dk_at dksX3_count_1 0 rfl rfl)
theorem dX3_count_26 : decode cX3_count 26 = .ok (.aload_n 0, 1) := dk_42 (dk_at dksX3_count_1 3 rfl rfl)
theorem dX3_count_27 : decode cX3_count 27 = .ok (.getfield 41, 3) := dk_180 0 41 (dk_at dksX3_count_1 4 rfl rfl)
theorem dX3_count_30 : decode cX3_count 30 = .ok (.ifCond .le 7, 3) := dk_158 0 7 (dk_at dksX3_count_1 7 rfl rfl)
theorem dX3_count_33 : decode cX3_count 33 = .ok (.iconst 0, 1) := dk_3 (dk_at dksX3_count_1 10 rfl rfl)
theorem dX3_count_34 : decode cX3_count 34 = .ok (.goto 31, 3) := dk_167 0 31 (dk_at dksX3_count_1 11 rfl rfl)
theorem dX3_count_37 : decode cX3_count 37 = .ok (.aload_n 0, 1) := dk_42 (dk_at dksX3_count_1 14 rfl rfl)
theorem dX3_count_38 : decode cX3_count 38 = .ok (.iload_n 1, 1) := dk_27 (dk_at dksX3_count_1 15 rfl rfl)
theorem dX3_count_39 : decode cX3_count 39 = .ok (.bipush 7, 2) := dk_16 7 (dk_at dksX3_count_1 16 rfl rfl)
theorem dX3_count_41 : decode cX3_count 41 = .ok (.invokevirtual 80, 3) := dk_182 0 80 (dk_at dksX3_count_1 18 rfl rfl)
theorem dX3_count_44 : decode cX3_count 44 = .ok (.iload_n 2, 1) := dk_28 (dk_at dksX3_count_1 21 rfl rfl)
theorem dX3_count_45 : decode cX3_count 45 = .ok (.ishr, 1) := dk_122 (dk_at dksX3_count_1 22 rfl rfl)
theorem dX3_count_46 : decode cX3_count 46 = .ok (.iconst 1, 1) := dk_4 (dk_at dksX3_count_1 23 rfl rfl)
theorem dX3_count_47 : decode cX3_count 47 = .ok (.iand, 1) := dk_126 (dk_at dksX3_count_2 0 rfl rfl)
theorem dX3_count_48 : decode cX3_count 48 = .ok (.iconst 1, 1) := dk_4 (dk_at dksX3_count_2 1 rfl rfl)
theorem dX3_count_49 : decode cX3_count 49 = .ok (.if_icmp .ne 15, 3) := dk_160 0 15 (dk_at dksX3_count_2 2 rfl rfl)
theorem dX3_count_52 : decode cX3_count 52 = .ok (.aload_n 0, 1) := dk_42 (dk_at dksX3_count_2 5 rfl rfl)
theorem dX3_count_53 : decode cX3_count 53 = .ok (.iload_n 1, 1) := dk_27 (dk_at dksX3_count_2 6 rfl rfl)
theorem dX3_count_54 : decode cX3_count 54 = .ok (.bipush 13, 2) := dk_16 13 (dk_at dksX3_count_2 7 rfl rfl)
theorem dX3_count_56 : decode cX3_count 56 = .ok (.iload_n 2, 1) := dk_28 (dk_at dksX3_count_2 9 rfl rfl)
theorem dX3_count_57 : decode cX3_count 57 = .ok (.iadd, 1) := dk_96 (dk_at dksX3_count_2 10 rfl rfl)
theorem dX3_count_58 : decode cX3_count 58 = .ok (.invokevirtual 80, 3) := dk_182 0 80 (dk_at dksX3_count_2 11 rfl rfl)
theorem dX3_count_61 : decode cX3_count 61 = .ok (.goto 4, 3) := dk_167 0 4 (dk_at dksX3_count_2 14 rfl rfl)
theorem dX3_count_64 : decode cX3_count 64 = .ok (.iconst (-1), 1) := dk_2 (dk_at dksX3_count_2 17 rfl rfl)
theorem dX3_count_65 : decode cX3_count 65 = .ok (.ireturn, 1) := dk_172 (dk_at dksX3_count_2 18 rfl rfl)
abbrev cX3_clockAgain : ByteArray := prog_18_method_67_code
def yX3_clockAgain : MethodName := ⟨RX3, "clockAgain", "(I)I"⟩
def dkwX3_clockAgain_2 : List UInt8 := [100, 42, 27, 16, 18, 182, 0, 80, 100, 172]
abbrev dktX3_clockAgain_2 : List UInt8 := dkwX3_clockAgain_2 ++ []
def dkwX3_clockAgain_1 : List UInt8 := [3, 167, 0, 32, 42, 180, 0, 7, 3, 46, 42, 27, 7, 182, 0, 80, 100, 42, 27, 16, 17, 182, 0, 80]
abbrev dktX3_clockAgain_1 : List UInt8 := dkwX3_clockAgain_1 ++ dktX3_clockAgain_2
def dkwX3_clockAgain_0 : List UInt8 := [42, 42, 27, 182, 0, 118, 153, 0, 7, 3, 167, 0, 4, 4, 181, 0, 41, 42, 180, 0, 41, 158, 0, 7]
abbrev dktX3_clockAgain_0 : List UInt8 := dkwX3_clockAgain_0 ++ dktX3_clockAgain_1
theorem dksX3_clockAgain_0 : cX3_clockAgain.data.toList.drop 0 = dktX3_clockAgain_0 := by decide +kernel
theorem dksX3_clockAgain_1 : cX3_clockAgain.data.toList.drop 24 = dktX3_clockAgain_1 := dk_seg dksX3_clockAgain_0 24 rfl rfl
theorem dksX3_clockAgain_2 : cX3_clockAgain.data.toList.drop 48 = dktX3_clockAgain_2 := dk_seg dksX3_clockAgain_1 24 rfl rfl
theorem dX3_clockAgain_0 : decode cX3_clockAgain 0 = .ok (.aload_n 0, 1) := dk_42 (dk_at dksX3_clockAgain_0 0 rfl rfl)
theorem dX3_clockAgain_1 : decode cX3_clockAgain 1 = .ok (.aload_n 0, 1) := dk_42 (dk_at dksX3_clockAgain_0 1 rfl rfl)
theorem dX3_clockAgain_2 : decode cX3_clockAgain 2 = .ok (.iload_n 1, 1) := dk_27 (dk_at dksX3_clockAgain_0 2 rfl rfl)
theorem dX3_clockAgain_3 : decode cX3_clockAgain 3 = .ok (.invokevirtual 118, 3) := dk_182 0 118 (dk_at dksX3_clockAgain_0 3 rfl rfl)
theorem dX3_clockAgain_6 : decode cX3_clockAgain 6 = .ok (.ifCond .eq 7, 3) := dk_153 0 7 (dk_at dksX3_clockAgain_0 6 rfl rfl)
theorem dX3_clockAgain_9 : decode cX3_clockAgain 9 = .ok (.iconst 0, 1) := dk_3 (dk_at dksX3_clockAgain_0 9 rfl rfl)
theorem dX3_clockAgain_10 : decode cX3_clockAgain 10 = .ok (.goto 4, 3) := dk_167 0 4 (dk_at dksX3_clockAgain_0 10 rfl rfl)
theorem dX3_clockAgain_13 : decode cX3_clockAgain 13 = .ok (.iconst 1, 1) := dk_4 (dk_at dksX3_clockAgain_0 13 rfl rfl)
theorem dX3_clockAgain_14 : decode cX3_clockAgain 14 = .ok (.putfield 41, 3) := dk_181 0 41 (dk_at dksX3_clockAgain_0 14 rfl rfl)
theorem dX3_clockAgain_17 : decode cX3_clockAgain 17 = .ok (.aload_n 0, 1) := dk_42 (dk_at dksX3_clockAgain_0 17 rfl rfl)
theorem dX3_clockAgain_18 : decode cX3_clockAgain 18 = .ok (.getfield 41, 3) := dk_180 0 41 (dk_at dksX3_clockAgain_0 18 rfl rfl)
theorem dX3_clockAgain_21 : decode cX3_clockAgain 21 = .ok (.ifCond .le 7, 3) := dk_158 0 7 (dk_at dksX3_clockAgain_0 21 rfl rfl)
theorem dX3_clockAgain_24 : decode cX3_clockAgain 24 = .ok (.iconst 0, 1) := dk_3 (dk_at dksX3_clockAgain_1 0 rfl rfl)
theorem dX3_clockAgain_25 : decode cX3_clockAgain 25 = .ok (.goto 32, 3) := dk_167 0 32 (dk_at dksX3_clockAgain_1 1 rfl rfl)
theorem dX3_clockAgain_28 : decode cX3_clockAgain 28 = .ok (.aload_n 0, 1) := dk_42 (dk_at dksX3_clockAgain_1 4 rfl rfl)
theorem dX3_clockAgain_29 : decode cX3_clockAgain 29 = .ok (.getfield 7, 3) := dk_180 0 7 (dk_at dksX3_clockAgain_1 5 rfl rfl)
theorem dX3_clockAgain_32 : decode cX3_clockAgain 32 = .ok (.iconst 0, 1) := dk_3 (dk_at dksX3_clockAgain_1 8 rfl rfl)
theorem dX3_clockAgain_33 : decode cX3_clockAgain 33 = .ok (.iaload, 1) := dk_46 (dk_at dksX3_clockAgain_1 9 rfl rfl)
theorem dX3_clockAgain_34 : decode cX3_clockAgain 34 = .ok (.aload_n 0, 1) := dk_42 (dk_at dksX3_clockAgain_1 10 rfl rfl)
theorem dX3_clockAgain_35 : decode cX3_clockAgain 35 = .ok (.iload_n 1, 1) := dk_27 (dk_at dksX3_clockAgain_1 11 rfl rfl)
theorem dX3_clockAgain_36 : decode cX3_clockAgain 36 = .ok (.iconst 4, 1) := dk_7 (dk_at dksX3_clockAgain_1 12 rfl rfl)
theorem dX3_clockAgain_37 : decode cX3_clockAgain 37 = .ok (.invokevirtual 80, 3) := dk_182 0 80 (dk_at dksX3_clockAgain_1 13 rfl rfl)
theorem dX3_clockAgain_40 : decode cX3_clockAgain 40 = .ok (.isub, 1) := dk_100 (dk_at dksX3_clockAgain_1 16 rfl rfl)
theorem dX3_clockAgain_41 : decode cX3_clockAgain 41 = .ok (.aload_n 0, 1) := dk_42 (dk_at dksX3_clockAgain_1 17 rfl rfl)
theorem dX3_clockAgain_42 : decode cX3_clockAgain 42 = .ok (.iload_n 1, 1) := dk_27 (dk_at dksX3_clockAgain_1 18 rfl rfl)
theorem dX3_clockAgain_43 : decode cX3_clockAgain 43 = .ok (.bipush 17, 2) := dk_16 17 (dk_at dksX3_clockAgain_1 19 rfl rfl)
theorem dX3_clockAgain_45 : decode cX3_clockAgain 45 = .ok (.invokevirtual 80, 3) := dk_182 0 80 (dk_at dksX3_clockAgain_1 21 rfl rfl)
theorem dX3_clockAgain_48 : decode cX3_clockAgain 48 = .ok (.isub, 1) := dk_100 (dk_at dksX3_clockAgain_2 0 rfl rfl)
theorem dX3_clockAgain_49 : decode cX3_clockAgain 49 = .ok (.aload_n 0, 1) := dk_42 (dk_at dksX3_clockAgain_2 1 rfl rfl)
theorem dX3_clockAgain_50 : decode cX3_clockAgain 50 = .ok (.iload_n 1, 1) := dk_27 (dk_at dksX3_clockAgain_2 2 rfl rfl)
theorem dX3_clockAgain_51 : decode cX3_clockAgain 51 = .ok (.bipush 18, 2) := dk_16 18 (dk_at dksX3_clockAgain_2 3 rfl rfl)
theorem dX3_clockAgain_53 : decode cX3_clockAgain 53 = .ok (.invokevirtual 80, 3) := dk_182 0 80 (dk_at dksX3_clockAgain_2 5 rfl rfl)
theorem dX3_clockAgain_56 : decode cX3_clockAgain 56 = .ok (.isub, 1) := dk_100 (dk_at dksX3_clockAgain_2 8 rfl rfl)
theorem dX3_clockAgain_57 : decode cX3_clockAgain 57 = .ok (.ireturn, 1) := dk_172 (dk_at dksX3_clockAgain_2 9 rfl rfl)
abbrev cX3_tree : ByteArray := prog_18_method_68_code
def yX3_tree : MethodName := ⟨RX3, "tree", "(I)I"⟩
def dkwX3_tree_1 : List UInt8 := [3, 167, 0, 8, 42, 27, 182, 0, 130, 172]
abbrev dktX3_tree_1 : List UInt8 := dkwX3_tree_1 ++ []
def dkwX3_tree_0 : List UInt8 := [42, 42, 27, 182, 0, 118, 153, 0, 7, 3, 167, 0, 4, 4, 181, 0, 41, 42, 180, 0, 41, 158, 0, 7]
abbrev dktX3_tree_0 : List UInt8 := dkwX3_tree_0 ++ dktX3_tree_1
theorem dksX3_tree_0 : cX3_tree.data.toList.drop 0 = dktX3_tree_0 := by decide +kernel
theorem dksX3_tree_1 : cX3_tree.data.toList.drop 24 = dktX3_tree_1 := dk_seg dksX3_tree_0 24 rfl rfl
theorem dX3_tree_0 : decode cX3_tree 0 = .ok (.aload_n 0, 1) := dk_42 (dk_at dksX3_tree_0 0 rfl rfl)
theorem dX3_tree_1 : decode cX3_tree 1 = .ok (.aload_n 0, 1) := dk_42 (dk_at dksX3_tree_0 1 rfl rfl)
theorem dX3_tree_2 : decode cX3_tree 2 = .ok (.iload_n 1, 1) := dk_27 (dk_at dksX3_tree_0 2 rfl rfl)
theorem dX3_tree_3 : decode cX3_tree 3 = .ok (.invokevirtual 118, 3) := dk_182 0 118 (dk_at dksX3_tree_0 3 rfl rfl)
theorem dX3_tree_6 : decode cX3_tree 6 = .ok (.ifCond .eq 7, 3) := dk_153 0 7 (dk_at dksX3_tree_0 6 rfl rfl)
theorem dX3_tree_9 : decode cX3_tree 9 = .ok (.iconst 0, 1) := dk_3 (dk_at dksX3_tree_0 9 rfl rfl)
theorem dX3_tree_10 : decode cX3_tree 10 = .ok (.goto 4, 3) := dk_167 0 4 (dk_at dksX3_tree_0 10 rfl rfl)
theorem dX3_tree_13 : decode cX3_tree 13 = .ok (.iconst 1, 1) := dk_4 (dk_at dksX3_tree_0 13 rfl rfl)
theorem dX3_tree_14 : decode cX3_tree 14 = .ok (.putfield 41, 3) := dk_181 0 41 (dk_at dksX3_tree_0 14 rfl rfl)
theorem dX3_tree_17 : decode cX3_tree 17 = .ok (.aload_n 0, 1) := dk_42 (dk_at dksX3_tree_0 17 rfl rfl)
theorem dX3_tree_18 : decode cX3_tree 18 = .ok (.getfield 41, 3) := dk_180 0 41 (dk_at dksX3_tree_0 18 rfl rfl)
theorem dX3_tree_21 : decode cX3_tree 21 = .ok (.ifCond .le 7, 3) := dk_158 0 7 (dk_at dksX3_tree_0 21 rfl rfl)
theorem dX3_tree_24 : decode cX3_tree 24 = .ok (.iconst 0, 1) := dk_3 (dk_at dksX3_tree_1 0 rfl rfl)
theorem dX3_tree_25 : decode cX3_tree 25 = .ok (.goto 8, 3) := dk_167 0 8 (dk_at dksX3_tree_1 1 rfl rfl)
theorem dX3_tree_28 : decode cX3_tree 28 = .ok (.aload_n 0, 1) := dk_42 (dk_at dksX3_tree_1 4 rfl rfl)
theorem dX3_tree_29 : decode cX3_tree 29 = .ok (.iload_n 1, 1) := dk_27 (dk_at dksX3_tree_1 5 rfl rfl)
theorem dX3_tree_30 : decode cX3_tree 30 = .ok (.invokevirtual 130, 3) := dk_182 0 130 (dk_at dksX3_tree_1 6 rfl rfl)
theorem dX3_tree_33 : decode cX3_tree 33 = .ok (.ireturn, 1) := dk_172 (dk_at dksX3_tree_1 9 rfl rfl)
abbrev cX3_deepest : ByteArray := prog_18_method_69_code
def yX3_deepest : MethodName := ⟨RX3, "deepest", "(I)I"⟩
def dkwX3_deepest_5 : List UInt8 := [167, 255, 161, 28, 172]
abbrev dktX3_deepest_5 : List UInt8 := dkwX3_deepest_5 ++ []
def dkwX3_deepest_4 : List UInt8 := [180, 0, 38, 29, 46, 28, 164, 0, 12, 42, 180, 0, 38, 29, 46, 167, 0, 4, 28, 61, 132, 3, 1]
abbrev dktX3_deepest_4 : List UInt8 := dkwX3_deepest_4 ++ dktX3_deepest_5
def dkwX3_deepest_3 : List UInt8 := [180, 0, 38, 21, 4, 46, 158, 0, 15, 42, 180, 0, 38, 21, 4, 46, 4, 96, 167, 0, 4, 3, 79, 42]
abbrev dktX3_deepest_3 : List UInt8 := dkwX3_deepest_3 ++ dktX3_deepest_4
def dkwX3_deepest_2 : List UInt8 := [54, 4, 42, 180, 0, 38, 29, 29, 27, 160, 0, 7, 4, 167, 0, 32, 21, 4, 27, 161, 0, 25, 42]
abbrev dktX3_deepest_2 : List UInt8 := dkwX3_deepest_2 ++ dktX3_deepest_3
def dkwX3_deepest_1 : List UInt8 := [180, 0, 7, 16, 11, 46, 162, 0, 90, 42, 180, 0, 41, 154, 0, 83, 42, 29, 16, 8, 182, 0, 80]
abbrev dktX3_deepest_1 : List UInt8 := dkwX3_deepest_1 ++ dktX3_deepest_2
def dkwX3_deepest_0 : List UInt8 := [42, 42, 27, 182, 0, 118, 153, 0, 7, 3, 167, 0, 4, 4, 181, 0, 41, 3, 61, 27, 62, 29, 42]
abbrev dktX3_deepest_0 : List UInt8 := dkwX3_deepest_0 ++ dktX3_deepest_1
theorem dksX3_deepest_0 : cX3_deepest.data.toList.drop 0 = dktX3_deepest_0 := by decide +kernel
theorem dksX3_deepest_1 : cX3_deepest.data.toList.drop 23 = dktX3_deepest_1 := dk_seg dksX3_deepest_0 23 rfl rfl
theorem dksX3_deepest_2 : cX3_deepest.data.toList.drop 46 = dktX3_deepest_2 := dk_seg dksX3_deepest_1 23 rfl rfl
theorem dksX3_deepest_3 : cX3_deepest.data.toList.drop 69 = dktX3_deepest_3 := dk_seg dksX3_deepest_2 23 rfl rfl
theorem dksX3_deepest_4 : cX3_deepest.data.toList.drop 93 = dktX3_deepest_4 := dk_seg dksX3_deepest_3 24 rfl rfl
theorem dksX3_deepest_5 : cX3_deepest.data.toList.drop 116 = dktX3_deepest_5 := dk_seg dksX3_deepest_4 23 rfl rfl
theorem dX3_deepest_0 : decode cX3_deepest 0 = .ok (.aload_n 0, 1) := dk_42 (dk_at dksX3_deepest_0 0 rfl rfl)
theorem dX3_deepest_1 : decode cX3_deepest 1 = .ok (.aload_n 0, 1) := dk_42 (dk_at dksX3_deepest_0 1 rfl rfl)
theorem dX3_deepest_2 : decode cX3_deepest 2 = .ok (.iload_n 1, 1) := dk_27 (dk_at dksX3_deepest_0 2 rfl rfl)
theorem dX3_deepest_3 : decode cX3_deepest 3 = .ok (.invokevirtual 118, 3) := dk_182 0 118 (dk_at dksX3_deepest_0 3 rfl rfl)
theorem dX3_deepest_6 : decode cX3_deepest 6 = .ok (.ifCond .eq 7, 3) := dk_153 0 7 (dk_at dksX3_deepest_0 6 rfl rfl)
theorem dX3_deepest_9 : decode cX3_deepest 9 = .ok (.iconst 0, 1) := dk_3 (dk_at dksX3_deepest_0 9 rfl rfl)
theorem dX3_deepest_10 : decode cX3_deepest 10 = .ok (.goto 4, 3) := dk_167 0 4 (dk_at dksX3_deepest_0 10 rfl rfl)
theorem dX3_deepest_13 : decode cX3_deepest 13 = .ok (.iconst 1, 1) := dk_4 (dk_at dksX3_deepest_0 13 rfl rfl)
theorem dX3_deepest_14 : decode cX3_deepest 14 = .ok (.putfield 41, 3) := dk_181 0 41 (dk_at dksX3_deepest_0 14 rfl rfl)
theorem dX3_deepest_17 : decode cX3_deepest 17 = .ok (.iconst 0, 1) := dk_3 (dk_at dksX3_deepest_0 17 rfl rfl)
theorem dX3_deepest_18 : decode cX3_deepest 18 = .ok (.istore_n 2, 1) := dk_61 (dk_at dksX3_deepest_0 18 rfl rfl)
theorem dX3_deepest_19 : decode cX3_deepest 19 = .ok (.iload_n 1, 1) := dk_27 (dk_at dksX3_deepest_0 19 rfl rfl)
theorem dX3_deepest_20 : decode cX3_deepest 20 = .ok (.istore_n 3, 1) := dk_62 (dk_at dksX3_deepest_0 20 rfl rfl)
theorem dX3_deepest_21 : decode cX3_deepest 21 = .ok (.iload_n 3, 1) := dk_29 (dk_at dksX3_deepest_0 21 rfl rfl)
theorem dX3_deepest_22 : decode cX3_deepest 22 = .ok (.aload_n 0, 1) := dk_42 (dk_at dksX3_deepest_0 22 rfl rfl)
theorem dX3_deepest_23 : decode cX3_deepest 23 = .ok (.getfield 7, 3) := dk_180 0 7 (dk_at dksX3_deepest_1 0 rfl rfl)
theorem dX3_deepest_26 : decode cX3_deepest 26 = .ok (.bipush 11, 2) := dk_16 11 (dk_at dksX3_deepest_1 3 rfl rfl)
theorem dX3_deepest_28 : decode cX3_deepest 28 = .ok (.iaload, 1) := dk_46 (dk_at dksX3_deepest_1 5 rfl rfl)
theorem dX3_deepest_29 : decode cX3_deepest 29 = .ok (.if_icmp .ge 90, 3) := dk_162 0 90 (dk_at dksX3_deepest_1 6 rfl rfl)
theorem dX3_deepest_32 : decode cX3_deepest 32 = .ok (.aload_n 0, 1) := dk_42 (dk_at dksX3_deepest_1 9 rfl rfl)
theorem dX3_deepest_33 : decode cX3_deepest 33 = .ok (.getfield 41, 3) := dk_180 0 41 (dk_at dksX3_deepest_1 10 rfl rfl)
theorem dX3_deepest_36 : decode cX3_deepest 36 = .ok (.ifCond .ne 83, 3) := dk_154 0 83 (dk_at dksX3_deepest_1 13 rfl rfl)
theorem dX3_deepest_39 : decode cX3_deepest 39 = .ok (.aload_n 0, 1) := dk_42 (dk_at dksX3_deepest_1 16 rfl rfl)
theorem dX3_deepest_40 : decode cX3_deepest 40 = .ok (.iload_n 3, 1) := dk_29 (dk_at dksX3_deepest_1 17 rfl rfl)
theorem dX3_deepest_41 : decode cX3_deepest 41 = .ok (.bipush 8, 2) := dk_16 8 (dk_at dksX3_deepest_1 18 rfl rfl)
theorem dX3_deepest_43 : decode cX3_deepest 43 = .ok (.invokevirtual 80, 3) := dk_182 0 80 (dk_at dksX3_deepest_1 20 rfl rfl)
theorem dX3_deepest_46 : decode cX3_deepest 46 = .ok (.istore 4, 2) := dk_54 4 (dk_at dksX3_deepest_2 0 rfl rfl)
theorem dX3_deepest_48 : decode cX3_deepest 48 = .ok (.aload_n 0, 1) := dk_42 (dk_at dksX3_deepest_2 2 rfl rfl)
theorem dX3_deepest_49 : decode cX3_deepest 49 = .ok (.getfield 38, 3) := dk_180 0 38 (dk_at dksX3_deepest_2 3 rfl rfl)
theorem dX3_deepest_52 : decode cX3_deepest 52 = .ok (.iload_n 3, 1) := dk_29 (dk_at dksX3_deepest_2 6 rfl rfl)
theorem dX3_deepest_53 : decode cX3_deepest 53 = .ok (.iload_n 3, 1) := dk_29 (dk_at dksX3_deepest_2 7 rfl rfl)
theorem dX3_deepest_54 : decode cX3_deepest 54 = .ok (.iload_n 1, 1) := dk_27 (dk_at dksX3_deepest_2 8 rfl rfl)
theorem dX3_deepest_55 : decode cX3_deepest 55 = .ok (.if_icmp .ne 7, 3) := dk_160 0 7 (dk_at dksX3_deepest_2 9 rfl rfl)
theorem dX3_deepest_58 : decode cX3_deepest 58 = .ok (.iconst 1, 1) := dk_4 (dk_at dksX3_deepest_2 12 rfl rfl)
theorem dX3_deepest_59 : decode cX3_deepest 59 = .ok (.goto 32, 3) := dk_167 0 32 (dk_at dksX3_deepest_2 13 rfl rfl)
theorem dX3_deepest_62 : decode cX3_deepest 62 = .ok (.iload 4, 2) := dk_21 4 (dk_at dksX3_deepest_2 16 rfl rfl)
theorem dX3_deepest_64 : decode cX3_deepest 64 = .ok (.iload_n 1, 1) := dk_27 (dk_at dksX3_deepest_2 18 rfl rfl)
theorem dX3_deepest_65 : decode cX3_deepest 65 = .ok (.if_icmp .lt 25, 3) := dk_161 0 25 (dk_at dksX3_deepest_2 19 rfl rfl)
theorem dX3_deepest_68 : decode cX3_deepest 68 = .ok (.aload_n 0, 1) := dk_42 (dk_at dksX3_deepest_2 22 rfl rfl)
theorem dX3_deepest_69 : decode cX3_deepest 69 = .ok (.getfield 38, 3) := dk_180 0 38 (dk_at dksX3_deepest_3 0 rfl rfl)
theorem dX3_deepest_72 : decode cX3_deepest 72 = .ok (.iload 4, 2) := dk_21 4 (dk_at dksX3_deepest_3 3 rfl rfl)
theorem dX3_deepest_74 : decode cX3_deepest 74 = .ok (.iaload, 1) := dk_46 (dk_at dksX3_deepest_3 5 rfl rfl)
theorem dX3_deepest_75 : decode cX3_deepest 75 = .ok (.ifCond .le 15, 3) := dk_158 0 15 (dk_at dksX3_deepest_3 6 rfl rfl)
theorem dX3_deepest_78 : decode cX3_deepest 78 = .ok (.aload_n 0, 1) := dk_42 (dk_at dksX3_deepest_3 9 rfl rfl)
theorem dX3_deepest_79 : decode cX3_deepest 79 = .ok (.getfield 38, 3) := dk_180 0 38 (dk_at dksX3_deepest_3 10 rfl rfl)
theorem dX3_deepest_82 : decode cX3_deepest 82 = .ok (.iload 4, 2) := dk_21 4 (dk_at dksX3_deepest_3 13 rfl rfl)
theorem dX3_deepest_84 : decode cX3_deepest 84 = .ok (.iaload, 1) := dk_46 (dk_at dksX3_deepest_3 15 rfl rfl)
theorem dX3_deepest_85 : decode cX3_deepest 85 = .ok (.iconst 1, 1) := dk_4 (dk_at dksX3_deepest_3 16 rfl rfl)
theorem dX3_deepest_86 : decode cX3_deepest 86 = .ok (.iadd, 1) := dk_96 (dk_at dksX3_deepest_3 17 rfl rfl)
theorem dX3_deepest_87 : decode cX3_deepest 87 = .ok (.goto 4, 3) := dk_167 0 4 (dk_at dksX3_deepest_3 18 rfl rfl)
theorem dX3_deepest_90 : decode cX3_deepest 90 = .ok (.iconst 0, 1) := dk_3 (dk_at dksX3_deepest_3 21 rfl rfl)
theorem dX3_deepest_91 : decode cX3_deepest 91 = .ok (.iastore, 1) := dk_79 (dk_at dksX3_deepest_3 22 rfl rfl)
theorem dX3_deepest_92 : decode cX3_deepest 92 = .ok (.aload_n 0, 1) := dk_42 (dk_at dksX3_deepest_3 23 rfl rfl)
theorem dX3_deepest_93 : decode cX3_deepest 93 = .ok (.getfield 38, 3) := dk_180 0 38 (dk_at dksX3_deepest_4 0 rfl rfl)
theorem dX3_deepest_96 : decode cX3_deepest 96 = .ok (.iload_n 3, 1) := dk_29 (dk_at dksX3_deepest_4 3 rfl rfl)
theorem dX3_deepest_97 : decode cX3_deepest 97 = .ok (.iaload, 1) := dk_46 (dk_at dksX3_deepest_4 4 rfl rfl)
theorem dX3_deepest_98 : decode cX3_deepest 98 = .ok (.iload_n 2, 1) := dk_28 (dk_at dksX3_deepest_4 5 rfl rfl)
theorem dX3_deepest_99 : decode cX3_deepest 99 = .ok (.if_icmp .le 12, 3) := dk_164 0 12 (dk_at dksX3_deepest_4 6 rfl rfl)
theorem dX3_deepest_102 : decode cX3_deepest 102 = .ok (.aload_n 0, 1) := dk_42 (dk_at dksX3_deepest_4 9 rfl rfl)
theorem dX3_deepest_103 : decode cX3_deepest 103 = .ok (.getfield 38, 3) := dk_180 0 38 (dk_at dksX3_deepest_4 10 rfl rfl)
theorem dX3_deepest_106 : decode cX3_deepest 106 = .ok (.iload_n 3, 1) := dk_29 (dk_at dksX3_deepest_4 13 rfl rfl)
theorem dX3_deepest_107 : decode cX3_deepest 107 = .ok (.iaload, 1) := dk_46 (dk_at dksX3_deepest_4 14 rfl rfl)
theorem dX3_deepest_108 : decode cX3_deepest 108 = .ok (.goto 4, 3) := dk_167 0 4 (dk_at dksX3_deepest_4 15 rfl rfl)
theorem dX3_deepest_111 : decode cX3_deepest 111 = .ok (.iload_n 2, 1) := dk_28 (dk_at dksX3_deepest_4 18 rfl rfl)
theorem dX3_deepest_112 : decode cX3_deepest 112 = .ok (.istore_n 2, 1) := dk_61 (dk_at dksX3_deepest_4 19 rfl rfl)
theorem dX3_deepest_113 : decode cX3_deepest 113 = .ok (.iinc 3 1, 3) := dk_132 3 1 (dk_at dksX3_deepest_4 20 rfl rfl)
theorem dX3_deepest_116 : decode cX3_deepest 116 = .ok (.goto (-95), 3) := dk_167 255 161 (dk_at dksX3_deepest_5 0 rfl rfl)
theorem dX3_deepest_119 : decode cX3_deepest 119 = .ok (.iload_n 2, 1) := dk_28 (dk_at dksX3_deepest_5 3 rfl rfl)
theorem dX3_deepest_120 : decode cX3_deepest 120 = .ok (.ireturn, 1) := dk_172 (dk_at dksX3_deepest_5 4 rfl rfl)
abbrev cX3_treeClock : ByteArray := prog_18_method_70_code
def yX3_treeClock : MethodName := ⟨RX3, "treeClock", "(I)I"⟩
def dkwX3_treeClock_3 : List UInt8 := [3, 96, 62, 132, 4, 1, 167, 255, 217, 29, 172]
abbrev dktX3_treeClock_3 : List UInt8 := dkwX3_treeClock_3 ++ []
def dkwX3_treeClock_2 : List UInt8 := [162, 0, 33, 29, 28, 21, 4, 122, 4, 126, 4, 160, 0, 13, 42, 21, 4, 8, 182, 0, 80, 167, 0, 4]
abbrev dktX3_treeClock_2 : List UInt8 := dkwX3_treeClock_2 ++ dktX3_treeClock_3
def dkwX3_treeClock_1 : List UInt8 := [3, 167, 0, 8, 42, 27, 182, 0, 130, 61, 3, 62, 3, 54, 4, 21, 4, 42, 180, 0, 7, 16, 11, 46]
abbrev dktX3_treeClock_1 : List UInt8 := dkwX3_treeClock_1 ++ dktX3_treeClock_2
def dkwX3_treeClock_0 : List UInt8 := [42, 42, 27, 182, 0, 118, 153, 0, 7, 3, 167, 0, 4, 4, 181, 0, 41, 42, 180, 0, 41, 158, 0, 7]
abbrev dktX3_treeClock_0 : List UInt8 := dkwX3_treeClock_0 ++ dktX3_treeClock_1
theorem dksX3_treeClock_0 : cX3_treeClock.data.toList.drop 0 = dktX3_treeClock_0 := by decide +kernel
theorem dksX3_treeClock_1 : cX3_treeClock.data.toList.drop 24 = dktX3_treeClock_1 := dk_seg dksX3_treeClock_0 24 rfl rfl
theorem dksX3_treeClock_2 : cX3_treeClock.data.toList.drop 48 = dktX3_treeClock_2 := dk_seg dksX3_treeClock_1 24 rfl rfl
theorem dksX3_treeClock_3 : cX3_treeClock.data.toList.drop 72 = dktX3_treeClock_3 := dk_seg dksX3_treeClock_2 24 rfl rfl
theorem dX3_treeClock_0 : decode cX3_treeClock 0 = .ok (.aload_n 0, 1) := dk_42 (dk_at dksX3_treeClock_0 0 rfl rfl)
theorem dX3_treeClock_1 : decode cX3_treeClock 1 = .ok (.aload_n 0, 1) := dk_42 (dk_at dksX3_treeClock_0 1 rfl rfl)
theorem dX3_treeClock_2 : decode cX3_treeClock 2 = .ok (.iload_n 1, 1) := dk_27 (dk_at dksX3_treeClock_0 2 rfl rfl)
theorem dX3_treeClock_3 : decode cX3_treeClock 3 = .ok (.invokevirtual 118, 3) := dk_182 0 118 (dk_at dksX3_treeClock_0 3 rfl rfl)
theorem dX3_treeClock_6 : decode cX3_treeClock 6 = .ok (.ifCond .eq 7, 3) := dk_153 0 7 (dk_at dksX3_treeClock_0 6 rfl rfl)
theorem dX3_treeClock_9 : decode cX3_treeClock 9 = .ok (.iconst 0, 1) := dk_3 (dk_at dksX3_treeClock_0 9 rfl rfl)
theorem dX3_treeClock_10 : decode cX3_treeClock 10 = .ok (.goto 4, 3) := dk_167 0 4 (dk_at dksX3_treeClock_0 10 rfl rfl)
theorem dX3_treeClock_13 : decode cX3_treeClock 13 = .ok (.iconst 1, 1) := dk_4 (dk_at dksX3_treeClock_0 13 rfl rfl)
theorem dX3_treeClock_14 : decode cX3_treeClock 14 = .ok (.putfield 41, 3) := dk_181 0 41 (dk_at dksX3_treeClock_0 14 rfl rfl)
theorem dX3_treeClock_17 : decode cX3_treeClock 17 = .ok (.aload_n 0, 1) := dk_42 (dk_at dksX3_treeClock_0 17 rfl rfl)
theorem dX3_treeClock_18 : decode cX3_treeClock 18 = .ok (.getfield 41, 3) := dk_180 0 41 (dk_at dksX3_treeClock_0 18 rfl rfl)
theorem dX3_treeClock_21 : decode cX3_treeClock 21 = .ok (.ifCond .le 7, 3) := dk_158 0 7 (dk_at dksX3_treeClock_0 21 rfl rfl)
theorem dX3_treeClock_24 : decode cX3_treeClock 24 = .ok (.iconst 0, 1) := dk_3 (dk_at dksX3_treeClock_1 0 rfl rfl)
theorem dX3_treeClock_25 : decode cX3_treeClock 25 = .ok (.goto 8, 3) := dk_167 0 8 (dk_at dksX3_treeClock_1 1 rfl rfl)
theorem dX3_treeClock_28 : decode cX3_treeClock 28 = .ok (.aload_n 0, 1) := dk_42 (dk_at dksX3_treeClock_1 4 rfl rfl)
theorem dX3_treeClock_29 : decode cX3_treeClock 29 = .ok (.iload_n 1, 1) := dk_27 (dk_at dksX3_treeClock_1 5 rfl rfl)
theorem dX3_treeClock_30 : decode cX3_treeClock 30 = .ok (.invokevirtual 130, 3) := dk_182 0 130 (dk_at dksX3_treeClock_1 6 rfl rfl)
theorem dX3_treeClock_33 : decode cX3_treeClock 33 = .ok (.istore_n 2, 1) := dk_61 (dk_at dksX3_treeClock_1 9 rfl rfl)
theorem dX3_treeClock_34 : decode cX3_treeClock 34 = .ok (.iconst 0, 1) := dk_3 (dk_at dksX3_treeClock_1 10 rfl rfl)
theorem dX3_treeClock_35 : decode cX3_treeClock 35 = .ok (.istore_n 3, 1) := dk_62 (dk_at dksX3_treeClock_1 11 rfl rfl)
theorem dX3_treeClock_36 : decode cX3_treeClock 36 = .ok (.iconst 0, 1) := dk_3 (dk_at dksX3_treeClock_1 12 rfl rfl)
theorem dX3_treeClock_37 : decode cX3_treeClock 37 = .ok (.istore 4, 2) := dk_54 4 (dk_at dksX3_treeClock_1 13 rfl rfl)
theorem dX3_treeClock_39 : decode cX3_treeClock 39 = .ok (.iload 4, 2) := dk_21 4 (dk_at dksX3_treeClock_1 15 rfl rfl)
theorem dX3_treeClock_41 : decode cX3_treeClock 41 = .ok (.aload_n 0, 1) := dk_42 (dk_at dksX3_treeClock_1 17 rfl rfl)
theorem dX3_treeClock_42 : decode cX3_treeClock 42 = .ok (.getfield 7, 3) := dk_180 0 7 (dk_at dksX3_treeClock_1 18 rfl rfl)
theorem dX3_treeClock_45 : decode cX3_treeClock 45 = .ok (.bipush 11, 2) := dk_16 11 (dk_at dksX3_treeClock_1 21 rfl rfl)
theorem dX3_treeClock_47 : decode cX3_treeClock 47 = .ok (.iaload, 1) := dk_46 (dk_at dksX3_treeClock_1 23 rfl rfl)
theorem dX3_treeClock_48 : decode cX3_treeClock 48 = .ok (.if_icmp .ge 33, 3) := dk_162 0 33 (dk_at dksX3_treeClock_2 0 rfl rfl)
theorem dX3_treeClock_51 : decode cX3_treeClock 51 = .ok (.iload_n 3, 1) := dk_29 (dk_at dksX3_treeClock_2 3 rfl rfl)
theorem dX3_treeClock_52 : decode cX3_treeClock 52 = .ok (.iload_n 2, 1) := dk_28 (dk_at dksX3_treeClock_2 4 rfl rfl)
theorem dX3_treeClock_53 : decode cX3_treeClock 53 = .ok (.iload 4, 2) := dk_21 4 (dk_at dksX3_treeClock_2 5 rfl rfl)
theorem dX3_treeClock_55 : decode cX3_treeClock 55 = .ok (.ishr, 1) := dk_122 (dk_at dksX3_treeClock_2 7 rfl rfl)
theorem dX3_treeClock_56 : decode cX3_treeClock 56 = .ok (.iconst 1, 1) := dk_4 (dk_at dksX3_treeClock_2 8 rfl rfl)
theorem dX3_treeClock_57 : decode cX3_treeClock 57 = .ok (.iand, 1) := dk_126 (dk_at dksX3_treeClock_2 9 rfl rfl)
theorem dX3_treeClock_58 : decode cX3_treeClock 58 = .ok (.iconst 1, 1) := dk_4 (dk_at dksX3_treeClock_2 10 rfl rfl)
theorem dX3_treeClock_59 : decode cX3_treeClock 59 = .ok (.if_icmp .ne 13, 3) := dk_160 0 13 (dk_at dksX3_treeClock_2 11 rfl rfl)
theorem dX3_treeClock_62 : decode cX3_treeClock 62 = .ok (.aload_n 0, 1) := dk_42 (dk_at dksX3_treeClock_2 14 rfl rfl)
theorem dX3_treeClock_63 : decode cX3_treeClock 63 = .ok (.iload 4, 2) := dk_21 4 (dk_at dksX3_treeClock_2 15 rfl rfl)
theorem dX3_treeClock_65 : decode cX3_treeClock 65 = .ok (.iconst 5, 1) := dk_8 (dk_at dksX3_treeClock_2 17 rfl rfl)
theorem dX3_treeClock_66 : decode cX3_treeClock 66 = .ok (.invokevirtual 80, 3) := dk_182 0 80 (dk_at dksX3_treeClock_2 18 rfl rfl)
theorem dX3_treeClock_69 : decode cX3_treeClock 69 = .ok (.goto 4, 3) := dk_167 0 4 (dk_at dksX3_treeClock_2 21 rfl rfl)
theorem dX3_treeClock_72 : decode cX3_treeClock 72 = .ok (.iconst 0, 1) := dk_3 (dk_at dksX3_treeClock_3 0 rfl rfl)
theorem dX3_treeClock_73 : decode cX3_treeClock 73 = .ok (.iadd, 1) := dk_96 (dk_at dksX3_treeClock_3 1 rfl rfl)
theorem dX3_treeClock_74 : decode cX3_treeClock 74 = .ok (.istore_n 3, 1) := dk_62 (dk_at dksX3_treeClock_3 2 rfl rfl)
theorem dX3_treeClock_75 : decode cX3_treeClock 75 = .ok (.iinc 4 1, 3) := dk_132 4 1 (dk_at dksX3_treeClock_3 3 rfl rfl)
theorem dX3_treeClock_78 : decode cX3_treeClock 78 = .ok (.goto (-39), 3) := dk_167 255 217 (dk_at dksX3_treeClock_3 6 rfl rfl)
theorem dX3_treeClock_81 : decode cX3_treeClock 81 = .ok (.iload_n 3, 1) := dk_29 (dk_at dksX3_treeClock_3 9 rfl rfl)
theorem dX3_treeClock_82 : decode cX3_treeClock 82 = .ok (.ireturn, 1) := dk_172 (dk_at dksX3_treeClock_3 10 rfl rfl)
abbrev cX3_suspects : ByteArray := prog_18_method_72_code
def yX3_suspects : MethodName := ⟨RX3, "suspects", "(I)I"⟩
def dkwX3_suspects_1 : List UInt8 := [3, 167, 0, 8, 42, 27, 182, 0, 216, 172]
abbrev dktX3_suspects_1 : List UInt8 := dkwX3_suspects_1 ++ []
def dkwX3_suspects_0 : List UInt8 := [42, 42, 27, 182, 0, 118, 153, 0, 7, 3, 167, 0, 4, 4, 181, 0, 41, 42, 180, 0, 41, 158, 0, 7]
abbrev dktX3_suspects_0 : List UInt8 := dkwX3_suspects_0 ++ dktX3_suspects_1
theorem dksX3_suspects_0 : cX3_suspects.data.toList.drop 0 = dktX3_suspects_0 := by decide +kernel
theorem dksX3_suspects_1 : cX3_suspects.data.toList.drop 24 = dktX3_suspects_1 := dk_seg dksX3_suspects_0 24 rfl rfl
theorem dX3_suspects_0 : decode cX3_suspects 0 = .ok (.aload_n 0, 1) := dk_42 (dk_at dksX3_suspects_0 0 rfl rfl)
theorem dX3_suspects_1 : decode cX3_suspects 1 = .ok (.aload_n 0, 1) := dk_42 (dk_at dksX3_suspects_0 1 rfl rfl)
theorem dX3_suspects_2 : decode cX3_suspects 2 = .ok (.iload_n 1, 1) := dk_27 (dk_at dksX3_suspects_0 2 rfl rfl)
theorem dX3_suspects_3 : decode cX3_suspects 3 = .ok (.invokevirtual 118, 3) := dk_182 0 118 (dk_at dksX3_suspects_0 3 rfl rfl)
theorem dX3_suspects_6 : decode cX3_suspects 6 = .ok (.ifCond .eq 7, 3) := dk_153 0 7 (dk_at dksX3_suspects_0 6 rfl rfl)
theorem dX3_suspects_9 : decode cX3_suspects 9 = .ok (.iconst 0, 1) := dk_3 (dk_at dksX3_suspects_0 9 rfl rfl)
theorem dX3_suspects_10 : decode cX3_suspects 10 = .ok (.goto 4, 3) := dk_167 0 4 (dk_at dksX3_suspects_0 10 rfl rfl)
theorem dX3_suspects_13 : decode cX3_suspects 13 = .ok (.iconst 1, 1) := dk_4 (dk_at dksX3_suspects_0 13 rfl rfl)
theorem dX3_suspects_14 : decode cX3_suspects 14 = .ok (.putfield 41, 3) := dk_181 0 41 (dk_at dksX3_suspects_0 14 rfl rfl)
theorem dX3_suspects_17 : decode cX3_suspects 17 = .ok (.aload_n 0, 1) := dk_42 (dk_at dksX3_suspects_0 17 rfl rfl)
theorem dX3_suspects_18 : decode cX3_suspects 18 = .ok (.getfield 41, 3) := dk_180 0 41 (dk_at dksX3_suspects_0 18 rfl rfl)
theorem dX3_suspects_21 : decode cX3_suspects 21 = .ok (.ifCond .le 7, 3) := dk_158 0 7 (dk_at dksX3_suspects_0 21 rfl rfl)
theorem dX3_suspects_24 : decode cX3_suspects 24 = .ok (.iconst 0, 1) := dk_3 (dk_at dksX3_suspects_1 0 rfl rfl)
theorem dX3_suspects_25 : decode cX3_suspects 25 = .ok (.goto 8, 3) := dk_167 0 8 (dk_at dksX3_suspects_1 1 rfl rfl)
theorem dX3_suspects_28 : decode cX3_suspects 28 = .ok (.aload_n 0, 1) := dk_42 (dk_at dksX3_suspects_1 4 rfl rfl)
theorem dX3_suspects_29 : decode cX3_suspects 29 = .ok (.iload_n 1, 1) := dk_27 (dk_at dksX3_suspects_1 5 rfl rfl)
theorem dX3_suspects_30 : decode cX3_suspects 30 = .ok (.invokevirtual 216, 3) := dk_182 0 216 (dk_at dksX3_suspects_1 6 rfl rfl)
theorem dX3_suspects_33 : decode cX3_suspects 33 = .ok (.ireturn, 1) := dk_172 (dk_at dksX3_suspects_1 9 rfl rfl)
abbrev cX3_suspectsOf : ByteArray := prog_18_method_71_code
def yX3_suspectsOf : MethodName := ⟨RX3, "suspectsOf", "(I)I"⟩
def dkwX3_suspectsOf_1 : List UInt8 := [153, 0, 9, 4, 29, 120, 167, 0, 4, 3, 128, 61, 132, 3, 1, 167, 255, 222, 28, 172]
abbrev dktX3_suspectsOf_1 : List UInt8 := dkwX3_suspectsOf_1 ++ []
def dkwX3_suspectsOf_0 : List UInt8 := [3, 61, 3, 62, 29, 42, 180, 0, 7, 17, 1, 76, 46, 162, 0, 28, 28, 42, 27, 29, 182, 0, 148]
abbrev dktX3_suspectsOf_0 : List UInt8 := dkwX3_suspectsOf_0 ++ dktX3_suspectsOf_1
theorem dksX3_suspectsOf_0 : cX3_suspectsOf.data.toList.drop 0 = dktX3_suspectsOf_0 := by decide +kernel
theorem dksX3_suspectsOf_1 : cX3_suspectsOf.data.toList.drop 23 = dktX3_suspectsOf_1 := dk_seg dksX3_suspectsOf_0 23 rfl rfl
theorem dX3_suspectsOf_0 : decode cX3_suspectsOf 0 = .ok (.iconst 0, 1) := dk_3 (dk_at dksX3_suspectsOf_0 0 rfl rfl)
theorem dX3_suspectsOf_1 : decode cX3_suspectsOf 1 = .ok (.istore_n 2, 1) := dk_61 (dk_at dksX3_suspectsOf_0 1 rfl rfl)
theorem dX3_suspectsOf_2 : decode cX3_suspectsOf 2 = .ok (.iconst 0, 1) := dk_3 (dk_at dksX3_suspectsOf_0 2 rfl rfl)
theorem dX3_suspectsOf_3 : decode cX3_suspectsOf 3 = .ok (.istore_n 3, 1) := dk_62 (dk_at dksX3_suspectsOf_0 3 rfl rfl)
theorem dX3_suspectsOf_4 : decode cX3_suspectsOf 4 = .ok (.iload_n 3, 1) := dk_29 (dk_at dksX3_suspectsOf_0 4 rfl rfl)
theorem dX3_suspectsOf_5 : decode cX3_suspectsOf 5 = .ok (.aload_n 0, 1) := dk_42 (dk_at dksX3_suspectsOf_0 5 rfl rfl)
theorem dX3_suspectsOf_6 : decode cX3_suspectsOf 6 = .ok (.getfield 7, 3) := dk_180 0 7 (dk_at dksX3_suspectsOf_0 6 rfl rfl)
theorem dX3_suspectsOf_9 : decode cX3_suspectsOf 9 = .ok (.sipush 332, 3) := dk_17 1 76 (dk_at dksX3_suspectsOf_0 9 rfl rfl)
theorem dX3_suspectsOf_12 : decode cX3_suspectsOf 12 = .ok (.iaload, 1) := dk_46 (dk_at dksX3_suspectsOf_0 12 rfl rfl)
theorem dX3_suspectsOf_13 : decode cX3_suspectsOf 13 = .ok (.if_icmp .ge 28, 3) := dk_162 0 28 (dk_at dksX3_suspectsOf_0 13 rfl rfl)
theorem dX3_suspectsOf_16 : decode cX3_suspectsOf 16 = .ok (.iload_n 2, 1) := dk_28 (dk_at dksX3_suspectsOf_0 16 rfl rfl)
theorem dX3_suspectsOf_17 : decode cX3_suspectsOf 17 = .ok (.aload_n 0, 1) := dk_42 (dk_at dksX3_suspectsOf_0 17 rfl rfl)
theorem dX3_suspectsOf_18 : decode cX3_suspectsOf 18 = .ok (.iload_n 1, 1) := dk_27 (dk_at dksX3_suspectsOf_0 18 rfl rfl)
theorem dX3_suspectsOf_19 : decode cX3_suspectsOf 19 = .ok (.iload_n 3, 1) := dk_29 (dk_at dksX3_suspectsOf_0 19 rfl rfl)
theorem dX3_suspectsOf_20 : decode cX3_suspectsOf 20 = .ok (.invokevirtual 148, 3) := dk_182 0 148 (dk_at dksX3_suspectsOf_0 20 rfl rfl)
theorem dX3_suspectsOf_23 : decode cX3_suspectsOf 23 = .ok (.ifCond .eq 9, 3) := dk_153 0 9 (dk_at dksX3_suspectsOf_1 0 rfl rfl)
theorem dX3_suspectsOf_26 : decode cX3_suspectsOf 26 = .ok (.iconst 1, 1) := dk_4 (dk_at dksX3_suspectsOf_1 3 rfl rfl)
theorem dX3_suspectsOf_27 : decode cX3_suspectsOf 27 = .ok (.iload_n 3, 1) := dk_29 (dk_at dksX3_suspectsOf_1 4 rfl rfl)
theorem dX3_suspectsOf_28 : decode cX3_suspectsOf 28 = .ok (.ishl, 1) := dk_120 (dk_at dksX3_suspectsOf_1 5 rfl rfl)
theorem dX3_suspectsOf_29 : decode cX3_suspectsOf 29 = .ok (.goto 4, 3) := dk_167 0 4 (dk_at dksX3_suspectsOf_1 6 rfl rfl)
theorem dX3_suspectsOf_32 : decode cX3_suspectsOf 32 = .ok (.iconst 0, 1) := dk_3 (dk_at dksX3_suspectsOf_1 9 rfl rfl)
theorem dX3_suspectsOf_33 : decode cX3_suspectsOf 33 = .ok (.ior, 1) := dk_128 (dk_at dksX3_suspectsOf_1 10 rfl rfl)
theorem dX3_suspectsOf_34 : decode cX3_suspectsOf 34 = .ok (.istore_n 2, 1) := dk_61 (dk_at dksX3_suspectsOf_1 11 rfl rfl)
theorem dX3_suspectsOf_35 : decode cX3_suspectsOf 35 = .ok (.iinc 3 1, 3) := dk_132 3 1 (dk_at dksX3_suspectsOf_1 12 rfl rfl)
theorem dX3_suspectsOf_38 : decode cX3_suspectsOf 38 = .ok (.goto (-34), 3) := dk_167 255 222 (dk_at dksX3_suspectsOf_1 15 rfl rfl)
theorem dX3_suspectsOf_41 : decode cX3_suspectsOf 41 = .ok (.iload_n 2, 1) := dk_28 (dk_at dksX3_suspectsOf_1 18 rfl rfl)
theorem dX3_suspectsOf_42 : decode cX3_suspectsOf 42 = .ok (.ireturn, 1) := dk_172 (dk_at dksX3_suspectsOf_1 19 rfl rfl)
abbrev cX3_likeliest : ByteArray := prog_18_method_73_code
def yX3_likeliest : MethodName := ⟨RX3, "likeliest", "(I)I"⟩
def dkwX3_likeliest_4 : List UInt8 := [28, 156, 0, 11, 42, 5, 182, 0, 50, 167, 0, 4, 28, 172]
abbrev dktX3_likeliest_4 : List UInt8 := dkwX3_likeliest_4 ++ []
def dkwX3_likeliest_3 : List UInt8 := [180, 0, 7, 17, 1, 77, 6, 28, 104, 96, 4, 96, 46, 161, 0, 5, 29, 61, 132, 3, 1, 167, 255, 195]
abbrev dktX3_likeliest_3 : List UInt8 := dkwX3_likeliest_3 ++ dktX3_likeliest_4
def dkwX3_likeliest_2 : List UInt8 := [153, 0, 40, 28, 155, 0, 34, 42, 180, 0, 7, 17, 1, 77, 6, 29, 104, 96, 4, 96, 46, 42]
abbrev dktX3_likeliest_2 : List UInt8 := dkwX3_likeliest_2 ++ dktX3_likeliest_3
def dkwX3_likeliest_1 : List UInt8 := [3, 172, 2, 61, 3, 62, 29, 42, 180, 0, 7, 17, 1, 76, 46, 162, 0, 55, 42, 27, 29, 182, 0, 148]
abbrev dktX3_likeliest_1 : List UInt8 := dkwX3_likeliest_1 ++ dktX3_likeliest_2
def dkwX3_likeliest_0 : List UInt8 := [42, 42, 27, 182, 0, 118, 153, 0, 7, 3, 167, 0, 4, 4, 181, 0, 41, 42, 180, 0, 41, 158, 0, 5]
abbrev dktX3_likeliest_0 : List UInt8 := dkwX3_likeliest_0 ++ dktX3_likeliest_1
theorem dksX3_likeliest_0 : cX3_likeliest.data.toList.drop 0 = dktX3_likeliest_0 := by decide +kernel
theorem dksX3_likeliest_1 : cX3_likeliest.data.toList.drop 24 = dktX3_likeliest_1 := dk_seg dksX3_likeliest_0 24 rfl rfl
theorem dksX3_likeliest_2 : cX3_likeliest.data.toList.drop 48 = dktX3_likeliest_2 := dk_seg dksX3_likeliest_1 24 rfl rfl
theorem dksX3_likeliest_3 : cX3_likeliest.data.toList.drop 70 = dktX3_likeliest_3 := dk_seg dksX3_likeliest_2 22 rfl rfl
theorem dksX3_likeliest_4 : cX3_likeliest.data.toList.drop 94 = dktX3_likeliest_4 := dk_seg dksX3_likeliest_3 24 rfl rfl
theorem dX3_likeliest_0 : decode cX3_likeliest 0 = .ok (.aload_n 0, 1) := dk_42 (dk_at dksX3_likeliest_0 0 rfl rfl)
theorem dX3_likeliest_1 : decode cX3_likeliest 1 = .ok (.aload_n 0, 1) := dk_42 (dk_at dksX3_likeliest_0 1 rfl rfl)
theorem dX3_likeliest_2 : decode cX3_likeliest 2 = .ok (.iload_n 1, 1) := dk_27 (dk_at dksX3_likeliest_0 2 rfl rfl)
theorem dX3_likeliest_3 : decode cX3_likeliest 3 = .ok (.invokevirtual 118, 3) := dk_182 0 118 (dk_at dksX3_likeliest_0 3 rfl rfl)
theorem dX3_likeliest_6 : decode cX3_likeliest 6 = .ok (.ifCond .eq 7, 3) := dk_153 0 7 (dk_at dksX3_likeliest_0 6 rfl rfl)
theorem dX3_likeliest_9 : decode cX3_likeliest 9 = .ok (.iconst 0, 1) := dk_3 (dk_at dksX3_likeliest_0 9 rfl rfl)
theorem dX3_likeliest_10 : decode cX3_likeliest 10 = .ok (.goto 4, 3) := dk_167 0 4 (dk_at dksX3_likeliest_0 10 rfl rfl)
theorem dX3_likeliest_13 : decode cX3_likeliest 13 = .ok (.iconst 1, 1) := dk_4 (dk_at dksX3_likeliest_0 13 rfl rfl)
theorem dX3_likeliest_14 : decode cX3_likeliest 14 = .ok (.putfield 41, 3) := dk_181 0 41 (dk_at dksX3_likeliest_0 14 rfl rfl)
theorem dX3_likeliest_17 : decode cX3_likeliest 17 = .ok (.aload_n 0, 1) := dk_42 (dk_at dksX3_likeliest_0 17 rfl rfl)
theorem dX3_likeliest_18 : decode cX3_likeliest 18 = .ok (.getfield 41, 3) := dk_180 0 41 (dk_at dksX3_likeliest_0 18 rfl rfl)
theorem dX3_likeliest_21 : decode cX3_likeliest 21 = .ok (.ifCond .le 5, 3) := dk_158 0 5 (dk_at dksX3_likeliest_0 21 rfl rfl)
theorem dX3_likeliest_24 : decode cX3_likeliest 24 = .ok (.iconst 0, 1) := dk_3 (dk_at dksX3_likeliest_1 0 rfl rfl)
theorem dX3_likeliest_25 : decode cX3_likeliest 25 = .ok (.ireturn, 1) := dk_172 (dk_at dksX3_likeliest_1 1 rfl rfl)
theorem dX3_likeliest_26 : decode cX3_likeliest 26 = .ok (.iconst (-1), 1) := dk_2 (dk_at dksX3_likeliest_1 2 rfl rfl)
theorem dX3_likeliest_27 : decode cX3_likeliest 27 = .ok (.istore_n 2, 1) := dk_61 (dk_at dksX3_likeliest_1 3 rfl rfl)
theorem dX3_likeliest_28 : decode cX3_likeliest 28 = .ok (.iconst 0, 1) := dk_3 (dk_at dksX3_likeliest_1 4 rfl rfl)
theorem dX3_likeliest_29 : decode cX3_likeliest 29 = .ok (.istore_n 3, 1) := dk_62 (dk_at dksX3_likeliest_1 5 rfl rfl)
theorem dX3_likeliest_30 : decode cX3_likeliest 30 = .ok (.iload_n 3, 1) := dk_29 (dk_at dksX3_likeliest_1 6 rfl rfl)
theorem dX3_likeliest_31 : decode cX3_likeliest 31 = .ok (.aload_n 0, 1) := dk_42 (dk_at dksX3_likeliest_1 7 rfl rfl)
theorem dX3_likeliest_32 : decode cX3_likeliest 32 = .ok (.getfield 7, 3) := dk_180 0 7 (dk_at dksX3_likeliest_1 8 rfl rfl)
theorem dX3_likeliest_35 : decode cX3_likeliest 35 = .ok (.sipush 332, 3) := dk_17 1 76 (dk_at dksX3_likeliest_1 11 rfl rfl)
theorem dX3_likeliest_38 : decode cX3_likeliest 38 = .ok (.iaload, 1) := dk_46 (dk_at dksX3_likeliest_1 14 rfl rfl)
theorem dX3_likeliest_39 : decode cX3_likeliest 39 = .ok (.if_icmp .ge 55, 3) := dk_162 0 55 (dk_at dksX3_likeliest_1 15 rfl rfl)
theorem dX3_likeliest_42 : decode cX3_likeliest 42 = .ok (.aload_n 0, 1) := dk_42 (dk_at dksX3_likeliest_1 18 rfl rfl)
theorem dX3_likeliest_43 : decode cX3_likeliest 43 = .ok (.iload_n 1, 1) := dk_27 (dk_at dksX3_likeliest_1 19 rfl rfl)
theorem dX3_likeliest_44 : decode cX3_likeliest 44 = .ok (.iload_n 3, 1) := dk_29 (dk_at dksX3_likeliest_1 20 rfl rfl)
theorem dX3_likeliest_45 : decode cX3_likeliest 45 = .ok (.invokevirtual 148, 3) := dk_182 0 148 (dk_at dksX3_likeliest_1 21 rfl rfl)
theorem dX3_likeliest_48 : decode cX3_likeliest 48 = .ok (.ifCond .eq 40, 3) := dk_153 0 40 (dk_at dksX3_likeliest_2 0 rfl rfl)
theorem dX3_likeliest_51 : decode cX3_likeliest 51 = .ok (.iload_n 2, 1) := dk_28 (dk_at dksX3_likeliest_2 3 rfl rfl)
theorem dX3_likeliest_52 : decode cX3_likeliest 52 = .ok (.ifCond .lt 34, 3) := dk_155 0 34 (dk_at dksX3_likeliest_2 4 rfl rfl)
theorem dX3_likeliest_55 : decode cX3_likeliest 55 = .ok (.aload_n 0, 1) := dk_42 (dk_at dksX3_likeliest_2 7 rfl rfl)
theorem dX3_likeliest_56 : decode cX3_likeliest 56 = .ok (.getfield 7, 3) := dk_180 0 7 (dk_at dksX3_likeliest_2 8 rfl rfl)
theorem dX3_likeliest_59 : decode cX3_likeliest 59 = .ok (.sipush 333, 3) := dk_17 1 77 (dk_at dksX3_likeliest_2 11 rfl rfl)
theorem dX3_likeliest_62 : decode cX3_likeliest 62 = .ok (.iconst 3, 1) := dk_6 (dk_at dksX3_likeliest_2 14 rfl rfl)
theorem dX3_likeliest_63 : decode cX3_likeliest 63 = .ok (.iload_n 3, 1) := dk_29 (dk_at dksX3_likeliest_2 15 rfl rfl)
theorem dX3_likeliest_64 : decode cX3_likeliest 64 = .ok (.imul, 1) := dk_104 (dk_at dksX3_likeliest_2 16 rfl rfl)
theorem dX3_likeliest_65 : decode cX3_likeliest 65 = .ok (.iadd, 1) := dk_96 (dk_at dksX3_likeliest_2 17 rfl rfl)
theorem dX3_likeliest_66 : decode cX3_likeliest 66 = .ok (.iconst 1, 1) := dk_4 (dk_at dksX3_likeliest_2 18 rfl rfl)
theorem dX3_likeliest_67 : decode cX3_likeliest 67 = .ok (.iadd, 1) := dk_96 (dk_at dksX3_likeliest_2 19 rfl rfl)
theorem dX3_likeliest_68 : decode cX3_likeliest 68 = .ok (.iaload, 1) := dk_46 (dk_at dksX3_likeliest_2 20 rfl rfl)
theorem dX3_likeliest_69 : decode cX3_likeliest 69 = .ok (.aload_n 0, 1) := dk_42 (dk_at dksX3_likeliest_2 21 rfl rfl)
theorem dX3_likeliest_70 : decode cX3_likeliest 70 = .ok (.getfield 7, 3) := dk_180 0 7 (dk_at dksX3_likeliest_3 0 rfl rfl)
theorem dX3_likeliest_73 : decode cX3_likeliest 73 = .ok (.sipush 333, 3) := dk_17 1 77 (dk_at dksX3_likeliest_3 3 rfl rfl)
theorem dX3_likeliest_76 : decode cX3_likeliest 76 = .ok (.iconst 3, 1) := dk_6 (dk_at dksX3_likeliest_3 6 rfl rfl)
theorem dX3_likeliest_77 : decode cX3_likeliest 77 = .ok (.iload_n 2, 1) := dk_28 (dk_at dksX3_likeliest_3 7 rfl rfl)
theorem dX3_likeliest_78 : decode cX3_likeliest 78 = .ok (.imul, 1) := dk_104 (dk_at dksX3_likeliest_3 8 rfl rfl)
theorem dX3_likeliest_79 : decode cX3_likeliest 79 = .ok (.iadd, 1) := dk_96 (dk_at dksX3_likeliest_3 9 rfl rfl)
theorem dX3_likeliest_80 : decode cX3_likeliest 80 = .ok (.iconst 1, 1) := dk_4 (dk_at dksX3_likeliest_3 10 rfl rfl)
theorem dX3_likeliest_81 : decode cX3_likeliest 81 = .ok (.iadd, 1) := dk_96 (dk_at dksX3_likeliest_3 11 rfl rfl)
theorem dX3_likeliest_82 : decode cX3_likeliest 82 = .ok (.iaload, 1) := dk_46 (dk_at dksX3_likeliest_3 12 rfl rfl)
theorem dX3_likeliest_83 : decode cX3_likeliest 83 = .ok (.if_icmp .lt 5, 3) := dk_161 0 5 (dk_at dksX3_likeliest_3 13 rfl rfl)
theorem dX3_likeliest_86 : decode cX3_likeliest 86 = .ok (.iload_n 3, 1) := dk_29 (dk_at dksX3_likeliest_3 16 rfl rfl)
theorem dX3_likeliest_87 : decode cX3_likeliest 87 = .ok (.istore_n 2, 1) := dk_61 (dk_at dksX3_likeliest_3 17 rfl rfl)
theorem dX3_likeliest_88 : decode cX3_likeliest 88 = .ok (.iinc 3 1, 3) := dk_132 3 1 (dk_at dksX3_likeliest_3 18 rfl rfl)
theorem dX3_likeliest_91 : decode cX3_likeliest 91 = .ok (.goto (-61), 3) := dk_167 255 195 (dk_at dksX3_likeliest_3 21 rfl rfl)
theorem dX3_likeliest_94 : decode cX3_likeliest 94 = .ok (.iload_n 2, 1) := dk_28 (dk_at dksX3_likeliest_4 0 rfl rfl)
theorem dX3_likeliest_95 : decode cX3_likeliest 95 = .ok (.ifCond .ge 11, 3) := dk_156 0 11 (dk_at dksX3_likeliest_4 1 rfl rfl)
theorem dX3_likeliest_98 : decode cX3_likeliest 98 = .ok (.aload_n 0, 1) := dk_42 (dk_at dksX3_likeliest_4 4 rfl rfl)
theorem dX3_likeliest_99 : decode cX3_likeliest 99 = .ok (.iconst 2, 1) := dk_5 (dk_at dksX3_likeliest_4 5 rfl rfl)
theorem dX3_likeliest_100 : decode cX3_likeliest 100 = .ok (.invokevirtual 50, 3) := dk_182 0 50 (dk_at dksX3_likeliest_4 6 rfl rfl)
theorem dX3_likeliest_103 : decode cX3_likeliest 103 = .ok (.goto 4, 3) := dk_167 0 4 (dk_at dksX3_likeliest_4 9 rfl rfl)
theorem dX3_likeliest_106 : decode cX3_likeliest 106 = .ok (.iload_n 2, 1) := dk_28 (dk_at dksX3_likeliest_4 12 rfl rfl)
theorem dX3_likeliest_107 : decode cX3_likeliest 107 = .ok (.ireturn, 1) := dk_172 (dk_at dksX3_likeliest_4 13 rfl rfl)
abbrev cX3_next : ByteArray := prog_18_method_74_code
def yX3_next : MethodName := ⟨RX3, "next", "()I"⟩
def dkwX3_next_4 : List UInt8 := [167, 0, 4, 27, 172]
abbrev dktX3_next_4 : List UInt8 := dkwX3_next_4 ++ []
def dkwX3_next_3 : List UInt8 := [27, 182, 0, 213, 164, 0, 5, 28, 60, 132, 2, 1, 167, 255, 185, 27, 156, 0, 11, 42, 4, 182, 0, 50]
abbrev dktX3_next_3 : List UInt8 := dkwX3_next_3 ++ dktX3_next_4
def dkwX3_next_2 : List UInt8 := [161, 0, 31, 42, 28, 4, 182, 0, 80, 42, 27, 4, 182, 0, 80, 160, 0, 18, 42, 28, 182, 0, 213, 42]
abbrev dktX3_next_2 : List UInt8 := dkwX3_next_2 ++ dktX3_next_3
def dkwX3_next_1 : List UInt8 := [182, 0, 100, 153, 0, 52, 27, 155, 0, 46, 42, 28, 4, 182, 0, 80, 42, 27, 4, 182, 0, 80]
abbrev dktX3_next_1 : List UInt8 := dkwX3_next_1 ++ dktX3_next_2
def dkwX3_next_0 : List UInt8 := [42, 3, 181, 0, 41, 2, 60, 3, 61, 28, 42, 180, 0, 7, 16, 11, 46, 162, 0, 66, 42, 28]
abbrev dktX3_next_0 : List UInt8 := dkwX3_next_0 ++ dktX3_next_1
theorem dksX3_next_0 : cX3_next.data.toList.drop 0 = dktX3_next_0 := by decide +kernel
theorem dksX3_next_1 : cX3_next.data.toList.drop 22 = dktX3_next_1 := dk_seg dksX3_next_0 22 rfl rfl
theorem dksX3_next_2 : cX3_next.data.toList.drop 44 = dktX3_next_2 := dk_seg dksX3_next_1 22 rfl rfl
theorem dksX3_next_3 : cX3_next.data.toList.drop 68 = dktX3_next_3 := dk_seg dksX3_next_2 24 rfl rfl
theorem dksX3_next_4 : cX3_next.data.toList.drop 92 = dktX3_next_4 := dk_seg dksX3_next_3 24 rfl rfl
theorem dX3_next_0 : decode cX3_next 0 = .ok (.aload_n 0, 1) := dk_42 (dk_at dksX3_next_0 0 rfl rfl)
theorem dX3_next_1 : decode cX3_next 1 = .ok (.iconst 0, 1) := dk_3 (dk_at dksX3_next_0 1 rfl rfl)
theorem dX3_next_2 : decode cX3_next 2 = .ok (.putfield 41, 3) := dk_181 0 41 (dk_at dksX3_next_0 2 rfl rfl)
theorem dX3_next_5 : decode cX3_next 5 = .ok (.iconst (-1), 1) := dk_2 (dk_at dksX3_next_0 5 rfl rfl)
theorem dX3_next_6 : decode cX3_next 6 = .ok (.istore_n 1, 1) := dk_60 (dk_at dksX3_next_0 6 rfl rfl)
theorem dX3_next_7 : decode cX3_next 7 = .ok (.iconst 0, 1) := dk_3 (dk_at dksX3_next_0 7 rfl rfl)
theorem dX3_next_8 : decode cX3_next 8 = .ok (.istore_n 2, 1) := dk_61 (dk_at dksX3_next_0 8 rfl rfl)
theorem dX3_next_9 : decode cX3_next 9 = .ok (.iload_n 2, 1) := dk_28 (dk_at dksX3_next_0 9 rfl rfl)
theorem dX3_next_10 : decode cX3_next 10 = .ok (.aload_n 0, 1) := dk_42 (dk_at dksX3_next_0 10 rfl rfl)
theorem dX3_next_11 : decode cX3_next 11 = .ok (.getfield 7, 3) := dk_180 0 7 (dk_at dksX3_next_0 11 rfl rfl)
theorem dX3_next_14 : decode cX3_next 14 = .ok (.bipush 11, 2) := dk_16 11 (dk_at dksX3_next_0 14 rfl rfl)
theorem dX3_next_16 : decode cX3_next 16 = .ok (.iaload, 1) := dk_46 (dk_at dksX3_next_0 16 rfl rfl)
theorem dX3_next_17 : decode cX3_next 17 = .ok (.if_icmp .ge 66, 3) := dk_162 0 66 (dk_at dksX3_next_0 17 rfl rfl)
theorem dX3_next_20 : decode cX3_next 20 = .ok (.aload_n 0, 1) := dk_42 (dk_at dksX3_next_0 20 rfl rfl)
theorem dX3_next_21 : decode cX3_next 21 = .ok (.iload_n 2, 1) := dk_28 (dk_at dksX3_next_0 21 rfl rfl)
theorem dX3_next_22 : decode cX3_next 22 = .ok (.invokevirtual 100, 3) := dk_182 0 100 (dk_at dksX3_next_1 0 rfl rfl)
theorem dX3_next_25 : decode cX3_next 25 = .ok (.ifCond .eq 52, 3) := dk_153 0 52 (dk_at dksX3_next_1 3 rfl rfl)
theorem dX3_next_28 : decode cX3_next 28 = .ok (.iload_n 1, 1) := dk_27 (dk_at dksX3_next_1 6 rfl rfl)
theorem dX3_next_29 : decode cX3_next 29 = .ok (.ifCond .lt 46, 3) := dk_155 0 46 (dk_at dksX3_next_1 7 rfl rfl)
theorem dX3_next_32 : decode cX3_next 32 = .ok (.aload_n 0, 1) := dk_42 (dk_at dksX3_next_1 10 rfl rfl)
theorem dX3_next_33 : decode cX3_next 33 = .ok (.iload_n 2, 1) := dk_28 (dk_at dksX3_next_1 11 rfl rfl)
theorem dX3_next_34 : decode cX3_next 34 = .ok (.iconst 1, 1) := dk_4 (dk_at dksX3_next_1 12 rfl rfl)
theorem dX3_next_35 : decode cX3_next 35 = .ok (.invokevirtual 80, 3) := dk_182 0 80 (dk_at dksX3_next_1 13 rfl rfl)
theorem dX3_next_38 : decode cX3_next 38 = .ok (.aload_n 0, 1) := dk_42 (dk_at dksX3_next_1 16 rfl rfl)
theorem dX3_next_39 : decode cX3_next 39 = .ok (.iload_n 1, 1) := dk_27 (dk_at dksX3_next_1 17 rfl rfl)
theorem dX3_next_40 : decode cX3_next 40 = .ok (.iconst 1, 1) := dk_4 (dk_at dksX3_next_1 18 rfl rfl)
theorem dX3_next_41 : decode cX3_next 41 = .ok (.invokevirtual 80, 3) := dk_182 0 80 (dk_at dksX3_next_1 19 rfl rfl)
theorem dX3_next_44 : decode cX3_next 44 = .ok (.if_icmp .lt 31, 3) := dk_161 0 31 (dk_at dksX3_next_2 0 rfl rfl)
theorem dX3_next_47 : decode cX3_next 47 = .ok (.aload_n 0, 1) := dk_42 (dk_at dksX3_next_2 3 rfl rfl)
theorem dX3_next_48 : decode cX3_next 48 = .ok (.iload_n 2, 1) := dk_28 (dk_at dksX3_next_2 4 rfl rfl)
theorem dX3_next_49 : decode cX3_next 49 = .ok (.iconst 1, 1) := dk_4 (dk_at dksX3_next_2 5 rfl rfl)
theorem dX3_next_50 : decode cX3_next 50 = .ok (.invokevirtual 80, 3) := dk_182 0 80 (dk_at dksX3_next_2 6 rfl rfl)
theorem dX3_next_53 : decode cX3_next 53 = .ok (.aload_n 0, 1) := dk_42 (dk_at dksX3_next_2 9 rfl rfl)
theorem dX3_next_54 : decode cX3_next 54 = .ok (.iload_n 1, 1) := dk_27 (dk_at dksX3_next_2 10 rfl rfl)
theorem dX3_next_55 : decode cX3_next 55 = .ok (.iconst 1, 1) := dk_4 (dk_at dksX3_next_2 11 rfl rfl)
theorem dX3_next_56 : decode cX3_next 56 = .ok (.invokevirtual 80, 3) := dk_182 0 80 (dk_at dksX3_next_2 12 rfl rfl)
theorem dX3_next_59 : decode cX3_next 59 = .ok (.if_icmp .ne 18, 3) := dk_160 0 18 (dk_at dksX3_next_2 15 rfl rfl)
theorem dX3_next_62 : decode cX3_next 62 = .ok (.aload_n 0, 1) := dk_42 (dk_at dksX3_next_2 18 rfl rfl)
theorem dX3_next_63 : decode cX3_next 63 = .ok (.iload_n 2, 1) := dk_28 (dk_at dksX3_next_2 19 rfl rfl)
theorem dX3_next_64 : decode cX3_next 64 = .ok (.invokevirtual 213, 3) := dk_182 0 213 (dk_at dksX3_next_2 20 rfl rfl)
theorem dX3_next_67 : decode cX3_next 67 = .ok (.aload_n 0, 1) := dk_42 (dk_at dksX3_next_2 23 rfl rfl)
theorem dX3_next_68 : decode cX3_next 68 = .ok (.iload_n 1, 1) := dk_27 (dk_at dksX3_next_3 0 rfl rfl)
theorem dX3_next_69 : decode cX3_next 69 = .ok (.invokevirtual 213, 3) := dk_182 0 213 (dk_at dksX3_next_3 1 rfl rfl)
theorem dX3_next_72 : decode cX3_next 72 = .ok (.if_icmp .le 5, 3) := dk_164 0 5 (dk_at dksX3_next_3 4 rfl rfl)
theorem dX3_next_75 : decode cX3_next 75 = .ok (.iload_n 2, 1) := dk_28 (dk_at dksX3_next_3 7 rfl rfl)
theorem dX3_next_76 : decode cX3_next 76 = .ok (.istore_n 1, 1) := dk_60 (dk_at dksX3_next_3 8 rfl rfl)
theorem dX3_next_77 : decode cX3_next 77 = .ok (.iinc 2 1, 3) := dk_132 2 1 (dk_at dksX3_next_3 9 rfl rfl)
theorem dX3_next_80 : decode cX3_next 80 = .ok (.goto (-71), 3) := dk_167 255 185 (dk_at dksX3_next_3 12 rfl rfl)
theorem dX3_next_83 : decode cX3_next 83 = .ok (.iload_n 1, 1) := dk_27 (dk_at dksX3_next_3 15 rfl rfl)
theorem dX3_next_84 : decode cX3_next 84 = .ok (.ifCond .ge 11, 3) := dk_156 0 11 (dk_at dksX3_next_3 16 rfl rfl)
theorem dX3_next_87 : decode cX3_next 87 = .ok (.aload_n 0, 1) := dk_42 (dk_at dksX3_next_3 19 rfl rfl)
theorem dX3_next_88 : decode cX3_next 88 = .ok (.iconst 1, 1) := dk_4 (dk_at dksX3_next_3 20 rfl rfl)
theorem dX3_next_89 : decode cX3_next 89 = .ok (.invokevirtual 50, 3) := dk_182 0 50 (dk_at dksX3_next_3 21 rfl rfl)
theorem dX3_next_92 : decode cX3_next 92 = .ok (.goto 4, 3) := dk_167 0 4 (dk_at dksX3_next_4 0 rfl rfl)
theorem dX3_next_95 : decode cX3_next 95 = .ok (.iload_n 1, 1) := dk_27 (dk_at dksX3_next_4 3 rfl rfl)
theorem dX3_next_96 : decode cX3_next 96 = .ok (.ireturn, 1) := dk_172 (dk_at dksX3_next_4 4 rfl rfl)
abbrev cX3_risesIn : ByteArray := prog_18_method_76_code
def yX3_risesIn : MethodName := ⟨RX3, "risesIn", "(I)I"⟩
def dkwX3_risesIn_6 : List UInt8 := [5, 42, 27, 4, 182, 0, 80, 96, 4, 100, 46, 42, 27, 182, 0, 213, 100, 184, 0, 219, 96, 172]
abbrev dktX3_risesIn_6 : List UInt8 := dkwX3_risesIn_6 ++ []
def dkwX3_risesIn_5 : List UInt8 := [21, 4, 28, 164, 0, 8, 21, 4, 167, 0, 4, 28, 61, 132, 3, 1, 167, 255, 178, 28, 42, 180, 0, 7]
abbrev dktX3_risesIn_5 : List UInt8 := dkwX3_risesIn_5 ++ dktX3_risesIn_6
def dkwX3_risesIn_4 : List UInt8 := [180, 0, 7, 16, 6, 29, 96, 46, 42, 27, 16, 13, 29, 96, 182, 0, 80, 100, 184, 0, 219, 54, 4]
abbrev dktX3_risesIn_4 : List UInt8 := dkwX3_risesIn_4 ++ dktX3_risesIn_5
def dkwX3_risesIn_3 : List UInt8 := [4, 160, 0, 58, 42, 180, 0, 7, 16, 6, 29, 96, 46, 154, 0, 9, 42, 5, 182, 0, 50, 172, 42]
abbrev dktX3_risesIn_3 : List UInt8 := dkwX3_risesIn_3 ++ dktX3_risesIn_4
def dkwX3_risesIn_2 : List UInt8 := [182, 0, 50, 172, 3, 61, 3, 62, 29, 7, 162, 0, 79, 42, 27, 16, 7, 182, 0, 80, 29, 122, 4, 126]
abbrev dktX3_risesIn_2 : List UInt8 := dkwX3_risesIn_2 ++ dktX3_risesIn_3
def dkwX3_risesIn_1 : List UInt8 := [3, 172, 42, 27, 182, 0, 100, 153, 0, 14, 42, 27, 16, 11, 182, 0, 80, 4, 160, 0, 9, 42, 5]
abbrev dktX3_risesIn_1 : List UInt8 := dkwX3_risesIn_1 ++ dktX3_risesIn_2
def dkwX3_risesIn_0 : List UInt8 := [42, 42, 27, 182, 0, 118, 153, 0, 7, 3, 167, 0, 4, 4, 181, 0, 41, 42, 180, 0, 41, 158, 0, 5]
abbrev dktX3_risesIn_0 : List UInt8 := dkwX3_risesIn_0 ++ dktX3_risesIn_1
theorem dksX3_risesIn_0 : cX3_risesIn.data.toList.drop 0 = dktX3_risesIn_0 := by decide +kernel
theorem dksX3_risesIn_1 : cX3_risesIn.data.toList.drop 24 = dktX3_risesIn_1 := dk_seg dksX3_risesIn_0 24 rfl rfl
theorem dksX3_risesIn_2 : cX3_risesIn.data.toList.drop 47 = dktX3_risesIn_2 := dk_seg dksX3_risesIn_1 23 rfl rfl
theorem dksX3_risesIn_3 : cX3_risesIn.data.toList.drop 71 = dktX3_risesIn_3 := dk_seg dksX3_risesIn_2 24 rfl rfl
theorem dksX3_risesIn_4 : cX3_risesIn.data.toList.drop 94 = dktX3_risesIn_4 := dk_seg dksX3_risesIn_3 23 rfl rfl
theorem dksX3_risesIn_5 : cX3_risesIn.data.toList.drop 117 = dktX3_risesIn_5 := dk_seg dksX3_risesIn_4 23 rfl rfl
theorem dksX3_risesIn_6 : cX3_risesIn.data.toList.drop 141 = dktX3_risesIn_6 := dk_seg dksX3_risesIn_5 24 rfl rfl
theorem dX3_risesIn_0 : decode cX3_risesIn 0 = .ok (.aload_n 0, 1) := dk_42 (dk_at dksX3_risesIn_0 0 rfl rfl)
theorem dX3_risesIn_1 : decode cX3_risesIn 1 = .ok (.aload_n 0, 1) := dk_42 (dk_at dksX3_risesIn_0 1 rfl rfl)
theorem dX3_risesIn_2 : decode cX3_risesIn 2 = .ok (.iload_n 1, 1) := dk_27 (dk_at dksX3_risesIn_0 2 rfl rfl)
theorem dX3_risesIn_3 : decode cX3_risesIn 3 = .ok (.invokevirtual 118, 3) := dk_182 0 118 (dk_at dksX3_risesIn_0 3 rfl rfl)
theorem dX3_risesIn_6 : decode cX3_risesIn 6 = .ok (.ifCond .eq 7, 3) := dk_153 0 7 (dk_at dksX3_risesIn_0 6 rfl rfl)
theorem dX3_risesIn_9 : decode cX3_risesIn 9 = .ok (.iconst 0, 1) := dk_3 (dk_at dksX3_risesIn_0 9 rfl rfl)
theorem dX3_risesIn_10 : decode cX3_risesIn 10 = .ok (.goto 4, 3) := dk_167 0 4 (dk_at dksX3_risesIn_0 10 rfl rfl)
theorem dX3_risesIn_13 : decode cX3_risesIn 13 = .ok (.iconst 1, 1) := dk_4 (dk_at dksX3_risesIn_0 13 rfl rfl)
theorem dX3_risesIn_14 : decode cX3_risesIn 14 = .ok (.putfield 41, 3) := dk_181 0 41 (dk_at dksX3_risesIn_0 14 rfl rfl)
theorem dX3_risesIn_17 : decode cX3_risesIn 17 = .ok (.aload_n 0, 1) := dk_42 (dk_at dksX3_risesIn_0 17 rfl rfl)
theorem dX3_risesIn_18 : decode cX3_risesIn 18 = .ok (.getfield 41, 3) := dk_180 0 41 (dk_at dksX3_risesIn_0 18 rfl rfl)
theorem dX3_risesIn_21 : decode cX3_risesIn 21 = .ok (.ifCond .le 5, 3) := dk_158 0 5 (dk_at dksX3_risesIn_0 21 rfl rfl)
theorem dX3_risesIn_24 : decode cX3_risesIn 24 = .ok (.iconst 0, 1) := dk_3 (dk_at dksX3_risesIn_1 0 rfl rfl)
theorem dX3_risesIn_25 : decode cX3_risesIn 25 = .ok (.ireturn, 1) := dk_172 (dk_at dksX3_risesIn_1 1 rfl rfl)
theorem dX3_risesIn_26 : decode cX3_risesIn 26 = .ok (.aload_n 0, 1) := dk_42 (dk_at dksX3_risesIn_1 2 rfl rfl)
theorem dX3_risesIn_27 : decode cX3_risesIn 27 = .ok (.iload_n 1, 1) := dk_27 (dk_at dksX3_risesIn_1 3 rfl rfl)
theorem dX3_risesIn_28 : decode cX3_risesIn 28 = .ok (.invokevirtual 100, 3) := dk_182 0 100 (dk_at dksX3_risesIn_1 4 rfl rfl)
theorem dX3_risesIn_31 : decode cX3_risesIn 31 = .ok (.ifCond .eq 14, 3) := dk_153 0 14 (dk_at dksX3_risesIn_1 7 rfl rfl)
theorem dX3_risesIn_34 : decode cX3_risesIn 34 = .ok (.aload_n 0, 1) := dk_42 (dk_at dksX3_risesIn_1 10 rfl rfl)
theorem dX3_risesIn_35 : decode cX3_risesIn 35 = .ok (.iload_n 1, 1) := dk_27 (dk_at dksX3_risesIn_1 11 rfl rfl)
theorem dX3_risesIn_36 : decode cX3_risesIn 36 = .ok (.bipush 11, 2) := dk_16 11 (dk_at dksX3_risesIn_1 12 rfl rfl)
theorem dX3_risesIn_38 : decode cX3_risesIn 38 = .ok (.invokevirtual 80, 3) := dk_182 0 80 (dk_at dksX3_risesIn_1 14 rfl rfl)
theorem dX3_risesIn_41 : decode cX3_risesIn 41 = .ok (.iconst 1, 1) := dk_4 (dk_at dksX3_risesIn_1 17 rfl rfl)
theorem dX3_risesIn_42 : decode cX3_risesIn 42 = .ok (.if_icmp .ne 9, 3) := dk_160 0 9 (dk_at dksX3_risesIn_1 18 rfl rfl)
theorem dX3_risesIn_45 : decode cX3_risesIn 45 = .ok (.aload_n 0, 1) := dk_42 (dk_at dksX3_risesIn_1 21 rfl rfl)
theorem dX3_risesIn_46 : decode cX3_risesIn 46 = .ok (.iconst 2, 1) := dk_5 (dk_at dksX3_risesIn_1 22 rfl rfl)
theorem dX3_risesIn_47 : decode cX3_risesIn 47 = .ok (.invokevirtual 50, 3) := dk_182 0 50 (dk_at dksX3_risesIn_2 0 rfl rfl)
theorem dX3_risesIn_50 : decode cX3_risesIn 50 = .ok (.ireturn, 1) := dk_172 (dk_at dksX3_risesIn_2 3 rfl rfl)
theorem dX3_risesIn_51 : decode cX3_risesIn 51 = .ok (.iconst 0, 1) := dk_3 (dk_at dksX3_risesIn_2 4 rfl rfl)
theorem dX3_risesIn_52 : decode cX3_risesIn 52 = .ok (.istore_n 2, 1) := dk_61 (dk_at dksX3_risesIn_2 5 rfl rfl)
theorem dX3_risesIn_53 : decode cX3_risesIn 53 = .ok (.iconst 0, 1) := dk_3 (dk_at dksX3_risesIn_2 6 rfl rfl)
theorem dX3_risesIn_54 : decode cX3_risesIn 54 = .ok (.istore_n 3, 1) := dk_62 (dk_at dksX3_risesIn_2 7 rfl rfl)
theorem dX3_risesIn_55 : decode cX3_risesIn 55 = .ok (.iload_n 3, 1) := dk_29 (dk_at dksX3_risesIn_2 8 rfl rfl)
theorem dX3_risesIn_56 : decode cX3_risesIn 56 = .ok (.iconst 4, 1) := dk_7 (dk_at dksX3_risesIn_2 9 rfl rfl)
theorem dX3_risesIn_57 : decode cX3_risesIn 57 = .ok (.if_icmp .ge 79, 3) := dk_162 0 79 (dk_at dksX3_risesIn_2 10 rfl rfl)
theorem dX3_risesIn_60 : decode cX3_risesIn 60 = .ok (.aload_n 0, 1) := dk_42 (dk_at dksX3_risesIn_2 13 rfl rfl)
theorem dX3_risesIn_61 : decode cX3_risesIn 61 = .ok (.iload_n 1, 1) := dk_27 (dk_at dksX3_risesIn_2 14 rfl rfl)
theorem dX3_risesIn_62 : decode cX3_risesIn 62 = .ok (.bipush 7, 2) := dk_16 7 (dk_at dksX3_risesIn_2 15 rfl rfl)
theorem dX3_risesIn_64 : decode cX3_risesIn 64 = .ok (.invokevirtual 80, 3) := dk_182 0 80 (dk_at dksX3_risesIn_2 17 rfl rfl)
theorem dX3_risesIn_67 : decode cX3_risesIn 67 = .ok (.iload_n 3, 1) := dk_29 (dk_at dksX3_risesIn_2 20 rfl rfl)
theorem dX3_risesIn_68 : decode cX3_risesIn 68 = .ok (.ishr, 1) := dk_122 (dk_at dksX3_risesIn_2 21 rfl rfl)
theorem dX3_risesIn_69 : decode cX3_risesIn 69 = .ok (.iconst 1, 1) := dk_4 (dk_at dksX3_risesIn_2 22 rfl rfl)
theorem dX3_risesIn_70 : decode cX3_risesIn 70 = .ok (.iand, 1) := dk_126 (dk_at dksX3_risesIn_2 23 rfl rfl)
theorem dX3_risesIn_71 : decode cX3_risesIn 71 = .ok (.iconst 1, 1) := dk_4 (dk_at dksX3_risesIn_3 0 rfl rfl)
theorem dX3_risesIn_72 : decode cX3_risesIn 72 = .ok (.if_icmp .ne 58, 3) := dk_160 0 58 (dk_at dksX3_risesIn_3 1 rfl rfl)
theorem dX3_risesIn_75 : decode cX3_risesIn 75 = .ok (.aload_n 0, 1) := dk_42 (dk_at dksX3_risesIn_3 4 rfl rfl)
theorem dX3_risesIn_76 : decode cX3_risesIn 76 = .ok (.getfield 7, 3) := dk_180 0 7 (dk_at dksX3_risesIn_3 5 rfl rfl)
theorem dX3_risesIn_79 : decode cX3_risesIn 79 = .ok (.bipush 6, 2) := dk_16 6 (dk_at dksX3_risesIn_3 8 rfl rfl)
theorem dX3_risesIn_81 : decode cX3_risesIn 81 = .ok (.iload_n 3, 1) := dk_29 (dk_at dksX3_risesIn_3 10 rfl rfl)
theorem dX3_risesIn_82 : decode cX3_risesIn 82 = .ok (.iadd, 1) := dk_96 (dk_at dksX3_risesIn_3 11 rfl rfl)
theorem dX3_risesIn_83 : decode cX3_risesIn 83 = .ok (.iaload, 1) := dk_46 (dk_at dksX3_risesIn_3 12 rfl rfl)
theorem dX3_risesIn_84 : decode cX3_risesIn 84 = .ok (.ifCond .ne 9, 3) := dk_154 0 9 (dk_at dksX3_risesIn_3 13 rfl rfl)
theorem dX3_risesIn_87 : decode cX3_risesIn 87 = .ok (.aload_n 0, 1) := dk_42 (dk_at dksX3_risesIn_3 16 rfl rfl)
theorem dX3_risesIn_88 : decode cX3_risesIn 88 = .ok (.iconst 2, 1) := dk_5 (dk_at dksX3_risesIn_3 17 rfl rfl)
theorem dX3_risesIn_89 : decode cX3_risesIn 89 = .ok (.invokevirtual 50, 3) := dk_182 0 50 (dk_at dksX3_risesIn_3 18 rfl rfl)
theorem dX3_risesIn_92 : decode cX3_risesIn 92 = .ok (.ireturn, 1) := dk_172 (dk_at dksX3_risesIn_3 21 rfl rfl)
theorem dX3_risesIn_93 : decode cX3_risesIn 93 = .ok (.aload_n 0, 1) := dk_42 (dk_at dksX3_risesIn_3 22 rfl rfl)
theorem dX3_risesIn_94 : decode cX3_risesIn 94 = .ok (.getfield 7, 3) := dk_180 0 7 (dk_at dksX3_risesIn_4 0 rfl rfl)
theorem dX3_risesIn_97 : decode cX3_risesIn 97 = .ok (.bipush 6, 2) := dk_16 6 (dk_at dksX3_risesIn_4 3 rfl rfl)
theorem dX3_risesIn_99 : decode cX3_risesIn 99 = .ok (.iload_n 3, 1) := dk_29 (dk_at dksX3_risesIn_4 5 rfl rfl)
theorem dX3_risesIn_100 : decode cX3_risesIn 100 = .ok (.iadd, 1) := dk_96 (dk_at dksX3_risesIn_4 6 rfl rfl)
theorem dX3_risesIn_101 : decode cX3_risesIn 101 = .ok (.iaload, 1) := dk_46 (dk_at dksX3_risesIn_4 7 rfl rfl)
theorem dX3_risesIn_102 : decode cX3_risesIn 102 = .ok (.aload_n 0, 1) := dk_42 (dk_at dksX3_risesIn_4 8 rfl rfl)
theorem dX3_risesIn_103 : decode cX3_risesIn 103 = .ok (.iload_n 1, 1) := dk_27 (dk_at dksX3_risesIn_4 9 rfl rfl)
theorem dX3_risesIn_104 : decode cX3_risesIn 104 = .ok (.bipush 13, 2) := dk_16 13 (dk_at dksX3_risesIn_4 10 rfl rfl)
theorem dX3_risesIn_106 : decode cX3_risesIn 106 = .ok (.iload_n 3, 1) := dk_29 (dk_at dksX3_risesIn_4 12 rfl rfl)
theorem dX3_risesIn_107 : decode cX3_risesIn 107 = .ok (.iadd, 1) := dk_96 (dk_at dksX3_risesIn_4 13 rfl rfl)
theorem dX3_risesIn_108 : decode cX3_risesIn 108 = .ok (.invokevirtual 80, 3) := dk_182 0 80 (dk_at dksX3_risesIn_4 14 rfl rfl)
theorem dX3_risesIn_111 : decode cX3_risesIn 111 = .ok (.isub, 1) := dk_100 (dk_at dksX3_risesIn_4 17 rfl rfl)
theorem dX3_risesIn_112 : decode cX3_risesIn 112 = .ok (.invokestatic 219, 3) := dk_184 0 219 (dk_at dksX3_risesIn_4 18 rfl rfl)
theorem dX3_risesIn_115 : decode cX3_risesIn 115 = .ok (.istore 4, 2) := dk_54 4 (dk_at dksX3_risesIn_4 21 rfl rfl)
theorem dX3_risesIn_117 : decode cX3_risesIn 117 = .ok (.iload 4, 2) := dk_21 4 (dk_at dksX3_risesIn_5 0 rfl rfl)
theorem dX3_risesIn_119 : decode cX3_risesIn 119 = .ok (.iload_n 2, 1) := dk_28 (dk_at dksX3_risesIn_5 2 rfl rfl)
theorem dX3_risesIn_120 : decode cX3_risesIn 120 = .ok (.if_icmp .le 8, 3) := dk_164 0 8 (dk_at dksX3_risesIn_5 3 rfl rfl)
theorem dX3_risesIn_123 : decode cX3_risesIn 123 = .ok (.iload 4, 2) := dk_21 4 (dk_at dksX3_risesIn_5 6 rfl rfl)
theorem dX3_risesIn_125 : decode cX3_risesIn 125 = .ok (.goto 4, 3) := dk_167 0 4 (dk_at dksX3_risesIn_5 8 rfl rfl)
theorem dX3_risesIn_128 : decode cX3_risesIn 128 = .ok (.iload_n 2, 1) := dk_28 (dk_at dksX3_risesIn_5 11 rfl rfl)
theorem dX3_risesIn_129 : decode cX3_risesIn 129 = .ok (.istore_n 2, 1) := dk_61 (dk_at dksX3_risesIn_5 12 rfl rfl)
theorem dX3_risesIn_130 : decode cX3_risesIn 130 = .ok (.iinc 3 1, 3) := dk_132 3 1 (dk_at dksX3_risesIn_5 13 rfl rfl)
theorem dX3_risesIn_133 : decode cX3_risesIn 133 = .ok (.goto (-78), 3) := dk_167 255 178 (dk_at dksX3_risesIn_5 16 rfl rfl)
theorem dX3_risesIn_136 : decode cX3_risesIn 136 = .ok (.iload_n 2, 1) := dk_28 (dk_at dksX3_risesIn_5 19 rfl rfl)
theorem dX3_risesIn_137 : decode cX3_risesIn 137 = .ok (.aload_n 0, 1) := dk_42 (dk_at dksX3_risesIn_5 20 rfl rfl)
theorem dX3_risesIn_138 : decode cX3_risesIn 138 = .ok (.getfield 7, 3) := dk_180 0 7 (dk_at dksX3_risesIn_5 21 rfl rfl)
theorem dX3_risesIn_141 : decode cX3_risesIn 141 = .ok (.iconst 2, 1) := dk_5 (dk_at dksX3_risesIn_6 0 rfl rfl)
theorem dX3_risesIn_142 : decode cX3_risesIn 142 = .ok (.aload_n 0, 1) := dk_42 (dk_at dksX3_risesIn_6 1 rfl rfl)
theorem dX3_risesIn_143 : decode cX3_risesIn 143 = .ok (.iload_n 1, 1) := dk_27 (dk_at dksX3_risesIn_6 2 rfl rfl)
theorem dX3_risesIn_144 : decode cX3_risesIn 144 = .ok (.iconst 1, 1) := dk_4 (dk_at dksX3_risesIn_6 3 rfl rfl)
theorem dX3_risesIn_145 : decode cX3_risesIn 145 = .ok (.invokevirtual 80, 3) := dk_182 0 80 (dk_at dksX3_risesIn_6 4 rfl rfl)
theorem dX3_risesIn_148 : decode cX3_risesIn 148 = .ok (.iadd, 1) := dk_96 (dk_at dksX3_risesIn_6 7 rfl rfl)
theorem dX3_risesIn_149 : decode cX3_risesIn 149 = .ok (.iconst 1, 1) := dk_4 (dk_at dksX3_risesIn_6 8 rfl rfl)
theorem dX3_risesIn_150 : decode cX3_risesIn 150 = .ok (.isub, 1) := dk_100 (dk_at dksX3_risesIn_6 9 rfl rfl)
theorem dX3_risesIn_151 : decode cX3_risesIn 151 = .ok (.iaload, 1) := dk_46 (dk_at dksX3_risesIn_6 10 rfl rfl)
theorem dX3_risesIn_152 : decode cX3_risesIn 152 = .ok (.aload_n 0, 1) := dk_42 (dk_at dksX3_risesIn_6 11 rfl rfl)
theorem dX3_risesIn_153 : decode cX3_risesIn 153 = .ok (.iload_n 1, 1) := dk_27 (dk_at dksX3_risesIn_6 12 rfl rfl)
theorem dX3_risesIn_154 : decode cX3_risesIn 154 = .ok (.invokevirtual 213, 3) := dk_182 0 213 (dk_at dksX3_risesIn_6 13 rfl rfl)
theorem dX3_risesIn_157 : decode cX3_risesIn 157 = .ok (.isub, 1) := dk_100 (dk_at dksX3_risesIn_6 16 rfl rfl)
theorem dX3_risesIn_158 : decode cX3_risesIn 158 = .ok (.invokestatic 219, 3) := dk_184 0 219 (dk_at dksX3_risesIn_6 17 rfl rfl)
theorem dX3_risesIn_161 : decode cX3_risesIn 161 = .ok (.iadd, 1) := dk_96 (dk_at dksX3_risesIn_6 20 rfl rfl)
theorem dX3_risesIn_162 : decode cX3_risesIn 162 = .ok (.ireturn, 1) := dk_172 (dk_at dksX3_risesIn_6 21 rfl rfl)
abbrev cX3_atLeastOne : ByteArray := prog_18_method_75_code
def yX3_atLeastOne : MethodName := ⟨RX3, "atLeastOne", "(I)I"⟩
def dkwX3_atLeastOne_0 : List UInt8 := [26, 4, 162, 0, 7, 4, 167, 0, 4, 26, 172]
abbrev dktX3_atLeastOne_0 : List UInt8 := dkwX3_atLeastOne_0 ++ []
theorem dksX3_atLeastOne_0 : cX3_atLeastOne.data.toList.drop 0 = dktX3_atLeastOne_0 := by decide +kernel
theorem dX3_atLeastOne_0 : decode cX3_atLeastOne 0 = .ok (.iload_n 0, 1) := dk_26 (dk_at dksX3_atLeastOne_0 0 rfl rfl)
theorem dX3_atLeastOne_1 : decode cX3_atLeastOne 1 = .ok (.iconst 1, 1) := dk_4 (dk_at dksX3_atLeastOne_0 1 rfl rfl)
theorem dX3_atLeastOne_2 : decode cX3_atLeastOne 2 = .ok (.if_icmp .ge 7, 3) := dk_162 0 7 (dk_at dksX3_atLeastOne_0 2 rfl rfl)
theorem dX3_atLeastOne_5 : decode cX3_atLeastOne 5 = .ok (.iconst 1, 1) := dk_4 (dk_at dksX3_atLeastOne_0 5 rfl rfl)
theorem dX3_atLeastOne_6 : decode cX3_atLeastOne 6 = .ok (.goto 4, 3) := dk_167 0 4 (dk_at dksX3_atLeastOne_0 6 rfl rfl)
theorem dX3_atLeastOne_9 : decode cX3_atLeastOne 9 = .ok (.iload_n 0, 1) := dk_26 (dk_at dksX3_atLeastOne_0 9 rfl rfl)
theorem dX3_atLeastOne_10 : decode cX3_atLeastOne 10 = .ok (.ireturn, 1) := dk_172 (dk_at dksX3_atLeastOne_0 10 rfl rfl)
abbrev cX3_person : ByteArray := prog_18_method_77_code
def yX3_person : MethodName := ⟨RX3, "person", "(II)I"⟩
def dkwX3_person_7 : List UInt8 := [180, 0, 7, 4, 46, 27, 122, 4, 126, 167, 0, 14, 28, 5, 160, 0, 7, 29, 167, 0, 5, 21, 4, 172]
abbrev dktX3_person_7 : List UInt8 := dkwX3_person_7 ++ []
def dkwX3_person_6 : List UInt8 := [132, 5, 1, 167, 255, 217, 28, 154, 0, 11, 42, 27, 182, 0, 87, 167, 0, 32, 28, 4, 160, 0, 16, 42]
abbrev dktX3_person_6 : List UInt8 := dkwX3_person_6 ++ dktX3_person_7
def dkwX3_person_5 : List UInt8 := [21, 4, 42, 21, 5, 5, 182, 0, 80, 27, 160, 0, 10, 4, 21, 5, 120, 167, 0, 4, 3, 128, 54, 4]
abbrev dktX3_person_5 : List UInt8 := dkwX3_person_5 ++ dktX3_person_6
def dkwX3_person_4 : List UInt8 := [132, 4, 1, 167, 255, 205, 3, 54, 4, 3, 54, 5, 21, 5, 42, 180, 0, 7, 16, 11, 46, 162, 0, 33]
abbrev dktX3_person_4 : List UInt8 := dkwX3_person_4 ++ dktX3_person_5
def dkwX3_person_3 : List UInt8 := [21, 4, 6, 182, 0, 136, 154, 0, 13, 42, 21, 4, 5, 182, 0, 136, 167, 0, 4, 3, 96, 62]
abbrev dktX3_person_3 : List UInt8 := dkwX3_person_3 ++ dktX3_person_4
def dkwX3_person_2 : List UInt8 := [180, 0, 7, 17, 1, 122, 46, 162, 0, 44, 29, 42, 21, 4, 4, 182, 0, 136, 27, 160, 0, 23, 42]
abbrev dktX3_person_2 : List UInt8 := dkwX3_person_2 ++ dktX3_person_3
def dkwX3_person_1 : List UInt8 := [167, 0, 4, 5, 181, 0, 41, 42, 180, 0, 41, 158, 0, 5, 3, 172, 3, 62, 3, 54, 4, 21, 4, 42]
abbrev dktX3_person_1 : List UInt8 := dkwX3_person_1 ++ dktX3_person_2
def dkwX3_person_0 : List UInt8 := [42, 27, 184, 0, 94, 154, 0, 7, 4, 167, 0, 17, 28, 3, 6, 184, 0, 72, 153, 0, 7, 3]
abbrev dktX3_person_0 : List UInt8 := dkwX3_person_0 ++ dktX3_person_1
theorem dksX3_person_0 : cX3_person.data.toList.drop 0 = dktX3_person_0 := by decide +kernel
theorem dksX3_person_1 : cX3_person.data.toList.drop 22 = dktX3_person_1 := dk_seg dksX3_person_0 22 rfl rfl
theorem dksX3_person_2 : cX3_person.data.toList.drop 46 = dktX3_person_2 := dk_seg dksX3_person_1 24 rfl rfl
theorem dksX3_person_3 : cX3_person.data.toList.drop 69 = dktX3_person_3 := dk_seg dksX3_person_2 23 rfl rfl
theorem dksX3_person_4 : cX3_person.data.toList.drop 91 = dktX3_person_4 := dk_seg dksX3_person_3 22 rfl rfl
theorem dksX3_person_5 : cX3_person.data.toList.drop 115 = dktX3_person_5 := dk_seg dksX3_person_4 24 rfl rfl
theorem dksX3_person_6 : cX3_person.data.toList.drop 139 = dktX3_person_6 := dk_seg dksX3_person_5 24 rfl rfl
theorem dksX3_person_7 : cX3_person.data.toList.drop 163 = dktX3_person_7 := dk_seg dksX3_person_6 24 rfl rfl
theorem dX3_person_0 : decode cX3_person 0 = .ok (.aload_n 0, 1) := dk_42 (dk_at dksX3_person_0 0 rfl rfl)
theorem dX3_person_1 : decode cX3_person 1 = .ok (.iload_n 1, 1) := dk_27 (dk_at dksX3_person_0 1 rfl rfl)
theorem dX3_person_2 : decode cX3_person 2 = .ok (.invokestatic 94, 3) := dk_184 0 94 (dk_at dksX3_person_0 2 rfl rfl)
theorem dX3_person_5 : decode cX3_person 5 = .ok (.ifCond .ne 7, 3) := dk_154 0 7 (dk_at dksX3_person_0 5 rfl rfl)
theorem dX3_person_8 : decode cX3_person 8 = .ok (.iconst 1, 1) := dk_4 (dk_at dksX3_person_0 8 rfl rfl)
theorem dX3_person_9 : decode cX3_person 9 = .ok (.goto 17, 3) := dk_167 0 17 (dk_at dksX3_person_0 9 rfl rfl)
theorem dX3_person_12 : decode cX3_person 12 = .ok (.iload_n 2, 1) := dk_28 (dk_at dksX3_person_0 12 rfl rfl)
theorem dX3_person_13 : decode cX3_person 13 = .ok (.iconst 0, 1) := dk_3 (dk_at dksX3_person_0 13 rfl rfl)
theorem dX3_person_14 : decode cX3_person 14 = .ok (.iconst 3, 1) := dk_6 (dk_at dksX3_person_0 14 rfl rfl)
theorem dX3_person_15 : decode cX3_person 15 = .ok (.invokestatic 72, 3) := dk_184 0 72 (dk_at dksX3_person_0 15 rfl rfl)
theorem dX3_person_18 : decode cX3_person 18 = .ok (.ifCond .eq 7, 3) := dk_153 0 7 (dk_at dksX3_person_0 18 rfl rfl)
theorem dX3_person_21 : decode cX3_person 21 = .ok (.iconst 0, 1) := dk_3 (dk_at dksX3_person_0 21 rfl rfl)
theorem dX3_person_22 : decode cX3_person 22 = .ok (.goto 4, 3) := dk_167 0 4 (dk_at dksX3_person_1 0 rfl rfl)
theorem dX3_person_25 : decode cX3_person 25 = .ok (.iconst 2, 1) := dk_5 (dk_at dksX3_person_1 3 rfl rfl)
theorem dX3_person_26 : decode cX3_person 26 = .ok (.putfield 41, 3) := dk_181 0 41 (dk_at dksX3_person_1 4 rfl rfl)
theorem dX3_person_29 : decode cX3_person 29 = .ok (.aload_n 0, 1) := dk_42 (dk_at dksX3_person_1 7 rfl rfl)
theorem dX3_person_30 : decode cX3_person 30 = .ok (.getfield 41, 3) := dk_180 0 41 (dk_at dksX3_person_1 8 rfl rfl)
theorem dX3_person_33 : decode cX3_person 33 = .ok (.ifCond .le 5, 3) := dk_158 0 5 (dk_at dksX3_person_1 11 rfl rfl)
theorem dX3_person_36 : decode cX3_person 36 = .ok (.iconst 0, 1) := dk_3 (dk_at dksX3_person_1 14 rfl rfl)
theorem dX3_person_37 : decode cX3_person 37 = .ok (.ireturn, 1) := dk_172 (dk_at dksX3_person_1 15 rfl rfl)
theorem dX3_person_38 : decode cX3_person 38 = .ok (.iconst 0, 1) := dk_3 (dk_at dksX3_person_1 16 rfl rfl)
theorem dX3_person_39 : decode cX3_person 39 = .ok (.istore_n 3, 1) := dk_62 (dk_at dksX3_person_1 17 rfl rfl)
theorem dX3_person_40 : decode cX3_person 40 = .ok (.iconst 0, 1) := dk_3 (dk_at dksX3_person_1 18 rfl rfl)
theorem dX3_person_41 : decode cX3_person 41 = .ok (.istore 4, 2) := dk_54 4 (dk_at dksX3_person_1 19 rfl rfl)
theorem dX3_person_43 : decode cX3_person 43 = .ok (.iload 4, 2) := dk_21 4 (dk_at dksX3_person_1 21 rfl rfl)
theorem dX3_person_45 : decode cX3_person 45 = .ok (.aload_n 0, 1) := dk_42 (dk_at dksX3_person_1 23 rfl rfl)
theorem dX3_person_46 : decode cX3_person 46 = .ok (.getfield 7, 3) := dk_180 0 7 (dk_at dksX3_person_2 0 rfl rfl)
theorem dX3_person_49 : decode cX3_person 49 = .ok (.sipush 378, 3) := dk_17 1 122 (dk_at dksX3_person_2 3 rfl rfl)
theorem dX3_person_52 : decode cX3_person 52 = .ok (.iaload, 1) := dk_46 (dk_at dksX3_person_2 6 rfl rfl)
theorem dX3_person_53 : decode cX3_person 53 = .ok (.if_icmp .ge 44, 3) := dk_162 0 44 (dk_at dksX3_person_2 7 rfl rfl)
theorem dX3_person_56 : decode cX3_person 56 = .ok (.iload_n 3, 1) := dk_29 (dk_at dksX3_person_2 10 rfl rfl)
theorem dX3_person_57 : decode cX3_person 57 = .ok (.aload_n 0, 1) := dk_42 (dk_at dksX3_person_2 11 rfl rfl)
theorem dX3_person_58 : decode cX3_person 58 = .ok (.iload 4, 2) := dk_21 4 (dk_at dksX3_person_2 12 rfl rfl)
theorem dX3_person_60 : decode cX3_person 60 = .ok (.iconst 1, 1) := dk_4 (dk_at dksX3_person_2 14 rfl rfl)
theorem dX3_person_61 : decode cX3_person 61 = .ok (.invokevirtual 136, 3) := dk_182 0 136 (dk_at dksX3_person_2 15 rfl rfl)
theorem dX3_person_64 : decode cX3_person 64 = .ok (.iload_n 1, 1) := dk_27 (dk_at dksX3_person_2 18 rfl rfl)
theorem dX3_person_65 : decode cX3_person 65 = .ok (.if_icmp .ne 23, 3) := dk_160 0 23 (dk_at dksX3_person_2 19 rfl rfl)
theorem dX3_person_68 : decode cX3_person 68 = .ok (.aload_n 0, 1) := dk_42 (dk_at dksX3_person_2 22 rfl rfl)
theorem dX3_person_69 : decode cX3_person 69 = .ok (.iload 4, 2) := dk_21 4 (dk_at dksX3_person_3 0 rfl rfl)
theorem dX3_person_71 : decode cX3_person 71 = .ok (.iconst 3, 1) := dk_6 (dk_at dksX3_person_3 2 rfl rfl)
theorem dX3_person_72 : decode cX3_person 72 = .ok (.invokevirtual 136, 3) := dk_182 0 136 (dk_at dksX3_person_3 3 rfl rfl)
theorem dX3_person_75 : decode cX3_person 75 = .ok (.ifCond .ne 13, 3) := dk_154 0 13 (dk_at dksX3_person_3 6 rfl rfl)
theorem dX3_person_78 : decode cX3_person 78 = .ok (.aload_n 0, 1) := dk_42 (dk_at dksX3_person_3 9 rfl rfl)
theorem dX3_person_79 : decode cX3_person 79 = .ok (.iload 4, 2) := dk_21 4 (dk_at dksX3_person_3 10 rfl rfl)
theorem dX3_person_81 : decode cX3_person 81 = .ok (.iconst 2, 1) := dk_5 (dk_at dksX3_person_3 12 rfl rfl)
theorem dX3_person_82 : decode cX3_person 82 = .ok (.invokevirtual 136, 3) := dk_182 0 136 (dk_at dksX3_person_3 13 rfl rfl)
theorem dX3_person_85 : decode cX3_person 85 = .ok (.goto 4, 3) := dk_167 0 4 (dk_at dksX3_person_3 16 rfl rfl)
theorem dX3_person_88 : decode cX3_person 88 = .ok (.iconst 0, 1) := dk_3 (dk_at dksX3_person_3 19 rfl rfl)
theorem dX3_person_89 : decode cX3_person 89 = .ok (.iadd, 1) := dk_96 (dk_at dksX3_person_3 20 rfl rfl)
theorem dX3_person_90 : decode cX3_person 90 = .ok (.istore_n 3, 1) := dk_62 (dk_at dksX3_person_3 21 rfl rfl)
theorem dX3_person_91 : decode cX3_person 91 = .ok (.iinc 4 1, 3) := dk_132 4 1 (dk_at dksX3_person_4 0 rfl rfl)
theorem dX3_person_94 : decode cX3_person 94 = .ok (.goto (-51), 3) := dk_167 255 205 (dk_at dksX3_person_4 3 rfl rfl)
theorem dX3_person_97 : decode cX3_person 97 = .ok (.iconst 0, 1) := dk_3 (dk_at dksX3_person_4 6 rfl rfl)
theorem dX3_person_98 : decode cX3_person 98 = .ok (.istore 4, 2) := dk_54 4 (dk_at dksX3_person_4 7 rfl rfl)
theorem dX3_person_100 : decode cX3_person 100 = .ok (.iconst 0, 1) := dk_3 (dk_at dksX3_person_4 9 rfl rfl)
theorem dX3_person_101 : decode cX3_person 101 = .ok (.istore 5, 2) := dk_54 5 (dk_at dksX3_person_4 10 rfl rfl)
theorem dX3_person_103 : decode cX3_person 103 = .ok (.iload 5, 2) := dk_21 5 (dk_at dksX3_person_4 12 rfl rfl)
theorem dX3_person_105 : decode cX3_person 105 = .ok (.aload_n 0, 1) := dk_42 (dk_at dksX3_person_4 14 rfl rfl)
theorem dX3_person_106 : decode cX3_person 106 = .ok (.getfield 7, 3) := dk_180 0 7 (dk_at dksX3_person_4 15 rfl rfl)
theorem dX3_person_109 : decode cX3_person 109 = .ok (.bipush 11, 2) := dk_16 11 (dk_at dksX3_person_4 18 rfl rfl)
theorem dX3_person_111 : decode cX3_person 111 = .ok (.iaload, 1) := dk_46 (dk_at dksX3_person_4 20 rfl rfl)
theorem dX3_person_112 : decode cX3_person 112 = .ok (.if_icmp .ge 33, 3) := dk_162 0 33 (dk_at dksX3_person_4 21 rfl rfl)
theorem dX3_person_115 : decode cX3_person 115 = .ok (.iload 4, 2) := dk_21 4 (dk_at dksX3_person_5 0 rfl rfl)
theorem dX3_person_117 : decode cX3_person 117 = .ok (.aload_n 0, 1) := dk_42 (dk_at dksX3_person_5 2 rfl rfl)
theorem dX3_person_118 : decode cX3_person 118 = .ok (.iload 5, 2) := dk_21 5 (dk_at dksX3_person_5 3 rfl rfl)
theorem dX3_person_120 : decode cX3_person 120 = .ok (.iconst 2, 1) := dk_5 (dk_at dksX3_person_5 5 rfl rfl)
theorem dX3_person_121 : decode cX3_person 121 = .ok (.invokevirtual 80, 3) := dk_182 0 80 (dk_at dksX3_person_5 6 rfl rfl)
theorem dX3_person_124 : decode cX3_person 124 = .ok (.iload_n 1, 1) := dk_27 (dk_at dksX3_person_5 9 rfl rfl)
theorem dX3_person_125 : decode cX3_person 125 = .ok (.if_icmp .ne 10, 3) := dk_160 0 10 (dk_at dksX3_person_5 10 rfl rfl)
theorem dX3_person_128 : decode cX3_person 128 = .ok (.iconst 1, 1) := dk_4 (dk_at dksX3_person_5 13 rfl rfl)
theorem dX3_person_129 : decode cX3_person 129 = .ok (.iload 5, 2) := dk_21 5 (dk_at dksX3_person_5 14 rfl rfl)
theorem dX3_person_131 : decode cX3_person 131 = .ok (.ishl, 1) := dk_120 (dk_at dksX3_person_5 16 rfl rfl)
theorem dX3_person_132 : decode cX3_person 132 = .ok (.goto 4, 3) := dk_167 0 4 (dk_at dksX3_person_5 17 rfl rfl)
theorem dX3_person_135 : decode cX3_person 135 = .ok (.iconst 0, 1) := dk_3 (dk_at dksX3_person_5 20 rfl rfl)
theorem dX3_person_136 : decode cX3_person 136 = .ok (.ior, 1) := dk_128 (dk_at dksX3_person_5 21 rfl rfl)
theorem dX3_person_137 : decode cX3_person 137 = .ok (.istore 4, 2) := dk_54 4 (dk_at dksX3_person_5 22 rfl rfl)
theorem dX3_person_139 : decode cX3_person 139 = .ok (.iinc 5 1, 3) := dk_132 5 1 (dk_at dksX3_person_6 0 rfl rfl)
theorem dX3_person_142 : decode cX3_person 142 = .ok (.goto (-39), 3) := dk_167 255 217 (dk_at dksX3_person_6 3 rfl rfl)
theorem dX3_person_145 : decode cX3_person 145 = .ok (.iload_n 2, 1) := dk_28 (dk_at dksX3_person_6 6 rfl rfl)
theorem dX3_person_146 : decode cX3_person 146 = .ok (.ifCond .ne 11, 3) := dk_154 0 11 (dk_at dksX3_person_6 7 rfl rfl)
theorem dX3_person_149 : decode cX3_person 149 = .ok (.aload_n 0, 1) := dk_42 (dk_at dksX3_person_6 10 rfl rfl)
theorem dX3_person_150 : decode cX3_person 150 = .ok (.iload_n 1, 1) := dk_27 (dk_at dksX3_person_6 11 rfl rfl)
theorem dX3_person_151 : decode cX3_person 151 = .ok (.invokevirtual 87, 3) := dk_182 0 87 (dk_at dksX3_person_6 12 rfl rfl)
theorem dX3_person_154 : decode cX3_person 154 = .ok (.goto 32, 3) := dk_167 0 32 (dk_at dksX3_person_6 15 rfl rfl)
theorem dX3_person_157 : decode cX3_person 157 = .ok (.iload_n 2, 1) := dk_28 (dk_at dksX3_person_6 18 rfl rfl)
theorem dX3_person_158 : decode cX3_person 158 = .ok (.iconst 1, 1) := dk_4 (dk_at dksX3_person_6 19 rfl rfl)
theorem dX3_person_159 : decode cX3_person 159 = .ok (.if_icmp .ne 16, 3) := dk_160 0 16 (dk_at dksX3_person_6 20 rfl rfl)
theorem dX3_person_162 : decode cX3_person 162 = .ok (.aload_n 0, 1) := dk_42 (dk_at dksX3_person_6 23 rfl rfl)
theorem dX3_person_163 : decode cX3_person 163 = .ok (.getfield 7, 3) := dk_180 0 7 (dk_at dksX3_person_7 0 rfl rfl)
theorem dX3_person_166 : decode cX3_person 166 = .ok (.iconst 1, 1) := dk_4 (dk_at dksX3_person_7 3 rfl rfl)
theorem dX3_person_167 : decode cX3_person 167 = .ok (.iaload, 1) := dk_46 (dk_at dksX3_person_7 4 rfl rfl)
theorem dX3_person_168 : decode cX3_person 168 = .ok (.iload_n 1, 1) := dk_27 (dk_at dksX3_person_7 5 rfl rfl)
theorem dX3_person_169 : decode cX3_person 169 = .ok (.ishr, 1) := dk_122 (dk_at dksX3_person_7 6 rfl rfl)
theorem dX3_person_170 : decode cX3_person 170 = .ok (.iconst 1, 1) := dk_4 (dk_at dksX3_person_7 7 rfl rfl)
theorem dX3_person_171 : decode cX3_person 171 = .ok (.iand, 1) := dk_126 (dk_at dksX3_person_7 8 rfl rfl)
theorem dX3_person_172 : decode cX3_person 172 = .ok (.goto 14, 3) := dk_167 0 14 (dk_at dksX3_person_7 9 rfl rfl)
theorem dX3_person_175 : decode cX3_person 175 = .ok (.iload_n 2, 1) := dk_28 (dk_at dksX3_person_7 12 rfl rfl)
theorem dX3_person_176 : decode cX3_person 176 = .ok (.iconst 2, 1) := dk_5 (dk_at dksX3_person_7 13 rfl rfl)
theorem dX3_person_177 : decode cX3_person 177 = .ok (.if_icmp .ne 7, 3) := dk_160 0 7 (dk_at dksX3_person_7 14 rfl rfl)
theorem dX3_person_180 : decode cX3_person 180 = .ok (.iload_n 3, 1) := dk_29 (dk_at dksX3_person_7 17 rfl rfl)
theorem dX3_person_181 : decode cX3_person 181 = .ok (.goto 5, 3) := dk_167 0 5 (dk_at dksX3_person_7 18 rfl rfl)
theorem dX3_person_184 : decode cX3_person 184 = .ok (.iload 4, 2) := dk_21 4 (dk_at dksX3_person_7 21 rfl rfl)
theorem dX3_person_186 : decode cX3_person 186 = .ok (.ireturn, 1) := dk_172 (dk_at dksX3_person_7 23 rfl rfl)
abbrev cX3_reviewOf : ByteArray := prog_18_method_78_code
def yX3_reviewOf : MethodName := ⟨RX3, "reviewOf", "(II)I"⟩
def dkwX3_reviewOf_3 : List UInt8 := [100, 182, 0, 152, 172]
abbrev dktX3_reviewOf_3 : List UInt8 := dkwX3_reviewOf_3 ++ []
def dkwX3_reviewOf_2 : List UInt8 := [167, 0, 28, 28, 154, 0, 16, 42, 180, 0, 7, 17, 1, 114, 27, 96, 46, 167, 0, 11, 42, 27, 28, 4]
abbrev dktX3_reviewOf_2 : List UInt8 := dkwX3_reviewOf_2 ++ dktX3_reviewOf_3
def dkwX3_reviewOf_1 : List UInt8 := [3, 6, 184, 0, 72, 153, 0, 7, 3, 167, 0, 4, 5, 181, 0, 41, 42, 180, 0, 41, 158, 0, 7, 3]
abbrev dktX3_reviewOf_1 : List UInt8 := dkwX3_reviewOf_1 ++ dktX3_reviewOf_2
def dkwX3_reviewOf_0 : List UInt8 := [42, 27, 3, 42, 180, 0, 7, 17, 1, 113, 46, 4, 100, 184, 0, 72, 154, 0, 7, 4, 167, 0, 17, 28]
abbrev dktX3_reviewOf_0 : List UInt8 := dkwX3_reviewOf_0 ++ dktX3_reviewOf_1
theorem dksX3_reviewOf_0 : cX3_reviewOf.data.toList.drop 0 = dktX3_reviewOf_0 := by decide +kernel
theorem dksX3_reviewOf_1 : cX3_reviewOf.data.toList.drop 24 = dktX3_reviewOf_1 := dk_seg dksX3_reviewOf_0 24 rfl rfl
theorem dksX3_reviewOf_2 : cX3_reviewOf.data.toList.drop 48 = dktX3_reviewOf_2 := dk_seg dksX3_reviewOf_1 24 rfl rfl
theorem dksX3_reviewOf_3 : cX3_reviewOf.data.toList.drop 72 = dktX3_reviewOf_3 := dk_seg dksX3_reviewOf_2 24 rfl rfl
theorem dX3_reviewOf_0 : decode cX3_reviewOf 0 = .ok (.aload_n 0, 1) := dk_42 (dk_at dksX3_reviewOf_0 0 rfl rfl)
theorem dX3_reviewOf_1 : decode cX3_reviewOf 1 = .ok (.iload_n 1, 1) := dk_27 (dk_at dksX3_reviewOf_0 1 rfl rfl)
theorem dX3_reviewOf_2 : decode cX3_reviewOf 2 = .ok (.iconst 0, 1) := dk_3 (dk_at dksX3_reviewOf_0 2 rfl rfl)
theorem dX3_reviewOf_3 : decode cX3_reviewOf 3 = .ok (.aload_n 0, 1) := dk_42 (dk_at dksX3_reviewOf_0 3 rfl rfl)
theorem dX3_reviewOf_4 : decode cX3_reviewOf 4 = .ok (.getfield 7, 3) := dk_180 0 7 (dk_at dksX3_reviewOf_0 4 rfl rfl)
theorem dX3_reviewOf_7 : decode cX3_reviewOf 7 = .ok (.sipush 369, 3) := dk_17 1 113 (dk_at dksX3_reviewOf_0 7 rfl rfl)
theorem dX3_reviewOf_10 : decode cX3_reviewOf 10 = .ok (.iaload, 1) := dk_46 (dk_at dksX3_reviewOf_0 10 rfl rfl)
theorem dX3_reviewOf_11 : decode cX3_reviewOf 11 = .ok (.iconst 1, 1) := dk_4 (dk_at dksX3_reviewOf_0 11 rfl rfl)
theorem dX3_reviewOf_12 : decode cX3_reviewOf 12 = .ok (.isub, 1) := dk_100 (dk_at dksX3_reviewOf_0 12 rfl rfl)
theorem dX3_reviewOf_13 : decode cX3_reviewOf 13 = .ok (.invokestatic 72, 3) := dk_184 0 72 (dk_at dksX3_reviewOf_0 13 rfl rfl)
theorem dX3_reviewOf_16 : decode cX3_reviewOf 16 = .ok (.ifCond .ne 7, 3) := dk_154 0 7 (dk_at dksX3_reviewOf_0 16 rfl rfl)
theorem dX3_reviewOf_19 : decode cX3_reviewOf 19 = .ok (.iconst 1, 1) := dk_4 (dk_at dksX3_reviewOf_0 19 rfl rfl)
theorem dX3_reviewOf_20 : decode cX3_reviewOf 20 = .ok (.goto 17, 3) := dk_167 0 17 (dk_at dksX3_reviewOf_0 20 rfl rfl)
theorem dX3_reviewOf_23 : decode cX3_reviewOf 23 = .ok (.iload_n 2, 1) := dk_28 (dk_at dksX3_reviewOf_0 23 rfl rfl)
theorem dX3_reviewOf_24 : decode cX3_reviewOf 24 = .ok (.iconst 0, 1) := dk_3 (dk_at dksX3_reviewOf_1 0 rfl rfl)
theorem dX3_reviewOf_25 : decode cX3_reviewOf 25 = .ok (.iconst 3, 1) := dk_6 (dk_at dksX3_reviewOf_1 1 rfl rfl)
theorem dX3_reviewOf_26 : decode cX3_reviewOf 26 = .ok (.invokestatic 72, 3) := dk_184 0 72 (dk_at dksX3_reviewOf_1 2 rfl rfl)
theorem dX3_reviewOf_29 : decode cX3_reviewOf 29 = .ok (.ifCond .eq 7, 3) := dk_153 0 7 (dk_at dksX3_reviewOf_1 5 rfl rfl)
theorem dX3_reviewOf_32 : decode cX3_reviewOf 32 = .ok (.iconst 0, 1) := dk_3 (dk_at dksX3_reviewOf_1 8 rfl rfl)
theorem dX3_reviewOf_33 : decode cX3_reviewOf 33 = .ok (.goto 4, 3) := dk_167 0 4 (dk_at dksX3_reviewOf_1 9 rfl rfl)
theorem dX3_reviewOf_36 : decode cX3_reviewOf 36 = .ok (.iconst 2, 1) := dk_5 (dk_at dksX3_reviewOf_1 12 rfl rfl)
theorem dX3_reviewOf_37 : decode cX3_reviewOf 37 = .ok (.putfield 41, 3) := dk_181 0 41 (dk_at dksX3_reviewOf_1 13 rfl rfl)
theorem dX3_reviewOf_40 : decode cX3_reviewOf 40 = .ok (.aload_n 0, 1) := dk_42 (dk_at dksX3_reviewOf_1 16 rfl rfl)
theorem dX3_reviewOf_41 : decode cX3_reviewOf 41 = .ok (.getfield 41, 3) := dk_180 0 41 (dk_at dksX3_reviewOf_1 17 rfl rfl)
theorem dX3_reviewOf_44 : decode cX3_reviewOf 44 = .ok (.ifCond .le 7, 3) := dk_158 0 7 (dk_at dksX3_reviewOf_1 20 rfl rfl)
theorem dX3_reviewOf_47 : decode cX3_reviewOf 47 = .ok (.iconst 0, 1) := dk_3 (dk_at dksX3_reviewOf_1 23 rfl rfl)
theorem dX3_reviewOf_48 : decode cX3_reviewOf 48 = .ok (.goto 28, 3) := dk_167 0 28 (dk_at dksX3_reviewOf_2 0 rfl rfl)
theorem dX3_reviewOf_51 : decode cX3_reviewOf 51 = .ok (.iload_n 2, 1) := dk_28 (dk_at dksX3_reviewOf_2 3 rfl rfl)
theorem dX3_reviewOf_52 : decode cX3_reviewOf 52 = .ok (.ifCond .ne 16, 3) := dk_154 0 16 (dk_at dksX3_reviewOf_2 4 rfl rfl)
theorem dX3_reviewOf_55 : decode cX3_reviewOf 55 = .ok (.aload_n 0, 1) := dk_42 (dk_at dksX3_reviewOf_2 7 rfl rfl)
theorem dX3_reviewOf_56 : decode cX3_reviewOf 56 = .ok (.getfield 7, 3) := dk_180 0 7 (dk_at dksX3_reviewOf_2 8 rfl rfl)
theorem dX3_reviewOf_59 : decode cX3_reviewOf 59 = .ok (.sipush 370, 3) := dk_17 1 114 (dk_at dksX3_reviewOf_2 11 rfl rfl)
theorem dX3_reviewOf_62 : decode cX3_reviewOf 62 = .ok (.iload_n 1, 1) := dk_27 (dk_at dksX3_reviewOf_2 14 rfl rfl)
theorem dX3_reviewOf_63 : decode cX3_reviewOf 63 = .ok (.iadd, 1) := dk_96 (dk_at dksX3_reviewOf_2 15 rfl rfl)
theorem dX3_reviewOf_64 : decode cX3_reviewOf 64 = .ok (.iaload, 1) := dk_46 (dk_at dksX3_reviewOf_2 16 rfl rfl)
theorem dX3_reviewOf_65 : decode cX3_reviewOf 65 = .ok (.goto 11, 3) := dk_167 0 11 (dk_at dksX3_reviewOf_2 17 rfl rfl)
theorem dX3_reviewOf_68 : decode cX3_reviewOf 68 = .ok (.aload_n 0, 1) := dk_42 (dk_at dksX3_reviewOf_2 20 rfl rfl)
theorem dX3_reviewOf_69 : decode cX3_reviewOf 69 = .ok (.iload_n 1, 1) := dk_27 (dk_at dksX3_reviewOf_2 21 rfl rfl)
theorem dX3_reviewOf_70 : decode cX3_reviewOf 70 = .ok (.iload_n 2, 1) := dk_28 (dk_at dksX3_reviewOf_2 22 rfl rfl)
theorem dX3_reviewOf_71 : decode cX3_reviewOf 71 = .ok (.iconst 1, 1) := dk_4 (dk_at dksX3_reviewOf_2 23 rfl rfl)
theorem dX3_reviewOf_72 : decode cX3_reviewOf 72 = .ok (.isub, 1) := dk_100 (dk_at dksX3_reviewOf_3 0 rfl rfl)
theorem dX3_reviewOf_73 : decode cX3_reviewOf 73 = .ok (.invokevirtual 152, 3) := dk_182 0 152 (dk_at dksX3_reviewOf_3 1 rfl rfl)
theorem dX3_reviewOf_76 : decode cX3_reviewOf 76 = .ok (.ireturn, 1) := dk_172 (dk_at dksX3_reviewOf_3 4 rfl rfl)
abbrev cX3_event : ByteArray := prog_18_method_79_code
def yX3_event : MethodName := ⟨RX3, "event", "(II)I"⟩
def dkwX3_event_2 : List UInt8 := [167, 0, 17, 42, 180, 0, 7, 17, 1, 204, 7, 27, 104, 96, 28, 96, 46, 172]
abbrev dktX3_event_2 : List UInt8 := dkwX3_event_2 ++ []
def dkwX3_event_1 : List UInt8 := [3, 6, 184, 0, 72, 153, 0, 7, 3, 167, 0, 4, 5, 181, 0, 41, 42, 180, 0, 41, 158, 0, 7, 3]
abbrev dktX3_event_1 : List UInt8 := dkwX3_event_1 ++ dktX3_event_2
def dkwX3_event_0 : List UInt8 := [42, 27, 3, 42, 180, 0, 7, 17, 1, 203, 46, 4, 100, 184, 0, 72, 154, 0, 7, 4, 167, 0, 17, 28]
abbrev dktX3_event_0 : List UInt8 := dkwX3_event_0 ++ dktX3_event_1
theorem dksX3_event_0 : cX3_event.data.toList.drop 0 = dktX3_event_0 := by decide +kernel
theorem dksX3_event_1 : cX3_event.data.toList.drop 24 = dktX3_event_1 := dk_seg dksX3_event_0 24 rfl rfl
theorem dksX3_event_2 : cX3_event.data.toList.drop 48 = dktX3_event_2 := dk_seg dksX3_event_1 24 rfl rfl
theorem dX3_event_0 : decode cX3_event 0 = .ok (.aload_n 0, 1) := dk_42 (dk_at dksX3_event_0 0 rfl rfl)
theorem dX3_event_1 : decode cX3_event 1 = .ok (.iload_n 1, 1) := dk_27 (dk_at dksX3_event_0 1 rfl rfl)
theorem dX3_event_2 : decode cX3_event 2 = .ok (.iconst 0, 1) := dk_3 (dk_at dksX3_event_0 2 rfl rfl)
theorem dX3_event_3 : decode cX3_event 3 = .ok (.aload_n 0, 1) := dk_42 (dk_at dksX3_event_0 3 rfl rfl)
theorem dX3_event_4 : decode cX3_event 4 = .ok (.getfield 7, 3) := dk_180 0 7 (dk_at dksX3_event_0 4 rfl rfl)
theorem dX3_event_7 : decode cX3_event 7 = .ok (.sipush 459, 3) := dk_17 1 203 (dk_at dksX3_event_0 7 rfl rfl)
theorem dX3_event_10 : decode cX3_event 10 = .ok (.iaload, 1) := dk_46 (dk_at dksX3_event_0 10 rfl rfl)
theorem dX3_event_11 : decode cX3_event 11 = .ok (.iconst 1, 1) := dk_4 (dk_at dksX3_event_0 11 rfl rfl)
theorem dX3_event_12 : decode cX3_event 12 = .ok (.isub, 1) := dk_100 (dk_at dksX3_event_0 12 rfl rfl)
theorem dX3_event_13 : decode cX3_event 13 = .ok (.invokestatic 72, 3) := dk_184 0 72 (dk_at dksX3_event_0 13 rfl rfl)
theorem dX3_event_16 : decode cX3_event 16 = .ok (.ifCond .ne 7, 3) := dk_154 0 7 (dk_at dksX3_event_0 16 rfl rfl)
theorem dX3_event_19 : decode cX3_event 19 = .ok (.iconst 1, 1) := dk_4 (dk_at dksX3_event_0 19 rfl rfl)
theorem dX3_event_20 : decode cX3_event 20 = .ok (.goto 17, 3) := dk_167 0 17 (dk_at dksX3_event_0 20 rfl rfl)
theorem dX3_event_23 : decode cX3_event 23 = .ok (.iload_n 2, 1) := dk_28 (dk_at dksX3_event_0 23 rfl rfl)
theorem dX3_event_24 : decode cX3_event 24 = .ok (.iconst 0, 1) := dk_3 (dk_at dksX3_event_1 0 rfl rfl)
theorem dX3_event_25 : decode cX3_event 25 = .ok (.iconst 3, 1) := dk_6 (dk_at dksX3_event_1 1 rfl rfl)
theorem dX3_event_26 : decode cX3_event 26 = .ok (.invokestatic 72, 3) := dk_184 0 72 (dk_at dksX3_event_1 2 rfl rfl)
theorem dX3_event_29 : decode cX3_event 29 = .ok (.ifCond .eq 7, 3) := dk_153 0 7 (dk_at dksX3_event_1 5 rfl rfl)
theorem dX3_event_32 : decode cX3_event 32 = .ok (.iconst 0, 1) := dk_3 (dk_at dksX3_event_1 8 rfl rfl)
theorem dX3_event_33 : decode cX3_event 33 = .ok (.goto 4, 3) := dk_167 0 4 (dk_at dksX3_event_1 9 rfl rfl)
theorem dX3_event_36 : decode cX3_event 36 = .ok (.iconst 2, 1) := dk_5 (dk_at dksX3_event_1 12 rfl rfl)
theorem dX3_event_37 : decode cX3_event 37 = .ok (.putfield 41, 3) := dk_181 0 41 (dk_at dksX3_event_1 13 rfl rfl)
theorem dX3_event_40 : decode cX3_event 40 = .ok (.aload_n 0, 1) := dk_42 (dk_at dksX3_event_1 16 rfl rfl)
theorem dX3_event_41 : decode cX3_event 41 = .ok (.getfield 41, 3) := dk_180 0 41 (dk_at dksX3_event_1 17 rfl rfl)
theorem dX3_event_44 : decode cX3_event 44 = .ok (.ifCond .le 7, 3) := dk_158 0 7 (dk_at dksX3_event_1 20 rfl rfl)
theorem dX3_event_47 : decode cX3_event 47 = .ok (.iconst 0, 1) := dk_3 (dk_at dksX3_event_1 23 rfl rfl)
theorem dX3_event_48 : decode cX3_event 48 = .ok (.goto 17, 3) := dk_167 0 17 (dk_at dksX3_event_2 0 rfl rfl)
theorem dX3_event_51 : decode cX3_event 51 = .ok (.aload_n 0, 1) := dk_42 (dk_at dksX3_event_2 3 rfl rfl)
theorem dX3_event_52 : decode cX3_event 52 = .ok (.getfield 7, 3) := dk_180 0 7 (dk_at dksX3_event_2 4 rfl rfl)
theorem dX3_event_55 : decode cX3_event 55 = .ok (.sipush 460, 3) := dk_17 1 204 (dk_at dksX3_event_2 7 rfl rfl)
theorem dX3_event_58 : decode cX3_event 58 = .ok (.iconst 4, 1) := dk_7 (dk_at dksX3_event_2 10 rfl rfl)
theorem dX3_event_59 : decode cX3_event 59 = .ok (.iload_n 1, 1) := dk_27 (dk_at dksX3_event_2 11 rfl rfl)
theorem dX3_event_60 : decode cX3_event 60 = .ok (.imul, 1) := dk_104 (dk_at dksX3_event_2 12 rfl rfl)
theorem dX3_event_61 : decode cX3_event 61 = .ok (.iadd, 1) := dk_96 (dk_at dksX3_event_2 13 rfl rfl)
theorem dX3_event_62 : decode cX3_event 62 = .ok (.iload_n 2, 1) := dk_28 (dk_at dksX3_event_2 14 rfl rfl)
theorem dX3_event_63 : decode cX3_event 63 = .ok (.iadd, 1) := dk_96 (dk_at dksX3_event_2 15 rfl rfl)
theorem dX3_event_64 : decode cX3_event 64 = .ok (.iaload, 1) := dk_46 (dk_at dksX3_event_2 16 rfl rfl)
theorem dX3_event_65 : decode cX3_event 65 = .ok (.ireturn, 1) := dk_172 (dk_at dksX3_event_2 17 rfl rfl)
abbrev cX3_letter : ByteArray := prog_18_method_80_code
def yX3_letter : MethodName := ⟨RX3, "letter", "(I)C"⟩
def dkwX3_letter_5 : List UInt8 := [16, 82, 172, 16, 67, 172]
abbrev dktX3_letter_5 : List UInt8 := dkwX3_letter_5 ++ []
def dkwX3_letter_4 : List UInt8 := [28, 153, 0, 8, 16, 111, 167, 0, 5, 16, 79, 172, 28, 153, 0, 8, 16, 115, 167, 0, 5, 16, 83, 172]
abbrev dktX3_letter_4 : List UInt8 := dkwX3_letter_4 ++ dktX3_letter_5
def dkwX3_letter_3 : List UInt8 := [170, 0, 0, 0, 0, 53, 0, 0, 0, 0, 0, 0, 0, 2, 0, 0, 0, 26, 0, 0, 0, 38, 0, 0, 0, 50]
abbrev dktX3_letter_3 : List UInt8 := dkwX3_letter_3 ++ dktX3_letter_4
def dkwX3_letter_2 : List UInt8 := [182, 0, 80]
abbrev dktX3_letter_2 : List UInt8 := dkwX3_letter_2 ++ dktX3_letter_3
def dkwX3_letter_1 : List UInt8 := [16, 97, 172, 42, 27, 16, 11, 182, 0, 80, 4, 160, 0, 7, 4, 167, 0, 4, 3, 61, 42, 27, 6]
abbrev dktX3_letter_1 : List UInt8 := dkwX3_letter_1 ++ dktX3_letter_2
def dkwX3_letter_0 : List UInt8 := [42, 42, 27, 182, 0, 118, 153, 0, 7, 3, 167, 0, 4, 4, 181, 0, 41, 42, 180, 0, 41, 158, 0, 6]
abbrev dktX3_letter_0 : List UInt8 := dkwX3_letter_0 ++ dktX3_letter_1
theorem dksX3_letter_0 : cX3_letter.data.toList.drop 0 = dktX3_letter_0 := by decide +kernel
theorem dksX3_letter_1 : cX3_letter.data.toList.drop 24 = dktX3_letter_1 := dk_seg dksX3_letter_0 24 rfl rfl
theorem dksX3_letter_2 : cX3_letter.data.toList.drop 47 = dktX3_letter_2 := dk_seg dksX3_letter_1 23 rfl rfl
theorem dksX3_letter_3 : cX3_letter.data.toList.drop 50 = dktX3_letter_3 := dk_seg dksX3_letter_2 3 rfl rfl
theorem dksX3_letter_4 : cX3_letter.data.toList.drop 76 = dktX3_letter_4 := dk_seg dksX3_letter_3 26 rfl rfl
theorem dksX3_letter_5 : cX3_letter.data.toList.drop 100 = dktX3_letter_5 := dk_seg dksX3_letter_4 24 rfl rfl
theorem dX3_letter_0 : decode cX3_letter 0 = .ok (.aload_n 0, 1) := dk_42 (dk_at dksX3_letter_0 0 rfl rfl)
theorem dX3_letter_1 : decode cX3_letter 1 = .ok (.aload_n 0, 1) := dk_42 (dk_at dksX3_letter_0 1 rfl rfl)
theorem dX3_letter_2 : decode cX3_letter 2 = .ok (.iload_n 1, 1) := dk_27 (dk_at dksX3_letter_0 2 rfl rfl)
theorem dX3_letter_3 : decode cX3_letter 3 = .ok (.invokevirtual 118, 3) := dk_182 0 118 (dk_at dksX3_letter_0 3 rfl rfl)
theorem dX3_letter_6 : decode cX3_letter 6 = .ok (.ifCond .eq 7, 3) := dk_153 0 7 (dk_at dksX3_letter_0 6 rfl rfl)
theorem dX3_letter_9 : decode cX3_letter 9 = .ok (.iconst 0, 1) := dk_3 (dk_at dksX3_letter_0 9 rfl rfl)
theorem dX3_letter_10 : decode cX3_letter 10 = .ok (.goto 4, 3) := dk_167 0 4 (dk_at dksX3_letter_0 10 rfl rfl)
theorem dX3_letter_13 : decode cX3_letter 13 = .ok (.iconst 1, 1) := dk_4 (dk_at dksX3_letter_0 13 rfl rfl)
theorem dX3_letter_14 : decode cX3_letter 14 = .ok (.putfield 41, 3) := dk_181 0 41 (dk_at dksX3_letter_0 14 rfl rfl)
theorem dX3_letter_17 : decode cX3_letter 17 = .ok (.aload_n 0, 1) := dk_42 (dk_at dksX3_letter_0 17 rfl rfl)
theorem dX3_letter_18 : decode cX3_letter 18 = .ok (.getfield 41, 3) := dk_180 0 41 (dk_at dksX3_letter_0 18 rfl rfl)
theorem dX3_letter_21 : decode cX3_letter 21 = .ok (.ifCond .le 6, 3) := dk_158 0 6 (dk_at dksX3_letter_0 21 rfl rfl)
theorem dX3_letter_24 : decode cX3_letter 24 = .ok (.bipush 97, 2) := dk_16 97 (dk_at dksX3_letter_1 0 rfl rfl)
theorem dX3_letter_26 : decode cX3_letter 26 = .ok (.ireturn, 1) := dk_172 (dk_at dksX3_letter_1 2 rfl rfl)
theorem dX3_letter_27 : decode cX3_letter 27 = .ok (.aload_n 0, 1) := dk_42 (dk_at dksX3_letter_1 3 rfl rfl)
theorem dX3_letter_28 : decode cX3_letter 28 = .ok (.iload_n 1, 1) := dk_27 (dk_at dksX3_letter_1 4 rfl rfl)
theorem dX3_letter_29 : decode cX3_letter 29 = .ok (.bipush 11, 2) := dk_16 11 (dk_at dksX3_letter_1 5 rfl rfl)
theorem dX3_letter_31 : decode cX3_letter 31 = .ok (.invokevirtual 80, 3) := dk_182 0 80 (dk_at dksX3_letter_1 7 rfl rfl)
theorem dX3_letter_34 : decode cX3_letter 34 = .ok (.iconst 1, 1) := dk_4 (dk_at dksX3_letter_1 10 rfl rfl)
theorem dX3_letter_35 : decode cX3_letter 35 = .ok (.if_icmp .ne 7, 3) := dk_160 0 7 (dk_at dksX3_letter_1 11 rfl rfl)
theorem dX3_letter_38 : decode cX3_letter 38 = .ok (.iconst 1, 1) := dk_4 (dk_at dksX3_letter_1 14 rfl rfl)
theorem dX3_letter_39 : decode cX3_letter 39 = .ok (.goto 4, 3) := dk_167 0 4 (dk_at dksX3_letter_1 15 rfl rfl)
theorem dX3_letter_42 : decode cX3_letter 42 = .ok (.iconst 0, 1) := dk_3 (dk_at dksX3_letter_1 18 rfl rfl)
theorem dX3_letter_43 : decode cX3_letter 43 = .ok (.istore_n 2, 1) := dk_61 (dk_at dksX3_letter_1 19 rfl rfl)
theorem dX3_letter_44 : decode cX3_letter 44 = .ok (.aload_n 0, 1) := dk_42 (dk_at dksX3_letter_1 20 rfl rfl)
theorem dX3_letter_45 : decode cX3_letter 45 = .ok (.iload_n 1, 1) := dk_27 (dk_at dksX3_letter_1 21 rfl rfl)
theorem dX3_letter_46 : decode cX3_letter 46 = .ok (.iconst 3, 1) := dk_6 (dk_at dksX3_letter_1 22 rfl rfl)
theorem dX3_letter_47 : decode cX3_letter 47 = .ok (.invokevirtual 80, 3) := dk_182 0 80 (dk_at dksX3_letter_2 0 rfl rfl)
theorem dX3_letter_50 : decode cX3_letter 50 = .ok (.tableswitch 53 0 2 #[26, 38, 50], 26) := by decide +kernel
theorem dX3_letter_76 : decode cX3_letter 76 = .ok (.iload_n 2, 1) := dk_28 (dk_at dksX3_letter_4 0 rfl rfl)
theorem dX3_letter_77 : decode cX3_letter 77 = .ok (.ifCond .eq 8, 3) := dk_153 0 8 (dk_at dksX3_letter_4 1 rfl rfl)
theorem dX3_letter_80 : decode cX3_letter 80 = .ok (.bipush 111, 2) := dk_16 111 (dk_at dksX3_letter_4 4 rfl rfl)
theorem dX3_letter_82 : decode cX3_letter 82 = .ok (.goto 5, 3) := dk_167 0 5 (dk_at dksX3_letter_4 6 rfl rfl)
theorem dX3_letter_85 : decode cX3_letter 85 = .ok (.bipush 79, 2) := dk_16 79 (dk_at dksX3_letter_4 9 rfl rfl)
theorem dX3_letter_87 : decode cX3_letter 87 = .ok (.ireturn, 1) := dk_172 (dk_at dksX3_letter_4 11 rfl rfl)
theorem dX3_letter_88 : decode cX3_letter 88 = .ok (.iload_n 2, 1) := dk_28 (dk_at dksX3_letter_4 12 rfl rfl)
theorem dX3_letter_89 : decode cX3_letter 89 = .ok (.ifCond .eq 8, 3) := dk_153 0 8 (dk_at dksX3_letter_4 13 rfl rfl)
theorem dX3_letter_92 : decode cX3_letter 92 = .ok (.bipush 115, 2) := dk_16 115 (dk_at dksX3_letter_4 16 rfl rfl)
theorem dX3_letter_94 : decode cX3_letter 94 = .ok (.goto 5, 3) := dk_167 0 5 (dk_at dksX3_letter_4 18 rfl rfl)
theorem dX3_letter_97 : decode cX3_letter 97 = .ok (.bipush 83, 2) := dk_16 83 (dk_at dksX3_letter_4 21 rfl rfl)
theorem dX3_letter_99 : decode cX3_letter 99 = .ok (.ireturn, 1) := dk_172 (dk_at dksX3_letter_4 23 rfl rfl)
theorem dX3_letter_100 : decode cX3_letter 100 = .ok (.bipush 82, 2) := dk_16 82 (dk_at dksX3_letter_5 0 rfl rfl)
theorem dX3_letter_102 : decode cX3_letter 102 = .ok (.ireturn, 1) := dk_172 (dk_at dksX3_letter_5 2 rfl rfl)
theorem dX3_letter_103 : decode cX3_letter 103 = .ok (.bipush 67, 2) := dk_16 67 (dk_at dksX3_letter_5 3 rfl rfl)
theorem dX3_letter_105 : decode cX3_letter 105 = .ok (.ireturn, 1) := dk_172 (dk_at dksX3_letter_5 5 rfl rfl)
abbrev cX3_stoppedShare : ByteArray := prog_18_method_81_code
def yX3_stoppedShare : MethodName := ⟨RX3, "stoppedShare", "(I)F"⟩
def dkwX3_stoppedShare_3 : List UInt8 := [134, 110, 174]
abbrev dktX3_stoppedShare_3 : List UInt8 := dkwX3_stoppedShare_3 ++ []
def dkwX3_stoppedShare_2 : List UInt8 := [167, 0, 26, 42, 27, 16, 17, 182, 0, 80, 134, 42, 180, 0, 7, 3, 46, 42, 27, 7, 182, 0, 80, 100]
abbrev dktX3_stoppedShare_2 : List UInt8 := dkwX3_stoppedShare_2 ++ dktX3_stoppedShare_3
def dkwX3_stoppedShare_1 : List UInt8 := [182, 0, 80, 160, 0, 7, 5, 167, 0, 4, 3, 181, 0, 41, 42, 180, 0, 41, 158, 0, 7, 11]
abbrev dktX3_stoppedShare_1 : List UInt8 := dkwX3_stoppedShare_1 ++ dktX3_stoppedShare_2
def dkwX3_stoppedShare_0 : List UInt8 := [42, 42, 27, 182, 0, 118, 154, 0, 7, 4, 167, 0, 23, 42, 180, 0, 7, 3, 46, 42, 27, 7]
abbrev dktX3_stoppedShare_0 : List UInt8 := dkwX3_stoppedShare_0 ++ dktX3_stoppedShare_1
theorem dksX3_stoppedShare_0 : cX3_stoppedShare.data.toList.drop 0 = dktX3_stoppedShare_0 := by decide +kernel
theorem dksX3_stoppedShare_1 : cX3_stoppedShare.data.toList.drop 22 = dktX3_stoppedShare_1 := dk_seg dksX3_stoppedShare_0 22 rfl rfl
theorem dksX3_stoppedShare_2 : cX3_stoppedShare.data.toList.drop 44 = dktX3_stoppedShare_2 := dk_seg dksX3_stoppedShare_1 22 rfl rfl
theorem dksX3_stoppedShare_3 : cX3_stoppedShare.data.toList.drop 68 = dktX3_stoppedShare_3 := dk_seg dksX3_stoppedShare_2 24 rfl rfl
theorem dX3_stoppedShare_0 : decode cX3_stoppedShare 0 = .ok (.aload_n 0, 1) := dk_42 (dk_at dksX3_stoppedShare_0 0 rfl rfl)
theorem dX3_stoppedShare_1 : decode cX3_stoppedShare 1 = .ok (.aload_n 0, 1) := dk_42 (dk_at dksX3_stoppedShare_0 1 rfl rfl)
theorem dX3_stoppedShare_2 : decode cX3_stoppedShare 2 = .ok (.iload_n 1, 1) := dk_27 (dk_at dksX3_stoppedShare_0 2 rfl rfl)
theorem dX3_stoppedShare_3 : decode cX3_stoppedShare 3 = .ok (.invokevirtual 118, 3) := dk_182 0 118 (dk_at dksX3_stoppedShare_0 3 rfl rfl)
theorem dX3_stoppedShare_6 : decode cX3_stoppedShare 6 = .ok (.ifCond .ne 7, 3) := dk_154 0 7 (dk_at dksX3_stoppedShare_0 6 rfl rfl)
theorem dX3_stoppedShare_9 : decode cX3_stoppedShare 9 = .ok (.iconst 1, 1) := dk_4 (dk_at dksX3_stoppedShare_0 9 rfl rfl)
theorem dX3_stoppedShare_10 : decode cX3_stoppedShare 10 = .ok (.goto 23, 3) := dk_167 0 23 (dk_at dksX3_stoppedShare_0 10 rfl rfl)
theorem dX3_stoppedShare_13 : decode cX3_stoppedShare 13 = .ok (.aload_n 0, 1) := dk_42 (dk_at dksX3_stoppedShare_0 13 rfl rfl)
theorem dX3_stoppedShare_14 : decode cX3_stoppedShare 14 = .ok (.getfield 7, 3) := dk_180 0 7 (dk_at dksX3_stoppedShare_0 14 rfl rfl)
theorem dX3_stoppedShare_17 : decode cX3_stoppedShare 17 = .ok (.iconst 0, 1) := dk_3 (dk_at dksX3_stoppedShare_0 17 rfl rfl)
theorem dX3_stoppedShare_18 : decode cX3_stoppedShare 18 = .ok (.iaload, 1) := dk_46 (dk_at dksX3_stoppedShare_0 18 rfl rfl)
theorem dX3_stoppedShare_19 : decode cX3_stoppedShare 19 = .ok (.aload_n 0, 1) := dk_42 (dk_at dksX3_stoppedShare_0 19 rfl rfl)
theorem dX3_stoppedShare_20 : decode cX3_stoppedShare 20 = .ok (.iload_n 1, 1) := dk_27 (dk_at dksX3_stoppedShare_0 20 rfl rfl)
theorem dX3_stoppedShare_21 : decode cX3_stoppedShare 21 = .ok (.iconst 4, 1) := dk_7 (dk_at dksX3_stoppedShare_0 21 rfl rfl)
theorem dX3_stoppedShare_22 : decode cX3_stoppedShare 22 = .ok (.invokevirtual 80, 3) := dk_182 0 80 (dk_at dksX3_stoppedShare_1 0 rfl rfl)
theorem dX3_stoppedShare_25 : decode cX3_stoppedShare 25 = .ok (.if_icmp .ne 7, 3) := dk_160 0 7 (dk_at dksX3_stoppedShare_1 3 rfl rfl)
theorem dX3_stoppedShare_28 : decode cX3_stoppedShare 28 = .ok (.iconst 2, 1) := dk_5 (dk_at dksX3_stoppedShare_1 6 rfl rfl)
theorem dX3_stoppedShare_29 : decode cX3_stoppedShare 29 = .ok (.goto 4, 3) := dk_167 0 4 (dk_at dksX3_stoppedShare_1 7 rfl rfl)
theorem dX3_stoppedShare_32 : decode cX3_stoppedShare 32 = .ok (.iconst 0, 1) := dk_3 (dk_at dksX3_stoppedShare_1 10 rfl rfl)
theorem dX3_stoppedShare_33 : decode cX3_stoppedShare 33 = .ok (.putfield 41, 3) := dk_181 0 41 (dk_at dksX3_stoppedShare_1 11 rfl rfl)
theorem dX3_stoppedShare_36 : decode cX3_stoppedShare 36 = .ok (.aload_n 0, 1) := dk_42 (dk_at dksX3_stoppedShare_1 14 rfl rfl)
theorem dX3_stoppedShare_37 : decode cX3_stoppedShare 37 = .ok (.getfield 41, 3) := dk_180 0 41 (dk_at dksX3_stoppedShare_1 15 rfl rfl)
theorem dX3_stoppedShare_40 : decode cX3_stoppedShare 40 = .ok (.ifCond .le 7, 3) := dk_158 0 7 (dk_at dksX3_stoppedShare_1 18 rfl rfl)
theorem dX3_stoppedShare_43 : decode cX3_stoppedShare 43 = .ok (.fconst 0, 1) := dk_11 (dk_at dksX3_stoppedShare_1 21 rfl rfl)
theorem dX3_stoppedShare_44 : decode cX3_stoppedShare 44 = .ok (.goto 26, 3) := dk_167 0 26 (dk_at dksX3_stoppedShare_2 0 rfl rfl)
theorem dX3_stoppedShare_47 : decode cX3_stoppedShare 47 = .ok (.aload_n 0, 1) := dk_42 (dk_at dksX3_stoppedShare_2 3 rfl rfl)
theorem dX3_stoppedShare_48 : decode cX3_stoppedShare 48 = .ok (.iload_n 1, 1) := dk_27 (dk_at dksX3_stoppedShare_2 4 rfl rfl)
theorem dX3_stoppedShare_49 : decode cX3_stoppedShare 49 = .ok (.bipush 17, 2) := dk_16 17 (dk_at dksX3_stoppedShare_2 5 rfl rfl)
theorem dX3_stoppedShare_51 : decode cX3_stoppedShare 51 = .ok (.invokevirtual 80, 3) := dk_182 0 80 (dk_at dksX3_stoppedShare_2 7 rfl rfl)
theorem dX3_stoppedShare_54 : decode cX3_stoppedShare 54 = .ok (.i2f, 1) := dk_134 (dk_at dksX3_stoppedShare_2 10 rfl rfl)
theorem dX3_stoppedShare_55 : decode cX3_stoppedShare 55 = .ok (.aload_n 0, 1) := dk_42 (dk_at dksX3_stoppedShare_2 11 rfl rfl)
theorem dX3_stoppedShare_56 : decode cX3_stoppedShare 56 = .ok (.getfield 7, 3) := dk_180 0 7 (dk_at dksX3_stoppedShare_2 12 rfl rfl)
theorem dX3_stoppedShare_59 : decode cX3_stoppedShare 59 = .ok (.iconst 0, 1) := dk_3 (dk_at dksX3_stoppedShare_2 15 rfl rfl)
theorem dX3_stoppedShare_60 : decode cX3_stoppedShare 60 = .ok (.iaload, 1) := dk_46 (dk_at dksX3_stoppedShare_2 16 rfl rfl)
theorem dX3_stoppedShare_61 : decode cX3_stoppedShare 61 = .ok (.aload_n 0, 1) := dk_42 (dk_at dksX3_stoppedShare_2 17 rfl rfl)
theorem dX3_stoppedShare_62 : decode cX3_stoppedShare 62 = .ok (.iload_n 1, 1) := dk_27 (dk_at dksX3_stoppedShare_2 18 rfl rfl)
theorem dX3_stoppedShare_63 : decode cX3_stoppedShare 63 = .ok (.iconst 4, 1) := dk_7 (dk_at dksX3_stoppedShare_2 19 rfl rfl)
theorem dX3_stoppedShare_64 : decode cX3_stoppedShare 64 = .ok (.invokevirtual 80, 3) := dk_182 0 80 (dk_at dksX3_stoppedShare_2 20 rfl rfl)
theorem dX3_stoppedShare_67 : decode cX3_stoppedShare 67 = .ok (.isub, 1) := dk_100 (dk_at dksX3_stoppedShare_2 23 rfl rfl)
theorem dX3_stoppedShare_68 : decode cX3_stoppedShare 68 = .ok (.i2f, 1) := dk_134 (dk_at dksX3_stoppedShare_3 0 rfl rfl)
theorem dX3_stoppedShare_69 : decode cX3_stoppedShare 69 = .ok (.fdiv, 1) := dk_110 (dk_at dksX3_stoppedShare_3 1 rfl rfl)
theorem dX3_stoppedShare_70 : decode cX3_stoppedShare 70 = .ok (.freturn, 1) := dk_174 (dk_at dksX3_stoppedShare_3 2 rfl rfl)
abbrev cX3_meanClock : ByteArray := prog_18_method_82_code
def yX3_meanClock : MethodName := ⟨RX3, "meanClock", "()D"⟩
def dkwX3_meanClock_3 : List UInt8 := [180, 0, 41, 158, 0, 7, 14, 167, 0, 8, 28, 135, 27, 135, 111, 175]
abbrev dktX3_meanClock_3 : List UInt8 := dkwX3_meanClock_3 ++ []
def dkwX3_meanClock_2 : List UInt8 := [153, 0, 7, 3, 167, 0, 9, 42, 29, 8, 182, 0, 80, 96, 61, 132, 3, 1, 167, 255, 221, 42]
abbrev dktX3_meanClock_2 : List UInt8 := dkwX3_meanClock_2 ++ dktX3_meanClock_3
def dkwX3_meanClock_1 : List UInt8 := [181, 0, 41, 3, 61, 3, 62, 29, 42, 180, 0, 7, 16, 11, 46, 162, 0, 30, 28, 42, 29, 182, 0, 100]
abbrev dktX3_meanClock_1 : List UInt8 := dkwX3_meanClock_1 ++ dktX3_meanClock_2
def dkwX3_meanClock_0 : List UInt8 := [42, 5, 182, 0, 142, 42, 6, 182, 0, 142, 96, 60, 42, 27, 154, 0, 7, 4, 167, 0, 4, 3]
abbrev dktX3_meanClock_0 : List UInt8 := dkwX3_meanClock_0 ++ dktX3_meanClock_1
theorem dksX3_meanClock_0 : cX3_meanClock.data.toList.drop 0 = dktX3_meanClock_0 := by decide +kernel
theorem dksX3_meanClock_1 : cX3_meanClock.data.toList.drop 22 = dktX3_meanClock_1 := dk_seg dksX3_meanClock_0 22 rfl rfl
theorem dksX3_meanClock_2 : cX3_meanClock.data.toList.drop 46 = dktX3_meanClock_2 := dk_seg dksX3_meanClock_1 24 rfl rfl
theorem dksX3_meanClock_3 : cX3_meanClock.data.toList.drop 68 = dktX3_meanClock_3 := dk_seg dksX3_meanClock_2 22 rfl rfl
theorem dX3_meanClock_0 : decode cX3_meanClock 0 = .ok (.aload_n 0, 1) := dk_42 (dk_at dksX3_meanClock_0 0 rfl rfl)
theorem dX3_meanClock_1 : decode cX3_meanClock 1 = .ok (.iconst 2, 1) := dk_5 (dk_at dksX3_meanClock_0 1 rfl rfl)
theorem dX3_meanClock_2 : decode cX3_meanClock 2 = .ok (.invokevirtual 142, 3) := dk_182 0 142 (dk_at dksX3_meanClock_0 2 rfl rfl)
theorem dX3_meanClock_5 : decode cX3_meanClock 5 = .ok (.aload_n 0, 1) := dk_42 (dk_at dksX3_meanClock_0 5 rfl rfl)
theorem dX3_meanClock_6 : decode cX3_meanClock 6 = .ok (.iconst 3, 1) := dk_6 (dk_at dksX3_meanClock_0 6 rfl rfl)
theorem dX3_meanClock_7 : decode cX3_meanClock 7 = .ok (.invokevirtual 142, 3) := dk_182 0 142 (dk_at dksX3_meanClock_0 7 rfl rfl)
theorem dX3_meanClock_10 : decode cX3_meanClock 10 = .ok (.iadd, 1) := dk_96 (dk_at dksX3_meanClock_0 10 rfl rfl)
theorem dX3_meanClock_11 : decode cX3_meanClock 11 = .ok (.istore_n 1, 1) := dk_60 (dk_at dksX3_meanClock_0 11 rfl rfl)
theorem dX3_meanClock_12 : decode cX3_meanClock 12 = .ok (.aload_n 0, 1) := dk_42 (dk_at dksX3_meanClock_0 12 rfl rfl)
theorem dX3_meanClock_13 : decode cX3_meanClock 13 = .ok (.iload_n 1, 1) := dk_27 (dk_at dksX3_meanClock_0 13 rfl rfl)
theorem dX3_meanClock_14 : decode cX3_meanClock 14 = .ok (.ifCond .ne 7, 3) := dk_154 0 7 (dk_at dksX3_meanClock_0 14 rfl rfl)
theorem dX3_meanClock_17 : decode cX3_meanClock 17 = .ok (.iconst 1, 1) := dk_4 (dk_at dksX3_meanClock_0 17 rfl rfl)
theorem dX3_meanClock_18 : decode cX3_meanClock 18 = .ok (.goto 4, 3) := dk_167 0 4 (dk_at dksX3_meanClock_0 18 rfl rfl)
theorem dX3_meanClock_21 : decode cX3_meanClock 21 = .ok (.iconst 0, 1) := dk_3 (dk_at dksX3_meanClock_0 21 rfl rfl)
theorem dX3_meanClock_22 : decode cX3_meanClock 22 = .ok (.putfield 41, 3) := dk_181 0 41 (dk_at dksX3_meanClock_1 0 rfl rfl)
theorem dX3_meanClock_25 : decode cX3_meanClock 25 = .ok (.iconst 0, 1) := dk_3 (dk_at dksX3_meanClock_1 3 rfl rfl)
theorem dX3_meanClock_26 : decode cX3_meanClock 26 = .ok (.istore_n 2, 1) := dk_61 (dk_at dksX3_meanClock_1 4 rfl rfl)
theorem dX3_meanClock_27 : decode cX3_meanClock 27 = .ok (.iconst 0, 1) := dk_3 (dk_at dksX3_meanClock_1 5 rfl rfl)
theorem dX3_meanClock_28 : decode cX3_meanClock 28 = .ok (.istore_n 3, 1) := dk_62 (dk_at dksX3_meanClock_1 6 rfl rfl)
theorem dX3_meanClock_29 : decode cX3_meanClock 29 = .ok (.iload_n 3, 1) := dk_29 (dk_at dksX3_meanClock_1 7 rfl rfl)
theorem dX3_meanClock_30 : decode cX3_meanClock 30 = .ok (.aload_n 0, 1) := dk_42 (dk_at dksX3_meanClock_1 8 rfl rfl)
theorem dX3_meanClock_31 : decode cX3_meanClock 31 = .ok (.getfield 7, 3) := dk_180 0 7 (dk_at dksX3_meanClock_1 9 rfl rfl)
theorem dX3_meanClock_34 : decode cX3_meanClock 34 = .ok (.bipush 11, 2) := dk_16 11 (dk_at dksX3_meanClock_1 12 rfl rfl)
theorem dX3_meanClock_36 : decode cX3_meanClock 36 = .ok (.iaload, 1) := dk_46 (dk_at dksX3_meanClock_1 14 rfl rfl)
theorem dX3_meanClock_37 : decode cX3_meanClock 37 = .ok (.if_icmp .ge 30, 3) := dk_162 0 30 (dk_at dksX3_meanClock_1 15 rfl rfl)
theorem dX3_meanClock_40 : decode cX3_meanClock 40 = .ok (.iload_n 2, 1) := dk_28 (dk_at dksX3_meanClock_1 18 rfl rfl)
theorem dX3_meanClock_41 : decode cX3_meanClock 41 = .ok (.aload_n 0, 1) := dk_42 (dk_at dksX3_meanClock_1 19 rfl rfl)
theorem dX3_meanClock_42 : decode cX3_meanClock 42 = .ok (.iload_n 3, 1) := dk_29 (dk_at dksX3_meanClock_1 20 rfl rfl)
theorem dX3_meanClock_43 : decode cX3_meanClock 43 = .ok (.invokevirtual 100, 3) := dk_182 0 100 (dk_at dksX3_meanClock_1 21 rfl rfl)
theorem dX3_meanClock_46 : decode cX3_meanClock 46 = .ok (.ifCond .eq 7, 3) := dk_153 0 7 (dk_at dksX3_meanClock_2 0 rfl rfl)
theorem dX3_meanClock_49 : decode cX3_meanClock 49 = .ok (.iconst 0, 1) := dk_3 (dk_at dksX3_meanClock_2 3 rfl rfl)
theorem dX3_meanClock_50 : decode cX3_meanClock 50 = .ok (.goto 9, 3) := dk_167 0 9 (dk_at dksX3_meanClock_2 4 rfl rfl)
theorem dX3_meanClock_53 : decode cX3_meanClock 53 = .ok (.aload_n 0, 1) := dk_42 (dk_at dksX3_meanClock_2 7 rfl rfl)
theorem dX3_meanClock_54 : decode cX3_meanClock 54 = .ok (.iload_n 3, 1) := dk_29 (dk_at dksX3_meanClock_2 8 rfl rfl)
theorem dX3_meanClock_55 : decode cX3_meanClock 55 = .ok (.iconst 5, 1) := dk_8 (dk_at dksX3_meanClock_2 9 rfl rfl)
theorem dX3_meanClock_56 : decode cX3_meanClock 56 = .ok (.invokevirtual 80, 3) := dk_182 0 80 (dk_at dksX3_meanClock_2 10 rfl rfl)
theorem dX3_meanClock_59 : decode cX3_meanClock 59 = .ok (.iadd, 1) := dk_96 (dk_at dksX3_meanClock_2 13 rfl rfl)
theorem dX3_meanClock_60 : decode cX3_meanClock 60 = .ok (.istore_n 2, 1) := dk_61 (dk_at dksX3_meanClock_2 14 rfl rfl)
theorem dX3_meanClock_61 : decode cX3_meanClock 61 = .ok (.iinc 3 1, 3) := dk_132 3 1 (dk_at dksX3_meanClock_2 15 rfl rfl)
theorem dX3_meanClock_64 : decode cX3_meanClock 64 = .ok (.goto (-35), 3) := dk_167 255 221 (dk_at dksX3_meanClock_2 18 rfl rfl)
theorem dX3_meanClock_67 : decode cX3_meanClock 67 = .ok (.aload_n 0, 1) := dk_42 (dk_at dksX3_meanClock_2 21 rfl rfl)
theorem dX3_meanClock_68 : decode cX3_meanClock 68 = .ok (.getfield 41, 3) := dk_180 0 41 (dk_at dksX3_meanClock_3 0 rfl rfl)
theorem dX3_meanClock_71 : decode cX3_meanClock 71 = .ok (.ifCond .le 7, 3) := dk_158 0 7 (dk_at dksX3_meanClock_3 3 rfl rfl)
theorem dX3_meanClock_74 : decode cX3_meanClock 74 = .ok (.dconst 0, 1) := dk_14 (dk_at dksX3_meanClock_3 6 rfl rfl)
theorem dX3_meanClock_75 : decode cX3_meanClock 75 = .ok (.goto 8, 3) := dk_167 0 8 (dk_at dksX3_meanClock_3 7 rfl rfl)
theorem dX3_meanClock_78 : decode cX3_meanClock 78 = .ok (.iload_n 2, 1) := dk_28 (dk_at dksX3_meanClock_3 10 rfl rfl)
theorem dX3_meanClock_79 : decode cX3_meanClock 79 = .ok (.i2d, 1) := dk_135 (dk_at dksX3_meanClock_3 11 rfl rfl)
theorem dX3_meanClock_80 : decode cX3_meanClock 80 = .ok (.iload_n 1, 1) := dk_27 (dk_at dksX3_meanClock_3 12 rfl rfl)
theorem dX3_meanClock_81 : decode cX3_meanClock 81 = .ok (.i2d, 1) := dk_135 (dk_at dksX3_meanClock_3 13 rfl rfl)
theorem dX3_meanClock_82 : decode cX3_meanClock 82 = .ok (.ddiv, 1) := dk_111 (dk_at dksX3_meanClock_3 14 rfl rfl)
theorem dX3_meanClock_83 : decode cX3_meanClock 83 = .ok (.dreturn, 1) := dk_175 (dk_at dksX3_meanClock_3 15 rfl rfl)
abbrev cX3_account : ByteArray := prog_18_method_84_code
def yX3_account : MethodName := ⟨RX3, "account", "(I)I"⟩
def dkwX3_account_4 : List UInt8 := [16, 15, 100, 46, 167, 0, 15, 42, 180, 0, 7, 16, 6, 27, 96, 16, 19, 100, 46, 172]
abbrev dktX3_account_4 : List UInt8 := dkwX3_account_4 ++ []
def dkwX3_account_3 : List UInt8 := [162, 0, 11, 42, 27, 182, 0, 222, 167, 0, 35, 27, 16, 19, 162, 0, 17, 42, 180, 0, 7, 5, 27, 96]
abbrev dktX3_account_3 : List UInt8 := dkwX3_account_3 ++ dktX3_account_4
def dkwX3_account_2 : List UInt8 := [180, 0, 7, 16, 11, 46, 172, 27, 16, 6, 162, 0, 11, 42, 27, 5, 100, 182, 0, 142, 172, 27, 16, 15]
abbrev dktX3_account_2 : List UInt8 := dkwX3_account_2 ++ dktX3_account_3
def dkwX3_account_1 : List UInt8 := [158, 0, 5, 3, 172, 27, 5, 162, 0, 24, 27, 154, 0, 12, 42, 180, 0, 7, 3, 46, 167, 0, 10, 42]
abbrev dktX3_account_1 : List UInt8 := dkwX3_account_1 ++ dktX3_account_2
def dkwX3_account_0 : List UInt8 := [42, 27, 3, 16, 22, 184, 0, 72, 153, 0, 7, 3, 167, 0, 4, 4, 181, 0, 41, 42, 180, 0, 41]
abbrev dktX3_account_0 : List UInt8 := dkwX3_account_0 ++ dktX3_account_1
theorem dksX3_account_0 : cX3_account.data.toList.drop 0 = dktX3_account_0 := by decide +kernel
theorem dksX3_account_1 : cX3_account.data.toList.drop 23 = dktX3_account_1 := dk_seg dksX3_account_0 23 rfl rfl
theorem dksX3_account_2 : cX3_account.data.toList.drop 47 = dktX3_account_2 := dk_seg dksX3_account_1 24 rfl rfl
theorem dksX3_account_3 : cX3_account.data.toList.drop 71 = dktX3_account_3 := dk_seg dksX3_account_2 24 rfl rfl
theorem dksX3_account_4 : cX3_account.data.toList.drop 95 = dktX3_account_4 := dk_seg dksX3_account_3 24 rfl rfl
theorem dX3_account_0 : decode cX3_account 0 = .ok (.aload_n 0, 1) := dk_42 (dk_at dksX3_account_0 0 rfl rfl)
theorem dX3_account_1 : decode cX3_account 1 = .ok (.iload_n 1, 1) := dk_27 (dk_at dksX3_account_0 1 rfl rfl)
theorem dX3_account_2 : decode cX3_account 2 = .ok (.iconst 0, 1) := dk_3 (dk_at dksX3_account_0 2 rfl rfl)
theorem dX3_account_3 : decode cX3_account 3 = .ok (.bipush 22, 2) := dk_16 22 (dk_at dksX3_account_0 3 rfl rfl)
theorem dX3_account_5 : decode cX3_account 5 = .ok (.invokestatic 72, 3) := dk_184 0 72 (dk_at dksX3_account_0 5 rfl rfl)
theorem dX3_account_8 : decode cX3_account 8 = .ok (.ifCond .eq 7, 3) := dk_153 0 7 (dk_at dksX3_account_0 8 rfl rfl)
theorem dX3_account_11 : decode cX3_account 11 = .ok (.iconst 0, 1) := dk_3 (dk_at dksX3_account_0 11 rfl rfl)
theorem dX3_account_12 : decode cX3_account 12 = .ok (.goto 4, 3) := dk_167 0 4 (dk_at dksX3_account_0 12 rfl rfl)
theorem dX3_account_15 : decode cX3_account 15 = .ok (.iconst 1, 1) := dk_4 (dk_at dksX3_account_0 15 rfl rfl)
theorem dX3_account_16 : decode cX3_account 16 = .ok (.putfield 41, 3) := dk_181 0 41 (dk_at dksX3_account_0 16 rfl rfl)
theorem dX3_account_19 : decode cX3_account 19 = .ok (.aload_n 0, 1) := dk_42 (dk_at dksX3_account_0 19 rfl rfl)
theorem dX3_account_20 : decode cX3_account 20 = .ok (.getfield 41, 3) := dk_180 0 41 (dk_at dksX3_account_0 20 rfl rfl)
theorem dX3_account_23 : decode cX3_account 23 = .ok (.ifCond .le 5, 3) := dk_158 0 5 (dk_at dksX3_account_1 0 rfl rfl)
theorem dX3_account_26 : decode cX3_account 26 = .ok (.iconst 0, 1) := dk_3 (dk_at dksX3_account_1 3 rfl rfl)
theorem dX3_account_27 : decode cX3_account 27 = .ok (.ireturn, 1) := dk_172 (dk_at dksX3_account_1 4 rfl rfl)
theorem dX3_account_28 : decode cX3_account 28 = .ok (.iload_n 1, 1) := dk_27 (dk_at dksX3_account_1 5 rfl rfl)
theorem dX3_account_29 : decode cX3_account 29 = .ok (.iconst 2, 1) := dk_5 (dk_at dksX3_account_1 6 rfl rfl)
theorem dX3_account_30 : decode cX3_account 30 = .ok (.if_icmp .ge 24, 3) := dk_162 0 24 (dk_at dksX3_account_1 7 rfl rfl)
theorem dX3_account_33 : decode cX3_account 33 = .ok (.iload_n 1, 1) := dk_27 (dk_at dksX3_account_1 10 rfl rfl)
theorem dX3_account_34 : decode cX3_account 34 = .ok (.ifCond .ne 12, 3) := dk_154 0 12 (dk_at dksX3_account_1 11 rfl rfl)
theorem dX3_account_37 : decode cX3_account 37 = .ok (.aload_n 0, 1) := dk_42 (dk_at dksX3_account_1 14 rfl rfl)
theorem dX3_account_38 : decode cX3_account 38 = .ok (.getfield 7, 3) := dk_180 0 7 (dk_at dksX3_account_1 15 rfl rfl)
theorem dX3_account_41 : decode cX3_account 41 = .ok (.iconst 0, 1) := dk_3 (dk_at dksX3_account_1 18 rfl rfl)
theorem dX3_account_42 : decode cX3_account 42 = .ok (.iaload, 1) := dk_46 (dk_at dksX3_account_1 19 rfl rfl)
theorem dX3_account_43 : decode cX3_account 43 = .ok (.goto 10, 3) := dk_167 0 10 (dk_at dksX3_account_1 20 rfl rfl)
theorem dX3_account_46 : decode cX3_account 46 = .ok (.aload_n 0, 1) := dk_42 (dk_at dksX3_account_1 23 rfl rfl)
theorem dX3_account_47 : decode cX3_account 47 = .ok (.getfield 7, 3) := dk_180 0 7 (dk_at dksX3_account_2 0 rfl rfl)
theorem dX3_account_50 : decode cX3_account 50 = .ok (.bipush 11, 2) := dk_16 11 (dk_at dksX3_account_2 3 rfl rfl)
theorem dX3_account_52 : decode cX3_account 52 = .ok (.iaload, 1) := dk_46 (dk_at dksX3_account_2 5 rfl rfl)
theorem dX3_account_53 : decode cX3_account 53 = .ok (.ireturn, 1) := dk_172 (dk_at dksX3_account_2 6 rfl rfl)
theorem dX3_account_54 : decode cX3_account 54 = .ok (.iload_n 1, 1) := dk_27 (dk_at dksX3_account_2 7 rfl rfl)
theorem dX3_account_55 : decode cX3_account 55 = .ok (.bipush 6, 2) := dk_16 6 (dk_at dksX3_account_2 8 rfl rfl)
theorem dX3_account_57 : decode cX3_account 57 = .ok (.if_icmp .ge 11, 3) := dk_162 0 11 (dk_at dksX3_account_2 10 rfl rfl)
theorem dX3_account_60 : decode cX3_account 60 = .ok (.aload_n 0, 1) := dk_42 (dk_at dksX3_account_2 13 rfl rfl)
theorem dX3_account_61 : decode cX3_account 61 = .ok (.iload_n 1, 1) := dk_27 (dk_at dksX3_account_2 14 rfl rfl)
theorem dX3_account_62 : decode cX3_account 62 = .ok (.iconst 2, 1) := dk_5 (dk_at dksX3_account_2 15 rfl rfl)
theorem dX3_account_63 : decode cX3_account 63 = .ok (.isub, 1) := dk_100 (dk_at dksX3_account_2 16 rfl rfl)
theorem dX3_account_64 : decode cX3_account 64 = .ok (.invokevirtual 142, 3) := dk_182 0 142 (dk_at dksX3_account_2 17 rfl rfl)
theorem dX3_account_67 : decode cX3_account 67 = .ok (.ireturn, 1) := dk_172 (dk_at dksX3_account_2 20 rfl rfl)
theorem dX3_account_68 : decode cX3_account 68 = .ok (.iload_n 1, 1) := dk_27 (dk_at dksX3_account_2 21 rfl rfl)
theorem dX3_account_69 : decode cX3_account 69 = .ok (.bipush 15, 2) := dk_16 15 (dk_at dksX3_account_2 22 rfl rfl)
theorem dX3_account_71 : decode cX3_account 71 = .ok (.if_icmp .ge 11, 3) := dk_162 0 11 (dk_at dksX3_account_3 0 rfl rfl)
theorem dX3_account_74 : decode cX3_account 74 = .ok (.aload_n 0, 1) := dk_42 (dk_at dksX3_account_3 3 rfl rfl)
theorem dX3_account_75 : decode cX3_account 75 = .ok (.iload_n 1, 1) := dk_27 (dk_at dksX3_account_3 4 rfl rfl)
theorem dX3_account_76 : decode cX3_account 76 = .ok (.invokevirtual 222, 3) := dk_182 0 222 (dk_at dksX3_account_3 5 rfl rfl)
theorem dX3_account_79 : decode cX3_account 79 = .ok (.goto 35, 3) := dk_167 0 35 (dk_at dksX3_account_3 8 rfl rfl)
theorem dX3_account_82 : decode cX3_account 82 = .ok (.iload_n 1, 1) := dk_27 (dk_at dksX3_account_3 11 rfl rfl)
theorem dX3_account_83 : decode cX3_account 83 = .ok (.bipush 19, 2) := dk_16 19 (dk_at dksX3_account_3 12 rfl rfl)
theorem dX3_account_85 : decode cX3_account 85 = .ok (.if_icmp .ge 17, 3) := dk_162 0 17 (dk_at dksX3_account_3 14 rfl rfl)
theorem dX3_account_88 : decode cX3_account 88 = .ok (.aload_n 0, 1) := dk_42 (dk_at dksX3_account_3 17 rfl rfl)
theorem dX3_account_89 : decode cX3_account 89 = .ok (.getfield 7, 3) := dk_180 0 7 (dk_at dksX3_account_3 18 rfl rfl)
theorem dX3_account_92 : decode cX3_account 92 = .ok (.iconst 2, 1) := dk_5 (dk_at dksX3_account_3 21 rfl rfl)
theorem dX3_account_93 : decode cX3_account 93 = .ok (.iload_n 1, 1) := dk_27 (dk_at dksX3_account_3 22 rfl rfl)
theorem dX3_account_94 : decode cX3_account 94 = .ok (.iadd, 1) := dk_96 (dk_at dksX3_account_3 23 rfl rfl)
theorem dX3_account_95 : decode cX3_account 95 = .ok (.bipush 15, 2) := dk_16 15 (dk_at dksX3_account_4 0 rfl rfl)
theorem dX3_account_97 : decode cX3_account 97 = .ok (.isub, 1) := dk_100 (dk_at dksX3_account_4 2 rfl rfl)
theorem dX3_account_98 : decode cX3_account 98 = .ok (.iaload, 1) := dk_46 (dk_at dksX3_account_4 3 rfl rfl)
theorem dX3_account_99 : decode cX3_account 99 = .ok (.goto 15, 3) := dk_167 0 15 (dk_at dksX3_account_4 4 rfl rfl)
theorem dX3_account_102 : decode cX3_account 102 = .ok (.aload_n 0, 1) := dk_42 (dk_at dksX3_account_4 7 rfl rfl)
theorem dX3_account_103 : decode cX3_account 103 = .ok (.getfield 7, 3) := dk_180 0 7 (dk_at dksX3_account_4 8 rfl rfl)
theorem dX3_account_106 : decode cX3_account 106 = .ok (.bipush 6, 2) := dk_16 6 (dk_at dksX3_account_4 11 rfl rfl)
theorem dX3_account_108 : decode cX3_account 108 = .ok (.iload_n 1, 1) := dk_27 (dk_at dksX3_account_4 13 rfl rfl)
theorem dX3_account_109 : decode cX3_account 109 = .ok (.iadd, 1) := dk_96 (dk_at dksX3_account_4 14 rfl rfl)
theorem dX3_account_110 : decode cX3_account 110 = .ok (.bipush 19, 2) := dk_16 19 (dk_at dksX3_account_4 15 rfl rfl)
theorem dX3_account_112 : decode cX3_account 112 = .ok (.isub, 1) := dk_100 (dk_at dksX3_account_4 17 rfl rfl)
theorem dX3_account_113 : decode cX3_account 113 = .ok (.iaload, 1) := dk_46 (dk_at dksX3_account_4 18 rfl rfl)
theorem dX3_account_114 : decode cX3_account 114 = .ok (.ireturn, 1) := dk_172 (dk_at dksX3_account_4 19 rfl rfl)
abbrev cX3_few : ByteArray := prog_18_method_83_code
def yX3_few : MethodName := ⟨RX3, "few", "(I)I"⟩
def dkwX3_few_6 : List UInt8 := [17, 1, 203, 46, 172, 42, 180, 0, 54, 172, 42, 180, 0, 158, 172, 42, 180, 0, 7, 16, 10, 46, 172]
abbrev dktX3_few_6 : List UInt8 := dkwX3_few_6 ++ []
def dkwX3_few_5 : List UInt8 := [162, 0, 18, 28, 42, 29, 6, 182, 0, 136, 96, 61, 132, 3, 1, 167, 255, 232, 28, 172, 42, 180, 0, 7]
abbrev dktX3_few_5 : List UInt8 := dkwX3_few_5 ++ dktX3_few_6
def dkwX3_few_4 : List UInt8 := [46, 172, 42, 180, 0, 7, 17, 1, 122, 46, 172, 3, 62, 29, 42, 180, 0, 7, 17, 1, 122, 46]
abbrev dktX3_few_4 : List UInt8 := dkwX3_few_4 ++ dktX3_few_5
def dkwX3_few_3 : List UInt8 := [132, 3, 1, 167, 255, 232, 28, 172, 42, 180, 0, 7, 17, 1, 76, 46, 172, 42, 180, 0, 7, 17, 1, 113]
abbrev dktX3_few_3 : List UInt8 := dkwX3_few_3 ++ dktX3_few_4
def dkwX3_few_2 : List UInt8 := [3, 62, 29, 42, 180, 0, 7, 16, 11, 46, 162, 0, 19, 28, 42, 29, 16, 11, 182, 0, 80, 96, 61]
abbrev dktX3_few_2 : List UInt8 := dkwX3_few_2 ++ dktX3_few_3
def dkwX3_few_1 : List UInt8 := [170, 0, 0, 0, 153, 0, 0, 0, 6, 0, 0, 0, 13, 0, 0, 0, 45, 0, 0, 0, 76, 0, 0, 0, 85, 0, 0, 0, 94, 0, 0, 0, 103, 0, 0, 0, 134, 0, 0, 0, 143, 0, 0, 0, 148]
abbrev dktX3_few_1 : List UInt8 := dkwX3_few_1 ++ dktX3_few_2
def dkwX3_few_0 : List UInt8 := [3, 61, 27]
abbrev dktX3_few_0 : List UInt8 := dkwX3_few_0 ++ dktX3_few_1
theorem dksX3_few_0 : cX3_few.data.toList.drop 0 = dktX3_few_0 := by decide +kernel
theorem dksX3_few_1 : cX3_few.data.toList.drop 3 = dktX3_few_1 := dk_seg dksX3_few_0 3 rfl rfl
theorem dksX3_few_2 : cX3_few.data.toList.drop 48 = dktX3_few_2 := dk_seg dksX3_few_1 45 rfl rfl
theorem dksX3_few_3 : cX3_few.data.toList.drop 71 = dktX3_few_3 := dk_seg dksX3_few_2 23 rfl rfl
theorem dksX3_few_4 : cX3_few.data.toList.drop 95 = dktX3_few_4 := dk_seg dksX3_few_3 24 rfl rfl
theorem dksX3_few_5 : cX3_few.data.toList.drop 117 = dktX3_few_5 := dk_seg dksX3_few_4 22 rfl rfl
theorem dksX3_few_6 : cX3_few.data.toList.drop 141 = dktX3_few_6 := dk_seg dksX3_few_5 24 rfl rfl
theorem dX3_few_0 : decode cX3_few 0 = .ok (.iconst 0, 1) := dk_3 (dk_at dksX3_few_0 0 rfl rfl)
theorem dX3_few_1 : decode cX3_few 1 = .ok (.istore_n 2, 1) := dk_61 (dk_at dksX3_few_0 1 rfl rfl)
theorem dX3_few_2 : decode cX3_few 2 = .ok (.iload_n 1, 1) := dk_27 (dk_at dksX3_few_0 2 rfl rfl)
theorem dX3_few_3 : decode cX3_few 3 = .ok (.tableswitch 153 6 13 #[45, 76, 85, 94, 103, 134, 143, 148], 45) := by decide +kernel
theorem dX3_few_48 : decode cX3_few 48 = .ok (.iconst 0, 1) := dk_3 (dk_at dksX3_few_2 0 rfl rfl)
theorem dX3_few_49 : decode cX3_few 49 = .ok (.istore_n 3, 1) := dk_62 (dk_at dksX3_few_2 1 rfl rfl)
theorem dX3_few_50 : decode cX3_few 50 = .ok (.iload_n 3, 1) := dk_29 (dk_at dksX3_few_2 2 rfl rfl)
theorem dX3_few_51 : decode cX3_few 51 = .ok (.aload_n 0, 1) := dk_42 (dk_at dksX3_few_2 3 rfl rfl)
theorem dX3_few_52 : decode cX3_few 52 = .ok (.getfield 7, 3) := dk_180 0 7 (dk_at dksX3_few_2 4 rfl rfl)
theorem dX3_few_55 : decode cX3_few 55 = .ok (.bipush 11, 2) := dk_16 11 (dk_at dksX3_few_2 7 rfl rfl)
theorem dX3_few_57 : decode cX3_few 57 = .ok (.iaload, 1) := dk_46 (dk_at dksX3_few_2 9 rfl rfl)
theorem dX3_few_58 : decode cX3_few 58 = .ok (.if_icmp .ge 19, 3) := dk_162 0 19 (dk_at dksX3_few_2 10 rfl rfl)
theorem dX3_few_61 : decode cX3_few 61 = .ok (.iload_n 2, 1) := dk_28 (dk_at dksX3_few_2 13 rfl rfl)
theorem dX3_few_62 : decode cX3_few 62 = .ok (.aload_n 0, 1) := dk_42 (dk_at dksX3_few_2 14 rfl rfl)
theorem dX3_few_63 : decode cX3_few 63 = .ok (.iload_n 3, 1) := dk_29 (dk_at dksX3_few_2 15 rfl rfl)
theorem dX3_few_64 : decode cX3_few 64 = .ok (.bipush 11, 2) := dk_16 11 (dk_at dksX3_few_2 16 rfl rfl)
theorem dX3_few_66 : decode cX3_few 66 = .ok (.invokevirtual 80, 3) := dk_182 0 80 (dk_at dksX3_few_2 18 rfl rfl)
theorem dX3_few_69 : decode cX3_few 69 = .ok (.iadd, 1) := dk_96 (dk_at dksX3_few_2 21 rfl rfl)
theorem dX3_few_70 : decode cX3_few 70 = .ok (.istore_n 2, 1) := dk_61 (dk_at dksX3_few_2 22 rfl rfl)
theorem dX3_few_71 : decode cX3_few 71 = .ok (.iinc 3 1, 3) := dk_132 3 1 (dk_at dksX3_few_3 0 rfl rfl)
theorem dX3_few_74 : decode cX3_few 74 = .ok (.goto (-24), 3) := dk_167 255 232 (dk_at dksX3_few_3 3 rfl rfl)
theorem dX3_few_77 : decode cX3_few 77 = .ok (.iload_n 2, 1) := dk_28 (dk_at dksX3_few_3 6 rfl rfl)
theorem dX3_few_78 : decode cX3_few 78 = .ok (.ireturn, 1) := dk_172 (dk_at dksX3_few_3 7 rfl rfl)
theorem dX3_few_79 : decode cX3_few 79 = .ok (.aload_n 0, 1) := dk_42 (dk_at dksX3_few_3 8 rfl rfl)
theorem dX3_few_80 : decode cX3_few 80 = .ok (.getfield 7, 3) := dk_180 0 7 (dk_at dksX3_few_3 9 rfl rfl)
theorem dX3_few_83 : decode cX3_few 83 = .ok (.sipush 332, 3) := dk_17 1 76 (dk_at dksX3_few_3 12 rfl rfl)
theorem dX3_few_86 : decode cX3_few 86 = .ok (.iaload, 1) := dk_46 (dk_at dksX3_few_3 15 rfl rfl)
theorem dX3_few_87 : decode cX3_few 87 = .ok (.ireturn, 1) := dk_172 (dk_at dksX3_few_3 16 rfl rfl)
theorem dX3_few_88 : decode cX3_few 88 = .ok (.aload_n 0, 1) := dk_42 (dk_at dksX3_few_3 17 rfl rfl)
theorem dX3_few_89 : decode cX3_few 89 = .ok (.getfield 7, 3) := dk_180 0 7 (dk_at dksX3_few_3 18 rfl rfl)
theorem dX3_few_92 : decode cX3_few 92 = .ok (.sipush 369, 3) := dk_17 1 113 (dk_at dksX3_few_3 21 rfl rfl)
theorem dX3_few_95 : decode cX3_few 95 = .ok (.iaload, 1) := dk_46 (dk_at dksX3_few_4 0 rfl rfl)
theorem dX3_few_96 : decode cX3_few 96 = .ok (.ireturn, 1) := dk_172 (dk_at dksX3_few_4 1 rfl rfl)
theorem dX3_few_97 : decode cX3_few 97 = .ok (.aload_n 0, 1) := dk_42 (dk_at dksX3_few_4 2 rfl rfl)
theorem dX3_few_98 : decode cX3_few 98 = .ok (.getfield 7, 3) := dk_180 0 7 (dk_at dksX3_few_4 3 rfl rfl)
theorem dX3_few_101 : decode cX3_few 101 = .ok (.sipush 378, 3) := dk_17 1 122 (dk_at dksX3_few_4 6 rfl rfl)
theorem dX3_few_104 : decode cX3_few 104 = .ok (.iaload, 1) := dk_46 (dk_at dksX3_few_4 9 rfl rfl)
theorem dX3_few_105 : decode cX3_few 105 = .ok (.ireturn, 1) := dk_172 (dk_at dksX3_few_4 10 rfl rfl)
theorem dX3_few_106 : decode cX3_few 106 = .ok (.iconst 0, 1) := dk_3 (dk_at dksX3_few_4 11 rfl rfl)
theorem dX3_few_107 : decode cX3_few 107 = .ok (.istore_n 3, 1) := dk_62 (dk_at dksX3_few_4 12 rfl rfl)
theorem dX3_few_108 : decode cX3_few 108 = .ok (.iload_n 3, 1) := dk_29 (dk_at dksX3_few_4 13 rfl rfl)
theorem dX3_few_109 : decode cX3_few 109 = .ok (.aload_n 0, 1) := dk_42 (dk_at dksX3_few_4 14 rfl rfl)
theorem dX3_few_110 : decode cX3_few 110 = .ok (.getfield 7, 3) := dk_180 0 7 (dk_at dksX3_few_4 15 rfl rfl)
theorem dX3_few_113 : decode cX3_few 113 = .ok (.sipush 378, 3) := dk_17 1 122 (dk_at dksX3_few_4 18 rfl rfl)
theorem dX3_few_116 : decode cX3_few 116 = .ok (.iaload, 1) := dk_46 (dk_at dksX3_few_4 21 rfl rfl)
theorem dX3_few_117 : decode cX3_few 117 = .ok (.if_icmp .ge 18, 3) := dk_162 0 18 (dk_at dksX3_few_5 0 rfl rfl)
theorem dX3_few_120 : decode cX3_few 120 = .ok (.iload_n 2, 1) := dk_28 (dk_at dksX3_few_5 3 rfl rfl)
theorem dX3_few_121 : decode cX3_few 121 = .ok (.aload_n 0, 1) := dk_42 (dk_at dksX3_few_5 4 rfl rfl)
theorem dX3_few_122 : decode cX3_few 122 = .ok (.iload_n 3, 1) := dk_29 (dk_at dksX3_few_5 5 rfl rfl)
theorem dX3_few_123 : decode cX3_few 123 = .ok (.iconst 3, 1) := dk_6 (dk_at dksX3_few_5 6 rfl rfl)
theorem dX3_few_124 : decode cX3_few 124 = .ok (.invokevirtual 136, 3) := dk_182 0 136 (dk_at dksX3_few_5 7 rfl rfl)
theorem dX3_few_127 : decode cX3_few 127 = .ok (.iadd, 1) := dk_96 (dk_at dksX3_few_5 10 rfl rfl)
theorem dX3_few_128 : decode cX3_few 128 = .ok (.istore_n 2, 1) := dk_61 (dk_at dksX3_few_5 11 rfl rfl)
theorem dX3_few_129 : decode cX3_few 129 = .ok (.iinc 3 1, 3) := dk_132 3 1 (dk_at dksX3_few_5 12 rfl rfl)
theorem dX3_few_132 : decode cX3_few 132 = .ok (.goto (-24), 3) := dk_167 255 232 (dk_at dksX3_few_5 15 rfl rfl)
theorem dX3_few_135 : decode cX3_few 135 = .ok (.iload_n 2, 1) := dk_28 (dk_at dksX3_few_5 18 rfl rfl)
theorem dX3_few_136 : decode cX3_few 136 = .ok (.ireturn, 1) := dk_172 (dk_at dksX3_few_5 19 rfl rfl)
theorem dX3_few_137 : decode cX3_few 137 = .ok (.aload_n 0, 1) := dk_42 (dk_at dksX3_few_5 20 rfl rfl)
theorem dX3_few_138 : decode cX3_few 138 = .ok (.getfield 7, 3) := dk_180 0 7 (dk_at dksX3_few_5 21 rfl rfl)
theorem dX3_few_141 : decode cX3_few 141 = .ok (.sipush 459, 3) := dk_17 1 203 (dk_at dksX3_few_6 0 rfl rfl)
theorem dX3_few_144 : decode cX3_few 144 = .ok (.iaload, 1) := dk_46 (dk_at dksX3_few_6 3 rfl rfl)
theorem dX3_few_145 : decode cX3_few 145 = .ok (.ireturn, 1) := dk_172 (dk_at dksX3_few_6 4 rfl rfl)
theorem dX3_few_146 : decode cX3_few 146 = .ok (.aload_n 0, 1) := dk_42 (dk_at dksX3_few_6 5 rfl rfl)
theorem dX3_few_147 : decode cX3_few 147 = .ok (.getfield 54, 3) := dk_180 0 54 (dk_at dksX3_few_6 6 rfl rfl)
theorem dX3_few_150 : decode cX3_few 150 = .ok (.ireturn, 1) := dk_172 (dk_at dksX3_few_6 9 rfl rfl)
theorem dX3_few_151 : decode cX3_few 151 = .ok (.aload_n 0, 1) := dk_42 (dk_at dksX3_few_6 10 rfl rfl)
theorem dX3_few_152 : decode cX3_few 152 = .ok (.getfield 158, 3) := dk_180 0 158 (dk_at dksX3_few_6 11 rfl rfl)
theorem dX3_few_155 : decode cX3_few 155 = .ok (.ireturn, 1) := dk_172 (dk_at dksX3_few_6 14 rfl rfl)
theorem dX3_few_156 : decode cX3_few 156 = .ok (.aload_n 0, 1) := dk_42 (dk_at dksX3_few_6 15 rfl rfl)
theorem dX3_few_157 : decode cX3_few 157 = .ok (.getfield 7, 3) := dk_180 0 7 (dk_at dksX3_few_6 16 rfl rfl)
theorem dX3_few_160 : decode cX3_few 160 = .ok (.bipush 10, 2) := dk_16 10 (dk_at dksX3_few_6 19 rfl rfl)
theorem dX3_few_162 : decode cX3_few 162 = .ok (.iaload, 1) := dk_46 (dk_at dksX3_few_6 21 rfl rfl)
theorem dX3_few_163 : decode cX3_few 163 = .ok (.ireturn, 1) := dk_172 (dk_at dksX3_few_6 22 rfl rfl)
theorem q70 : (Jvm.Cond.initialized "IncidentKeeperModel") ∈ lw_all := lw_g (lw_at lw_m1 6 rfl) rfl
theorem q415 : (Jvm.Cond.selects "IncidentKeeperModel" ({ cls := "java/lang/Object", name := "getClass", desc := "()Ljava/lang/Class;" } : Jvm.MethodName) ({ cls := "java/lang/Object", name := "getClass", desc := "()Ljava/lang/Class;" } : Jvm.MethodName)) ∈ lw_all := lw_g (lw_at lw_m2 111 rfl) rfl
theorem q1659 : (Jvm.Cond.instantiable "IncidentKeeperModel" (19 : Nat)) ∈ lw_all := lw_g (lw_at lw_m7 155 rfl) rfl
theorem q1661 : (Jvm.Cond.instanceMethod ({ cls := "IncidentKeeperModel", name := "<init>", desc := "()V" } : Jvm.MethodName)) ∈ lw_all := lw_g (lw_at lw_m7 157 rfl) rfl
theorem q1662 : (Jvm.Cond.code ({ cls := "IncidentKeeperModel", name := "<init>", desc := "()V" } : Jvm.MethodName) prog_18_method_1_code (1 : Nat) (Option.none : Option Jvm.ClassFile.FieldType)) ∈ lw_all := lw_g (lw_at lw_m7 158 rfl) rfl
theorem q1663 : (Jvm.Cond.methodLink "IncidentKeeperModel" (1 : Nat) ({ cls := "java/lang/Object", name := "<init>", desc := "()V" } : Jvm.MethodName)) ∈ lw_all := lw_g (lw_at lw_m7 159 rfl) rfl
theorem q1664 : (Jvm.Cond.fieldLink "IncidentKeeperModel" (7 : Nat) "IncidentKeeperModel" "g" "[I") ∈ lw_all := lw_g (lw_at lw_m7 160 rfl) rfl
theorem q1665 : (Jvm.Cond.fieldLink "IncidentKeeperModel" (13 : Nat) "IncidentKeeperModel" "kept" "[I") ∈ lw_all := lw_g (lw_at lw_m7 161 rfl) rfl
theorem q1666 : (Jvm.Cond.fieldLink "IncidentKeeperModel" (16 : Nat) "IncidentKeeperModel" "before" "[I") ∈ lw_all := lw_g (lw_at lw_m7 162 rfl) rfl
theorem q1667 : (Jvm.Cond.fieldLink "IncidentKeeperModel" (69 : Nat) "IncidentKeeperModel" "hasKept" "Z") ∈ lw_all := lw_g (lw_at lw_m7 163 rfl) rfl
theorem q1668 : (Jvm.Cond.fieldLink "IncidentKeeperModel" (61 : Nat) "IncidentKeeperModel" "isTextNow" "Z") ∈ lw_all := lw_g (lw_at lw_m7 164 rfl) rfl
theorem q1669 : (Jvm.Cond.fieldLink "IncidentKeeperModel" (19 : Nat) "IncidentKeeperModel" "past" "[I") ∈ lw_all := lw_g (lw_at lw_m7 165 rfl) rfl
theorem q1670 : (Jvm.Cond.fieldLink "IncidentKeeperModel" (54 : Nat) "IncidentKeeperModel" "pasts" "I") ∈ lw_all := lw_g (lw_at lw_m7 166 rfl) rfl
theorem q1671 : (Jvm.Cond.fieldLink "IncidentKeeperModel" (44 : Nat) "IncidentKeeperModel" "reason" "I") ∈ lw_all := lw_g (lw_at lw_m7 167 rfl) rfl
theorem q1672 : (Jvm.Cond.fieldLink "IncidentKeeperModel" (47 : Nat) "IncidentKeeperModel" "detail" "I") ∈ lw_all := lw_g (lw_at lw_m7 168 rfl) rfl
theorem q1673 : (Jvm.Cond.fieldLink "IncidentKeeperModel" (22 : Nat) "IncidentKeeperModel" "entry" "I") ∈ lw_all := lw_g (lw_at lw_m7 169 rfl) rfl
theorem q1674 : (Jvm.Cond.fieldLink "IncidentKeeperModel" (41 : Nat) "IncidentKeeperModel" "thrown" "I") ∈ lw_all := lw_g (lw_at lw_m7 170 rfl) rfl
theorem q1675 : (Jvm.Cond.fieldLink "IncidentKeeperModel" (26 : Nat) "IncidentKeeperModel" "tried" "[I") ∈ lw_all := lw_g (lw_at lw_m7 171 rfl) rfl
theorem q1676 : (Jvm.Cond.fieldLink "IncidentKeeperModel" (29 : Nat) "IncidentKeeperModel" "text" "[I") ∈ lw_all := lw_g (lw_at lw_m7 172 rfl) rfl
theorem q1677 : (Jvm.Cond.fieldLink "IncidentKeeperModel" (158 : Nat) "IncidentKeeperModel" "length" "I") ∈ lw_all := lw_g (lw_at lw_m7 173 rfl) rfl
theorem q1678 : (Jvm.Cond.fieldLink "IncidentKeeperModel" (161 : Nat) "IncidentKeeperModel" "spot" "I") ∈ lw_all := lw_g (lw_at lw_m7 174 rfl) rfl
theorem q1679 : (Jvm.Cond.fieldLink "IncidentKeeperModel" (32 : Nat) "IncidentKeeperModel" "wrong" "I") ∈ lw_all := lw_g (lw_at lw_m7 175 rfl) rfl
theorem q1680 : (Jvm.Cond.fieldLink "IncidentKeeperModel" (35 : Nat) "IncidentKeeperModel" "told" "[I") ∈ lw_all := lw_g (lw_at lw_m7 176 rfl) rfl
theorem q1681 : (Jvm.Cond.fieldLink "IncidentKeeperModel" (167 : Nat) "IncidentKeeperModel" "tolds" "I") ∈ lw_all := lw_g (lw_at lw_m7 177 rfl) rfl
theorem q1682 : (Jvm.Cond.fieldLink "IncidentKeeperModel" (38 : Nat) "IncidentKeeperModel" "deep" "[I") ∈ lw_all := lw_g (lw_at lw_m7 178 rfl) rfl
theorem q1683 : (Jvm.Cond.laysFinal "IncidentKeeperModel" "IncidentKeeperModel" "g" "[I") ∈ lw_all := lw_g (lw_at lw_m7 179 rfl) rfl
theorem q1684 : (Jvm.Cond.soleField "IncidentKeeperModel" "g") ∈ lw_all := lw_g (lw_at lw_m7 180 rfl) rfl
theorem q1685 : (Jvm.Cond.laysFinal "IncidentKeeperModel" "IncidentKeeperModel" "kept" "[I") ∈ lw_all := lw_g (lw_at lw_m7 181 rfl) rfl
theorem q1686 : (Jvm.Cond.soleField "IncidentKeeperModel" "kept") ∈ lw_all := lw_g (lw_at lw_m7 182 rfl) rfl
theorem q1687 : (Jvm.Cond.laysFinal "IncidentKeeperModel" "IncidentKeeperModel" "before" "[I") ∈ lw_all := lw_g (lw_at lw_m7 183 rfl) rfl
theorem q1688 : (Jvm.Cond.soleField "IncidentKeeperModel" "before") ∈ lw_all := lw_g (lw_at lw_m7 184 rfl) rfl
theorem q1689 : (Jvm.Cond.lays "IncidentKeeperModel" "IncidentKeeperModel" "hasKept" "Z") ∈ lw_all := lw_g (lw_at lw_m7 185 rfl) rfl
theorem q1690 : (Jvm.Cond.soleField "IncidentKeeperModel" "hasKept") ∈ lw_all := lw_g (lw_at lw_m7 186 rfl) rfl
theorem q1691 : (Jvm.Cond.lays "IncidentKeeperModel" "IncidentKeeperModel" "isTextNow" "Z") ∈ lw_all := lw_g (lw_at lw_m7 187 rfl) rfl
theorem q1692 : (Jvm.Cond.soleField "IncidentKeeperModel" "isTextNow") ∈ lw_all := lw_g (lw_at lw_m7 188 rfl) rfl
theorem q1693 : (Jvm.Cond.laysFinal "IncidentKeeperModel" "IncidentKeeperModel" "past" "[I") ∈ lw_all := lw_g (lw_at lw_m7 189 rfl) rfl
theorem q1694 : (Jvm.Cond.soleField "IncidentKeeperModel" "past") ∈ lw_all := lw_g (lw_at lw_m7 190 rfl) rfl
theorem q1695 : (Jvm.Cond.lays "IncidentKeeperModel" "IncidentKeeperModel" "pasts" "I") ∈ lw_all := lw_g (lw_at lw_m7 191 rfl) rfl
theorem q1696 : (Jvm.Cond.soleField "IncidentKeeperModel" "pasts") ∈ lw_all := lw_g (lw_at lw_m7 192 rfl) rfl
theorem q1697 : (Jvm.Cond.lays "IncidentKeeperModel" "IncidentKeeperModel" "reason" "I") ∈ lw_all := lw_g (lw_at lw_m7 193 rfl) rfl
theorem q1698 : (Jvm.Cond.soleField "IncidentKeeperModel" "reason") ∈ lw_all := lw_g (lw_at lw_m7 194 rfl) rfl
theorem q1699 : (Jvm.Cond.lays "IncidentKeeperModel" "IncidentKeeperModel" "detail" "I") ∈ lw_all := lw_g (lw_at lw_m7 195 rfl) rfl
theorem q1700 : (Jvm.Cond.soleField "IncidentKeeperModel" "detail") ∈ lw_all := lw_g (lw_at lw_m7 196 rfl) rfl
theorem q1701 : (Jvm.Cond.lays "IncidentKeeperModel" "IncidentKeeperModel" "entry" "I") ∈ lw_all := lw_g (lw_at lw_m7 197 rfl) rfl
theorem q1702 : (Jvm.Cond.soleField "IncidentKeeperModel" "entry") ∈ lw_all := lw_g (lw_at lw_m7 198 rfl) rfl
theorem q1703 : (Jvm.Cond.lays "IncidentKeeperModel" "IncidentKeeperModel" "thrown" "I") ∈ lw_all := lw_g (lw_at lw_m7 199 rfl) rfl
theorem q1704 : (Jvm.Cond.soleField "IncidentKeeperModel" "thrown") ∈ lw_all := lw_g (lw_at lw_m7 200 rfl) rfl
theorem q1705 : (Jvm.Cond.laysFinal "IncidentKeeperModel" "IncidentKeeperModel" "tried" "[I") ∈ lw_all := lw_g (lw_at lw_m7 201 rfl) rfl
theorem q1706 : (Jvm.Cond.soleField "IncidentKeeperModel" "tried") ∈ lw_all := lw_g (lw_at lw_m7 202 rfl) rfl
theorem q1707 : (Jvm.Cond.laysFinal "IncidentKeeperModel" "IncidentKeeperModel" "text" "[I") ∈ lw_all := lw_g (lw_at lw_m7 203 rfl) rfl
theorem q1708 : (Jvm.Cond.soleField "IncidentKeeperModel" "text") ∈ lw_all := lw_g (lw_at lw_m7 204 rfl) rfl
theorem q1709 : (Jvm.Cond.lays "IncidentKeeperModel" "IncidentKeeperModel" "length" "I") ∈ lw_all := lw_g (lw_at lw_m7 205 rfl) rfl
theorem q1710 : (Jvm.Cond.soleField "IncidentKeeperModel" "length") ∈ lw_all := lw_g (lw_at lw_m7 206 rfl) rfl
theorem q1711 : (Jvm.Cond.lays "IncidentKeeperModel" "IncidentKeeperModel" "spot" "I") ∈ lw_all := lw_g (lw_at lw_m7 207 rfl) rfl
theorem q1712 : (Jvm.Cond.soleField "IncidentKeeperModel" "spot") ∈ lw_all := lw_g (lw_at lw_m7 208 rfl) rfl
theorem q1713 : (Jvm.Cond.lays "IncidentKeeperModel" "IncidentKeeperModel" "wrong" "I") ∈ lw_all := lw_g (lw_at lw_m7 209 rfl) rfl
theorem q1714 : (Jvm.Cond.soleField "IncidentKeeperModel" "wrong") ∈ lw_all := lw_g (lw_at lw_m7 210 rfl) rfl
theorem q1715 : (Jvm.Cond.laysFinal "IncidentKeeperModel" "IncidentKeeperModel" "told" "[I") ∈ lw_all := lw_g (lw_at lw_m7 211 rfl) rfl
theorem q1716 : (Jvm.Cond.soleField "IncidentKeeperModel" "told") ∈ lw_all := lw_g (lw_at lw_m7 212 rfl) rfl
theorem q1717 : (Jvm.Cond.lays "IncidentKeeperModel" "IncidentKeeperModel" "tolds" "I") ∈ lw_all := lw_g (lw_at lw_m7 213 rfl) rfl
theorem q1718 : (Jvm.Cond.soleField "IncidentKeeperModel" "tolds") ∈ lw_all := lw_g (lw_at lw_m7 214 rfl) rfl
theorem q1719 : (Jvm.Cond.laysFinal "IncidentKeeperModel" "IncidentKeeperModel" "deep" "[I") ∈ lw_all := lw_g (lw_at lw_m7 215 rfl) rfl
theorem q1720 : (Jvm.Cond.soleField "IncidentKeeperModel" "deep") ∈ lw_all := lw_g (lw_at lw_m7 216 rfl) rfl
theorem q1721 : (Jvm.Cond.superclass "IncidentKeeperModel" "java/lang/Object") ∈ lw_all := lw_g (lw_at lw_m7 217 rfl) rfl
theorem q1723 : (Jvm.Cond.instanceMethod ({ cls := "IncidentKeeperModel", name := "thrown", desc := "()I" } : Jvm.MethodName)) ∈ lw_all := lw_g (lw_at lw_m7 219 rfl) rfl
theorem q1724 : (Jvm.Cond.selects "IncidentKeeperModel" ({ cls := "IncidentKeeperModel", name := "thrown", desc := "()I" } : Jvm.MethodName) ({ cls := "IncidentKeeperModel", name := "thrown", desc := "()I" } : Jvm.MethodName)) ∈ lw_all := lw_g (lw_at lw_m7 220 rfl) rfl
theorem q1725 : (Jvm.Cond.code ({ cls := "IncidentKeeperModel", name := "thrown", desc := "()I" } : Jvm.MethodName) prog_18_method_2_code (1 : Nat) (Option.some Jvm.ClassFile.FieldType.int)) ∈ lw_all := lw_g (lw_at lw_m7 221 rfl) rfl
theorem q1727 : (Jvm.Cond.instanceMethod ({ cls := "IncidentKeeperModel", name := "undo", desc := "()I" } : Jvm.MethodName)) ∈ lw_all := lw_g (lw_at lw_m7 223 rfl) rfl
theorem q1728 : (Jvm.Cond.selects "IncidentKeeperModel" ({ cls := "IncidentKeeperModel", name := "undo", desc := "()I" } : Jvm.MethodName) ({ cls := "IncidentKeeperModel", name := "undo", desc := "()I" } : Jvm.MethodName)) ∈ lw_all := lw_g (lw_at lw_m7 224 rfl) rfl
theorem q1729 : (Jvm.Cond.code ({ cls := "IncidentKeeperModel", name := "undo", desc := "()I" } : Jvm.MethodName) prog_18_method_9_code (1 : Nat) (Option.some Jvm.ClassFile.FieldType.int)) ∈ lw_all := lw_g (lw_at lw_m7 225 rfl) rfl
theorem q1730 : (Jvm.Cond.methodLink "IncidentKeeperModel" (57 : Nat) ({ cls := "IncidentKeeperModel", name := "copies", desc := "([II[II)V" } : Jvm.MethodName)) ∈ lw_all := lw_g (lw_at lw_m7 226 rfl) rfl
theorem q1731 : (Jvm.Cond.static ({ cls := "IncidentKeeperModel", name := "copies", desc := "([II[II)V" } : Jvm.MethodName)) ∈ lw_all := lw_g (lw_at lw_m7 227 rfl) rfl
theorem q1732 : (Jvm.Cond.code ({ cls := "IncidentKeeperModel", name := "copies", desc := "([II[II)V" } : Jvm.MethodName) prog_18_method_6_code (5 : Nat) (Option.none : Option Jvm.ClassFile.FieldType)) ∈ lw_all := lw_g (lw_at lw_m7 228 rfl) rfl
theorem q1734 : (Jvm.Cond.instanceMethod ({ cls := "IncidentKeeperModel", name := "save", desc := "()I" } : Jvm.MethodName)) ∈ lw_all := lw_g (lw_at lw_m7 230 rfl) rfl
theorem q1735 : (Jvm.Cond.selects "IncidentKeeperModel" ({ cls := "IncidentKeeperModel", name := "save", desc := "()I" } : Jvm.MethodName) ({ cls := "IncidentKeeperModel", name := "save", desc := "()I" } : Jvm.MethodName)) ∈ lw_all := lw_g (lw_at lw_m7 231 rfl) rfl
theorem q1736 : (Jvm.Cond.code ({ cls := "IncidentKeeperModel", name := "save", desc := "()I" } : Jvm.MethodName) prog_18_method_10_code (1 : Nat) (Option.some Jvm.ClassFile.FieldType.int)) ∈ lw_all := lw_g (lw_at lw_m7 232 rfl) rfl
theorem q1738 : (Jvm.Cond.instanceMethod ({ cls := "IncidentKeeperModel", name := "restore", desc := "()I" } : Jvm.MethodName)) ∈ lw_all := lw_g (lw_at lw_m7 234 rfl) rfl
theorem q1739 : (Jvm.Cond.selects "IncidentKeeperModel" ({ cls := "IncidentKeeperModel", name := "restore", desc := "()I" } : Jvm.MethodName) ({ cls := "IncidentKeeperModel", name := "restore", desc := "()I" } : Jvm.MethodName)) ∈ lw_all := lw_g (lw_at lw_m7 235 rfl) rfl
theorem q1740 : (Jvm.Cond.code ({ cls := "IncidentKeeperModel", name := "restore", desc := "()I" } : Jvm.MethodName) prog_18_method_11_code (1 : Nat) (Option.some Jvm.ClassFile.FieldType.int)) ∈ lw_all := lw_g (lw_at lw_m7 236 rfl) rfl
theorem q1742 : (Jvm.Cond.instanceMethod ({ cls := "IncidentKeeperModel", name := "duty", desc := "(IZ)I" } : Jvm.MethodName)) ∈ lw_all := lw_g (lw_at lw_m7 238 rfl) rfl
theorem q1743 : (Jvm.Cond.selects "IncidentKeeperModel" ({ cls := "IncidentKeeperModel", name := "duty", desc := "(IZ)I" } : Jvm.MethodName) ({ cls := "IncidentKeeperModel", name := "duty", desc := "(IZ)I" } : Jvm.MethodName)) ∈ lw_all := lw_g (lw_at lw_m7 239 rfl) rfl
theorem q1744 : (Jvm.Cond.code ({ cls := "IncidentKeeperModel", name := "duty", desc := "(IZ)I" } : Jvm.MethodName) prog_18_method_22_code (6 : Nat) (Option.some Jvm.ClassFile.FieldType.int)) ∈ lw_all := lw_g (lw_at lw_m8 0 rfl) rfl
theorem q1745 : (Jvm.Cond.methodLink "IncidentKeeperModel" (94 : Nat) ({ cls := "IncidentKeeperModel", name := "isPerson", desc := "(I)Z" } : Jvm.MethodName)) ∈ lw_all := lw_g (lw_at lw_m8 1 rfl) rfl
theorem q1746 : (Jvm.Cond.static ({ cls := "IncidentKeeperModel", name := "isPerson", desc := "(I)Z" } : Jvm.MethodName)) ∈ lw_all := lw_g (lw_at lw_m8 2 rfl) rfl
theorem q1747 : (Jvm.Cond.code ({ cls := "IncidentKeeperModel", name := "isPerson", desc := "(I)Z" } : Jvm.MethodName) prog_18_method_13_code (1 : Nat) (Option.some Jvm.ClassFile.FieldType.boolean)) ∈ lw_all := lw_g (lw_at lw_m8 3 rfl) rfl
theorem q1748 : (Jvm.Cond.methodLink "IncidentKeeperModel" (72 : Nat) ({ cls := "IncidentKeeperModel", name := "in", desc := "(III)Z" } : Jvm.MethodName)) ∈ lw_all := lw_g (lw_at lw_m8 4 rfl) rfl
theorem q1749 : (Jvm.Cond.static ({ cls := "IncidentKeeperModel", name := "in", desc := "(III)Z" } : Jvm.MethodName)) ∈ lw_all := lw_g (lw_at lw_m8 5 rfl) rfl
theorem q1750 : (Jvm.Cond.code ({ cls := "IncidentKeeperModel", name := "in", desc := "(III)Z" } : Jvm.MethodName) prog_18_method_5_code (3 : Nat) (Option.some Jvm.ClassFile.FieldType.boolean)) ∈ lw_all := lw_g (lw_at lw_m8 6 rfl) rfl
theorem q1751 : (Jvm.Cond.methodLink "IncidentKeeperModel" (97 : Nat) ({ cls := "IncidentKeeperModel", name := "refuses", desc := "(II)I" } : Jvm.MethodName)) ∈ lw_all := lw_g (lw_at lw_m8 7 rfl) rfl
theorem q1752 : (Jvm.Cond.privateMethod ({ cls := "IncidentKeeperModel", name := "refuses", desc := "(II)I" } : Jvm.MethodName)) ∈ lw_tbl := lw_at lw_m8 8 rfl
theorem q1753 : (Jvm.Cond.instanceMethod ({ cls := "IncidentKeeperModel", name := "refuses", desc := "(II)I" } : Jvm.MethodName)) ∈ lw_all := lw_g (lw_at lw_m8 9 rfl) rfl
theorem q1754 : (Jvm.Cond.code ({ cls := "IncidentKeeperModel", name := "refuses", desc := "(II)I" } : Jvm.MethodName) prog_18_method_4_code (3 : Nat) (Option.some Jvm.ClassFile.FieldType.int)) ∈ lw_all := lw_g (lw_at lw_m8 10 rfl) rfl
theorem q1755 : (Jvm.Cond.methodLink "IncidentKeeperModel" (50 : Nat) ({ cls := "IncidentKeeperModel", name := "fails", desc := "(I)I" } : Jvm.MethodName)) ∈ lw_all := lw_g (lw_at lw_m8 11 rfl) rfl
theorem q1756 : (Jvm.Cond.privateMethod ({ cls := "IncidentKeeperModel", name := "fails", desc := "(I)I" } : Jvm.MethodName)) ∈ lw_tbl := lw_at lw_m8 12 rfl
theorem q1757 : (Jvm.Cond.instanceMethod ({ cls := "IncidentKeeperModel", name := "fails", desc := "(I)I" } : Jvm.MethodName)) ∈ lw_all := lw_g (lw_at lw_m8 13 rfl) rfl
theorem q1758 : (Jvm.Cond.code ({ cls := "IncidentKeeperModel", name := "fails", desc := "(I)I" } : Jvm.MethodName) prog_18_method_3_code (2 : Nat) (Option.some Jvm.ClassFile.FieldType.int)) ∈ lw_all := lw_g (lw_at lw_m8 14 rfl) rfl
theorem q1759 : (Jvm.Cond.methodLink "IncidentKeeperModel" (83 : Nat) ({ cls := "IncidentKeeperModel", name := "isOn", desc := "(I)Z" } : Jvm.MethodName)) ∈ lw_all := lw_g (lw_at lw_m8 15 rfl) rfl
theorem q1760 : (Jvm.Cond.privateMethod ({ cls := "IncidentKeeperModel", name := "isOn", desc := "(I)Z" } : Jvm.MethodName)) ∈ lw_tbl := lw_at lw_m8 16 rfl
theorem q1761 : (Jvm.Cond.instanceMethod ({ cls := "IncidentKeeperModel", name := "isOn", desc := "(I)Z" } : Jvm.MethodName)) ∈ lw_all := lw_g (lw_at lw_m8 17 rfl) rfl
theorem q1762 : (Jvm.Cond.code ({ cls := "IncidentKeeperModel", name := "isOn", desc := "(I)Z" } : Jvm.MethodName) prog_18_method_17_code (2 : Nat) (Option.some Jvm.ClassFile.FieldType.boolean)) ∈ lw_all := lw_g (lw_at lw_m8 18 rfl) rfl
theorem q1763 : (Jvm.Cond.methodLink "IncidentKeeperModel" (100 : Nat) ({ cls := "IncidentKeeperModel", name := "isActive", desc := "(I)Z" } : Jvm.MethodName)) ∈ lw_all := lw_g (lw_at lw_m8 19 rfl) rfl
theorem q1764 : (Jvm.Cond.privateMethod ({ cls := "IncidentKeeperModel", name := "isActive", desc := "(I)Z" } : Jvm.MethodName)) ∈ lw_tbl := lw_at lw_m8 20 rfl
theorem q1765 : (Jvm.Cond.instanceMethod ({ cls := "IncidentKeeperModel", name := "isActive", desc := "(I)Z" } : Jvm.MethodName)) ∈ lw_all := lw_g (lw_at lw_m8 21 rfl) rfl
theorem q1766 : (Jvm.Cond.code ({ cls := "IncidentKeeperModel", name := "isActive", desc := "(I)Z" } : Jvm.MethodName) prog_18_method_16_code (2 : Nat) (Option.some Jvm.ClassFile.FieldType.boolean)) ∈ lw_all := lw_g (lw_at lw_m8 22 rfl) rfl
theorem q1767 : (Jvm.Cond.methodLink "IncidentKeeperModel" (80 : Nat) ({ cls := "IncidentKeeperModel", name := "of", desc := "(II)I" } : Jvm.MethodName)) ∈ lw_all := lw_g (lw_at lw_m8 23 rfl) rfl
theorem q1768 : (Jvm.Cond.privateMethod ({ cls := "IncidentKeeperModel", name := "of", desc := "(II)I" } : Jvm.MethodName)) ∈ lw_tbl := lw_at lw_m8 24 rfl
theorem q1769 : (Jvm.Cond.instanceMethod ({ cls := "IncidentKeeperModel", name := "of", desc := "(II)I" } : Jvm.MethodName)) ∈ lw_all := lw_g (lw_at lw_m8 25 rfl) rfl
theorem q1770 : (Jvm.Cond.code ({ cls := "IncidentKeeperModel", name := "of", desc := "(II)I" } : Jvm.MethodName) prog_18_method_15_code (3 : Nat) (Option.some Jvm.ClassFile.FieldType.int)) ∈ lw_all := lw_g (lw_at lw_m8 26 rfl) rfl
theorem q1771 : (Jvm.Cond.methodLink "IncidentKeeperModel" (76 : Nat) ({ cls := "IncidentKeeperModel", name := "at", desc := "(II)I" } : Jvm.MethodName)) ∈ lw_all := lw_g (lw_at lw_m8 27 rfl) rfl
theorem q1772 : (Jvm.Cond.static ({ cls := "IncidentKeeperModel", name := "at", desc := "(II)I" } : Jvm.MethodName)) ∈ lw_all := lw_g (lw_at lw_m8 28 rfl) rfl
theorem q1773 : (Jvm.Cond.code ({ cls := "IncidentKeeperModel", name := "at", desc := "(II)I" } : Jvm.MethodName) prog_18_method_14_code (2 : Nat) (Option.some Jvm.ClassFile.FieldType.int)) ∈ lw_all := lw_g (lw_at lw_m8 29 rfl) rfl
theorem q1774 : (Jvm.Cond.methodLink "IncidentKeeperModel" (103 : Nat) ({ cls := "IncidentKeeperModel", name := "leastLoaded", desc := "()I" } : Jvm.MethodName)) ∈ lw_all := lw_g (lw_at lw_m8 30 rfl) rfl
theorem q1775 : (Jvm.Cond.privateMethod ({ cls := "IncidentKeeperModel", name := "leastLoaded", desc := "()I" } : Jvm.MethodName)) ∈ lw_tbl := lw_at lw_m8 31 rfl
theorem q1776 : (Jvm.Cond.instanceMethod ({ cls := "IncidentKeeperModel", name := "leastLoaded", desc := "()I" } : Jvm.MethodName)) ∈ lw_all := lw_g (lw_at lw_m8 32 rfl) rfl
theorem q1777 : (Jvm.Cond.code ({ cls := "IncidentKeeperModel", name := "leastLoaded", desc := "()I" } : Jvm.MethodName) prog_18_method_19_code (3 : Nat) (Option.some Jvm.ClassFile.FieldType.int)) ∈ lw_all := lw_g (lw_at lw_m8 33 rfl) rfl
theorem q1778 : (Jvm.Cond.methodLink "IncidentKeeperModel" (87 : Nat) ({ cls := "IncidentKeeperModel", name := "loadOf", desc := "(I)I" } : Jvm.MethodName)) ∈ lw_all := lw_g (lw_at lw_m8 34 rfl) rfl
theorem q1779 : (Jvm.Cond.privateMethod ({ cls := "IncidentKeeperModel", name := "loadOf", desc := "(I)I" } : Jvm.MethodName)) ∈ lw_tbl := lw_at lw_m8 35 rfl
theorem q1780 : (Jvm.Cond.instanceMethod ({ cls := "IncidentKeeperModel", name := "loadOf", desc := "(I)I" } : Jvm.MethodName)) ∈ lw_all := lw_g (lw_at lw_m8 36 rfl) rfl
theorem q1781 : (Jvm.Cond.code ({ cls := "IncidentKeeperModel", name := "loadOf", desc := "(I)I" } : Jvm.MethodName) prog_18_method_18_code (4 : Nat) (Option.some Jvm.ClassFile.FieldType.int)) ∈ lw_all := lw_g (lw_at lw_m8 37 rfl) rfl
theorem q1782 : (Jvm.Cond.methodLink "IncidentKeeperModel" (107 : Nat) ({ cls := "IncidentKeeperModel", name := "hands", desc := "(II)V" } : Jvm.MethodName)) ∈ lw_all := lw_g (lw_at lw_m8 38 rfl) rfl
theorem q1783 : (Jvm.Cond.privateMethod ({ cls := "IncidentKeeperModel", name := "hands", desc := "(II)V" } : Jvm.MethodName)) ∈ lw_tbl := lw_at lw_m8 39 rfl
theorem q1784 : (Jvm.Cond.instanceMethod ({ cls := "IncidentKeeperModel", name := "hands", desc := "(II)V" } : Jvm.MethodName)) ∈ lw_all := lw_g (lw_at lw_m8 40 rfl) rfl
theorem q1785 : (Jvm.Cond.code ({ cls := "IncidentKeeperModel", name := "hands", desc := "(II)V" } : Jvm.MethodName) prog_18_method_21_code (3 : Nat) (Option.none : Option Jvm.ClassFile.FieldType)) ∈ lw_all := lw_g (lw_at lw_m8 41 rfl) rfl
theorem q1786 : (Jvm.Cond.methodLink "IncidentKeeperModel" (90 : Nat) ({ cls := "IncidentKeeperModel", name := "tells", desc := "(III)V" } : Jvm.MethodName)) ∈ lw_all := lw_g (lw_at lw_m8 42 rfl) rfl
theorem q1787 : (Jvm.Cond.privateMethod ({ cls := "IncidentKeeperModel", name := "tells", desc := "(III)V" } : Jvm.MethodName)) ∈ lw_tbl := lw_at lw_m8 43 rfl
theorem q1788 : (Jvm.Cond.instanceMethod ({ cls := "IncidentKeeperModel", name := "tells", desc := "(III)V" } : Jvm.MethodName)) ∈ lw_all := lw_g (lw_at lw_m8 44 rfl) rfl
theorem q1789 : (Jvm.Cond.code ({ cls := "IncidentKeeperModel", name := "tells", desc := "(III)V" } : Jvm.MethodName) prog_18_method_20_code (5 : Nat) (Option.none : Option Jvm.ClassFile.FieldType)) ∈ lw_all := lw_g (lw_at lw_m8 45 rfl) rfl
theorem q1790 : (Jvm.Cond.methodLink "IncidentKeeperModel" (65 : Nat) ({ cls := "IncidentKeeperModel", name := "keeps", desc := "([I)V" } : Jvm.MethodName)) ∈ lw_all := lw_g (lw_at lw_m8 46 rfl) rfl
theorem q1791 : (Jvm.Cond.privateMethod ({ cls := "IncidentKeeperModel", name := "keeps", desc := "([I)V" } : Jvm.MethodName)) ∈ lw_tbl := lw_at lw_m8 47 rfl
theorem q1792 : (Jvm.Cond.instanceMethod ({ cls := "IncidentKeeperModel", name := "keeps", desc := "([I)V" } : Jvm.MethodName)) ∈ lw_all := lw_g (lw_at lw_m8 48 rfl) rfl
theorem q1793 : (Jvm.Cond.code ({ cls := "IncidentKeeperModel", name := "keeps", desc := "([I)V" } : Jvm.MethodName) prog_18_method_7_code (3 : Nat) (Option.none : Option Jvm.ClassFile.FieldType)) ∈ lw_all := lw_g (lw_at lw_m8 49 rfl) rfl
theorem q1795 : (Jvm.Cond.instanceMethod ({ cls := "IncidentKeeperModel", name := "target", desc := "(II)I" } : Jvm.MethodName)) ∈ lw_all := lw_g (lw_at lw_m8 51 rfl) rfl
theorem q1796 : (Jvm.Cond.selects "IncidentKeeperModel" ({ cls := "IncidentKeeperModel", name := "target", desc := "(II)I" } : Jvm.MethodName) ({ cls := "IncidentKeeperModel", name := "target", desc := "(II)I" } : Jvm.MethodName)) ∈ lw_all := lw_g (lw_at lw_m8 52 rfl) rfl
theorem q1797 : (Jvm.Cond.code ({ cls := "IncidentKeeperModel", name := "target", desc := "(II)I" } : Jvm.MethodName) prog_18_method_24_code (3 : Nat) (Option.some Jvm.ClassFile.FieldType.int)) ∈ lw_all := lw_g (lw_at lw_m8 53 rfl) rfl
theorem q1798 : (Jvm.Cond.methodLink "IncidentKeeperModel" (114 : Nat) ({ cls := "IncidentKeeperModel", name := "sets", desc := "(IIZ)I" } : Jvm.MethodName)) ∈ lw_all := lw_g (lw_at lw_m8 54 rfl) rfl
theorem q1799 : (Jvm.Cond.privateMethod ({ cls := "IncidentKeeperModel", name := "sets", desc := "(IIZ)I" } : Jvm.MethodName)) ∈ lw_tbl := lw_at lw_m8 55 rfl
theorem q1800 : (Jvm.Cond.instanceMethod ({ cls := "IncidentKeeperModel", name := "sets", desc := "(IIZ)I" } : Jvm.MethodName)) ∈ lw_all := lw_g (lw_at lw_m8 56 rfl) rfl
theorem q1801 : (Jvm.Cond.code ({ cls := "IncidentKeeperModel", name := "sets", desc := "(IIZ)I" } : Jvm.MethodName) prog_18_method_23_code (5 : Nat) (Option.some Jvm.ClassFile.FieldType.int)) ∈ lw_all := lw_g (lw_at lw_m8 57 rfl) rfl
theorem q1802 : (Jvm.Cond.methodLink "IncidentKeeperModel" (111 : Nat) ({ cls := "IncidentKeeperModel", name := "changes", desc := "()V" } : Jvm.MethodName)) ∈ lw_all := lw_g (lw_at lw_m8 58 rfl) rfl
theorem q1803 : (Jvm.Cond.privateMethod ({ cls := "IncidentKeeperModel", name := "changes", desc := "()V" } : Jvm.MethodName)) ∈ lw_tbl := lw_at lw_m8 59 rfl
theorem q1804 : (Jvm.Cond.instanceMethod ({ cls := "IncidentKeeperModel", name := "changes", desc := "()V" } : Jvm.MethodName)) ∈ lw_all := lw_g (lw_at lw_m8 60 rfl) rfl
theorem q1805 : (Jvm.Cond.code ({ cls := "IncidentKeeperModel", name := "changes", desc := "()V" } : Jvm.MethodName) prog_18_method_8_code (1 : Nat) (Option.none : Option Jvm.ClassFile.FieldType)) ∈ lw_all := lw_g (lw_at lw_m8 61 rfl) rfl
theorem q1807 : (Jvm.Cond.instanceMethod ({ cls := "IncidentKeeperModel", name := "limit", desc := "(II)I" } : Jvm.MethodName)) ∈ lw_all := lw_g (lw_at lw_m8 63 rfl) rfl
theorem q1808 : (Jvm.Cond.selects "IncidentKeeperModel" ({ cls := "IncidentKeeperModel", name := "limit", desc := "(II)I" } : Jvm.MethodName) ({ cls := "IncidentKeeperModel", name := "limit", desc := "(II)I" } : Jvm.MethodName)) ∈ lw_all := lw_g (lw_at lw_m8 64 rfl) rfl
theorem q1809 : (Jvm.Cond.code ({ cls := "IncidentKeeperModel", name := "limit", desc := "(II)I" } : Jvm.MethodName) prog_18_method_25_code (3 : Nat) (Option.some Jvm.ClassFile.FieldType.int)) ∈ lw_all := lw_g (lw_at lw_m8 65 rfl) rfl
theorem q1811 : (Jvm.Cond.instanceMethod ({ cls := "IncidentKeeperModel", name := "window", desc := "(I)I" } : Jvm.MethodName)) ∈ lw_all := lw_g (lw_at lw_m8 67 rfl) rfl
theorem q1812 : (Jvm.Cond.selects "IncidentKeeperModel" ({ cls := "IncidentKeeperModel", name := "window", desc := "(I)I" } : Jvm.MethodName) ({ cls := "IncidentKeeperModel", name := "window", desc := "(I)I" } : Jvm.MethodName)) ∈ lw_all := lw_g (lw_at lw_m8 68 rfl) rfl
theorem q1813 : (Jvm.Cond.code ({ cls := "IncidentKeeperModel", name := "window", desc := "(I)I" } : Jvm.MethodName) prog_18_method_26_code (2 : Nat) (Option.some Jvm.ClassFile.FieldType.int)) ∈ lw_all := lw_g (lw_at lw_m8 69 rfl) rfl
theorem q1815 : (Jvm.Cond.instanceMethod ({ cls := "IncidentKeeperModel", name := "open", desc := "(II)I" } : Jvm.MethodName)) ∈ lw_all := lw_g (lw_at lw_m8 71 rfl) rfl
theorem q1816 : (Jvm.Cond.selects "IncidentKeeperModel" ({ cls := "IncidentKeeperModel", name := "open", desc := "(II)I" } : Jvm.MethodName) ({ cls := "IncidentKeeperModel", name := "open", desc := "(II)I" } : Jvm.MethodName)) ∈ lw_all := lw_g (lw_at lw_m8 72 rfl) rfl
theorem q1817 : (Jvm.Cond.code ({ cls := "IncidentKeeperModel", name := "open", desc := "(II)I" } : Jvm.MethodName) prog_18_method_27_code (6 : Nat) (Option.some Jvm.ClassFile.FieldType.int)) ∈ lw_all := lw_g (lw_at lw_m8 73 rfl) rfl
theorem q1819 : (Jvm.Cond.instanceMethod ({ cls := "IncidentKeeperModel", name := "rate", desc := "(II)I" } : Jvm.MethodName)) ∈ lw_all := lw_g (lw_at lw_m8 75 rfl) rfl
theorem q1820 : (Jvm.Cond.selects "IncidentKeeperModel" ({ cls := "IncidentKeeperModel", name := "rate", desc := "(II)I" } : Jvm.MethodName) ({ cls := "IncidentKeeperModel", name := "rate", desc := "(II)I" } : Jvm.MethodName)) ∈ lw_all := lw_g (lw_at lw_m8 76 rfl) rfl
theorem q1821 : (Jvm.Cond.code ({ cls := "IncidentKeeperModel", name := "rate", desc := "(II)I" } : Jvm.MethodName) prog_18_method_29_code (3 : Nat) (Option.some Jvm.ClassFile.FieldType.int)) ∈ lw_all := lw_g (lw_at lw_m8 77 rfl) rfl
theorem q1822 : (Jvm.Cond.methodLink "IncidentKeeperModel" (118 : Nat) ({ cls := "IncidentKeeperModel", name := "isIncident", desc := "(I)Z" } : Jvm.MethodName)) ∈ lw_all := lw_g (lw_at lw_m8 78 rfl) rfl
theorem q1823 : (Jvm.Cond.privateMethod ({ cls := "IncidentKeeperModel", name := "isIncident", desc := "(I)Z" } : Jvm.MethodName)) ∈ lw_tbl := lw_at lw_m8 79 rfl
theorem q1824 : (Jvm.Cond.instanceMethod ({ cls := "IncidentKeeperModel", name := "isIncident", desc := "(I)Z" } : Jvm.MethodName)) ∈ lw_all := lw_g (lw_at lw_m8 80 rfl) rfl
theorem q1825 : (Jvm.Cond.code ({ cls := "IncidentKeeperModel", name := "isIncident", desc := "(I)Z" } : Jvm.MethodName) prog_18_method_12_code (2 : Nat) (Option.some Jvm.ClassFile.FieldType.boolean)) ∈ lw_all := lw_g (lw_at lw_m8 81 rfl) rfl
theorem q1826 : (Jvm.Cond.methodLink "IncidentKeeperModel" (121 : Nat) ({ cls := "IncidentKeeperModel", name := "ratesAs", desc := "(II)I" } : Jvm.MethodName)) ∈ lw_all := lw_g (lw_at lw_m8 82 rfl) rfl
theorem q1827 : (Jvm.Cond.privateMethod ({ cls := "IncidentKeeperModel", name := "ratesAs", desc := "(II)I" } : Jvm.MethodName)) ∈ lw_tbl := lw_at lw_m8 83 rfl
theorem q1828 : (Jvm.Cond.instanceMethod ({ cls := "IncidentKeeperModel", name := "ratesAs", desc := "(II)I" } : Jvm.MethodName)) ∈ lw_all := lw_g (lw_at lw_m8 84 rfl) rfl
theorem q1829 : (Jvm.Cond.code ({ cls := "IncidentKeeperModel", name := "ratesAs", desc := "(II)I" } : Jvm.MethodName) prog_18_method_28_code (4 : Nat) (Option.some Jvm.ClassFile.FieldType.int)) ∈ lw_all := lw_g (lw_at lw_m8 85 rfl) rfl
theorem q1831 : (Jvm.Cond.instanceMethod ({ cls := "IncidentKeeperModel", name := "hand", desc := "(II)I" } : Jvm.MethodName)) ∈ lw_all := lw_g (lw_at lw_m8 87 rfl) rfl
theorem q1832 : (Jvm.Cond.selects "IncidentKeeperModel" ({ cls := "IncidentKeeperModel", name := "hand", desc := "(II)I" } : Jvm.MethodName) ({ cls := "IncidentKeeperModel", name := "hand", desc := "(II)I" } : Jvm.MethodName)) ∈ lw_all := lw_g (lw_at lw_m8 88 rfl) rfl
theorem q1833 : (Jvm.Cond.code ({ cls := "IncidentKeeperModel", name := "hand", desc := "(II)I" } : Jvm.MethodName) prog_18_method_30_code (4 : Nat) (Option.some Jvm.ClassFile.FieldType.int)) ∈ lw_all := lw_g (lw_at lw_m8 89 rfl) rfl
theorem q1835 : (Jvm.Cond.instanceMethod ({ cls := "IncidentKeeperModel", name := "stop", desc := "(II)I" } : Jvm.MethodName)) ∈ lw_all := lw_g (lw_at lw_m8 91 rfl) rfl
theorem q1836 : (Jvm.Cond.selects "IncidentKeeperModel" ({ cls := "IncidentKeeperModel", name := "stop", desc := "(II)I" } : Jvm.MethodName) ({ cls := "IncidentKeeperModel", name := "stop", desc := "(II)I" } : Jvm.MethodName)) ∈ lw_all := lw_g (lw_at lw_m8 92 rfl) rfl
theorem q1837 : (Jvm.Cond.code ({ cls := "IncidentKeeperModel", name := "stop", desc := "(II)I" } : Jvm.MethodName) prog_18_method_32_code (4 : Nat) (Option.some Jvm.ClassFile.FieldType.int)) ∈ lw_all := lw_g (lw_at lw_m8 93 rfl) rfl
theorem q1838 : (Jvm.Cond.methodLink "IncidentKeeperModel" (124 : Nat) ({ cls := "IncidentKeeperModel", name := "whyNot", desc := "(IIZ)I" } : Jvm.MethodName)) ∈ lw_all := lw_g (lw_at lw_m8 94 rfl) rfl
theorem q1839 : (Jvm.Cond.privateMethod ({ cls := "IncidentKeeperModel", name := "whyNot", desc := "(IIZ)I" } : Jvm.MethodName)) ∈ lw_tbl := lw_at lw_m8 95 rfl
theorem q1840 : (Jvm.Cond.instanceMethod ({ cls := "IncidentKeeperModel", name := "whyNot", desc := "(IIZ)I" } : Jvm.MethodName)) ∈ lw_all := lw_g (lw_at lw_m8 96 rfl) rfl
theorem q1841 : (Jvm.Cond.code ({ cls := "IncidentKeeperModel", name := "whyNot", desc := "(IIZ)I" } : Jvm.MethodName) prog_18_method_31_code (4 : Nat) (Option.some Jvm.ClassFile.FieldType.int)) ∈ lw_all := lw_g (lw_at lw_m8 97 rfl) rfl
theorem q1843 : (Jvm.Cond.instanceMethod ({ cls := "IncidentKeeperModel", name := "go", desc := "(II)I" } : Jvm.MethodName)) ∈ lw_all := lw_g (lw_at lw_m8 99 rfl) rfl
theorem q1844 : (Jvm.Cond.selects "IncidentKeeperModel" ({ cls := "IncidentKeeperModel", name := "go", desc := "(II)I" } : Jvm.MethodName) ({ cls := "IncidentKeeperModel", name := "go", desc := "(II)I" } : Jvm.MethodName)) ∈ lw_all := lw_g (lw_at lw_m8 100 rfl) rfl
theorem q1845 : (Jvm.Cond.code ({ cls := "IncidentKeeperModel", name := "go", desc := "(II)I" } : Jvm.MethodName) prog_18_method_34_code (4 : Nat) (Option.some Jvm.ClassFile.FieldType.int)) ∈ lw_all := lw_g (lw_at lw_m8 101 rfl) rfl
theorem q1846 : (Jvm.Cond.methodLink "IncidentKeeperModel" (127 : Nat) ({ cls := "IncidentKeeperModel", name := "ends", desc := "(II)V" } : Jvm.MethodName)) ∈ lw_all := lw_g (lw_at lw_m8 102 rfl) rfl
theorem q1847 : (Jvm.Cond.privateMethod ({ cls := "IncidentKeeperModel", name := "ends", desc := "(II)V" } : Jvm.MethodName)) ∈ lw_tbl := lw_at lw_m8 103 rfl
theorem q1848 : (Jvm.Cond.instanceMethod ({ cls := "IncidentKeeperModel", name := "ends", desc := "(II)V" } : Jvm.MethodName)) ∈ lw_all := lw_g (lw_at lw_m8 104 rfl) rfl
theorem q1849 : (Jvm.Cond.code ({ cls := "IncidentKeeperModel", name := "ends", desc := "(II)V" } : Jvm.MethodName) prog_18_method_33_code (3 : Nat) (Option.none : Option Jvm.ClassFile.FieldType)) ∈ lw_all := lw_g (lw_at lw_m8 105 rfl) rfl
theorem q1851 : (Jvm.Cond.instanceMethod ({ cls := "IncidentKeeperModel", name := "resolve", desc := "(I)I" } : Jvm.MethodName)) ∈ lw_all := lw_g (lw_at lw_m8 107 rfl) rfl
theorem q1852 : (Jvm.Cond.selects "IncidentKeeperModel" ({ cls := "IncidentKeeperModel", name := "resolve", desc := "(I)I" } : Jvm.MethodName) ({ cls := "IncidentKeeperModel", name := "resolve", desc := "(I)I" } : Jvm.MethodName)) ∈ lw_all := lw_g (lw_at lw_m8 108 rfl) rfl
theorem q1853 : (Jvm.Cond.code ({ cls := "IncidentKeeperModel", name := "resolve", desc := "(I)I" } : Jvm.MethodName) prog_18_method_37_code (2 : Nat) (Option.some Jvm.ClassFile.FieldType.int)) ∈ lw_all := lw_g (lw_at lw_m8 109 rfl) rfl
theorem q1854 : (Jvm.Cond.methodLink "IncidentKeeperModel" (133 : Nat) ({ cls := "IncidentKeeperModel", name := "below", desc := "(II)I" } : Jvm.MethodName)) ∈ lw_all := lw_g (lw_at lw_m8 110 rfl) rfl
theorem q1855 : (Jvm.Cond.privateMethod ({ cls := "IncidentKeeperModel", name := "below", desc := "(II)I" } : Jvm.MethodName)) ∈ lw_tbl := lw_at lw_m8 111 rfl
theorem q1856 : (Jvm.Cond.instanceMethod ({ cls := "IncidentKeeperModel", name := "below", desc := "(II)I" } : Jvm.MethodName)) ∈ lw_all := lw_g (lw_at lw_m8 112 rfl) rfl
theorem q1857 : (Jvm.Cond.code ({ cls := "IncidentKeeperModel", name := "below", desc := "(II)I" } : Jvm.MethodName) prog_18_method_36_code (5 : Nat) (Option.some Jvm.ClassFile.FieldType.int)) ∈ lw_all := lw_g (lw_at lw_m8 113 rfl) rfl
theorem q1858 : (Jvm.Cond.methodLink "IncidentKeeperModel" (130 : Nat) ({ cls := "IncidentKeeperModel", name := "treeOf", desc := "(I)I" } : Jvm.MethodName)) ∈ lw_all := lw_g (lw_at lw_m8 114 rfl) rfl
theorem q1859 : (Jvm.Cond.privateMethod ({ cls := "IncidentKeeperModel", name := "treeOf", desc := "(I)I" } : Jvm.MethodName)) ∈ lw_tbl := lw_at lw_m8 115 rfl
theorem q1860 : (Jvm.Cond.instanceMethod ({ cls := "IncidentKeeperModel", name := "treeOf", desc := "(I)I" } : Jvm.MethodName)) ∈ lw_all := lw_g (lw_at lw_m8 116 rfl) rfl
theorem q1861 : (Jvm.Cond.code ({ cls := "IncidentKeeperModel", name := "treeOf", desc := "(I)I" } : Jvm.MethodName) prog_18_method_35_code (4 : Nat) (Option.some Jvm.ClassFile.FieldType.int)) ∈ lw_all := lw_g (lw_at lw_m8 117 rfl) rfl
theorem q1863 : (Jvm.Cond.instanceMethod ({ cls := "IncidentKeeperModel", name := "reopen", desc := "(I)I" } : Jvm.MethodName)) ∈ lw_all := lw_g (lw_at lw_m8 119 rfl) rfl
theorem q1864 : (Jvm.Cond.selects "IncidentKeeperModel" ({ cls := "IncidentKeeperModel", name := "reopen", desc := "(I)I" } : Jvm.MethodName) ({ cls := "IncidentKeeperModel", name := "reopen", desc := "(I)I" } : Jvm.MethodName)) ∈ lw_all := lw_g (lw_at lw_m8 120 rfl) rfl
theorem q1865 : (Jvm.Cond.code ({ cls := "IncidentKeeperModel", name := "reopen", desc := "(I)I" } : Jvm.MethodName) prog_18_method_38_code (5 : Nat) (Option.some Jvm.ClassFile.FieldType.int)) ∈ lw_all := lw_g (lw_at lw_m8 121 rfl) rfl
theorem q1867 : (Jvm.Cond.instanceMethod ({ cls := "IncidentKeeperModel", name := "close", desc := "(I)I" } : Jvm.MethodName)) ∈ lw_all := lw_g (lw_at lw_m8 123 rfl) rfl
theorem q1868 : (Jvm.Cond.selects "IncidentKeeperModel" ({ cls := "IncidentKeeperModel", name := "close", desc := "(I)I" } : Jvm.MethodName) ({ cls := "IncidentKeeperModel", name := "close", desc := "(I)I" } : Jvm.MethodName)) ∈ lw_all := lw_g (lw_at lw_m8 124 rfl) rfl
theorem q1869 : (Jvm.Cond.code ({ cls := "IncidentKeeperModel", name := "close", desc := "(I)I" } : Jvm.MethodName) prog_18_method_42_code (3 : Nat) (Option.some Jvm.ClassFile.FieldType.int)) ∈ lw_all := lw_g (lw_at lw_m8 125 rfl) rfl
theorem q1870 : (Jvm.Cond.methodLink "IncidentKeeperModel" (139 : Nat) ({ cls := "IncidentKeeperModel", name := "openAction", desc := "(I)I" } : Jvm.MethodName)) ∈ lw_all := lw_g (lw_at lw_m8 126 rfl) rfl
theorem q1871 : (Jvm.Cond.privateMethod ({ cls := "IncidentKeeperModel", name := "openAction", desc := "(I)I" } : Jvm.MethodName)) ∈ lw_tbl := lw_at lw_m8 127 rfl
theorem q1872 : (Jvm.Cond.instanceMethod ({ cls := "IncidentKeeperModel", name := "openAction", desc := "(I)I" } : Jvm.MethodName)) ∈ lw_all := lw_g (lw_at lw_m8 128 rfl) rfl
theorem q1873 : (Jvm.Cond.code ({ cls := "IncidentKeeperModel", name := "openAction", desc := "(I)I" } : Jvm.MethodName) prog_18_method_41_code (3 : Nat) (Option.some Jvm.ClassFile.FieldType.int)) ∈ lw_all := lw_g (lw_at lw_m8 129 rfl) rfl
theorem q1874 : (Jvm.Cond.methodLink "IncidentKeeperModel" (136 : Nat) ({ cls := "IncidentKeeperModel", name := "actionTold", desc := "(II)I" } : Jvm.MethodName)) ∈ lw_all := lw_g (lw_at lw_m8 130 rfl) rfl
theorem q1875 : (Jvm.Cond.privateMethod ({ cls := "IncidentKeeperModel", name := "actionTold", desc := "(II)I" } : Jvm.MethodName)) ∈ lw_tbl := lw_at lw_m8 131 rfl
theorem q1876 : (Jvm.Cond.instanceMethod ({ cls := "IncidentKeeperModel", name := "actionTold", desc := "(II)I" } : Jvm.MethodName)) ∈ lw_all := lw_g (lw_at lw_m8 132 rfl) rfl
theorem q1877 : (Jvm.Cond.code ({ cls := "IncidentKeeperModel", name := "actionTold", desc := "(II)I" } : Jvm.MethodName) prog_18_method_40_code (3 : Nat) (Option.some Jvm.ClassFile.FieldType.int)) ∈ lw_all := lw_g (lw_at lw_m8 133 rfl) rfl
theorem q1878 : (Jvm.Cond.methodLink "IncidentKeeperModel" (142 : Nat) ({ cls := "IncidentKeeperModel", name := "inState", desc := "(I)I" } : Jvm.MethodName)) ∈ lw_all := lw_g (lw_at lw_m8 134 rfl) rfl
theorem q1879 : (Jvm.Cond.privateMethod ({ cls := "IncidentKeeperModel", name := "inState", desc := "(I)I" } : Jvm.MethodName)) ∈ lw_tbl := lw_at lw_m8 135 rfl
theorem q1880 : (Jvm.Cond.instanceMethod ({ cls := "IncidentKeeperModel", name := "inState", desc := "(I)I" } : Jvm.MethodName)) ∈ lw_all := lw_g (lw_at lw_m8 136 rfl) rfl
theorem q1881 : (Jvm.Cond.code ({ cls := "IncidentKeeperModel", name := "inState", desc := "(I)I" } : Jvm.MethodName) prog_18_method_39_code (4 : Nat) (Option.some Jvm.ClassFile.FieldType.int)) ∈ lw_all := lw_g (lw_at lw_m8 137 rfl) rfl
theorem q1883 : (Jvm.Cond.instanceMethod ({ cls := "IncidentKeeperModel", name := "cause", desc := "(II)I" } : Jvm.MethodName)) ∈ lw_all := lw_g (lw_at lw_m8 139 rfl) rfl
theorem q1884 : (Jvm.Cond.selects "IncidentKeeperModel" ({ cls := "IncidentKeeperModel", name := "cause", desc := "(II)I" } : Jvm.MethodName) ({ cls := "IncidentKeeperModel", name := "cause", desc := "(II)I" } : Jvm.MethodName)) ∈ lw_all := lw_g (lw_at lw_m8 140 rfl) rfl
theorem q1885 : (Jvm.Cond.code ({ cls := "IncidentKeeperModel", name := "cause", desc := "(II)I" } : Jvm.MethodName) prog_18_method_44_code (3 : Nat) (Option.some Jvm.ClassFile.FieldType.int)) ∈ lw_all := lw_g (lw_at lw_m8 141 rfl) rfl
theorem q1886 : (Jvm.Cond.methodLink "IncidentKeeperModel" (145 : Nat) ({ cls := "IncidentKeeperModel", name := "bitsOf", desc := "(I)I" } : Jvm.MethodName)) ∈ lw_all := lw_g (lw_at lw_m8 142 rfl) rfl
theorem q1887 : (Jvm.Cond.static ({ cls := "IncidentKeeperModel", name := "bitsOf", desc := "(I)I" } : Jvm.MethodName)) ∈ lw_all := lw_g (lw_at lw_m8 143 rfl) rfl
theorem q1888 : (Jvm.Cond.code ({ cls := "IncidentKeeperModel", name := "bitsOf", desc := "(I)I" } : Jvm.MethodName) prog_18_method_43_code (3 : Nat) (Option.some Jvm.ClassFile.FieldType.int)) ∈ lw_all := lw_g (lw_at lw_m8 144 rfl) rfl
theorem q1890 : (Jvm.Cond.instanceMethod ({ cls := "IncidentKeeperModel", name := "note", desc := "(III)I" } : Jvm.MethodName)) ∈ lw_all := lw_g (lw_at lw_m8 146 rfl) rfl
theorem q1891 : (Jvm.Cond.selects "IncidentKeeperModel" ({ cls := "IncidentKeeperModel", name := "note", desc := "(III)I" } : Jvm.MethodName) ({ cls := "IncidentKeeperModel", name := "note", desc := "(III)I" } : Jvm.MethodName)) ∈ lw_all := lw_g (lw_at lw_m8 147 rfl) rfl
theorem q1892 : (Jvm.Cond.code ({ cls := "IncidentKeeperModel", name := "note", desc := "(III)I" } : Jvm.MethodName) prog_18_method_45_code (5 : Nat) (Option.some Jvm.ClassFile.FieldType.int)) ∈ lw_all := lw_g (lw_at lw_m8 148 rfl) rfl
theorem q1894 : (Jvm.Cond.instanceMethod ({ cls := "IncidentKeeperModel", name := "link", desc := "(II)I" } : Jvm.MethodName)) ∈ lw_all := lw_g (lw_at lw_m8 150 rfl) rfl
theorem q1895 : (Jvm.Cond.selects "IncidentKeeperModel" ({ cls := "IncidentKeeperModel", name := "link", desc := "(II)I" } : Jvm.MethodName) ({ cls := "IncidentKeeperModel", name := "link", desc := "(II)I" } : Jvm.MethodName)) ∈ lw_all := lw_g (lw_at lw_m8 151 rfl) rfl
theorem q1896 : (Jvm.Cond.code ({ cls := "IncidentKeeperModel", name := "link", desc := "(II)I" } : Jvm.MethodName) prog_18_method_47_code (4 : Nat) (Option.some Jvm.ClassFile.FieldType.int)) ∈ lw_all := lw_g (lw_at lw_m8 152 rfl) rfl
theorem q1897 : (Jvm.Cond.methodLink "IncidentKeeperModel" (148 : Nat) ({ cls := "IncidentKeeperModel", name := "isSuspected", desc := "(II)Z" } : Jvm.MethodName)) ∈ lw_all := lw_g (lw_at lw_m8 153 rfl) rfl
theorem q1898 : (Jvm.Cond.privateMethod ({ cls := "IncidentKeeperModel", name := "isSuspected", desc := "(II)Z" } : Jvm.MethodName)) ∈ lw_tbl := lw_at lw_m8 154 rfl
theorem q1899 : (Jvm.Cond.instanceMethod ({ cls := "IncidentKeeperModel", name := "isSuspected", desc := "(II)Z" } : Jvm.MethodName)) ∈ lw_all := lw_g (lw_at lw_m8 155 rfl) rfl
theorem q1900 : (Jvm.Cond.code ({ cls := "IncidentKeeperModel", name := "isSuspected", desc := "(II)Z" } : Jvm.MethodName) prog_18_method_46_code (4 : Nat) (Option.some Jvm.ClassFile.FieldType.boolean)) ∈ lw_all := lw_g (lw_at lw_m8 156 rfl) rfl
theorem q1902 : (Jvm.Cond.instanceMethod ({ cls := "IncidentKeeperModel", name := "review", desc := "(I)I" } : Jvm.MethodName)) ∈ lw_all := lw_g (lw_at lw_m8 158 rfl) rfl
theorem q1903 : (Jvm.Cond.selects "IncidentKeeperModel" ({ cls := "IncidentKeeperModel", name := "review", desc := "(I)I" } : Jvm.MethodName) ({ cls := "IncidentKeeperModel", name := "review", desc := "(I)I" } : Jvm.MethodName)) ∈ lw_all := lw_g (lw_at lw_m8 159 rfl) rfl
theorem q1904 : (Jvm.Cond.code ({ cls := "IncidentKeeperModel", name := "review", desc := "(I)I" } : Jvm.MethodName) prog_18_method_48_code (3 : Nat) (Option.some Jvm.ClassFile.FieldType.int)) ∈ lw_all := lw_g (lw_at lw_m8 160 rfl) rfl
theorem q1906 : (Jvm.Cond.instanceMethod ({ cls := "IncidentKeeperModel", name := "action", desc := "(III)I" } : Jvm.MethodName)) ∈ lw_all := lw_g (lw_at lw_m8 162 rfl) rfl
theorem q1907 : (Jvm.Cond.selects "IncidentKeeperModel" ({ cls := "IncidentKeeperModel", name := "action", desc := "(III)I" } : Jvm.MethodName) ({ cls := "IncidentKeeperModel", name := "action", desc := "(III)I" } : Jvm.MethodName)) ∈ lw_all := lw_g (lw_at lw_m8 163 rfl) rfl
theorem q1908 : (Jvm.Cond.code ({ cls := "IncidentKeeperModel", name := "action", desc := "(III)I" } : Jvm.MethodName) prog_18_method_49_code (5 : Nat) (Option.some Jvm.ClassFile.FieldType.int)) ∈ lw_all := lw_g (lw_at lw_m8 164 rfl) rfl
theorem q1910 : (Jvm.Cond.instanceMethod ({ cls := "IncidentKeeperModel", name := "finish", desc := "(I)I" } : Jvm.MethodName)) ∈ lw_all := lw_g (lw_at lw_m8 166 rfl) rfl
theorem q1911 : (Jvm.Cond.selects "IncidentKeeperModel" ({ cls := "IncidentKeeperModel", name := "finish", desc := "(I)I" } : Jvm.MethodName) ({ cls := "IncidentKeeperModel", name := "finish", desc := "(I)I" } : Jvm.MethodName)) ∈ lw_all := lw_g (lw_at lw_m8 167 rfl) rfl
theorem q1912 : (Jvm.Cond.code ({ cls := "IncidentKeeperModel", name := "finish", desc := "(I)I" } : Jvm.MethodName) prog_18_method_51_code (2 : Nat) (Option.some Jvm.ClassFile.FieldType.int)) ∈ lw_all := lw_g (lw_at lw_m8 168 rfl) rfl
theorem q1913 : (Jvm.Cond.methodLink "IncidentKeeperModel" (152 : Nat) ({ cls := "IncidentKeeperModel", name := "actionsOf", desc := "(II)I" } : Jvm.MethodName)) ∈ lw_all := lw_g (lw_at lw_m8 169 rfl) rfl
theorem q1914 : (Jvm.Cond.privateMethod ({ cls := "IncidentKeeperModel", name := "actionsOf", desc := "(II)I" } : Jvm.MethodName)) ∈ lw_tbl := lw_at lw_m8 170 rfl
theorem q1915 : (Jvm.Cond.instanceMethod ({ cls := "IncidentKeeperModel", name := "actionsOf", desc := "(II)I" } : Jvm.MethodName)) ∈ lw_all := lw_g (lw_at lw_m8 171 rfl) rfl
theorem q1916 : (Jvm.Cond.code ({ cls := "IncidentKeeperModel", name := "actionsOf", desc := "(II)I" } : Jvm.MethodName) prog_18_method_50_code (5 : Nat) (Option.some Jvm.ClassFile.FieldType.int)) ∈ lw_all := lw_g (lw_at lw_m8 172 rfl) rfl
theorem q1918 : (Jvm.Cond.instanceMethod ({ cls := "IncidentKeeperModel", name := "pass", desc := "(I)I" } : Jvm.MethodName)) ∈ lw_all := lw_g (lw_at lw_m8 174 rfl) rfl
theorem q1919 : (Jvm.Cond.selects "IncidentKeeperModel" ({ cls := "IncidentKeeperModel", name := "pass", desc := "(I)I" } : Jvm.MethodName) ({ cls := "IncidentKeeperModel", name := "pass", desc := "(I)I" } : Jvm.MethodName)) ∈ lw_all := lw_g (lw_at lw_m8 175 rfl) rfl
theorem q1920 : (Jvm.Cond.code ({ cls := "IncidentKeeperModel", name := "pass", desc := "(I)I" } : Jvm.MethodName) prog_18_method_53_code (5 : Nat) (Option.some Jvm.ClassFile.FieldType.int)) ∈ lw_all := lw_g (lw_at lw_m8 176 rfl) rfl
theorem q1921 : (Jvm.Cond.methodLink "IncidentKeeperModel" (155 : Nat) ({ cls := "IncidentKeeperModel", name := "minute", desc := "(I)I" } : Jvm.MethodName)) ∈ lw_all := lw_g (lw_at lw_m8 177 rfl) rfl
theorem q1922 : (Jvm.Cond.privateMethod ({ cls := "IncidentKeeperModel", name := "minute", desc := "(I)I" } : Jvm.MethodName)) ∈ lw_tbl := lw_at lw_m8 178 rfl
theorem q1923 : (Jvm.Cond.instanceMethod ({ cls := "IncidentKeeperModel", name := "minute", desc := "(I)I" } : Jvm.MethodName)) ∈ lw_all := lw_g (lw_at lw_m8 179 rfl) rfl
theorem q1924 : (Jvm.Cond.code ({ cls := "IncidentKeeperModel", name := "minute", desc := "(I)I" } : Jvm.MethodName) prog_18_method_52_code (5 : Nat) (Option.some Jvm.ClassFile.FieldType.int)) ∈ lw_all := lw_g (lw_at lw_m8 180 rfl) rfl
theorem q1926 : (Jvm.Cond.instanceMethod ({ cls := "IncidentKeeperModel", name := "append", desc := "(C)I" } : Jvm.MethodName)) ∈ lw_all := lw_g (lw_at lw_m8 182 rfl) rfl
theorem q1927 : (Jvm.Cond.selects "IncidentKeeperModel" ({ cls := "IncidentKeeperModel", name := "append", desc := "(C)I" } : Jvm.MethodName) ({ cls := "IncidentKeeperModel", name := "append", desc := "(C)I" } : Jvm.MethodName)) ∈ lw_all := lw_g (lw_at lw_m8 183 rfl) rfl
theorem q1928 : (Jvm.Cond.code ({ cls := "IncidentKeeperModel", name := "append", desc := "(C)I" } : Jvm.MethodName) prog_18_method_54_code (2 : Nat) (Option.some Jvm.ClassFile.FieldType.int)) ∈ lw_all := lw_g (lw_at lw_m8 184 rfl) rfl
theorem q1930 : (Jvm.Cond.instanceMethod ({ cls := "IncidentKeeperModel", name := "run", desc := "()I" } : Jvm.MethodName)) ∈ lw_all := lw_g (lw_at lw_m8 186 rfl) rfl
theorem q1931 : (Jvm.Cond.selects "IncidentKeeperModel" ({ cls := "IncidentKeeperModel", name := "run", desc := "()I" } : Jvm.MethodName) ({ cls := "IncidentKeeperModel", name := "run", desc := "()I" } : Jvm.MethodName)) ∈ lw_all := lw_g (lw_at lw_m8 187 rfl) rfl
theorem q1932 : (Jvm.Cond.code ({ cls := "IncidentKeeperModel", name := "run", desc := "()I" } : Jvm.MethodName) prog_18_method_61_code (3 : Nat) (Option.some Jvm.ClassFile.FieldType.int)) ∈ lw_all := lw_g (lw_at lw_m8 188 rfl) rfl
theorem q1933 : (Jvm.Cond.methodLink "IncidentKeeperModel" (206 : Nat) ({ cls := "IncidentKeeperModel", name := "isText", desc := "()Z" } : Jvm.MethodName)) ∈ lw_all := lw_g (lw_at lw_m8 189 rfl) rfl
theorem q1934 : (Jvm.Cond.privateMethod ({ cls := "IncidentKeeperModel", name := "isText", desc := "()Z" } : Jvm.MethodName)) ∈ lw_tbl := lw_at lw_m8 190 rfl
theorem q1935 : (Jvm.Cond.instanceMethod ({ cls := "IncidentKeeperModel", name := "isText", desc := "()Z" } : Jvm.MethodName)) ∈ lw_all := lw_g (lw_at lw_m8 191 rfl) rfl
theorem q1936 : (Jvm.Cond.code ({ cls := "IncidentKeeperModel", name := "isText", desc := "()Z" } : Jvm.MethodName) prog_18_method_59_code (1 : Nat) (Option.some Jvm.ClassFile.FieldType.boolean)) ∈ lw_all := lw_g (lw_at lw_m8 192 rfl) rfl
theorem q1937 : (Jvm.Cond.methodLink "IncidentKeeperModel" (176 : Nat) ({ cls := "IncidentKeeperModel", name := "entry", desc := "()Z" } : Jvm.MethodName)) ∈ lw_all := lw_g (lw_at lw_m8 193 rfl) rfl
theorem q1938 : (Jvm.Cond.privateMethod ({ cls := "IncidentKeeperModel", name := "entry", desc := "()Z" } : Jvm.MethodName)) ∈ lw_tbl := lw_at lw_m8 194 rfl
theorem q1939 : (Jvm.Cond.instanceMethod ({ cls := "IncidentKeeperModel", name := "entry", desc := "()Z" } : Jvm.MethodName)) ∈ lw_all := lw_g (lw_at lw_m8 195 rfl) rfl
theorem q1940 : (Jvm.Cond.code ({ cls := "IncidentKeeperModel", name := "entry", desc := "()Z" } : Jvm.MethodName) prog_18_method_58_code (2 : Nat) (Option.some Jvm.ClassFile.FieldType.boolean)) ∈ lw_all := lw_g (lw_at lw_m8 196 rfl) rfl
theorem q1941 : (Jvm.Cond.methodLink "IncidentKeeperModel" (164 : Nat) ({ cls := "IncidentKeeperModel", name := "here", desc := "()I" } : Jvm.MethodName)) ∈ lw_all := lw_g (lw_at lw_m8 197 rfl) rfl
theorem q1942 : (Jvm.Cond.privateMethod ({ cls := "IncidentKeeperModel", name := "here", desc := "()I" } : Jvm.MethodName)) ∈ lw_tbl := lw_at lw_m8 198 rfl
theorem q1943 : (Jvm.Cond.instanceMethod ({ cls := "IncidentKeeperModel", name := "here", desc := "()I" } : Jvm.MethodName)) ∈ lw_all := lw_g (lw_at lw_m8 199 rfl) rfl
theorem q1944 : (Jvm.Cond.code ({ cls := "IncidentKeeperModel", name := "here", desc := "()I" } : Jvm.MethodName) prog_18_method_55_code (1 : Nat) (Option.some Jvm.ClassFile.FieldType.int)) ∈ lw_all := lw_g (lw_at lw_m8 200 rfl) rfl
theorem q1945 : (Jvm.Cond.methodLink "IncidentKeeperModel" (170 : Nat) ({ cls := "IncidentKeeperModel", name := "skips", desc := "(I)Z" } : Jvm.MethodName)) ∈ lw_all := lw_g (lw_at lw_m8 201 rfl) rfl
theorem q1946 : (Jvm.Cond.privateMethod ({ cls := "IncidentKeeperModel", name := "skips", desc := "(I)Z" } : Jvm.MethodName)) ∈ lw_tbl := lw_at lw_m8 202 rfl
theorem q1947 : (Jvm.Cond.instanceMethod ({ cls := "IncidentKeeperModel", name := "skips", desc := "(I)Z" } : Jvm.MethodName)) ∈ lw_all := lw_g (lw_at lw_m8 203 rfl) rfl
theorem q1948 : (Jvm.Cond.code ({ cls := "IncidentKeeperModel", name := "skips", desc := "(I)Z" } : Jvm.MethodName) prog_18_method_56_code (3 : Nat) (Option.some Jvm.ClassFile.FieldType.boolean)) ∈ lw_all := lw_g (lw_at lw_m8 204 rfl) rfl
theorem q1949 : (Jvm.Cond.methodLink "IncidentKeeperModel" (173 : Nat) ({ cls := "IncidentKeeperModel", name := "number", desc := "(II)Z" } : Jvm.MethodName)) ∈ lw_all := lw_g (lw_at lw_m8 205 rfl) rfl
theorem q1950 : (Jvm.Cond.privateMethod ({ cls := "IncidentKeeperModel", name := "number", desc := "(II)Z" } : Jvm.MethodName)) ∈ lw_tbl := lw_at lw_m8 206 rfl
theorem q1951 : (Jvm.Cond.instanceMethod ({ cls := "IncidentKeeperModel", name := "number", desc := "(II)Z" } : Jvm.MethodName)) ∈ lw_all := lw_g (lw_at lw_m8 207 rfl) rfl
theorem q1952 : (Jvm.Cond.code ({ cls := "IncidentKeeperModel", name := "number", desc := "(II)Z" } : Jvm.MethodName) prog_18_method_57_code (4 : Nat) (Option.some Jvm.ClassFile.FieldType.boolean)) ∈ lw_all := lw_g (lw_at lw_m8 208 rfl) rfl
theorem q1953 : (Jvm.Cond.methodLink "IncidentKeeperModel" (209 : Nat) ({ cls := "IncidentKeeperModel", name := "carriesOut", desc := "(I)V" } : Jvm.MethodName)) ∈ lw_all := lw_g (lw_at lw_m8 209 rfl) rfl
theorem q1954 : (Jvm.Cond.privateMethod ({ cls := "IncidentKeeperModel", name := "carriesOut", desc := "(I)V" } : Jvm.MethodName)) ∈ lw_tbl := lw_at lw_m8 210 rfl
theorem q1955 : (Jvm.Cond.instanceMethod ({ cls := "IncidentKeeperModel", name := "carriesOut", desc := "(I)V" } : Jvm.MethodName)) ∈ lw_all := lw_g (lw_at lw_m8 211 rfl) rfl
theorem q1956 : (Jvm.Cond.code ({ cls := "IncidentKeeperModel", name := "carriesOut", desc := "(I)V" } : Jvm.MethodName) prog_18_method_60_code (4 : Nat) (Option.none : Option Jvm.ClassFile.FieldType)) ∈ lw_all := lw_g (lw_at lw_m8 212 rfl) rfl
theorem q1957 : (Jvm.Cond.methodLink "IncidentKeeperModel" (179 : Nat) ({ cls := "IncidentKeeperModel", name := "open", desc := "(II)I" } : Jvm.MethodName)) ∈ lw_all := lw_g (lw_at lw_m8 213 rfl) rfl
theorem q1958 : (Jvm.Cond.methodLink "IncidentKeeperModel" (182 : Nat) ({ cls := "IncidentKeeperModel", name := "hand", desc := "(II)I" } : Jvm.MethodName)) ∈ lw_all := lw_g (lw_at lw_m8 214 rfl) rfl
theorem q1959 : (Jvm.Cond.methodLink "IncidentKeeperModel" (185 : Nat) ({ cls := "IncidentKeeperModel", name := "stop", desc := "(II)I" } : Jvm.MethodName)) ∈ lw_all := lw_g (lw_at lw_m8 215 rfl) rfl
theorem q1960 : (Jvm.Cond.methodLink "IncidentKeeperModel" (188 : Nat) ({ cls := "IncidentKeeperModel", name := "go", desc := "(II)I" } : Jvm.MethodName)) ∈ lw_all := lw_g (lw_at lw_m8 216 rfl) rfl
theorem q1961 : (Jvm.Cond.methodLink "IncidentKeeperModel" (191 : Nat) ({ cls := "IncidentKeeperModel", name := "rate", desc := "(II)I" } : Jvm.MethodName)) ∈ lw_all := lw_g (lw_at lw_m8 217 rfl) rfl
theorem q1962 : (Jvm.Cond.methodLink "IncidentKeeperModel" (194 : Nat) ({ cls := "IncidentKeeperModel", name := "resolve", desc := "(I)I" } : Jvm.MethodName)) ∈ lw_all := lw_g (lw_at lw_m8 218 rfl) rfl
theorem q1963 : (Jvm.Cond.methodLink "IncidentKeeperModel" (197 : Nat) ({ cls := "IncidentKeeperModel", name := "reopen", desc := "(I)I" } : Jvm.MethodName)) ∈ lw_all := lw_g (lw_at lw_m8 219 rfl) rfl
theorem q1964 : (Jvm.Cond.methodLink "IncidentKeeperModel" (200 : Nat) ({ cls := "IncidentKeeperModel", name := "close", desc := "(I)I" } : Jvm.MethodName)) ∈ lw_all := lw_g (lw_at lw_m8 220 rfl) rfl
theorem q1965 : (Jvm.Cond.methodLink "IncidentKeeperModel" (203 : Nat) ({ cls := "IncidentKeeperModel", name := "pass", desc := "(I)I" } : Jvm.MethodName)) ∈ lw_all := lw_g (lw_at lw_m8 221 rfl) rfl
theorem q1967 : (Jvm.Cond.instanceMethod ({ cls := "IncidentKeeperModel", name := "faultPosition", desc := "()I" } : Jvm.MethodName)) ∈ lw_all := lw_g (lw_at lw_m8 223 rfl) rfl
theorem q1968 : (Jvm.Cond.selects "IncidentKeeperModel" ({ cls := "IncidentKeeperModel", name := "faultPosition", desc := "()I" } : Jvm.MethodName) ({ cls := "IncidentKeeperModel", name := "faultPosition", desc := "()I" } : Jvm.MethodName)) ∈ lw_all := lw_g (lw_at lw_m8 224 rfl) rfl
theorem q1969 : (Jvm.Cond.code ({ cls := "IncidentKeeperModel", name := "faultPosition", desc := "()I" } : Jvm.MethodName) prog_18_method_62_code (1 : Nat) (Option.some Jvm.ClassFile.FieldType.int)) ∈ lw_all := lw_g (lw_at lw_m8 225 rfl) rfl
theorem q1971 : (Jvm.Cond.instanceMethod ({ cls := "IncidentKeeperModel", name := "reason", desc := "(I)I" } : Jvm.MethodName)) ∈ lw_all := lw_g (lw_at lw_m8 227 rfl) rfl
theorem q1972 : (Jvm.Cond.selects "IncidentKeeperModel" ({ cls := "IncidentKeeperModel", name := "reason", desc := "(I)I" } : Jvm.MethodName) ({ cls := "IncidentKeeperModel", name := "reason", desc := "(I)I" } : Jvm.MethodName)) ∈ lw_all := lw_g (lw_at lw_m8 228 rfl) rfl
theorem q1973 : (Jvm.Cond.code ({ cls := "IncidentKeeperModel", name := "reason", desc := "(I)I" } : Jvm.MethodName) prog_18_method_63_code (2 : Nat) (Option.some Jvm.ClassFile.FieldType.int)) ∈ lw_all := lw_g (lw_at lw_m8 229 rfl) rfl
theorem q1975 : (Jvm.Cond.instanceMethod ({ cls := "IncidentKeeperModel", name := "incident", desc := "(II)I" } : Jvm.MethodName)) ∈ lw_all := lw_g (lw_at lw_m8 231 rfl) rfl
theorem q1976 : (Jvm.Cond.selects "IncidentKeeperModel" ({ cls := "IncidentKeeperModel", name := "incident", desc := "(II)I" } : Jvm.MethodName) ({ cls := "IncidentKeeperModel", name := "incident", desc := "(II)I" } : Jvm.MethodName)) ∈ lw_all := lw_g (lw_at lw_m8 232 rfl) rfl
theorem q1977 : (Jvm.Cond.code ({ cls := "IncidentKeeperModel", name := "incident", desc := "(II)I" } : Jvm.MethodName) prog_18_method_65_code (3 : Nat) (Option.some Jvm.ClassFile.FieldType.int)) ∈ lw_all := lw_g (lw_at lw_m8 233 rfl) rfl
theorem q1978 : (Jvm.Cond.methodLink "IncidentKeeperModel" (213 : Nat) ({ cls := "IncidentKeeperModel", name := "ageOf", desc := "(I)I" } : Jvm.MethodName)) ∈ lw_all := lw_g (lw_at lw_m8 234 rfl) rfl
theorem q1979 : (Jvm.Cond.privateMethod ({ cls := "IncidentKeeperModel", name := "ageOf", desc := "(I)I" } : Jvm.MethodName)) ∈ lw_tbl := lw_at lw_m8 235 rfl
theorem q1980 : (Jvm.Cond.instanceMethod ({ cls := "IncidentKeeperModel", name := "ageOf", desc := "(I)I" } : Jvm.MethodName)) ∈ lw_all := lw_g (lw_at lw_m8 236 rfl) rfl
theorem q1981 : (Jvm.Cond.code ({ cls := "IncidentKeeperModel", name := "ageOf", desc := "(I)I" } : Jvm.MethodName) prog_18_method_64_code (2 : Nat) (Option.some Jvm.ClassFile.FieldType.int)) ∈ lw_all := lw_g (lw_at lw_m8 237 rfl) rfl
theorem q1983 : (Jvm.Cond.instanceMethod ({ cls := "IncidentKeeperModel", name := "count", desc := "(II)I" } : Jvm.MethodName)) ∈ lw_all := lw_g (lw_at lw_m8 239 rfl) rfl
theorem q1984 : (Jvm.Cond.selects "IncidentKeeperModel" ({ cls := "IncidentKeeperModel", name := "count", desc := "(II)I" } : Jvm.MethodName) ({ cls := "IncidentKeeperModel", name := "count", desc := "(II)I" } : Jvm.MethodName)) ∈ lw_all := lw_g (lw_at lw_m9 0 rfl) rfl
theorem q1985 : (Jvm.Cond.code ({ cls := "IncidentKeeperModel", name := "count", desc := "(II)I" } : Jvm.MethodName) prog_18_method_66_code (3 : Nat) (Option.some Jvm.ClassFile.FieldType.int)) ∈ lw_all := lw_g (lw_at lw_m9 1 rfl) rfl
theorem q1987 : (Jvm.Cond.instanceMethod ({ cls := "IncidentKeeperModel", name := "clockAgain", desc := "(I)I" } : Jvm.MethodName)) ∈ lw_all := lw_g (lw_at lw_m9 3 rfl) rfl
theorem q1988 : (Jvm.Cond.selects "IncidentKeeperModel" ({ cls := "IncidentKeeperModel", name := "clockAgain", desc := "(I)I" } : Jvm.MethodName) ({ cls := "IncidentKeeperModel", name := "clockAgain", desc := "(I)I" } : Jvm.MethodName)) ∈ lw_all := lw_g (lw_at lw_m9 4 rfl) rfl
theorem q1989 : (Jvm.Cond.code ({ cls := "IncidentKeeperModel", name := "clockAgain", desc := "(I)I" } : Jvm.MethodName) prog_18_method_67_code (2 : Nat) (Option.some Jvm.ClassFile.FieldType.int)) ∈ lw_all := lw_g (lw_at lw_m9 5 rfl) rfl
theorem q1991 : (Jvm.Cond.instanceMethod ({ cls := "IncidentKeeperModel", name := "tree", desc := "(I)I" } : Jvm.MethodName)) ∈ lw_all := lw_g (lw_at lw_m9 7 rfl) rfl
theorem q1992 : (Jvm.Cond.selects "IncidentKeeperModel" ({ cls := "IncidentKeeperModel", name := "tree", desc := "(I)I" } : Jvm.MethodName) ({ cls := "IncidentKeeperModel", name := "tree", desc := "(I)I" } : Jvm.MethodName)) ∈ lw_all := lw_g (lw_at lw_m9 8 rfl) rfl
theorem q1993 : (Jvm.Cond.code ({ cls := "IncidentKeeperModel", name := "tree", desc := "(I)I" } : Jvm.MethodName) prog_18_method_68_code (2 : Nat) (Option.some Jvm.ClassFile.FieldType.int)) ∈ lw_all := lw_g (lw_at lw_m9 9 rfl) rfl
theorem q1995 : (Jvm.Cond.instanceMethod ({ cls := "IncidentKeeperModel", name := "deepest", desc := "(I)I" } : Jvm.MethodName)) ∈ lw_all := lw_g (lw_at lw_m9 11 rfl) rfl
theorem q1996 : (Jvm.Cond.selects "IncidentKeeperModel" ({ cls := "IncidentKeeperModel", name := "deepest", desc := "(I)I" } : Jvm.MethodName) ({ cls := "IncidentKeeperModel", name := "deepest", desc := "(I)I" } : Jvm.MethodName)) ∈ lw_all := lw_g (lw_at lw_m9 12 rfl) rfl
theorem q1997 : (Jvm.Cond.code ({ cls := "IncidentKeeperModel", name := "deepest", desc := "(I)I" } : Jvm.MethodName) prog_18_method_69_code (5 : Nat) (Option.some Jvm.ClassFile.FieldType.int)) ∈ lw_all := lw_g (lw_at lw_m9 13 rfl) rfl
theorem q1999 : (Jvm.Cond.instanceMethod ({ cls := "IncidentKeeperModel", name := "treeClock", desc := "(I)I" } : Jvm.MethodName)) ∈ lw_all := lw_g (lw_at lw_m9 15 rfl) rfl
theorem q2000 : (Jvm.Cond.selects "IncidentKeeperModel" ({ cls := "IncidentKeeperModel", name := "treeClock", desc := "(I)I" } : Jvm.MethodName) ({ cls := "IncidentKeeperModel", name := "treeClock", desc := "(I)I" } : Jvm.MethodName)) ∈ lw_all := lw_g (lw_at lw_m9 16 rfl) rfl
theorem q2001 : (Jvm.Cond.code ({ cls := "IncidentKeeperModel", name := "treeClock", desc := "(I)I" } : Jvm.MethodName) prog_18_method_70_code (5 : Nat) (Option.some Jvm.ClassFile.FieldType.int)) ∈ lw_all := lw_g (lw_at lw_m9 17 rfl) rfl
theorem q2003 : (Jvm.Cond.instanceMethod ({ cls := "IncidentKeeperModel", name := "suspects", desc := "(I)I" } : Jvm.MethodName)) ∈ lw_all := lw_g (lw_at lw_m9 19 rfl) rfl
theorem q2004 : (Jvm.Cond.selects "IncidentKeeperModel" ({ cls := "IncidentKeeperModel", name := "suspects", desc := "(I)I" } : Jvm.MethodName) ({ cls := "IncidentKeeperModel", name := "suspects", desc := "(I)I" } : Jvm.MethodName)) ∈ lw_all := lw_g (lw_at lw_m9 20 rfl) rfl
theorem q2005 : (Jvm.Cond.code ({ cls := "IncidentKeeperModel", name := "suspects", desc := "(I)I" } : Jvm.MethodName) prog_18_method_72_code (2 : Nat) (Option.some Jvm.ClassFile.FieldType.int)) ∈ lw_all := lw_g (lw_at lw_m9 21 rfl) rfl
theorem q2006 : (Jvm.Cond.methodLink "IncidentKeeperModel" (216 : Nat) ({ cls := "IncidentKeeperModel", name := "suspectsOf", desc := "(I)I" } : Jvm.MethodName)) ∈ lw_all := lw_g (lw_at lw_m9 22 rfl) rfl
theorem q2007 : (Jvm.Cond.privateMethod ({ cls := "IncidentKeeperModel", name := "suspectsOf", desc := "(I)I" } : Jvm.MethodName)) ∈ lw_tbl := lw_at lw_m9 23 rfl
theorem q2008 : (Jvm.Cond.instanceMethod ({ cls := "IncidentKeeperModel", name := "suspectsOf", desc := "(I)I" } : Jvm.MethodName)) ∈ lw_all := lw_g (lw_at lw_m9 24 rfl) rfl
theorem q2009 : (Jvm.Cond.code ({ cls := "IncidentKeeperModel", name := "suspectsOf", desc := "(I)I" } : Jvm.MethodName) prog_18_method_71_code (4 : Nat) (Option.some Jvm.ClassFile.FieldType.int)) ∈ lw_all := lw_g (lw_at lw_m9 25 rfl) rfl
theorem q2011 : (Jvm.Cond.instanceMethod ({ cls := "IncidentKeeperModel", name := "likeliest", desc := "(I)I" } : Jvm.MethodName)) ∈ lw_all := lw_g (lw_at lw_m9 27 rfl) rfl
theorem q2012 : (Jvm.Cond.selects "IncidentKeeperModel" ({ cls := "IncidentKeeperModel", name := "likeliest", desc := "(I)I" } : Jvm.MethodName) ({ cls := "IncidentKeeperModel", name := "likeliest", desc := "(I)I" } : Jvm.MethodName)) ∈ lw_all := lw_g (lw_at lw_m9 28 rfl) rfl
theorem q2013 : (Jvm.Cond.code ({ cls := "IncidentKeeperModel", name := "likeliest", desc := "(I)I" } : Jvm.MethodName) prog_18_method_73_code (4 : Nat) (Option.some Jvm.ClassFile.FieldType.int)) ∈ lw_all := lw_g (lw_at lw_m9 29 rfl) rfl
theorem q2015 : (Jvm.Cond.instanceMethod ({ cls := "IncidentKeeperModel", name := "next", desc := "()I" } : Jvm.MethodName)) ∈ lw_all := lw_g (lw_at lw_m9 31 rfl) rfl
theorem q2016 : (Jvm.Cond.selects "IncidentKeeperModel" ({ cls := "IncidentKeeperModel", name := "next", desc := "()I" } : Jvm.MethodName) ({ cls := "IncidentKeeperModel", name := "next", desc := "()I" } : Jvm.MethodName)) ∈ lw_all := lw_g (lw_at lw_m9 32 rfl) rfl
theorem q2017 : (Jvm.Cond.code ({ cls := "IncidentKeeperModel", name := "next", desc := "()I" } : Jvm.MethodName) prog_18_method_74_code (3 : Nat) (Option.some Jvm.ClassFile.FieldType.int)) ∈ lw_all := lw_g (lw_at lw_m9 33 rfl) rfl
theorem q2019 : (Jvm.Cond.instanceMethod ({ cls := "IncidentKeeperModel", name := "risesIn", desc := "(I)I" } : Jvm.MethodName)) ∈ lw_all := lw_g (lw_at lw_m9 35 rfl) rfl
theorem q2020 : (Jvm.Cond.selects "IncidentKeeperModel" ({ cls := "IncidentKeeperModel", name := "risesIn", desc := "(I)I" } : Jvm.MethodName) ({ cls := "IncidentKeeperModel", name := "risesIn", desc := "(I)I" } : Jvm.MethodName)) ∈ lw_all := lw_g (lw_at lw_m9 36 rfl) rfl
theorem q2021 : (Jvm.Cond.code ({ cls := "IncidentKeeperModel", name := "risesIn", desc := "(I)I" } : Jvm.MethodName) prog_18_method_76_code (5 : Nat) (Option.some Jvm.ClassFile.FieldType.int)) ∈ lw_all := lw_g (lw_at lw_m9 37 rfl) rfl
theorem q2022 : (Jvm.Cond.methodLink "IncidentKeeperModel" (219 : Nat) ({ cls := "IncidentKeeperModel", name := "atLeastOne", desc := "(I)I" } : Jvm.MethodName)) ∈ lw_all := lw_g (lw_at lw_m9 38 rfl) rfl
theorem q2023 : (Jvm.Cond.static ({ cls := "IncidentKeeperModel", name := "atLeastOne", desc := "(I)I" } : Jvm.MethodName)) ∈ lw_all := lw_g (lw_at lw_m9 39 rfl) rfl
theorem q2024 : (Jvm.Cond.code ({ cls := "IncidentKeeperModel", name := "atLeastOne", desc := "(I)I" } : Jvm.MethodName) prog_18_method_75_code (1 : Nat) (Option.some Jvm.ClassFile.FieldType.int)) ∈ lw_all := lw_g (lw_at lw_m9 40 rfl) rfl
theorem q2026 : (Jvm.Cond.instanceMethod ({ cls := "IncidentKeeperModel", name := "person", desc := "(II)I" } : Jvm.MethodName)) ∈ lw_all := lw_g (lw_at lw_m9 42 rfl) rfl
theorem q2027 : (Jvm.Cond.selects "IncidentKeeperModel" ({ cls := "IncidentKeeperModel", name := "person", desc := "(II)I" } : Jvm.MethodName) ({ cls := "IncidentKeeperModel", name := "person", desc := "(II)I" } : Jvm.MethodName)) ∈ lw_all := lw_g (lw_at lw_m9 43 rfl) rfl
theorem q2028 : (Jvm.Cond.code ({ cls := "IncidentKeeperModel", name := "person", desc := "(II)I" } : Jvm.MethodName) prog_18_method_77_code (6 : Nat) (Option.some Jvm.ClassFile.FieldType.int)) ∈ lw_all := lw_g (lw_at lw_m9 44 rfl) rfl
theorem q2030 : (Jvm.Cond.instanceMethod ({ cls := "IncidentKeeperModel", name := "reviewOf", desc := "(II)I" } : Jvm.MethodName)) ∈ lw_all := lw_g (lw_at lw_m9 46 rfl) rfl
theorem q2031 : (Jvm.Cond.selects "IncidentKeeperModel" ({ cls := "IncidentKeeperModel", name := "reviewOf", desc := "(II)I" } : Jvm.MethodName) ({ cls := "IncidentKeeperModel", name := "reviewOf", desc := "(II)I" } : Jvm.MethodName)) ∈ lw_all := lw_g (lw_at lw_m9 47 rfl) rfl
theorem q2032 : (Jvm.Cond.code ({ cls := "IncidentKeeperModel", name := "reviewOf", desc := "(II)I" } : Jvm.MethodName) prog_18_method_78_code (3 : Nat) (Option.some Jvm.ClassFile.FieldType.int)) ∈ lw_all := lw_g (lw_at lw_m9 48 rfl) rfl
theorem q2034 : (Jvm.Cond.instanceMethod ({ cls := "IncidentKeeperModel", name := "event", desc := "(II)I" } : Jvm.MethodName)) ∈ lw_all := lw_g (lw_at lw_m9 50 rfl) rfl
theorem q2035 : (Jvm.Cond.selects "IncidentKeeperModel" ({ cls := "IncidentKeeperModel", name := "event", desc := "(II)I" } : Jvm.MethodName) ({ cls := "IncidentKeeperModel", name := "event", desc := "(II)I" } : Jvm.MethodName)) ∈ lw_all := lw_g (lw_at lw_m9 51 rfl) rfl
theorem q2036 : (Jvm.Cond.code ({ cls := "IncidentKeeperModel", name := "event", desc := "(II)I" } : Jvm.MethodName) prog_18_method_79_code (3 : Nat) (Option.some Jvm.ClassFile.FieldType.int)) ∈ lw_all := lw_g (lw_at lw_m9 52 rfl) rfl
theorem q2038 : (Jvm.Cond.instanceMethod ({ cls := "IncidentKeeperModel", name := "letter", desc := "(I)C" } : Jvm.MethodName)) ∈ lw_all := lw_g (lw_at lw_m9 54 rfl) rfl
theorem q2039 : (Jvm.Cond.selects "IncidentKeeperModel" ({ cls := "IncidentKeeperModel", name := "letter", desc := "(I)C" } : Jvm.MethodName) ({ cls := "IncidentKeeperModel", name := "letter", desc := "(I)C" } : Jvm.MethodName)) ∈ lw_all := lw_g (lw_at lw_m9 55 rfl) rfl
theorem q2040 : (Jvm.Cond.code ({ cls := "IncidentKeeperModel", name := "letter", desc := "(I)C" } : Jvm.MethodName) prog_18_method_80_code (3 : Nat) (Option.some Jvm.ClassFile.FieldType.char)) ∈ lw_all := lw_g (lw_at lw_m9 56 rfl) rfl
theorem q2042 : (Jvm.Cond.instanceMethod ({ cls := "IncidentKeeperModel", name := "stoppedShare", desc := "(I)F" } : Jvm.MethodName)) ∈ lw_all := lw_g (lw_at lw_m9 58 rfl) rfl
theorem q2043 : (Jvm.Cond.selects "IncidentKeeperModel" ({ cls := "IncidentKeeperModel", name := "stoppedShare", desc := "(I)F" } : Jvm.MethodName) ({ cls := "IncidentKeeperModel", name := "stoppedShare", desc := "(I)F" } : Jvm.MethodName)) ∈ lw_all := lw_g (lw_at lw_m9 59 rfl) rfl
theorem q2044 : (Jvm.Cond.code ({ cls := "IncidentKeeperModel", name := "stoppedShare", desc := "(I)F" } : Jvm.MethodName) prog_18_method_81_code (2 : Nat) (Option.some Jvm.ClassFile.FieldType.float)) ∈ lw_all := lw_g (lw_at lw_m9 60 rfl) rfl
theorem q2046 : (Jvm.Cond.instanceMethod ({ cls := "IncidentKeeperModel", name := "meanClock", desc := "()D" } : Jvm.MethodName)) ∈ lw_all := lw_g (lw_at lw_m9 62 rfl) rfl
theorem q2047 : (Jvm.Cond.selects "IncidentKeeperModel" ({ cls := "IncidentKeeperModel", name := "meanClock", desc := "()D" } : Jvm.MethodName) ({ cls := "IncidentKeeperModel", name := "meanClock", desc := "()D" } : Jvm.MethodName)) ∈ lw_all := lw_g (lw_at lw_m9 63 rfl) rfl
theorem q2048 : (Jvm.Cond.code ({ cls := "IncidentKeeperModel", name := "meanClock", desc := "()D" } : Jvm.MethodName) prog_18_method_82_code (4 : Nat) (Option.some Jvm.ClassFile.FieldType.double)) ∈ lw_all := lw_g (lw_at lw_m9 64 rfl) rfl
theorem q2050 : (Jvm.Cond.instanceMethod ({ cls := "IncidentKeeperModel", name := "account", desc := "(I)I" } : Jvm.MethodName)) ∈ lw_all := lw_g (lw_at lw_m9 66 rfl) rfl
theorem q2051 : (Jvm.Cond.selects "IncidentKeeperModel" ({ cls := "IncidentKeeperModel", name := "account", desc := "(I)I" } : Jvm.MethodName) ({ cls := "IncidentKeeperModel", name := "account", desc := "(I)I" } : Jvm.MethodName)) ∈ lw_all := lw_g (lw_at lw_m9 67 rfl) rfl
theorem q2052 : (Jvm.Cond.code ({ cls := "IncidentKeeperModel", name := "account", desc := "(I)I" } : Jvm.MethodName) prog_18_method_84_code (2 : Nat) (Option.some Jvm.ClassFile.FieldType.int)) ∈ lw_all := lw_g (lw_at lw_m9 68 rfl) rfl
theorem q2053 : (Jvm.Cond.methodLink "IncidentKeeperModel" (222 : Nat) ({ cls := "IncidentKeeperModel", name := "few", desc := "(I)I" } : Jvm.MethodName)) ∈ lw_all := lw_g (lw_at lw_m9 69 rfl) rfl
theorem q2054 : (Jvm.Cond.privateMethod ({ cls := "IncidentKeeperModel", name := "few", desc := "(I)I" } : Jvm.MethodName)) ∈ lw_tbl := lw_at lw_m9 70 rfl
theorem q2055 : (Jvm.Cond.instanceMethod ({ cls := "IncidentKeeperModel", name := "few", desc := "(I)I" } : Jvm.MethodName)) ∈ lw_all := lw_g (lw_at lw_m9 71 rfl) rfl
theorem q2056 : (Jvm.Cond.code ({ cls := "IncidentKeeperModel", name := "few", desc := "(I)I" } : Jvm.MethodName) prog_18_method_83_code (4 : Nat) (Option.some Jvm.ClassFile.FieldType.int)) ∈ lw_all := lw_g (lw_at lw_m9 72 rfl) rfl
theorem q2067 : (Jvm.Cond.castable "IncidentKeeperModel" "java/lang/Object") ∈ lw_tbl := lw_at lw_m9 83 rfl
theorem in_X3 : ∀ w ∈ wsX30, w ∈ lw_all := lw_in wsX30 [1683, 1685, 1687, 1689, 1691, 1693, 1695, 1697, 1699, 1701, 1703, 1705, 1707, 1709, 1711, 1713, 1715, 1717, 1719] (by decide +kernel) (by decide +kernel)
