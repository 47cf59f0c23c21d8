/-! IncidentKeeper$Core$Descendants -/
set_option maxRecDepth 100000
def RX10 : String := "IncidentKeeper$Core$Descendants"
def TX10 : u_T := fun k => match k with
  | 0 => ("IncidentKeeper$Core$Descendants", "root", "I", true)
  | _ => ("IncidentKeeper$Core$Descendants", "this$0", "LIncidentKeeper$Core;", true)
def tyX10 : Nat → FieldType := fun k => match k with
  | 0 => .int
  | _ => .object "IncidentKeeper$Core"
abbrev wsX100 : List Cond := u_ws RX10 TX10 2
theorem nmX10 : ∀ a, a < 2 → ∀ b, b < 2 → a ≠ b → (TX10 a).2.1 ≠ (TX10 b).2.1 := by decide +kernel
theorem tyX10_ok : ∀ k, k < 2 → parseFieldDescriptor (TX10 k).2.2.1 = some (tyX10 k) := by decide +kernel
abbrev cX10_init : ByteArray := prog_7_method_1_code
def yX10_init : MethodName := ⟨RX10, "<init>", "(LIncidentKeeper$Core;I)V"⟩
def dkwX10_init_0 : List UInt8 := [42, 43, 181, 0, 1, 42, 183, 0, 7, 42, 28, 181, 0, 13, 177]
abbrev dktX10_init_0 : List UInt8 := dkwX10_init_0 ++ []
theorem dksX10_init_0 : cX10_init.data.toList.drop 0 = dktX10_init_0 := by decide +kernel
theorem dX10_init_0 : decode cX10_init 0 = .ok (.aload_n 0, 1) := dk_42 (dk_at dksX10_init_0 0 rfl rfl)
theorem dX10_init_1 : decode cX10_init 1 = .ok (.aload_n 1, 1) := dk_43 (dk_at dksX10_init_0 1 rfl rfl)
theorem dX10_init_2 : decode cX10_init 2 = .ok (.putfield 1, 3) := dk_181 0 1 (dk_at dksX10_init_0 2 rfl rfl)
theorem dX10_init_5 : decode cX10_init 5 = .ok (.aload_n 0, 1) := dk_42 (dk_at dksX10_init_0 5 rfl rfl)
theorem dX10_init_6 : decode cX10_init 6 = .ok (.invokespecial 7, 3) := dk_183 0 7 (dk_at dksX10_init_0 6 rfl rfl)
theorem dX10_init_9 : decode cX10_init 9 = .ok (.aload_n 0, 1) := dk_42 (dk_at dksX10_init_0 9 rfl rfl)
theorem dX10_init_10 : decode cX10_init 10 = .ok (.iload_n 2, 1) := dk_28 (dk_at dksX10_init_0 10 rfl rfl)
theorem dX10_init_11 : decode cX10_init 11 = .ok (.putfield 13, 3) := dk_181 0 13 (dk_at dksX10_init_0 11 rfl rfl)
theorem dX10_init_14 : decode cX10_init 14 = .ok (.return_, 1) := dk_177 (dk_at dksX10_init_0 14 rfl rfl)
abbrev cX10_iterator : ByteArray := prog_7_method_3_code
def yX10_iterator : MethodName := ⟨RX10, "iterator", "()Ljava/util/Iterator;"⟩
def dkwX10_iterator_0 : List UInt8 := [187, 0, 34, 89, 42, 183, 0, 36, 176]
abbrev dktX10_iterator_0 : List UInt8 := dkwX10_iterator_0 ++ []
theorem dksX10_iterator_0 : cX10_iterator.data.toList.drop 0 = dktX10_iterator_0 := by decide +kernel
theorem dX10_iterator_0 : decode cX10_iterator 0 = .ok (.new 34, 3) := dk_187 0 34 (dk_at dksX10_iterator_0 0 rfl rfl)
theorem dX10_iterator_3 : decode cX10_iterator 3 = .ok (.dup, 1) := dk_89 (dk_at dksX10_iterator_0 3 rfl rfl)
theorem dX10_iterator_4 : decode cX10_iterator 4 = .ok (.aload_n 0, 1) := dk_42 (dk_at dksX10_iterator_0 4 rfl rfl)
theorem dX10_iterator_5 : decode cX10_iterator 5 = .ok (.invokespecial 36, 3) := dk_183 0 36 (dk_at dksX10_iterator_0 5 rfl rfl)
theorem dX10_iterator_8 : decode cX10_iterator 8 = .ok (.areturn, 1) := dk_176 (dk_at dksX10_iterator_0 8 rfl rfl)
abbrev cX10_isBelow : ByteArray := prog_7_method_2_code
def yX10_isBelow : MethodName := ⟨RX10, "isBelow", "(LIncidentKeeper$Core$Incident;)Z"⟩
def dkwX10_isBelow_1 : List UInt8 := [192, 0, 18, 180, 0, 17, 61, 167, 255, 230, 28, 42, 180, 0, 13, 160, 0, 7, 4, 167, 0, 4, 3, 172]
abbrev dktX10_isBelow_1 : List UInt8 := dkwX10_isBelow_1 ++ []
def dkwX10_isBelow_0 : List UInt8 := [43, 180, 0, 17, 61, 28, 42, 180, 0, 13, 164, 0, 24, 42, 180, 0, 1, 180, 0, 22, 28, 182, 0, 28]
abbrev dktX10_isBelow_0 : List UInt8 := dkwX10_isBelow_0 ++ dktX10_isBelow_1
theorem dksX10_isBelow_0 : cX10_isBelow.data.toList.drop 0 = dktX10_isBelow_0 := by decide +kernel
theorem dksX10_isBelow_1 : cX10_isBelow.data.toList.drop 24 = dktX10_isBelow_1 := dk_seg dksX10_isBelow_0 24 rfl rfl
theorem dX10_isBelow_0 : decode cX10_isBelow 0 = .ok (.aload_n 1, 1) := dk_43 (dk_at dksX10_isBelow_0 0 rfl rfl)
theorem dX10_isBelow_1 : decode cX10_isBelow 1 = .ok (.getfield 17, 3) := dk_180 0 17 (dk_at dksX10_isBelow_0 1 rfl rfl)
theorem dX10_isBelow_4 : decode cX10_isBelow 4 = .ok (.istore_n 2, 1) := dk_61 (dk_at dksX10_isBelow_0 4 rfl rfl)
theorem dX10_isBelow_5 : decode cX10_isBelow 5 = .ok (.iload_n 2, 1) := dk_28 (dk_at dksX10_isBelow_0 5 rfl rfl)
theorem dX10_isBelow_6 : decode cX10_isBelow 6 = .ok (.aload_n 0, 1) := dk_42 (dk_at dksX10_isBelow_0 6 rfl rfl)
theorem dX10_isBelow_7 : decode cX10_isBelow 7 = .ok (.getfield 13, 3) := dk_180 0 13 (dk_at dksX10_isBelow_0 7 rfl rfl)
theorem dX10_isBelow_10 : decode cX10_isBelow 10 = .ok (.if_icmp .le 24, 3) := dk_164 0 24 (dk_at dksX10_isBelow_0 10 rfl rfl)
theorem dX10_isBelow_13 : decode cX10_isBelow 13 = .ok (.aload_n 0, 1) := dk_42 (dk_at dksX10_isBelow_0 13 rfl rfl)
theorem dX10_isBelow_14 : decode cX10_isBelow 14 = .ok (.getfield 1, 3) := dk_180 0 1 (dk_at dksX10_isBelow_0 14 rfl rfl)
theorem dX10_isBelow_17 : decode cX10_isBelow 17 = .ok (.getfield 22, 3) := dk_180 0 22 (dk_at dksX10_isBelow_0 17 rfl rfl)
theorem dX10_isBelow_20 : decode cX10_isBelow 20 = .ok (.iload_n 2, 1) := dk_28 (dk_at dksX10_isBelow_0 20 rfl rfl)
theorem dX10_isBelow_21 : decode cX10_isBelow 21 = .ok (.invokevirtual 28, 3) := dk_182 0 28 (dk_at dksX10_isBelow_0 21 rfl rfl)
theorem dX10_isBelow_24 : decode cX10_isBelow 24 = .ok (.checkcast 18, 3) := dk_192 0 18 (dk_at dksX10_isBelow_1 0 rfl rfl)
theorem dX10_isBelow_27 : decode cX10_isBelow 27 = .ok (.getfield 17, 3) := dk_180 0 17 (dk_at dksX10_isBelow_1 3 rfl rfl)
theorem dX10_isBelow_30 : decode cX10_isBelow 30 = .ok (.istore_n 2, 1) := dk_61 (dk_at dksX10_isBelow_1 6 rfl rfl)
theorem dX10_isBelow_31 : decode cX10_isBelow 31 = .ok (.goto (-26), 3) := dk_167 255 230 (dk_at dksX10_isBelow_1 7 rfl rfl)
theorem dX10_isBelow_34 : decode cX10_isBelow 34 = .ok (.iload_n 2, 1) := dk_28 (dk_at dksX10_isBelow_1 10 rfl rfl)
theorem dX10_isBelow_35 : decode cX10_isBelow 35 = .ok (.aload_n 0, 1) := dk_42 (dk_at dksX10_isBelow_1 11 rfl rfl)
theorem dX10_isBelow_36 : decode cX10_isBelow 36 = .ok (.getfield 13, 3) := dk_180 0 13 (dk_at dksX10_isBelow_1 12 rfl rfl)
theorem dX10_isBelow_39 : decode cX10_isBelow 39 = .ok (.if_icmp .ne 7, 3) := dk_160 0 7 (dk_at dksX10_isBelow_1 15 rfl rfl)
theorem dX10_isBelow_42 : decode cX10_isBelow 42 = .ok (.iconst 1, 1) := dk_4 (dk_at dksX10_isBelow_1 18 rfl rfl)
theorem dX10_isBelow_43 : decode cX10_isBelow 43 = .ok (.goto 4, 3) := dk_167 0 4 (dk_at dksX10_isBelow_1 19 rfl rfl)
theorem dX10_isBelow_46 : decode cX10_isBelow 46 = .ok (.iconst 0, 1) := dk_3 (dk_at dksX10_isBelow_1 22 rfl rfl)
theorem dX10_isBelow_47 : decode cX10_isBelow 47 = .ok (.ireturn, 1) := dk_172 (dk_at dksX10_isBelow_1 23 rfl rfl)
theorem q85 : (Jvm.Cond.initialized "IncidentKeeper$Core$Descendants") ∈ lw_all := lw_g (lw_at lw_m1 21 rfl) rfl
theorem q146 : (Jvm.Cond.fieldLinkNest "IncidentKeeper$Core$Descendants" (22 : Nat) "IncidentKeeper$Core" "incidents" "Ljava/util/ArrayList;" "IncidentKeeper") ∈ lw_tbl := lw_at lw_m1 82 rfl
theorem q317 : (Jvm.Cond.fieldLinkNest "IncidentKeeper$Core$Descendants" (17 : Nat) "IncidentKeeper$Core$Incident" "parent" "I" "IncidentKeeper") ∈ lw_tbl := lw_at lw_m2 13 rfl
theorem q408 : (Jvm.Cond.selects "IncidentKeeper$Core$Descendants" ({ cls := "java/lang/Object", name := "getClass", desc := "()Ljava/lang/Class;" } : Jvm.MethodName) ({ cls := "java/lang/Object", name := "getClass", desc := "()Ljava/lang/Class;" } : Jvm.MethodName)) ∈ lw_all := lw_g (lw_at lw_m2 104 rfl) rfl
theorem q727 : (Jvm.Cond.instantiable "IncidentKeeper$Core$Descendants" (2 : Nat)) ∈ lw_all := lw_g (lw_at lw_m3 183 rfl) rfl
theorem q729 : (Jvm.Cond.instanceMethod ({ cls := "IncidentKeeper$Core$Descendants", name := "<init>", desc := "(LIncidentKeeper$Core;I)V" } : Jvm.MethodName)) ∈ lw_all := lw_g (lw_at lw_m3 185 rfl) rfl
theorem q730 : (Jvm.Cond.code ({ cls := "IncidentKeeper$Core$Descendants", name := "<init>", desc := "(LIncidentKeeper$Core;I)V" } : Jvm.MethodName) prog_7_method_1_code (3 : Nat) (Option.none : Option Jvm.ClassFile.FieldType)) ∈ lw_all := lw_g (lw_at lw_m3 186 rfl) rfl
theorem q731 : (Jvm.Cond.methodLink "IncidentKeeper$Core$Descendants" (7 : Nat) ({ cls := "java/lang/Object", name := "<init>", desc := "()V" } : Jvm.MethodName)) ∈ lw_all := lw_g (lw_at lw_m3 187 rfl) rfl
theorem q732 : (Jvm.Cond.fieldLink "IncidentKeeper$Core$Descendants" (13 : Nat) "IncidentKeeper$Core$Descendants" "root" "I") ∈ lw_all := lw_g (lw_at lw_m3 188 rfl) rfl
theorem q734 : (Jvm.Cond.fieldLink "IncidentKeeper$Core$Descendants" (1 : Nat) "IncidentKeeper$Core$Descendants" "this$0" "LIncidentKeeper$Core;") ∈ lw_all := lw_g (lw_at lw_m3 190 rfl) rfl
theorem q736 : (Jvm.Cond.laysFinal "IncidentKeeper$Core$Descendants" "IncidentKeeper$Core$Descendants" "root" "I") ∈ lw_all := lw_g (lw_at lw_m3 192 rfl) rfl
theorem q737 : (Jvm.Cond.soleField "IncidentKeeper$Core$Descendants" "root") ∈ lw_all := lw_g (lw_at lw_m3 193 rfl) rfl
theorem q738 : (Jvm.Cond.laysFinal "IncidentKeeper$Core$Descendants" "IncidentKeeper$Core$Descendants" "this$0" "LIncidentKeeper$Core;") ∈ lw_all := lw_g (lw_at lw_m3 194 rfl) rfl
theorem q739 : (Jvm.Cond.soleField "IncidentKeeper$Core$Descendants" "this$0") ∈ lw_all := lw_g (lw_at lw_m3 195 rfl) rfl
theorem q740 : (Jvm.Cond.superclass "IncidentKeeper$Core$Descendants" "java/lang/Object") ∈ lw_all := lw_g (lw_at lw_m3 196 rfl) rfl
theorem q742 : (Jvm.Cond.instanceMethod ({ cls := "IncidentKeeper$Core$Descendants", name := "iterator", desc := "()Ljava/util/Iterator;" } : Jvm.MethodName)) ∈ lw_all := lw_g (lw_at lw_m3 198 rfl) rfl
theorem q743 : (Jvm.Cond.selects "IncidentKeeper$Core$Descendants" ({ cls := "IncidentKeeper$Core$Descendants", name := "iterator", desc := "()Ljava/util/Iterator;" } : Jvm.MethodName) ({ cls := "IncidentKeeper$Core$Descendants", name := "iterator", desc := "()Ljava/util/Iterator;" } : Jvm.MethodName)) ∈ lw_all := lw_g (lw_at lw_m3 199 rfl) rfl
theorem q744 : (Jvm.Cond.code ({ cls := "IncidentKeeper$Core$Descendants", name := "iterator", desc := "()Ljava/util/Iterator;" } : Jvm.MethodName) prog_7_method_3_code (1 : Nat) (Option.some (Jvm.ClassFile.FieldType.object "java/util/Iterator"))) ∈ lw_all := lw_g (lw_at lw_m3 200 rfl) rfl
theorem q745 : (Jvm.Cond.classLink "IncidentKeeper$Core$Descendants" (34 : Nat) "IncidentKeeper$Core$Descendants$1") ∈ lw_all := lw_g (lw_at lw_m3 201 rfl) rfl
theorem q747 : (Jvm.Cond.methodLink "IncidentKeeper$Core$Descendants" (36 : Nat) ({ cls := "IncidentKeeper$Core$Descendants$1", name := "<init>", desc := "(LIncidentKeeper$Core$Descendants;)V" } : Jvm.MethodName)) ∈ lw_all := lw_g (lw_at lw_m3 203 rfl) rfl
theorem q759 : (Jvm.Cond.privateMethod ({ cls := "IncidentKeeper$Core$Descendants", name := "isBelow", desc := "(LIncidentKeeper$Core$Incident;)Z" } : Jvm.MethodName)) ∈ lw_tbl := lw_at lw_m3 215 rfl
theorem q760 : (Jvm.Cond.instanceMethod ({ cls := "IncidentKeeper$Core$Descendants", name := "isBelow", desc := "(LIncidentKeeper$Core$Incident;)Z" } : Jvm.MethodName)) ∈ lw_all := lw_g (lw_at lw_m3 216 rfl) rfl
theorem q761 : (Jvm.Cond.code ({ cls := "IncidentKeeper$Core$Descendants", name := "isBelow", desc := "(LIncidentKeeper$Core$Incident;)Z" } : Jvm.MethodName) prog_7_method_2_code (3 : Nat) (Option.some Jvm.ClassFile.FieldType.boolean)) ∈ lw_all := lw_g (lw_at lw_m3 217 rfl) rfl
theorem q762 : (Jvm.Cond.methodLink "IncidentKeeper$Core$Descendants" (28 : Nat) ({ cls := "java/util/ArrayList", name := "get", desc := "(I)Ljava/lang/Object;" } : Jvm.MethodName)) ∈ lw_all := lw_g (lw_at lw_m3 218 rfl) rfl
theorem q763 : (Jvm.Cond.classLink "IncidentKeeper$Core$Descendants" (18 : Nat) "IncidentKeeper$Core$Incident") ∈ lw_all := lw_g (lw_at lw_m3 219 rfl) rfl
theorem q2075 : (Jvm.Cond.castable "IncidentKeeper$Core$Descendants" "java/lang/Object") ∈ lw_tbl := lw_at lw_m9 91 rfl
theorem in_X10 : ∀ w ∈ wsX100, w ∈ lw_all := lw_in wsX100 [736, 738] (by decide +kernel) (by decide +kernel)
/-! IncidentKeeper$Core$Descendants$1 -/
set_option maxRecDepth 100000
def RX11 : String := "IncidentKeeper$Core$Descendants$1"
def TX11 : u_T := fun k => match k with
  | 0 => ("IncidentKeeper$Core$Descendants$1", "at", "I", false)
  | _ => ("IncidentKeeper$Core$Descendants$1", "this$1", "LIncidentKeeper$Core$Descendants;", true)
def tyX11 : Nat → FieldType := fun k => match k with
  | 0 => .int
  | _ => .object "IncidentKeeper$Core$Descendants"
abbrev wsX110 : List Cond := u_ws RX11 TX11 2
theorem nmX11 : ∀ a, a < 2 → ∀ b, b < 2 → a ≠ b → (TX11 a).2.1 ≠ (TX11 b).2.1 := by decide +kernel
theorem tyX11_ok : ∀ k, k < 2 → parseFieldDescriptor (TX11 k).2.2.1 = some (tyX11 k) := by decide +kernel
abbrev cX11_init : ByteArray := prog_8_method_1_code
def yX11_init : MethodName := ⟨RX11, "<init>", "(LIncidentKeeper$Core$Descendants;)V"⟩
def dkwX11_init_1 : List UInt8 := [177]
abbrev dktX11_init_1 : List UInt8 := dkwX11_init_1 ++ []
def dkwX11_init_0 : List UInt8 := [42, 43, 181, 0, 1, 42, 183, 0, 7, 42, 42, 42, 180, 0, 1, 180, 0, 13, 182, 0, 19, 181, 0, 23]
abbrev dktX11_init_0 : List UInt8 := dkwX11_init_0 ++ dktX11_init_1
theorem dksX11_init_0 : cX11_init.data.toList.drop 0 = dktX11_init_0 := by decide +kernel
theorem dksX11_init_1 : cX11_init.data.toList.drop 24 = dktX11_init_1 := dk_seg dksX11_init_0 24 rfl rfl
theorem dX11_init_0 : decode cX11_init 0 = .ok (.aload_n 0, 1) := dk_42 (dk_at dksX11_init_0 0 rfl rfl)
theorem dX11_init_1 : decode cX11_init 1 = .ok (.aload_n 1, 1) := dk_43 (dk_at dksX11_init_0 1 rfl rfl)
theorem dX11_init_2 : decode cX11_init 2 = .ok (.putfield 1, 3) := dk_181 0 1 (dk_at dksX11_init_0 2 rfl rfl)
theorem dX11_init_5 : decode cX11_init 5 = .ok (.aload_n 0, 1) := dk_42 (dk_at dksX11_init_0 5 rfl rfl)
theorem dX11_init_6 : decode cX11_init 6 = .ok (.invokespecial 7, 3) := dk_183 0 7 (dk_at dksX11_init_0 6 rfl rfl)
theorem dX11_init_9 : decode cX11_init 9 = .ok (.aload_n 0, 1) := dk_42 (dk_at dksX11_init_0 9 rfl rfl)
theorem dX11_init_10 : decode cX11_init 10 = .ok (.aload_n 0, 1) := dk_42 (dk_at dksX11_init_0 10 rfl rfl)
theorem dX11_init_11 : decode cX11_init 11 = .ok (.aload_n 0, 1) := dk_42 (dk_at dksX11_init_0 11 rfl rfl)
theorem dX11_init_12 : decode cX11_init 12 = .ok (.getfield 1, 3) := dk_180 0 1 (dk_at dksX11_init_0 12 rfl rfl)
theorem dX11_init_15 : decode cX11_init 15 = .ok (.getfield 13, 3) := dk_180 0 13 (dk_at dksX11_init_0 15 rfl rfl)
theorem dX11_init_18 : decode cX11_init 18 = .ok (.invokevirtual 19, 3) := dk_182 0 19 (dk_at dksX11_init_0 18 rfl rfl)
theorem dX11_init_21 : decode cX11_init 21 = .ok (.putfield 23, 3) := dk_181 0 23 (dk_at dksX11_init_0 21 rfl rfl)
theorem dX11_init_24 : decode cX11_init 24 = .ok (.return_, 1) := dk_177 (dk_at dksX11_init_1 0 rfl rfl)
abbrev cX11_after : ByteArray := prog_8_method_2_code
def yX11_after : MethodName := ⟨RX11, "after", "(I)I"⟩
def dkwX11_after_2 : List UInt8 := [154, 0, 9, 132, 2, 1, 167, 255, 209, 28, 172]
abbrev dktX11_after_2 : List UInt8 := dkwX11_after_2 ++ []
def dkwX11_after_1 : List UInt8 := [180, 0, 1, 42, 180, 0, 1, 180, 0, 26, 180, 0, 30, 28, 182, 0, 42, 192, 0, 46, 182, 0, 48]
abbrev dktX11_after_1 : List UInt8 := dkwX11_after_1 ++ dktX11_after_2
def dkwX11_after_0 : List UInt8 := [27, 4, 96, 61, 28, 42, 180, 0, 1, 180, 0, 26, 180, 0, 30, 182, 0, 36, 162, 0, 36, 42]
abbrev dktX11_after_0 : List UInt8 := dkwX11_after_0 ++ dktX11_after_1
theorem dksX11_after_0 : cX11_after.data.toList.drop 0 = dktX11_after_0 := by decide +kernel
theorem dksX11_after_1 : cX11_after.data.toList.drop 22 = dktX11_after_1 := dk_seg dksX11_after_0 22 rfl rfl
theorem dksX11_after_2 : cX11_after.data.toList.drop 45 = dktX11_after_2 := dk_seg dksX11_after_1 23 rfl rfl
theorem dX11_after_0 : decode cX11_after 0 = .ok (.iload_n 1, 1) := dk_27 (dk_at dksX11_after_0 0 rfl rfl)
theorem dX11_after_1 : decode cX11_after 1 = .ok (.iconst 1, 1) := dk_4 (dk_at dksX11_after_0 1 rfl rfl)
theorem dX11_after_2 : decode cX11_after 2 = .ok (.iadd, 1) := dk_96 (dk_at dksX11_after_0 2 rfl rfl)
theorem dX11_after_3 : decode cX11_after 3 = .ok (.istore_n 2, 1) := dk_61 (dk_at dksX11_after_0 3 rfl rfl)
theorem dX11_after_4 : decode cX11_after 4 = .ok (.iload_n 2, 1) := dk_28 (dk_at dksX11_after_0 4 rfl rfl)
theorem dX11_after_5 : decode cX11_after 5 = .ok (.aload_n 0, 1) := dk_42 (dk_at dksX11_after_0 5 rfl rfl)
theorem dX11_after_6 : decode cX11_after 6 = .ok (.getfield 1, 3) := dk_180 0 1 (dk_at dksX11_after_0 6 rfl rfl)
theorem dX11_after_9 : decode cX11_after 9 = .ok (.getfield 26, 3) := dk_180 0 26 (dk_at dksX11_after_0 9 rfl rfl)
theorem dX11_after_12 : decode cX11_after 12 = .ok (.getfield 30, 3) := dk_180 0 30 (dk_at dksX11_after_0 12 rfl rfl)
theorem dX11_after_15 : decode cX11_after 15 = .ok (.invokevirtual 36, 3) := dk_182 0 36 (dk_at dksX11_after_0 15 rfl rfl)
theorem dX11_after_18 : decode cX11_after 18 = .ok (.if_icmp .ge 36, 3) := dk_162 0 36 (dk_at dksX11_after_0 18 rfl rfl)
theorem dX11_after_21 : decode cX11_after 21 = .ok (.aload_n 0, 1) := dk_42 (dk_at dksX11_after_0 21 rfl rfl)
theorem dX11_after_22 : decode cX11_after 22 = .ok (.getfield 1, 3) := dk_180 0 1 (dk_at dksX11_after_1 0 rfl rfl)
theorem dX11_after_25 : decode cX11_after 25 = .ok (.aload_n 0, 1) := dk_42 (dk_at dksX11_after_1 3 rfl rfl)
theorem dX11_after_26 : decode cX11_after 26 = .ok (.getfield 1, 3) := dk_180 0 1 (dk_at dksX11_after_1 4 rfl rfl)
theorem dX11_after_29 : decode cX11_after 29 = .ok (.getfield 26, 3) := dk_180 0 26 (dk_at dksX11_after_1 7 rfl rfl)
theorem dX11_after_32 : decode cX11_after 32 = .ok (.getfield 30, 3) := dk_180 0 30 (dk_at dksX11_after_1 10 rfl rfl)
theorem dX11_after_35 : decode cX11_after 35 = .ok (.iload_n 2, 1) := dk_28 (dk_at dksX11_after_1 13 rfl rfl)
theorem dX11_after_36 : decode cX11_after 36 = .ok (.invokevirtual 42, 3) := dk_182 0 42 (dk_at dksX11_after_1 14 rfl rfl)
theorem dX11_after_39 : decode cX11_after 39 = .ok (.checkcast 46, 3) := dk_192 0 46 (dk_at dksX11_after_1 17 rfl rfl)
theorem dX11_after_42 : decode cX11_after 42 = .ok (.invokevirtual 48, 3) := dk_182 0 48 (dk_at dksX11_after_1 20 rfl rfl)
theorem dX11_after_45 : decode cX11_after 45 = .ok (.ifCond .ne 9, 3) := dk_154 0 9 (dk_at dksX11_after_2 0 rfl rfl)
theorem dX11_after_48 : decode cX11_after 48 = .ok (.iinc 2 1, 3) := dk_132 2 1 (dk_at dksX11_after_2 3 rfl rfl)
theorem dX11_after_51 : decode cX11_after 51 = .ok (.goto (-47), 3) := dk_167 255 209 (dk_at dksX11_after_2 6 rfl rfl)
theorem dX11_after_54 : decode cX11_after 54 = .ok (.iload_n 2, 1) := dk_28 (dk_at dksX11_after_2 9 rfl rfl)
theorem dX11_after_55 : decode cX11_after 55 = .ok (.ireturn, 1) := dk_172 (dk_at dksX11_after_2 10 rfl rfl)
abbrev cX11_hasNext : ByteArray := prog_8_method_3_code
def yX11_hasNext : MethodName := ⟨RX11, "hasNext", "()Z"⟩
def dkwX11_hasNext_1 : List UInt8 := [3, 172]
abbrev dktX11_hasNext_1 : List UInt8 := dkwX11_hasNext_1 ++ []
def dkwX11_hasNext_0 : List UInt8 := [42, 180, 0, 23, 42, 180, 0, 1, 180, 0, 26, 180, 0, 30, 182, 0, 36, 162, 0, 7, 4, 167, 0, 4]
abbrev dktX11_hasNext_0 : List UInt8 := dkwX11_hasNext_0 ++ dktX11_hasNext_1
theorem dksX11_hasNext_0 : cX11_hasNext.data.toList.drop 0 = dktX11_hasNext_0 := by decide +kernel
theorem dksX11_hasNext_1 : cX11_hasNext.data.toList.drop 24 = dktX11_hasNext_1 := dk_seg dksX11_hasNext_0 24 rfl rfl
theorem dX11_hasNext_0 : decode cX11_hasNext 0 = .ok (.aload_n 0, 1) := dk_42 (dk_at dksX11_hasNext_0 0 rfl rfl)
theorem dX11_hasNext_1 : decode cX11_hasNext 1 = .ok (.getfield 23, 3) := dk_180 0 23 (dk_at dksX11_hasNext_0 1 rfl rfl)
theorem dX11_hasNext_4 : decode cX11_hasNext 4 = .ok (.aload_n 0, 1) := dk_42 (dk_at dksX11_hasNext_0 4 rfl rfl)
theorem dX11_hasNext_5 : decode cX11_hasNext 5 = .ok (.getfield 1, 3) := dk_180 0 1 (dk_at dksX11_hasNext_0 5 rfl rfl)
theorem dX11_hasNext_8 : decode cX11_hasNext 8 = .ok (.getfield 26, 3) := dk_180 0 26 (dk_at dksX11_hasNext_0 8 rfl rfl)
theorem dX11_hasNext_11 : decode cX11_hasNext 11 = .ok (.getfield 30, 3) := dk_180 0 30 (dk_at dksX11_hasNext_0 11 rfl rfl)
theorem dX11_hasNext_14 : decode cX11_hasNext 14 = .ok (.invokevirtual 36, 3) := dk_182 0 36 (dk_at dksX11_hasNext_0 14 rfl rfl)
theorem dX11_hasNext_17 : decode cX11_hasNext 17 = .ok (.if_icmp .ge 7, 3) := dk_162 0 7 (dk_at dksX11_hasNext_0 17 rfl rfl)
theorem dX11_hasNext_20 : decode cX11_hasNext 20 = .ok (.iconst 1, 1) := dk_4 (dk_at dksX11_hasNext_0 20 rfl rfl)
theorem dX11_hasNext_21 : decode cX11_hasNext 21 = .ok (.goto 4, 3) := dk_167 0 4 (dk_at dksX11_hasNext_0 21 rfl rfl)
theorem dX11_hasNext_24 : decode cX11_hasNext 24 = .ok (.iconst 0, 1) := dk_3 (dk_at dksX11_hasNext_1 0 rfl rfl)
theorem dX11_hasNext_25 : decode cX11_hasNext 25 = .ok (.ireturn, 1) := dk_172 (dk_at dksX11_hasNext_1 1 rfl rfl)
abbrev cX11_next : ByteArray := prog_8_method_5_code
def yX11_next : MethodName := ⟨RX11, "next", "()Ljava/lang/Object;"⟩
theorem dX11_next_0 : decode cX11_next 0 = .ok (.aload_n 0, 1) := by decide +kernel
theorem dX11_next_1 : decode cX11_next 1 = .ok (.invokevirtual 52, 3) := by decide +kernel
theorem dX11_next_4 : decode cX11_next 4 = .ok (.areturn, 1) := by decide +kernel
abbrev cX11_next_2 : ByteArray := prog_8_method_4_code
def yX11_next_2 : MethodName := ⟨RX11, "next", "()LIncidentKeeper$Core$Incident;"⟩
def dkwX11_next_2_1 : List UInt8 := [180, 0, 23, 182, 0, 19, 181, 0, 23, 43, 176]
abbrev dktX11_next_2_1 : List UInt8 := dkwX11_next_2_1 ++ []
def dkwX11_next_2_0 : List UInt8 := [42, 180, 0, 1, 180, 0, 26, 180, 0, 30, 42, 180, 0, 23, 182, 0, 42, 192, 0, 46, 76, 42, 42, 42]
abbrev dktX11_next_2_0 : List UInt8 := dkwX11_next_2_0 ++ dktX11_next_2_1
theorem dksX11_next_2_0 : cX11_next_2.data.toList.drop 0 = dktX11_next_2_0 := by decide +kernel
theorem dksX11_next_2_1 : cX11_next_2.data.toList.drop 24 = dktX11_next_2_1 := dk_seg dksX11_next_2_0 24 rfl rfl
theorem dX11_next_2_0 : decode cX11_next_2 0 = .ok (.aload_n 0, 1) := dk_42 (dk_at dksX11_next_2_0 0 rfl rfl)
theorem dX11_next_2_1 : decode cX11_next_2 1 = .ok (.getfield 1, 3) := dk_180 0 1 (dk_at dksX11_next_2_0 1 rfl rfl)
theorem dX11_next_2_4 : decode cX11_next_2 4 = .ok (.getfield 26, 3) := dk_180 0 26 (dk_at dksX11_next_2_0 4 rfl rfl)
theorem dX11_next_2_7 : decode cX11_next_2 7 = .ok (.getfield 30, 3) := dk_180 0 30 (dk_at dksX11_next_2_0 7 rfl rfl)
theorem dX11_next_2_10 : decode cX11_next_2 10 = .ok (.aload_n 0, 1) := dk_42 (dk_at dksX11_next_2_0 10 rfl rfl)
theorem dX11_next_2_11 : decode cX11_next_2 11 = .ok (.getfield 23, 3) := dk_180 0 23 (dk_at dksX11_next_2_0 11 rfl rfl)
theorem dX11_next_2_14 : decode cX11_next_2 14 = .ok (.invokevirtual 42, 3) := dk_182 0 42 (dk_at dksX11_next_2_0 14 rfl rfl)
theorem dX11_next_2_17 : decode cX11_next_2 17 = .ok (.checkcast 46, 3) := dk_192 0 46 (dk_at dksX11_next_2_0 17 rfl rfl)
theorem dX11_next_2_20 : decode cX11_next_2 20 = .ok (.astore_n 1, 1) := dk_76 (dk_at dksX11_next_2_0 20 rfl rfl)
theorem dX11_next_2_21 : decode cX11_next_2 21 = .ok (.aload_n 0, 1) := dk_42 (dk_at dksX11_next_2_0 21 rfl rfl)
theorem dX11_next_2_22 : decode cX11_next_2 22 = .ok (.aload_n 0, 1) := dk_42 (dk_at dksX11_next_2_0 22 rfl rfl)
theorem dX11_next_2_23 : decode cX11_next_2 23 = .ok (.aload_n 0, 1) := dk_42 (dk_at dksX11_next_2_0 23 rfl rfl)
theorem dX11_next_2_24 : decode cX11_next_2 24 = .ok (.getfield 23, 3) := dk_180 0 23 (dk_at dksX11_next_2_1 0 rfl rfl)
theorem dX11_next_2_27 : decode cX11_next_2 27 = .ok (.invokevirtual 19, 3) := dk_182 0 19 (dk_at dksX11_next_2_1 3 rfl rfl)
theorem dX11_next_2_30 : decode cX11_next_2 30 = .ok (.putfield 23, 3) := dk_181 0 23 (dk_at dksX11_next_2_1 6 rfl rfl)
theorem dX11_next_2_33 : decode cX11_next_2 33 = .ok (.aload_n 1, 1) := dk_43 (dk_at dksX11_next_2_1 9 rfl rfl)
theorem dX11_next_2_34 : decode cX11_next_2 34 = .ok (.areturn, 1) := dk_176 (dk_at dksX11_next_2_1 10 rfl rfl)
theorem q86 : (Jvm.Cond.initialized "IncidentKeeper$Core$Descendants$1") ∈ lw_all := lw_g (lw_at lw_m1 22 rfl) rfl
theorem q145 : (Jvm.Cond.fieldLinkNest "IncidentKeeper$Core$Descendants$1" (30 : Nat) "IncidentKeeper$Core" "incidents" "Ljava/util/ArrayList;" "IncidentKeeper") ∈ lw_tbl := lw_at lw_m1 81 rfl
theorem q409 : (Jvm.Cond.selects "IncidentKeeper$Core$Descendants$1" ({ cls := "java/lang/Object", name := "getClass", desc := "()Ljava/lang/Class;" } : Jvm.MethodName) ({ cls := "java/lang/Object", name := "getClass", desc := "()Ljava/lang/Class;" } : Jvm.MethodName)) ∈ lw_all := lw_g (lw_at lw_m2 105 rfl) rfl
theorem q733 : (Jvm.Cond.fieldLinkNest "IncidentKeeper$Core$Descendants$1" (13 : Nat) "IncidentKeeper$Core$Descendants" "root" "I" "IncidentKeeper") ∈ lw_tbl := lw_at lw_m3 189 rfl
theorem q735 : (Jvm.Cond.fieldLink "IncidentKeeper$Core$Descendants$1" (26 : Nat) "IncidentKeeper$Core$Descendants" "this$0" "LIncidentKeeper$Core;") ∈ lw_all := lw_g (lw_at lw_m3 191 rfl) rfl
theorem q746 : (Jvm.Cond.instantiable "IncidentKeeper$Core$Descendants$1" (2 : Nat)) ∈ lw_all := lw_g (lw_at lw_m3 202 rfl) rfl
theorem q748 : (Jvm.Cond.instanceMethod ({ cls := "IncidentKeeper$Core$Descendants$1", name := "<init>", desc := "(LIncidentKeeper$Core$Descendants;)V" } : Jvm.MethodName)) ∈ lw_all := lw_g (lw_at lw_m3 204 rfl) rfl
theorem q749 : (Jvm.Cond.code ({ cls := "IncidentKeeper$Core$Descendants$1", name := "<init>", desc := "(LIncidentKeeper$Core$Descendants;)V" } : Jvm.MethodName) prog_8_method_1_code (2 : Nat) (Option.none : Option Jvm.ClassFile.FieldType)) ∈ lw_all := lw_g (lw_at lw_m3 205 rfl) rfl
theorem q750 : (Jvm.Cond.methodLink "IncidentKeeper$Core$Descendants$1" (7 : Nat) ({ cls := "java/lang/Object", name := "<init>", desc := "()V" } : Jvm.MethodName)) ∈ lw_all := lw_g (lw_at lw_m3 206 rfl) rfl
theorem q751 : (Jvm.Cond.methodLink "IncidentKeeper$Core$Descendants$1" (19 : Nat) ({ cls := "IncidentKeeper$Core$Descendants$1", name := "after", desc := "(I)I" } : Jvm.MethodName)) ∈ lw_all := lw_g (lw_at lw_m3 207 rfl) rfl
theorem q752 : (Jvm.Cond.privateMethod ({ cls := "IncidentKeeper$Core$Descendants$1", name := "after", desc := "(I)I" } : Jvm.MethodName)) ∈ lw_tbl := lw_at lw_m3 208 rfl
theorem q753 : (Jvm.Cond.instanceMethod ({ cls := "IncidentKeeper$Core$Descendants$1", name := "after", desc := "(I)I" } : Jvm.MethodName)) ∈ lw_all := lw_g (lw_at lw_m3 209 rfl) rfl
theorem q754 : (Jvm.Cond.code ({ cls := "IncidentKeeper$Core$Descendants$1", name := "after", desc := "(I)I" } : Jvm.MethodName) prog_8_method_2_code (3 : Nat) (Option.some Jvm.ClassFile.FieldType.int)) ∈ lw_all := lw_g (lw_at lw_m3 210 rfl) rfl
theorem q755 : (Jvm.Cond.methodLink "IncidentKeeper$Core$Descendants$1" (36 : Nat) ({ cls := "java/util/ArrayList", name := "size", desc := "()I" } : Jvm.MethodName)) ∈ lw_all := lw_g (lw_at lw_m3 211 rfl) rfl
theorem q756 : (Jvm.Cond.methodLink "IncidentKeeper$Core$Descendants$1" (42 : Nat) ({ cls := "java/util/ArrayList", name := "get", desc := "(I)Ljava/lang/Object;" } : Jvm.MethodName)) ∈ lw_all := lw_g (lw_at lw_m3 212 rfl) rfl
theorem q757 : (Jvm.Cond.classLink "IncidentKeeper$Core$Descendants$1" (46 : Nat) "IncidentKeeper$Core$Incident") ∈ lw_all := lw_g (lw_at lw_m3 213 rfl) rfl
theorem q758 : (Jvm.Cond.methodLinkNest "IncidentKeeper$Core$Descendants$1" (48 : Nat) ({ cls := "IncidentKeeper$Core$Descendants", name := "isBelow", desc := "(LIncidentKeeper$Core$Incident;)Z" } : Jvm.MethodName) "IncidentKeeper") ∈ lw_tbl := lw_at lw_m3 214 rfl
theorem q764 : (Jvm.Cond.fieldLink "IncidentKeeper$Core$Descendants$1" (23 : Nat) "IncidentKeeper$Core$Descendants$1" "at" "I") ∈ lw_all := lw_g (lw_at lw_m3 220 rfl) rfl
theorem q765 : (Jvm.Cond.fieldLink "IncidentKeeper$Core$Descendants$1" (1 : Nat) "IncidentKeeper$Core$Descendants$1" "this$1" "LIncidentKeeper$Core$Descendants;") ∈ lw_all := lw_g (lw_at lw_m3 221 rfl) rfl
theorem q766 : (Jvm.Cond.lays "IncidentKeeper$Core$Descendants$1" "IncidentKeeper$Core$Descendants$1" "at" "I") ∈ lw_all := lw_g (lw_at lw_m3 222 rfl) rfl
theorem q767 : (Jvm.Cond.soleField "IncidentKeeper$Core$Descendants$1" "at") ∈ lw_all := lw_g (lw_at lw_m3 223 rfl) rfl
theorem q768 : (Jvm.Cond.laysFinal "IncidentKeeper$Core$Descendants$1" "IncidentKeeper$Core$Descendants$1" "this$1" "LIncidentKeeper$Core$Descendants;") ∈ lw_all := lw_g (lw_at lw_m3 224 rfl) rfl
theorem q769 : (Jvm.Cond.soleField "IncidentKeeper$Core$Descendants$1" "this$1") ∈ lw_all := lw_g (lw_at lw_m3 225 rfl) rfl
theorem q770 : (Jvm.Cond.superclass "IncidentKeeper$Core$Descendants$1" "java/lang/Object") ∈ lw_all := lw_g (lw_at lw_m3 226 rfl) rfl
theorem q775 : (Jvm.Cond.castable "IncidentKeeper$Core$Descendants$1" "java/util/Iterator") ∈ lw_tbl := lw_at lw_m3 231 rfl
theorem q776 : (Jvm.Cond.selects "IncidentKeeper$Core$Descendants$1" ({ cls := "java/util/Iterator", name := "hasNext", desc := "()Z" } : Jvm.MethodName) ({ cls := "IncidentKeeper$Core$Descendants$1", name := "hasNext", desc := "()Z" } : Jvm.MethodName)) ∈ lw_all := lw_g (lw_at lw_m3 232 rfl) rfl
theorem q777 : (Jvm.Cond.unhidden "IncidentKeeper$Core$Descendants$1" "hasNext" "()Z") ∈ lw_tbl := lw_at lw_m3 233 rfl
theorem q778 : (Jvm.Cond.instanceMethod ({ cls := "IncidentKeeper$Core$Descendants$1", name := "hasNext", desc := "()Z" } : Jvm.MethodName)) ∈ lw_all := lw_g (lw_at lw_m3 234 rfl) rfl
theorem q779 : (Jvm.Cond.publicMethod ({ cls := "IncidentKeeper$Core$Descendants$1", name := "hasNext", desc := "()Z" } : Jvm.MethodName)) ∈ lw_tbl := lw_at lw_m3 235 rfl
theorem q780 : (Jvm.Cond.code ({ cls := "IncidentKeeper$Core$Descendants$1", name := "hasNext", desc := "()Z" } : Jvm.MethodName) prog_8_method_3_code (1 : Nat) (Option.some Jvm.ClassFile.FieldType.boolean)) ∈ lw_all := lw_g (lw_at lw_m3 236 rfl) rfl
theorem q785 : (Jvm.Cond.selects "IncidentKeeper$Core$Descendants$1" ({ cls := "java/util/Iterator", name := "next", desc := "()Ljava/lang/Object;" } : Jvm.MethodName) ({ cls := "IncidentKeeper$Core$Descendants$1", name := "next", desc := "()Ljava/lang/Object;" } : Jvm.MethodName)) ∈ lw_all := lw_g (lw_at lw_m4 1 rfl) rfl
theorem q786 : (Jvm.Cond.unhidden "IncidentKeeper$Core$Descendants$1" "next" "()Ljava/lang/Object;") ∈ lw_tbl := lw_at lw_m4 2 rfl
theorem q787 : (Jvm.Cond.instanceMethod ({ cls := "IncidentKeeper$Core$Descendants$1", name := "next", desc := "()Ljava/lang/Object;" } : Jvm.MethodName)) ∈ lw_all := lw_g (lw_at lw_m4 3 rfl) rfl
theorem q788 : (Jvm.Cond.publicMethod ({ cls := "IncidentKeeper$Core$Descendants$1", name := "next", desc := "()Ljava/lang/Object;" } : Jvm.MethodName)) ∈ lw_tbl := lw_at lw_m4 4 rfl
theorem q789 : (Jvm.Cond.code ({ cls := "IncidentKeeper$Core$Descendants$1", name := "next", desc := "()Ljava/lang/Object;" } : Jvm.MethodName) prog_8_method_5_code (1 : Nat) (Option.some (Jvm.ClassFile.FieldType.object "java/lang/Object"))) ∈ lw_all := lw_g (lw_at lw_m4 5 rfl) rfl
theorem q790 : (Jvm.Cond.methodLink "IncidentKeeper$Core$Descendants$1" (52 : Nat) ({ cls := "IncidentKeeper$Core$Descendants$1", name := "next", desc := "()LIncidentKeeper$Core$Incident;" } : Jvm.MethodName)) ∈ lw_all := lw_g (lw_at lw_m4 6 rfl) rfl
theorem q791 : (Jvm.Cond.instanceMethod ({ cls := "IncidentKeeper$Core$Descendants$1", name := "next", desc := "()LIncidentKeeper$Core$Incident;" } : Jvm.MethodName)) ∈ lw_all := lw_g (lw_at lw_m4 7 rfl) rfl
theorem q792 : (Jvm.Cond.selects "IncidentKeeper$Core$Descendants$1" ({ cls := "IncidentKeeper$Core$Descendants$1", name := "next", desc := "()LIncidentKeeper$Core$Incident;" } : Jvm.MethodName) ({ cls := "IncidentKeeper$Core$Descendants$1", name := "next", desc := "()LIncidentKeeper$Core$Incident;" } : Jvm.MethodName)) ∈ lw_all := lw_g (lw_at lw_m4 8 rfl) rfl
theorem q793 : (Jvm.Cond.code ({ cls := "IncidentKeeper$Core$Descendants$1", name := "next", desc := "()LIncidentKeeper$Core$Incident;" } : Jvm.MethodName) prog_8_method_4_code (2 : Nat) (Option.some (Jvm.ClassFile.FieldType.object "IncidentKeeper$Core$Incident"))) ∈ lw_all := lw_g (lw_at lw_m4 9 rfl) rfl
theorem q2076 : (Jvm.Cond.castable "IncidentKeeper$Core$Descendants$1" "java/lang/Object") ∈ lw_tbl := lw_at lw_m9 92 rfl
theorem in_X11 : ∀ w ∈ wsX110, w ∈ lw_all := lw_in wsX110 [766, 768] (by decide +kernel) (by decide +kernel)
/-! IncidentKeeper$Change -/
set_option maxRecDepth 100000
def RX12 : String := "IncidentKeeper$Change"
def TX12 : u_T := fun k => match k with
  | 0 => ("IncidentKeeper$Entry", "system", "I", true)
  | 1 => ("IncidentKeeper$Entry", "first", "I", true)
  | _ => ("IncidentKeeper$Change", "length", "I", true)
def tyX12 : Nat → FieldType := fun k => match k with
  | 0 => .int
  | 1 => .int
  | _ => .int
abbrev wsX120 : List Cond := u_ws RX12 TX12 3
theorem nmX12 : ∀ a, a < 3 → ∀ b, b < 3 → a ≠ b → (TX12 a).2.1 ≠ (TX12 b).2.1 := by decide +kernel
theorem tyX12_ok : ∀ k, k < 3 → parseFieldDescriptor (TX12 k).2.2.1 = some (tyX12 k) := by decide +kernel
abbrev cX12_init : ByteArray := prog_5_method_1_code
def yX12_init : MethodName := ⟨RX12, "<init>", "(III)V"⟩
def dkwX12_init_0 : List UInt8 := [42, 27, 28, 183, 0, 1, 42, 29, 181, 0, 7, 177]
abbrev dktX12_init_0 : List UInt8 := dkwX12_init_0 ++ []
theorem dksX12_init_0 : cX12_init.data.toList.drop 0 = dktX12_init_0 := by decide +kernel
theorem dX12_init_0 : decode cX12_init 0 = .ok (.aload_n 0, 1) := dk_42 (dk_at dksX12_init_0 0 rfl rfl)
theorem dX12_init_1 : decode cX12_init 1 = .ok (.iload_n 1, 1) := dk_27 (dk_at dksX12_init_0 1 rfl rfl)
theorem dX12_init_2 : decode cX12_init 2 = .ok (.iload_n 2, 1) := dk_28 (dk_at dksX12_init_0 2 rfl rfl)
theorem dX12_init_3 : decode cX12_init 3 = .ok (.invokespecial 1, 3) := dk_183 0 1 (dk_at dksX12_init_0 3 rfl rfl)
theorem dX12_init_6 : decode cX12_init 6 = .ok (.aload_n 0, 1) := dk_42 (dk_at dksX12_init_0 6 rfl rfl)
theorem dX12_init_7 : decode cX12_init 7 = .ok (.iload_n 3, 1) := dk_29 (dk_at dksX12_init_0 7 rfl rfl)
theorem dX12_init_8 : decode cX12_init 8 = .ok (.putfield 7, 3) := dk_181 0 7 (dk_at dksX12_init_0 8 rfl rfl)
theorem dX12_init_11 : decode cX12_init 11 = .ok (.return_, 1) := dk_177 (dk_at dksX12_init_0 11 rfl rfl)
abbrev cX12_end : ByteArray := prog_5_method_2_code
def yX12_end : MethodName := ⟨RX12, "end", "()I"⟩
def dkwX12_end_0 : List UInt8 := [42, 183, 0, 13, 42, 180, 0, 7, 96, 172]
abbrev dktX12_end_0 : List UInt8 := dkwX12_end_0 ++ []
theorem dksX12_end_0 : cX12_end.data.toList.drop 0 = dktX12_end_0 := by decide +kernel
theorem dX12_end_0 : decode cX12_end 0 = .ok (.aload_n 0, 1) := dk_42 (dk_at dksX12_end_0 0 rfl rfl)
theorem dX12_end_1 : decode cX12_end 1 = .ok (.invokespecial 13, 3) := dk_183 0 13 (dk_at dksX12_end_0 1 rfl rfl)
theorem dX12_end_4 : decode cX12_end 4 = .ok (.aload_n 0, 1) := dk_42 (dk_at dksX12_end_0 4 rfl rfl)
theorem dX12_end_5 : decode cX12_end 5 = .ok (.getfield 7, 3) := dk_180 0 7 (dk_at dksX12_end_0 5 rfl rfl)
theorem dX12_end_8 : decode cX12_end 8 = .ok (.iadd, 1) := dk_96 (dk_at dksX12_end_0 8 rfl rfl)
theorem dX12_end_9 : decode cX12_end 9 = .ok (.ireturn, 1) := dk_172 (dk_at dksX12_end_0 9 rfl rfl)
theorem q88 : (Jvm.Cond.initialized "IncidentKeeper$Change") ∈ lw_all := lw_g (lw_at lw_m1 24 rfl) rfl
theorem q406 : (Jvm.Cond.selects "IncidentKeeper$Change" ({ cls := "java/lang/Object", name := "getClass", desc := "()Ljava/lang/Class;" } : Jvm.MethodName) ({ cls := "java/lang/Object", name := "getClass", desc := "()Ljava/lang/Class;" } : Jvm.MethodName)) ∈ lw_all := lw_g (lw_at lw_m2 102 rfl) rfl
theorem q881 : (Jvm.Cond.instantiable "IncidentKeeper$Change" (3 : Nat)) ∈ lw_all := lw_g (lw_at lw_m4 97 rfl) rfl
theorem q883 : (Jvm.Cond.instanceMethod ({ cls := "IncidentKeeper$Change", name := "<init>", desc := "(III)V" } : Jvm.MethodName)) ∈ lw_all := lw_g (lw_at lw_m4 99 rfl) rfl
theorem q884 : (Jvm.Cond.code ({ cls := "IncidentKeeper$Change", name := "<init>", desc := "(III)V" } : Jvm.MethodName) prog_5_method_1_code (4 : Nat) (Option.none : Option Jvm.ClassFile.FieldType)) ∈ lw_all := lw_g (lw_at lw_m4 100 rfl) rfl
theorem q885 : (Jvm.Cond.methodLink "IncidentKeeper$Change" (1 : Nat) ({ cls := "IncidentKeeper$Entry", name := "<init>", desc := "(II)V" } : Jvm.MethodName)) ∈ lw_all := lw_g (lw_at lw_m4 101 rfl) rfl
theorem q886 : (Jvm.Cond.fieldLink "IncidentKeeper$Change" (7 : Nat) "IncidentKeeper$Change" "length" "I") ∈ lw_all := lw_g (lw_at lw_m4 102 rfl) rfl
theorem q887 : (Jvm.Cond.laysFinal "IncidentKeeper$Change" "IncidentKeeper$Change" "length" "I") ∈ lw_all := lw_g (lw_at lw_m4 103 rfl) rfl
theorem q888 : (Jvm.Cond.soleField "IncidentKeeper$Change" "length") ∈ lw_all := lw_g (lw_at lw_m4 104 rfl) rfl
theorem q889 : (Jvm.Cond.laysFinal "IncidentKeeper$Change" "IncidentKeeper$Entry" "system" "I") ∈ lw_all := lw_g (lw_at lw_m4 105 rfl) rfl
theorem q890 : (Jvm.Cond.laysFinal "IncidentKeeper$Change" "IncidentKeeper$Entry" "first" "I") ∈ lw_all := lw_g (lw_at lw_m4 106 rfl) rfl
theorem q891 : (Jvm.Cond.superclass "IncidentKeeper$Change" "IncidentKeeper$Entry") ∈ lw_all := lw_g (lw_at lw_m4 107 rfl) rfl
theorem q901 : (Jvm.Cond.sameMethod "IncidentKeeper$Change" "IncidentKeeper$Entry" "system" "()I") ∈ lw_all := lw_g (lw_at lw_m4 117 rfl) rfl
theorem q902 : (Jvm.Cond.selects "IncidentKeeper$Change" ({ cls := "IncidentKeeper$Change", name := "system", desc := "()I" } : Jvm.MethodName) ({ cls := "IncidentKeeper$Entry", name := "system", desc := "()I" } : Jvm.MethodName)) ∈ lw_all := lw_g (lw_at lw_m4 118 rfl) rfl
theorem q905 : (Jvm.Cond.sameMethod "IncidentKeeper$Change" "IncidentKeeper$Entry" "first" "()I") ∈ lw_all := lw_g (lw_at lw_m4 121 rfl) rfl
theorem q906 : (Jvm.Cond.selects "IncidentKeeper$Change" ({ cls := "IncidentKeeper$Change", name := "first", desc := "()I" } : Jvm.MethodName) ({ cls := "IncidentKeeper$Entry", name := "first", desc := "()I" } : Jvm.MethodName)) ∈ lw_all := lw_g (lw_at lw_m4 122 rfl) rfl
theorem q909 : (Jvm.Cond.instanceMethod ({ cls := "IncidentKeeper$Change", name := "end", desc := "()I" } : Jvm.MethodName)) ∈ lw_all := lw_g (lw_at lw_m4 125 rfl) rfl
theorem q910 : (Jvm.Cond.selects "IncidentKeeper$Change" ({ cls := "IncidentKeeper$Change", name := "end", desc := "()I" } : Jvm.MethodName) ({ cls := "IncidentKeeper$Change", name := "end", desc := "()I" } : Jvm.MethodName)) ∈ lw_all := lw_g (lw_at lw_m4 126 rfl) rfl
theorem q911 : (Jvm.Cond.code ({ cls := "IncidentKeeper$Change", name := "end", desc := "()I" } : Jvm.MethodName) prog_5_method_2_code (1 : Nat) (Option.some Jvm.ClassFile.FieldType.int)) ∈ lw_all := lw_g (lw_at lw_m4 127 rfl) rfl
theorem q920 : (Jvm.Cond.castable "IncidentKeeper$Change" "IncidentKeeper$Timed") ∈ lw_tbl := lw_at lw_m4 136 rfl
theorem q921 : (Jvm.Cond.selects "IncidentKeeper$Change" ({ cls := "IncidentKeeper$Timed", name := "first", desc := "()I" } : Jvm.MethodName) ({ cls := "IncidentKeeper$Entry", name := "first", desc := "()I" } : Jvm.MethodName)) ∈ lw_all := lw_g (lw_at lw_m4 137 rfl) rfl
theorem q922 : (Jvm.Cond.unhidden "IncidentKeeper$Change" "first" "()I") ∈ lw_tbl := lw_at lw_m4 138 rfl
theorem q2077 : (Jvm.Cond.castable "IncidentKeeper$Change" "java/lang/Object") ∈ lw_tbl := lw_at lw_m9 93 rfl
theorem in_X12 : ∀ w ∈ wsX120, w ∈ lw_all := lw_in wsX120 [889, 890, 887] (by decide +kernel) (by decide +kernel)
/-! IncidentKeeper$Call -/
set_option maxRecDepth 100000
def RX13 : String := "IncidentKeeper$Call"
def TX13 : u_T := fun k => match k with
  | 0 => ("IncidentKeeper$Call", "kind", "C", true)
  | 1 => ("IncidentKeeper$Call", "one", "I", true)
  | 2 => ("IncidentKeeper$Call", "two", "I", true)
  | _ => ("IncidentKeeper$Call", "three", "I", true)
def tyX13 : Nat → FieldType := fun k => match k with
  | 0 => .char
  | 1 => .int
  | 2 => .int
  | _ => .int
abbrev wsX130 : List Cond := u_ws RX13 TX13 4
theorem nmX13 : ∀ a, a < 4 → ∀ b, b < 4 → a ≠ b → (TX13 a).2.1 ≠ (TX13 b).2.1 := by decide +kernel
theorem tyX13_ok : ∀ k, k < 4 → parseFieldDescriptor (TX13 k).2.2.1 = some (tyX13 k) := by decide +kernel
abbrev cX13_with : ByteArray := prog_4_method_2_code
def yX13_with : MethodName := ⟨RX13, "with", "(LIncidentKeeper$Core;)I"⟩
def dkwX13_with_6 : List UInt8 := [172, 43, 42, 180, 0, 13, 182, 0, 51, 172, 42, 43, 182, 0, 54, 172]
abbrev dktX13_with_6 : List UInt8 := dkwX13_with_6 ++ []
def dkwX13_with_5 : List UInt8 := [180, 0, 13, 182, 0, 41, 172, 43, 42, 180, 0, 13, 182, 0, 45, 172, 43, 42, 180, 0, 13, 182, 0, 48]
abbrev dktX13_with_5 : List UInt8 := dkwX13_with_5 ++ dktX13_with_6
def dkwX13_with_4 : List UInt8 := [180, 0, 17, 182, 0, 35, 172, 43, 42, 180, 0, 13, 42, 180, 0, 17, 182, 0, 38, 172, 43, 42]
abbrev dktX13_with_4 : List UInt8 := dkwX13_with_4 ++ dktX13_with_5
def dkwX13_with_3 : List UInt8 := [182, 0, 29, 172, 43, 42, 180, 0, 13, 42, 180, 0, 17, 182, 0, 32, 172, 43, 42, 180, 0, 13, 42]
abbrev dktX13_with_3 : List UInt8 := dkwX13_with_3 ++ dktX13_with_4
def dkwX13_with_2 : List UInt8 := [43, 42, 180, 0, 13, 42, 180, 0, 17, 182, 0, 23, 172, 43, 42, 180, 0, 13, 42, 180, 0, 17]
abbrev dktX13_with_2 : List UInt8 := dkwX13_with_2 ++ dktX13_with_3
def dkwX13_with_1 : List UInt8 := [170, 0, 0, 0, 0, 0, 0, 197, 0, 0, 0, 99, 0, 0, 0, 118, 0, 0, 0, 179, 0, 0, 0, 197, 0, 0, 0, 197, 0, 0, 0, 197, 0, 0, 0, 135, 0, 0, 0, 109, 0, 0, 0, 197, 0, 0, 0, 197, 0, 0, 0, 197, 0, 0, 0, 197, 0, 0, 0, 197, 0, 0, 0, 96, 0, 0, 0, 170, 0, 0, 0, 197, 0, 0, 0, 197, 0, 0, 0, 161, 0, 0, 0, 122, 0, 0, 0, 188, 0, 0, 0, 197, 0, 0, 0, 148]
abbrev dktX13_with_1 : List UInt8 := dkwX13_with_1 ++ dktX13_with_2
def dkwX13_with_0 : List UInt8 := [42, 180, 0, 7]
abbrev dktX13_with_0 : List UInt8 := dkwX13_with_0 ++ dktX13_with_1
theorem dksX13_with_0 : cX13_with.data.toList.drop 0 = dktX13_with_0 := by decide +kernel
theorem dksX13_with_1 : cX13_with.data.toList.drop 4 = dktX13_with_1 := dk_seg dksX13_with_0 4 rfl rfl
theorem dksX13_with_2 : cX13_with.data.toList.drop 100 = dktX13_with_2 := dk_seg dksX13_with_1 96 rfl rfl
theorem dksX13_with_3 : cX13_with.data.toList.drop 122 = dktX13_with_3 := dk_seg dksX13_with_2 22 rfl rfl
theorem dksX13_with_4 : cX13_with.data.toList.drop 145 = dktX13_with_4 := dk_seg dksX13_with_3 23 rfl rfl
theorem dksX13_with_5 : cX13_with.data.toList.drop 167 = dktX13_with_5 := dk_seg dksX13_with_4 22 rfl rfl
theorem dksX13_with_6 : cX13_with.data.toList.drop 191 = dktX13_with_6 := dk_seg dksX13_with_5 24 rfl rfl
theorem dX13_with_0 : decode cX13_with 0 = .ok (.aload_n 0, 1) := dk_42 (dk_at dksX13_with_0 0 rfl rfl)
theorem dX13_with_1 : decode cX13_with 1 = .ok (.getfield 7, 3) := dk_180 0 7 (dk_at dksX13_with_0 1 rfl rfl)
theorem dX13_with_4 : decode cX13_with 4 = .ok (.tableswitch 197 99 118 #[179, 197, 197, 197, 135, 109, 197, 197, 197, 197, 197, 96, 170, 197, 197, 161, 122, 188, 197, 148], 96) := by decide +kernel
theorem dX13_with_100 : decode cX13_with 100 = .ok (.aload_n 1, 1) := dk_43 (dk_at dksX13_with_2 0 rfl rfl)
theorem dX13_with_101 : decode cX13_with 101 = .ok (.aload_n 0, 1) := dk_42 (dk_at dksX13_with_2 1 rfl rfl)
theorem dX13_with_102 : decode cX13_with 102 = .ok (.getfield 13, 3) := dk_180 0 13 (dk_at dksX13_with_2 2 rfl rfl)
theorem dX13_with_105 : decode cX13_with 105 = .ok (.aload_n 0, 1) := dk_42 (dk_at dksX13_with_2 5 rfl rfl)
theorem dX13_with_106 : decode cX13_with 106 = .ok (.getfield 17, 3) := dk_180 0 17 (dk_at dksX13_with_2 6 rfl rfl)
theorem dX13_with_109 : decode cX13_with 109 = .ok (.invokevirtual 23, 3) := dk_182 0 23 (dk_at dksX13_with_2 9 rfl rfl)
theorem dX13_with_112 : decode cX13_with 112 = .ok (.ireturn, 1) := dk_172 (dk_at dksX13_with_2 12 rfl rfl)
theorem dX13_with_113 : decode cX13_with 113 = .ok (.aload_n 1, 1) := dk_43 (dk_at dksX13_with_2 13 rfl rfl)
theorem dX13_with_114 : decode cX13_with 114 = .ok (.aload_n 0, 1) := dk_42 (dk_at dksX13_with_2 14 rfl rfl)
theorem dX13_with_115 : decode cX13_with 115 = .ok (.getfield 13, 3) := dk_180 0 13 (dk_at dksX13_with_2 15 rfl rfl)
theorem dX13_with_118 : decode cX13_with 118 = .ok (.aload_n 0, 1) := dk_42 (dk_at dksX13_with_2 18 rfl rfl)
theorem dX13_with_119 : decode cX13_with 119 = .ok (.getfield 17, 3) := dk_180 0 17 (dk_at dksX13_with_2 19 rfl rfl)
theorem dX13_with_122 : decode cX13_with 122 = .ok (.invokevirtual 29, 3) := dk_182 0 29 (dk_at dksX13_with_3 0 rfl rfl)
theorem dX13_with_125 : decode cX13_with 125 = .ok (.ireturn, 1) := dk_172 (dk_at dksX13_with_3 3 rfl rfl)
theorem dX13_with_126 : decode cX13_with 126 = .ok (.aload_n 1, 1) := dk_43 (dk_at dksX13_with_3 4 rfl rfl)
theorem dX13_with_127 : decode cX13_with 127 = .ok (.aload_n 0, 1) := dk_42 (dk_at dksX13_with_3 5 rfl rfl)
theorem dX13_with_128 : decode cX13_with 128 = .ok (.getfield 13, 3) := dk_180 0 13 (dk_at dksX13_with_3 6 rfl rfl)
theorem dX13_with_131 : decode cX13_with 131 = .ok (.aload_n 0, 1) := dk_42 (dk_at dksX13_with_3 9 rfl rfl)
theorem dX13_with_132 : decode cX13_with 132 = .ok (.getfield 17, 3) := dk_180 0 17 (dk_at dksX13_with_3 10 rfl rfl)
theorem dX13_with_135 : decode cX13_with 135 = .ok (.invokevirtual 32, 3) := dk_182 0 32 (dk_at dksX13_with_3 13 rfl rfl)
theorem dX13_with_138 : decode cX13_with 138 = .ok (.ireturn, 1) := dk_172 (dk_at dksX13_with_3 16 rfl rfl)
theorem dX13_with_139 : decode cX13_with 139 = .ok (.aload_n 1, 1) := dk_43 (dk_at dksX13_with_3 17 rfl rfl)
theorem dX13_with_140 : decode cX13_with 140 = .ok (.aload_n 0, 1) := dk_42 (dk_at dksX13_with_3 18 rfl rfl)
theorem dX13_with_141 : decode cX13_with 141 = .ok (.getfield 13, 3) := dk_180 0 13 (dk_at dksX13_with_3 19 rfl rfl)
theorem dX13_with_144 : decode cX13_with 144 = .ok (.aload_n 0, 1) := dk_42 (dk_at dksX13_with_3 22 rfl rfl)
theorem dX13_with_145 : decode cX13_with 145 = .ok (.getfield 17, 3) := dk_180 0 17 (dk_at dksX13_with_4 0 rfl rfl)
theorem dX13_with_148 : decode cX13_with 148 = .ok (.invokevirtual 35, 3) := dk_182 0 35 (dk_at dksX13_with_4 3 rfl rfl)
theorem dX13_with_151 : decode cX13_with 151 = .ok (.ireturn, 1) := dk_172 (dk_at dksX13_with_4 6 rfl rfl)
theorem dX13_with_152 : decode cX13_with 152 = .ok (.aload_n 1, 1) := dk_43 (dk_at dksX13_with_4 7 rfl rfl)
theorem dX13_with_153 : decode cX13_with 153 = .ok (.aload_n 0, 1) := dk_42 (dk_at dksX13_with_4 8 rfl rfl)
theorem dX13_with_154 : decode cX13_with 154 = .ok (.getfield 13, 3) := dk_180 0 13 (dk_at dksX13_with_4 9 rfl rfl)
theorem dX13_with_157 : decode cX13_with 157 = .ok (.aload_n 0, 1) := dk_42 (dk_at dksX13_with_4 12 rfl rfl)
theorem dX13_with_158 : decode cX13_with 158 = .ok (.getfield 17, 3) := dk_180 0 17 (dk_at dksX13_with_4 13 rfl rfl)
theorem dX13_with_161 : decode cX13_with 161 = .ok (.invokevirtual 38, 3) := dk_182 0 38 (dk_at dksX13_with_4 16 rfl rfl)
theorem dX13_with_164 : decode cX13_with 164 = .ok (.ireturn, 1) := dk_172 (dk_at dksX13_with_4 19 rfl rfl)
theorem dX13_with_165 : decode cX13_with 165 = .ok (.aload_n 1, 1) := dk_43 (dk_at dksX13_with_4 20 rfl rfl)
theorem dX13_with_166 : decode cX13_with 166 = .ok (.aload_n 0, 1) := dk_42 (dk_at dksX13_with_4 21 rfl rfl)
theorem dX13_with_167 : decode cX13_with 167 = .ok (.getfield 13, 3) := dk_180 0 13 (dk_at dksX13_with_5 0 rfl rfl)
theorem dX13_with_170 : decode cX13_with 170 = .ok (.invokevirtual 41, 3) := dk_182 0 41 (dk_at dksX13_with_5 3 rfl rfl)
theorem dX13_with_173 : decode cX13_with 173 = .ok (.ireturn, 1) := dk_172 (dk_at dksX13_with_5 6 rfl rfl)
theorem dX13_with_174 : decode cX13_with 174 = .ok (.aload_n 1, 1) := dk_43 (dk_at dksX13_with_5 7 rfl rfl)
theorem dX13_with_175 : decode cX13_with 175 = .ok (.aload_n 0, 1) := dk_42 (dk_at dksX13_with_5 8 rfl rfl)
theorem dX13_with_176 : decode cX13_with 176 = .ok (.getfield 13, 3) := dk_180 0 13 (dk_at dksX13_with_5 9 rfl rfl)
theorem dX13_with_179 : decode cX13_with 179 = .ok (.invokevirtual 45, 3) := dk_182 0 45 (dk_at dksX13_with_5 12 rfl rfl)
theorem dX13_with_182 : decode cX13_with 182 = .ok (.ireturn, 1) := dk_172 (dk_at dksX13_with_5 15 rfl rfl)
theorem dX13_with_183 : decode cX13_with 183 = .ok (.aload_n 1, 1) := dk_43 (dk_at dksX13_with_5 16 rfl rfl)
theorem dX13_with_184 : decode cX13_with 184 = .ok (.aload_n 0, 1) := dk_42 (dk_at dksX13_with_5 17 rfl rfl)
theorem dX13_with_185 : decode cX13_with 185 = .ok (.getfield 13, 3) := dk_180 0 13 (dk_at dksX13_with_5 18 rfl rfl)
theorem dX13_with_188 : decode cX13_with 188 = .ok (.invokevirtual 48, 3) := dk_182 0 48 (dk_at dksX13_with_5 21 rfl rfl)
theorem dX13_with_191 : decode cX13_with 191 = .ok (.ireturn, 1) := dk_172 (dk_at dksX13_with_6 0 rfl rfl)
theorem dX13_with_192 : decode cX13_with 192 = .ok (.aload_n 1, 1) := dk_43 (dk_at dksX13_with_6 1 rfl rfl)
theorem dX13_with_193 : decode cX13_with 193 = .ok (.aload_n 0, 1) := dk_42 (dk_at dksX13_with_6 2 rfl rfl)
theorem dX13_with_194 : decode cX13_with 194 = .ok (.getfield 13, 3) := dk_180 0 13 (dk_at dksX13_with_6 3 rfl rfl)
theorem dX13_with_197 : decode cX13_with 197 = .ok (.invokevirtual 51, 3) := dk_182 0 51 (dk_at dksX13_with_6 6 rfl rfl)
theorem dX13_with_200 : decode cX13_with 200 = .ok (.ireturn, 1) := dk_172 (dk_at dksX13_with_6 9 rfl rfl)
theorem dX13_with_201 : decode cX13_with 201 = .ok (.aload_n 0, 1) := dk_42 (dk_at dksX13_with_6 10 rfl rfl)
theorem dX13_with_202 : decode cX13_with 202 = .ok (.aload_n 1, 1) := dk_43 (dk_at dksX13_with_6 11 rfl rfl)
theorem dX13_with_203 : decode cX13_with 203 = .ok (.invokevirtual 54, 3) := dk_182 0 54 (dk_at dksX13_with_6 12 rfl rfl)
theorem dX13_with_206 : decode cX13_with 206 = .ok (.ireturn, 1) := dk_172 (dk_at dksX13_with_6 15 rfl rfl)
abbrev cX13_withOther : ByteArray := prog_4_method_3_code
def yX13_withOther : MethodName := ⟨RX13, "withOther", "(LIncidentKeeper$Core;)I"⟩
def dkwX13_withOther_6 : List UInt8 := [180, 0, 13, 42, 180, 0, 17, 42, 180, 0, 20, 182, 0, 80, 172, 43, 42, 180, 0, 13, 182, 0, 83, 172]
abbrev dktX13_withOther_6 : List UInt8 := dkwX13_withOther_6 ++ []
def dkwX13_withOther_5 : List UInt8 := [180, 0, 13, 42, 180, 0, 17, 182, 0, 74, 172, 43, 42, 180, 0, 13, 182, 0, 77, 172, 43, 42]
abbrev dktX13_withOther_5 : List UInt8 := dkwX13_withOther_5 ++ dktX13_withOther_6
def dkwX13_withOther_4 : List UInt8 := [182, 0, 67, 172, 43, 42, 180, 0, 13, 42, 180, 0, 17, 42, 180, 0, 20, 182, 0, 70, 172, 43, 42]
abbrev dktX13_withOther_4 : List UInt8 := dkwX13_withOther_4 ++ dktX13_withOther_5
def dkwX13_withOther_3 : List UInt8 := [182, 0, 61, 172, 43, 42, 180, 0, 13, 182, 0, 64, 172, 43, 42, 180, 0, 13, 42, 180, 0, 17]
abbrev dktX13_withOther_3 : List UInt8 := dkwX13_withOther_3 ++ dktX13_withOther_4
def dkwX13_withOther_2 : List UInt8 := [43, 42, 180, 0, 13, 42, 180, 0, 17, 182, 0, 58, 172, 43, 42, 180, 0, 13, 42, 180, 0, 17]
abbrev dktX13_withOther_2 : List UInt8 := dkwX13_withOther_2 ++ dktX13_withOther_3
def dkwX13_withOther_1 : List UInt8 := [170, 0, 0, 0, 0, 0, 0, 212, 0, 0, 0, 65, 0, 0, 0, 87, 0, 0, 0, 195, 0, 0, 0, 212, 0, 0, 0, 156, 0, 0, 0, 212, 0, 0, 0, 212, 0, 0, 0, 212, 0, 0, 0, 212, 0, 0, 0, 212, 0, 0, 0, 212, 0, 0, 0, 212, 0, 0, 0, 173, 0, 0, 0, 121, 0, 0, 0, 212, 0, 0, 0, 212, 0, 0, 0, 212, 0, 0, 0, 143, 0, 0, 0, 212, 0, 0, 0, 186, 0, 0, 0, 212, 0, 0, 0, 108, 0, 0, 0, 212, 0, 0, 0, 212, 0, 0, 0, 134]
abbrev dktX13_withOther_1 : List UInt8 := dkwX13_withOther_1 ++ dktX13_withOther_2
def dkwX13_withOther_0 : List UInt8 := [42, 180, 0, 7]
abbrev dktX13_withOther_0 : List UInt8 := dkwX13_withOther_0 ++ dktX13_withOther_1
theorem dksX13_withOther_0 : cX13_withOther.data.toList.drop 0 = dktX13_withOther_0 := by decide +kernel
theorem dksX13_withOther_1 : cX13_withOther.data.toList.drop 4 = dktX13_withOther_1 := dk_seg dksX13_withOther_0 4 rfl rfl
theorem dksX13_withOther_2 : cX13_withOther.data.toList.drop 112 = dktX13_withOther_2 := dk_seg dksX13_withOther_1 108 rfl rfl
theorem dksX13_withOther_3 : cX13_withOther.data.toList.drop 134 = dktX13_withOther_3 := dk_seg dksX13_withOther_2 22 rfl rfl
theorem dksX13_withOther_4 : cX13_withOther.data.toList.drop 156 = dktX13_withOther_4 := dk_seg dksX13_withOther_3 22 rfl rfl
theorem dksX13_withOther_5 : cX13_withOther.data.toList.drop 179 = dktX13_withOther_5 := dk_seg dksX13_withOther_4 23 rfl rfl
theorem dksX13_withOther_6 : cX13_withOther.data.toList.drop 201 = dktX13_withOther_6 := dk_seg dksX13_withOther_5 22 rfl rfl
theorem dX13_withOther_0 : decode cX13_withOther 0 = .ok (.aload_n 0, 1) := dk_42 (dk_at dksX13_withOther_0 0 rfl rfl)
theorem dX13_withOther_1 : decode cX13_withOther 1 = .ok (.getfield 7, 3) := dk_180 0 7 (dk_at dksX13_withOther_0 1 rfl rfl)
theorem dX13_withOther_4 : decode cX13_withOther 4 = .ok (.tableswitch 212 65 87 #[195, 212, 156, 212, 212, 212, 212, 212, 212, 212, 173, 121, 212, 212, 212, 143, 212, 186, 212, 108, 212, 212, 134], 108) := by decide +kernel
theorem dX13_withOther_112 : decode cX13_withOther 112 = .ok (.aload_n 1, 1) := dk_43 (dk_at dksX13_withOther_2 0 rfl rfl)
theorem dX13_withOther_113 : decode cX13_withOther 113 = .ok (.aload_n 0, 1) := dk_42 (dk_at dksX13_withOther_2 1 rfl rfl)
theorem dX13_withOther_114 : decode cX13_withOther 114 = .ok (.getfield 13, 3) := dk_180 0 13 (dk_at dksX13_withOther_2 2 rfl rfl)
theorem dX13_withOther_117 : decode cX13_withOther 117 = .ok (.aload_n 0, 1) := dk_42 (dk_at dksX13_withOther_2 5 rfl rfl)
theorem dX13_withOther_118 : decode cX13_withOther 118 = .ok (.getfield 17, 3) := dk_180 0 17 (dk_at dksX13_withOther_2 6 rfl rfl)
theorem dX13_withOther_121 : decode cX13_withOther 121 = .ok (.invokevirtual 58, 3) := dk_182 0 58 (dk_at dksX13_withOther_2 9 rfl rfl)
theorem dX13_withOther_124 : decode cX13_withOther 124 = .ok (.ireturn, 1) := dk_172 (dk_at dksX13_withOther_2 12 rfl rfl)
theorem dX13_withOther_125 : decode cX13_withOther 125 = .ok (.aload_n 1, 1) := dk_43 (dk_at dksX13_withOther_2 13 rfl rfl)
theorem dX13_withOther_126 : decode cX13_withOther 126 = .ok (.aload_n 0, 1) := dk_42 (dk_at dksX13_withOther_2 14 rfl rfl)
theorem dX13_withOther_127 : decode cX13_withOther 127 = .ok (.getfield 13, 3) := dk_180 0 13 (dk_at dksX13_withOther_2 15 rfl rfl)
theorem dX13_withOther_130 : decode cX13_withOther 130 = .ok (.aload_n 0, 1) := dk_42 (dk_at dksX13_withOther_2 18 rfl rfl)
theorem dX13_withOther_131 : decode cX13_withOther 131 = .ok (.getfield 17, 3) := dk_180 0 17 (dk_at dksX13_withOther_2 19 rfl rfl)
theorem dX13_withOther_134 : decode cX13_withOther 134 = .ok (.invokevirtual 61, 3) := dk_182 0 61 (dk_at dksX13_withOther_3 0 rfl rfl)
theorem dX13_withOther_137 : decode cX13_withOther 137 = .ok (.ireturn, 1) := dk_172 (dk_at dksX13_withOther_3 3 rfl rfl)
theorem dX13_withOther_138 : decode cX13_withOther 138 = .ok (.aload_n 1, 1) := dk_43 (dk_at dksX13_withOther_3 4 rfl rfl)
theorem dX13_withOther_139 : decode cX13_withOther 139 = .ok (.aload_n 0, 1) := dk_42 (dk_at dksX13_withOther_3 5 rfl rfl)
theorem dX13_withOther_140 : decode cX13_withOther 140 = .ok (.getfield 13, 3) := dk_180 0 13 (dk_at dksX13_withOther_3 6 rfl rfl)
theorem dX13_withOther_143 : decode cX13_withOther 143 = .ok (.invokevirtual 64, 3) := dk_182 0 64 (dk_at dksX13_withOther_3 9 rfl rfl)
theorem dX13_withOther_146 : decode cX13_withOther 146 = .ok (.ireturn, 1) := dk_172 (dk_at dksX13_withOther_3 12 rfl rfl)
theorem dX13_withOther_147 : decode cX13_withOther 147 = .ok (.aload_n 1, 1) := dk_43 (dk_at dksX13_withOther_3 13 rfl rfl)
theorem dX13_withOther_148 : decode cX13_withOther 148 = .ok (.aload_n 0, 1) := dk_42 (dk_at dksX13_withOther_3 14 rfl rfl)
theorem dX13_withOther_149 : decode cX13_withOther 149 = .ok (.getfield 13, 3) := dk_180 0 13 (dk_at dksX13_withOther_3 15 rfl rfl)
theorem dX13_withOther_152 : decode cX13_withOther 152 = .ok (.aload_n 0, 1) := dk_42 (dk_at dksX13_withOther_3 18 rfl rfl)
theorem dX13_withOther_153 : decode cX13_withOther 153 = .ok (.getfield 17, 3) := dk_180 0 17 (dk_at dksX13_withOther_3 19 rfl rfl)
theorem dX13_withOther_156 : decode cX13_withOther 156 = .ok (.invokevirtual 67, 3) := dk_182 0 67 (dk_at dksX13_withOther_4 0 rfl rfl)
theorem dX13_withOther_159 : decode cX13_withOther 159 = .ok (.ireturn, 1) := dk_172 (dk_at dksX13_withOther_4 3 rfl rfl)
theorem dX13_withOther_160 : decode cX13_withOther 160 = .ok (.aload_n 1, 1) := dk_43 (dk_at dksX13_withOther_4 4 rfl rfl)
theorem dX13_withOther_161 : decode cX13_withOther 161 = .ok (.aload_n 0, 1) := dk_42 (dk_at dksX13_withOther_4 5 rfl rfl)
theorem dX13_withOther_162 : decode cX13_withOther 162 = .ok (.getfield 13, 3) := dk_180 0 13 (dk_at dksX13_withOther_4 6 rfl rfl)
theorem dX13_withOther_165 : decode cX13_withOther 165 = .ok (.aload_n 0, 1) := dk_42 (dk_at dksX13_withOther_4 9 rfl rfl)
theorem dX13_withOther_166 : decode cX13_withOther 166 = .ok (.getfield 17, 3) := dk_180 0 17 (dk_at dksX13_withOther_4 10 rfl rfl)
theorem dX13_withOther_169 : decode cX13_withOther 169 = .ok (.aload_n 0, 1) := dk_42 (dk_at dksX13_withOther_4 13 rfl rfl)
theorem dX13_withOther_170 : decode cX13_withOther 170 = .ok (.getfield 20, 3) := dk_180 0 20 (dk_at dksX13_withOther_4 14 rfl rfl)
theorem dX13_withOther_173 : decode cX13_withOther 173 = .ok (.invokevirtual 70, 3) := dk_182 0 70 (dk_at dksX13_withOther_4 17 rfl rfl)
theorem dX13_withOther_176 : decode cX13_withOther 176 = .ok (.ireturn, 1) := dk_172 (dk_at dksX13_withOther_4 20 rfl rfl)
theorem dX13_withOther_177 : decode cX13_withOther 177 = .ok (.aload_n 1, 1) := dk_43 (dk_at dksX13_withOther_4 21 rfl rfl)
theorem dX13_withOther_178 : decode cX13_withOther 178 = .ok (.aload_n 0, 1) := dk_42 (dk_at dksX13_withOther_4 22 rfl rfl)
theorem dX13_withOther_179 : decode cX13_withOther 179 = .ok (.getfield 13, 3) := dk_180 0 13 (dk_at dksX13_withOther_5 0 rfl rfl)
theorem dX13_withOther_182 : decode cX13_withOther 182 = .ok (.aload_n 0, 1) := dk_42 (dk_at dksX13_withOther_5 3 rfl rfl)
theorem dX13_withOther_183 : decode cX13_withOther 183 = .ok (.getfield 17, 3) := dk_180 0 17 (dk_at dksX13_withOther_5 4 rfl rfl)
theorem dX13_withOther_186 : decode cX13_withOther 186 = .ok (.invokevirtual 74, 3) := dk_182 0 74 (dk_at dksX13_withOther_5 7 rfl rfl)
theorem dX13_withOther_189 : decode cX13_withOther 189 = .ok (.ireturn, 1) := dk_172 (dk_at dksX13_withOther_5 10 rfl rfl)
theorem dX13_withOther_190 : decode cX13_withOther 190 = .ok (.aload_n 1, 1) := dk_43 (dk_at dksX13_withOther_5 11 rfl rfl)
theorem dX13_withOther_191 : decode cX13_withOther 191 = .ok (.aload_n 0, 1) := dk_42 (dk_at dksX13_withOther_5 12 rfl rfl)
theorem dX13_withOther_192 : decode cX13_withOther 192 = .ok (.getfield 13, 3) := dk_180 0 13 (dk_at dksX13_withOther_5 13 rfl rfl)
theorem dX13_withOther_195 : decode cX13_withOther 195 = .ok (.invokevirtual 77, 3) := dk_182 0 77 (dk_at dksX13_withOther_5 16 rfl rfl)
theorem dX13_withOther_198 : decode cX13_withOther 198 = .ok (.ireturn, 1) := dk_172 (dk_at dksX13_withOther_5 19 rfl rfl)
theorem dX13_withOther_199 : decode cX13_withOther 199 = .ok (.aload_n 1, 1) := dk_43 (dk_at dksX13_withOther_5 20 rfl rfl)
theorem dX13_withOther_200 : decode cX13_withOther 200 = .ok (.aload_n 0, 1) := dk_42 (dk_at dksX13_withOther_5 21 rfl rfl)
theorem dX13_withOther_201 : decode cX13_withOther 201 = .ok (.getfield 13, 3) := dk_180 0 13 (dk_at dksX13_withOther_6 0 rfl rfl)
theorem dX13_withOther_204 : decode cX13_withOther 204 = .ok (.aload_n 0, 1) := dk_42 (dk_at dksX13_withOther_6 3 rfl rfl)
theorem dX13_withOther_205 : decode cX13_withOther 205 = .ok (.getfield 17, 3) := dk_180 0 17 (dk_at dksX13_withOther_6 4 rfl rfl)
theorem dX13_withOther_208 : decode cX13_withOther 208 = .ok (.aload_n 0, 1) := dk_42 (dk_at dksX13_withOther_6 7 rfl rfl)
theorem dX13_withOther_209 : decode cX13_withOther 209 = .ok (.getfield 20, 3) := dk_180 0 20 (dk_at dksX13_withOther_6 8 rfl rfl)
theorem dX13_withOther_212 : decode cX13_withOther 212 = .ok (.invokevirtual 80, 3) := dk_182 0 80 (dk_at dksX13_withOther_6 11 rfl rfl)
theorem dX13_withOther_215 : decode cX13_withOther 215 = .ok (.ireturn, 1) := dk_172 (dk_at dksX13_withOther_6 14 rfl rfl)
theorem dX13_withOther_216 : decode cX13_withOther 216 = .ok (.aload_n 1, 1) := dk_43 (dk_at dksX13_withOther_6 15 rfl rfl)
theorem dX13_withOther_217 : decode cX13_withOther 217 = .ok (.aload_n 0, 1) := dk_42 (dk_at dksX13_withOther_6 16 rfl rfl)
theorem dX13_withOther_218 : decode cX13_withOther 218 = .ok (.getfield 13, 3) := dk_180 0 13 (dk_at dksX13_withOther_6 17 rfl rfl)
theorem dX13_withOther_221 : decode cX13_withOther 221 = .ok (.invokevirtual 83, 3) := dk_182 0 83 (dk_at dksX13_withOther_6 20 rfl rfl)
theorem dX13_withOther_224 : decode cX13_withOther 224 = .ok (.ireturn, 1) := dk_172 (dk_at dksX13_withOther_6 23 rfl rfl)
abbrev cX13_init : ByteArray := prog_4_method_1_code
def yX13_init : MethodName := ⟨RX13, "<init>", "(CIII)V"⟩
def dkwX13_init_1 : List UInt8 := [181, 0, 20, 177]
abbrev dktX13_init_1 : List UInt8 := dkwX13_init_1 ++ []
def dkwX13_init_0 : List UInt8 := [42, 183, 0, 1, 42, 27, 181, 0, 7, 42, 28, 181, 0, 13, 42, 29, 181, 0, 17, 42, 21, 4]
abbrev dktX13_init_0 : List UInt8 := dkwX13_init_0 ++ dktX13_init_1
theorem dksX13_init_0 : cX13_init.data.toList.drop 0 = dktX13_init_0 := by decide +kernel
theorem dksX13_init_1 : cX13_init.data.toList.drop 22 = dktX13_init_1 := dk_seg dksX13_init_0 22 rfl rfl
theorem dX13_init_0 : decode cX13_init 0 = .ok (.aload_n 0, 1) := dk_42 (dk_at dksX13_init_0 0 rfl rfl)
theorem dX13_init_1 : decode cX13_init 1 = .ok (.invokespecial 1, 3) := dk_183 0 1 (dk_at dksX13_init_0 1 rfl rfl)
theorem dX13_init_4 : decode cX13_init 4 = .ok (.aload_n 0, 1) := dk_42 (dk_at dksX13_init_0 4 rfl rfl)
theorem dX13_init_5 : decode cX13_init 5 = .ok (.iload_n 1, 1) := dk_27 (dk_at dksX13_init_0 5 rfl rfl)
theorem dX13_init_6 : decode cX13_init 6 = .ok (.putfield 7, 3) := dk_181 0 7 (dk_at dksX13_init_0 6 rfl rfl)
theorem dX13_init_9 : decode cX13_init 9 = .ok (.aload_n 0, 1) := dk_42 (dk_at dksX13_init_0 9 rfl rfl)
theorem dX13_init_10 : decode cX13_init 10 = .ok (.iload_n 2, 1) := dk_28 (dk_at dksX13_init_0 10 rfl rfl)
theorem dX13_init_11 : decode cX13_init 11 = .ok (.putfield 13, 3) := dk_181 0 13 (dk_at dksX13_init_0 11 rfl rfl)
theorem dX13_init_14 : decode cX13_init 14 = .ok (.aload_n 0, 1) := dk_42 (dk_at dksX13_init_0 14 rfl rfl)
theorem dX13_init_15 : decode cX13_init 15 = .ok (.iload_n 3, 1) := dk_29 (dk_at dksX13_init_0 15 rfl rfl)
theorem dX13_init_16 : decode cX13_init 16 = .ok (.putfield 17, 3) := dk_181 0 17 (dk_at dksX13_init_0 16 rfl rfl)
theorem dX13_init_19 : decode cX13_init 19 = .ok (.aload_n 0, 1) := dk_42 (dk_at dksX13_init_0 19 rfl rfl)
theorem dX13_init_20 : decode cX13_init 20 = .ok (.iload 4, 2) := dk_21 4 (dk_at dksX13_init_0 20 rfl rfl)
theorem dX13_init_22 : decode cX13_init 22 = .ok (.putfield 20, 3) := dk_181 0 20 (dk_at dksX13_init_1 0 rfl rfl)
theorem dX13_init_25 : decode cX13_init 25 = .ok (.return_, 1) := dk_177 (dk_at dksX13_init_1 3 rfl rfl)
theorem q91 : (Jvm.Cond.initialized "IncidentKeeper$Call") ∈ lw_all := lw_g (lw_at lw_m1 27 rfl) rfl
theorem q405 : (Jvm.Cond.selects "IncidentKeeper$Call" ({ cls := "java/lang/Object", name := "getClass", desc := "()Ljava/lang/Class;" } : Jvm.MethodName) ({ cls := "java/lang/Object", name := "getClass", desc := "()Ljava/lang/Class;" } : Jvm.MethodName)) ∈ lw_all := lw_g (lw_at lw_m2 101 rfl) rfl
theorem q661 : (Jvm.Cond.castable "IncidentKeeper$Call" "IncidentKeeper$Work") ∈ lw_tbl := lw_at lw_m3 117 rfl
theorem q662 : (Jvm.Cond.selects "IncidentKeeper$Call" ({ cls := "IncidentKeeper$Work", name := "with", desc := "(LIncidentKeeper$Core;)I" } : Jvm.MethodName) ({ cls := "IncidentKeeper$Call", name := "with", desc := "(LIncidentKeeper$Core;)I" } : Jvm.MethodName)) ∈ lw_all := lw_g (lw_at lw_m3 118 rfl) rfl
theorem q663 : (Jvm.Cond.unhidden "IncidentKeeper$Call" "with" "(LIncidentKeeper$Core;)I") ∈ lw_tbl := lw_at lw_m3 119 rfl
theorem q664 : (Jvm.Cond.instanceMethod ({ cls := "IncidentKeeper$Call", name := "with", desc := "(LIncidentKeeper$Core;)I" } : Jvm.MethodName)) ∈ lw_all := lw_g (lw_at lw_m3 120 rfl) rfl
theorem q665 : (Jvm.Cond.publicMethod ({ cls := "IncidentKeeper$Call", name := "with", desc := "(LIncidentKeeper$Core;)I" } : Jvm.MethodName)) ∈ lw_tbl := lw_at lw_m3 121 rfl
theorem q666 : (Jvm.Cond.code ({ cls := "IncidentKeeper$Call", name := "with", desc := "(LIncidentKeeper$Core;)I" } : Jvm.MethodName) prog_4_method_2_code (2 : Nat) (Option.some Jvm.ClassFile.FieldType.int)) ∈ lw_all := lw_g (lw_at lw_m3 122 rfl) rfl
theorem q667 : (Jvm.Cond.methodLink "IncidentKeeper$Call" (23 : Nat) ({ cls := "IncidentKeeper$Core", name := "open", desc := "(II)I" } : Jvm.MethodName)) ∈ lw_all := lw_g (lw_at lw_m3 123 rfl) rfl
theorem q673 : (Jvm.Cond.methodLink "IncidentKeeper$Call" (29 : Nat) ({ cls := "IncidentKeeper$Core", name := "hand", desc := "(II)I" } : Jvm.MethodName)) ∈ lw_all := lw_g (lw_at lw_m3 129 rfl) rfl
theorem q681 : (Jvm.Cond.methodLink "IncidentKeeper$Call" (32 : Nat) ({ cls := "IncidentKeeper$Core", name := "stop", desc := "(II)I" } : Jvm.MethodName)) ∈ lw_all := lw_g (lw_at lw_m3 137 rfl) rfl
theorem q701 : (Jvm.Cond.methodLink "IncidentKeeper$Call" (35 : Nat) ({ cls := "IncidentKeeper$Core", name := "go", desc := "(II)I" } : Jvm.MethodName)) ∈ lw_all := lw_g (lw_at lw_m3 157 rfl) rfl
theorem q710 : (Jvm.Cond.methodLink "IncidentKeeper$Call" (38 : Nat) ({ cls := "IncidentKeeper$Core", name := "rate", desc := "(II)I" } : Jvm.MethodName)) ∈ lw_all := lw_g (lw_at lw_m3 166 rfl) rfl
theorem q718 : (Jvm.Cond.methodLink "IncidentKeeper$Call" (41 : Nat) ({ cls := "IncidentKeeper$Core", name := "resolve", desc := "(I)I" } : Jvm.MethodName)) ∈ lw_all := lw_g (lw_at lw_m3 174 rfl) rfl
theorem q796 : (Jvm.Cond.methodLink "IncidentKeeper$Call" (45 : Nat) ({ cls := "IncidentKeeper$Core", name := "reopen", desc := "(I)I" } : Jvm.MethodName)) ∈ lw_all := lw_g (lw_at lw_m4 12 rfl) rfl
theorem q814 : (Jvm.Cond.methodLink "IncidentKeeper$Call" (48 : Nat) ({ cls := "IncidentKeeper$Core", name := "close", desc := "(I)I" } : Jvm.MethodName)) ∈ lw_all := lw_g (lw_at lw_m4 30 rfl) rfl
theorem q826 : (Jvm.Cond.methodLink "IncidentKeeper$Call" (51 : Nat) ({ cls := "IncidentKeeper$Core", name := "pass", desc := "(I)I" } : Jvm.MethodName)) ∈ lw_all := lw_g (lw_at lw_m4 42 rfl) rfl
theorem q849 : (Jvm.Cond.methodLink "IncidentKeeper$Call" (54 : Nat) ({ cls := "IncidentKeeper$Call", name := "withOther", desc := "(LIncidentKeeper$Core;)I" } : Jvm.MethodName)) ∈ lw_all := lw_g (lw_at lw_m4 65 rfl) rfl
theorem q850 : (Jvm.Cond.privateMethod ({ cls := "IncidentKeeper$Call", name := "withOther", desc := "(LIncidentKeeper$Core;)I" } : Jvm.MethodName)) ∈ lw_tbl := lw_at lw_m4 66 rfl
theorem q851 : (Jvm.Cond.instanceMethod ({ cls := "IncidentKeeper$Call", name := "withOther", desc := "(LIncidentKeeper$Core;)I" } : Jvm.MethodName)) ∈ lw_all := lw_g (lw_at lw_m4 67 rfl) rfl
theorem q852 : (Jvm.Cond.instantiable "IncidentKeeper$Call" (4 : Nat)) ∈ lw_all := lw_g (lw_at lw_m4 68 rfl) rfl
theorem q853 : (Jvm.Cond.code ({ cls := "IncidentKeeper$Call", name := "withOther", desc := "(LIncidentKeeper$Core;)I" } : Jvm.MethodName) prog_4_method_3_code (2 : Nat) (Option.some Jvm.ClassFile.FieldType.int)) ∈ lw_all := lw_g (lw_at lw_m4 69 rfl) rfl
theorem q854 : (Jvm.Cond.methodLink "IncidentKeeper$Call" (58 : Nat) ({ cls := "IncidentKeeper$Core", name := "setTarget", desc := "(II)I" } : Jvm.MethodName)) ∈ lw_all := lw_g (lw_at lw_m4 70 rfl) rfl
theorem q861 : (Jvm.Cond.methodLink "IncidentKeeper$Call" (61 : Nat) ({ cls := "IncidentKeeper$Core", name := "setLimit", desc := "(II)I" } : Jvm.MethodName)) ∈ lw_all := lw_g (lw_at lw_m4 77 rfl) rfl
theorem q865 : (Jvm.Cond.methodLink "IncidentKeeper$Call" (64 : Nat) ({ cls := "IncidentKeeper$Core", name := "setWindow", desc := "(I)I" } : Jvm.MethodName)) ∈ lw_all := lw_g (lw_at lw_m4 81 rfl) rfl
theorem q869 : (Jvm.Cond.methodLink "IncidentKeeper$Call" (67 : Nat) ({ cls := "IncidentKeeper$Core", name := "setParent", desc := "(II)I" } : Jvm.MethodName)) ∈ lw_all := lw_g (lw_at lw_m4 85 rfl) rfl
theorem q877 : (Jvm.Cond.methodLink "IncidentKeeper$Call" (70 : Nat) ({ cls := "IncidentKeeper$Core", name := "note", desc := "(III)I" } : Jvm.MethodName)) ∈ lw_all := lw_g (lw_at lw_m4 93 rfl) rfl
theorem q892 : (Jvm.Cond.methodLink "IncidentKeeper$Call" (74 : Nat) ({ cls := "IncidentKeeper$Core", name := "link", desc := "(II)I" } : Jvm.MethodName)) ∈ lw_all := lw_g (lw_at lw_m4 108 rfl) rfl
theorem q927 : (Jvm.Cond.methodLink "IncidentKeeper$Call" (77 : Nat) ({ cls := "IncidentKeeper$Core", name := "review", desc := "(I)I" } : Jvm.MethodName)) ∈ lw_all := lw_g (lw_at lw_m4 143 rfl) rfl
theorem q931 : (Jvm.Cond.methodLink "IncidentKeeper$Call" (80 : Nat) ({ cls := "IncidentKeeper$Core", name := "action", desc := "(III)I" } : Jvm.MethodName)) ∈ lw_all := lw_g (lw_at lw_m4 147 rfl) rfl
theorem q940 : (Jvm.Cond.methodLink "IncidentKeeper$Call" (83 : Nat) ({ cls := "IncidentKeeper$Core", name := "finish", desc := "(I)I" } : Jvm.MethodName)) ∈ lw_all := lw_g (lw_at lw_m4 156 rfl) rfl
theorem q996 : (Jvm.Cond.instanceMethod ({ cls := "IncidentKeeper$Call", name := "<init>", desc := "(CIII)V" } : Jvm.MethodName)) ∈ lw_all := lw_g (lw_at lw_m4 212 rfl) rfl
theorem q997 : (Jvm.Cond.code ({ cls := "IncidentKeeper$Call", name := "<init>", desc := "(CIII)V" } : Jvm.MethodName) prog_4_method_1_code (5 : Nat) (Option.none : Option Jvm.ClassFile.FieldType)) ∈ lw_all := lw_g (lw_at lw_m4 213 rfl) rfl
theorem q998 : (Jvm.Cond.methodLink "IncidentKeeper$Call" (1 : Nat) ({ cls := "java/lang/Object", name := "<init>", desc := "()V" } : Jvm.MethodName)) ∈ lw_all := lw_g (lw_at lw_m4 214 rfl) rfl
theorem q999 : (Jvm.Cond.fieldLink "IncidentKeeper$Call" (7 : Nat) "IncidentKeeper$Call" "kind" "C") ∈ lw_all := lw_g (lw_at lw_m4 215 rfl) rfl
theorem q1000 : (Jvm.Cond.fieldLink "IncidentKeeper$Call" (13 : Nat) "IncidentKeeper$Call" "one" "I") ∈ lw_all := lw_g (lw_at lw_m4 216 rfl) rfl
theorem q1001 : (Jvm.Cond.fieldLink "IncidentKeeper$Call" (17 : Nat) "IncidentKeeper$Call" "two" "I") ∈ lw_all := lw_g (lw_at lw_m4 217 rfl) rfl
theorem q1002 : (Jvm.Cond.fieldLink "IncidentKeeper$Call" (20 : Nat) "IncidentKeeper$Call" "three" "I") ∈ lw_all := lw_g (lw_at lw_m4 218 rfl) rfl
theorem q1003 : (Jvm.Cond.laysFinal "IncidentKeeper$Call" "IncidentKeeper$Call" "kind" "C") ∈ lw_all := lw_g (lw_at lw_m4 219 rfl) rfl
theorem q1004 : (Jvm.Cond.soleField "IncidentKeeper$Call" "kind") ∈ lw_all := lw_g (lw_at lw_m4 220 rfl) rfl
theorem q1005 : (Jvm.Cond.laysFinal "IncidentKeeper$Call" "IncidentKeeper$Call" "one" "I") ∈ lw_all := lw_g (lw_at lw_m4 221 rfl) rfl
theorem q1006 : (Jvm.Cond.soleField "IncidentKeeper$Call" "one") ∈ lw_all := lw_g (lw_at lw_m4 222 rfl) rfl
theorem q1007 : (Jvm.Cond.laysFinal "IncidentKeeper$Call" "IncidentKeeper$Call" "two" "I") ∈ lw_all := lw_g (lw_at lw_m4 223 rfl) rfl
theorem q1008 : (Jvm.Cond.soleField "IncidentKeeper$Call" "two") ∈ lw_all := lw_g (lw_at lw_m4 224 rfl) rfl
theorem q1009 : (Jvm.Cond.laysFinal "IncidentKeeper$Call" "IncidentKeeper$Call" "three" "I") ∈ lw_all := lw_g (lw_at lw_m4 225 rfl) rfl
theorem q1010 : (Jvm.Cond.soleField "IncidentKeeper$Call" "three") ∈ lw_all := lw_g (lw_at lw_m4 226 rfl) rfl
theorem q1011 : (Jvm.Cond.superclass "IncidentKeeper$Call" "java/lang/Object") ∈ lw_all := lw_g (lw_at lw_m4 227 rfl) rfl
theorem q2060 : (Jvm.Cond.selects "IncidentKeeper$Call" ({ cls := "IncidentKeeper$Call", name := "with", desc := "(LIncidentKeeper$Core;)I" } : Jvm.MethodName) ({ cls := "IncidentKeeper$Call", name := "with", desc := "(LIncidentKeeper$Core;)I" } : Jvm.MethodName)) ∈ lw_all := lw_g (lw_at lw_m9 76 rfl) rfl
theorem q2074 : (Jvm.Cond.castable "IncidentKeeper$Call" "java/lang/Object") ∈ lw_tbl := lw_at lw_m9 90 rfl
theorem in_X13 : ∀ w ∈ wsX130, w ∈ lw_all := lw_in wsX130 [1003, 1005, 1007, 1009] (by decide +kernel) (by decide +kernel)
/-! IncidentKeeper$Reader -/
set_option maxRecDepth 100000
def RX14 : String := "IncidentKeeper$Reader"
def TX14 : u_T := fun k => match k with
  | 0 => ("IncidentKeeper$Reader", "calls", "Ljava/util/ArrayList;", true)
  | 1 => ("IncidentKeeper$Reader", "at", "I", false)
  | _ => ("IncidentKeeper$Reader", "this$0", "LIncidentKeeper;", true)
def tyX14 : Nat → FieldType := fun k => match k with
  | 0 => .object "java/util/ArrayList"
  | 1 => .int
  | _ => .object "IncidentKeeper"
abbrev wsX140 : List Cond := u_ws RX14 TX14 3
theorem nmX14 : ∀ a, a < 3 → ∀ b, b < 3 → a ≠ b → (TX14 a).2.1 ≠ (TX14 b).2.1 := by decide +kernel
theorem tyX14_ok : ∀ k, k < 3 → parseFieldDescriptor (TX14 k).2.2.1 = some (tyX14 k) := by decide +kernel
abbrev cX14_with : ByteArray := prog_13_method_10_code
def yX14_with : MethodName := ⟨RX14, "with", "(LIncidentKeeper$Core;)I"⟩
def dkwX14_with_2 : List UInt8 := [180, 0, 16, 182, 0, 85, 172]
abbrev dktX14_with_2 : List UInt8 := dkwX14_with_2 ++ []
def dkwX14_with_1 : List UInt8 := [180, 0, 16, 28, 182, 0, 92, 192, 0, 54, 43, 182, 0, 96, 87, 132, 2, 1, 167, 255, 218, 42]
abbrev dktX14_with_1 : List UInt8 := dkwX14_with_1 ++ dktX14_with_2
def dkwX14_with_0 : List UInt8 := [3, 61, 28, 42, 180, 0, 16, 182, 0, 85, 162, 0, 33, 42, 180, 0, 1, 28, 181, 0, 89, 42]
abbrev dktX14_with_0 : List UInt8 := dkwX14_with_0 ++ dktX14_with_1
theorem dksX14_with_0 : cX14_with.data.toList.drop 0 = dktX14_with_0 := by decide +kernel
theorem dksX14_with_1 : cX14_with.data.toList.drop 22 = dktX14_with_1 := dk_seg dksX14_with_0 22 rfl rfl
theorem dksX14_with_2 : cX14_with.data.toList.drop 44 = dktX14_with_2 := dk_seg dksX14_with_1 22 rfl rfl
theorem dX14_with_0 : decode cX14_with 0 = .ok (.iconst 0, 1) := dk_3 (dk_at dksX14_with_0 0 rfl rfl)
theorem dX14_with_1 : decode cX14_with 1 = .ok (.istore_n 2, 1) := dk_61 (dk_at dksX14_with_0 1 rfl rfl)
theorem dX14_with_2 : decode cX14_with 2 = .ok (.iload_n 2, 1) := dk_28 (dk_at dksX14_with_0 2 rfl rfl)
theorem dX14_with_3 : decode cX14_with 3 = .ok (.aload_n 0, 1) := dk_42 (dk_at dksX14_with_0 3 rfl rfl)
theorem dX14_with_4 : decode cX14_with 4 = .ok (.getfield 16, 3) := dk_180 0 16 (dk_at dksX14_with_0 4 rfl rfl)
theorem dX14_with_7 : decode cX14_with 7 = .ok (.invokevirtual 85, 3) := dk_182 0 85 (dk_at dksX14_with_0 7 rfl rfl)
theorem dX14_with_10 : decode cX14_with 10 = .ok (.if_icmp .ge 33, 3) := dk_162 0 33 (dk_at dksX14_with_0 10 rfl rfl)
theorem dX14_with_13 : decode cX14_with 13 = .ok (.aload_n 0, 1) := dk_42 (dk_at dksX14_with_0 13 rfl rfl)
theorem dX14_with_14 : decode cX14_with 14 = .ok (.getfield 1, 3) := dk_180 0 1 (dk_at dksX14_with_0 14 rfl rfl)
theorem dX14_with_17 : decode cX14_with 17 = .ok (.iload_n 2, 1) := dk_28 (dk_at dksX14_with_0 17 rfl rfl)
theorem dX14_with_18 : decode cX14_with 18 = .ok (.putfield 89, 3) := dk_181 0 89 (dk_at dksX14_with_0 18 rfl rfl)
theorem dX14_with_21 : decode cX14_with 21 = .ok (.aload_n 0, 1) := dk_42 (dk_at dksX14_with_0 21 rfl rfl)
theorem dX14_with_22 : decode cX14_with 22 = .ok (.getfield 16, 3) := dk_180 0 16 (dk_at dksX14_with_1 0 rfl rfl)
theorem dX14_with_25 : decode cX14_with 25 = .ok (.iload_n 2, 1) := dk_28 (dk_at dksX14_with_1 3 rfl rfl)
theorem dX14_with_26 : decode cX14_with 26 = .ok (.invokevirtual 92, 3) := dk_182 0 92 (dk_at dksX14_with_1 4 rfl rfl)
theorem dX14_with_29 : decode cX14_with 29 = .ok (.checkcast 54, 3) := dk_192 0 54 (dk_at dksX14_with_1 7 rfl rfl)
theorem dX14_with_32 : decode cX14_with 32 = .ok (.aload_n 1, 1) := dk_43 (dk_at dksX14_with_1 10 rfl rfl)
theorem dX14_with_33 : decode cX14_with 33 = .ok (.invokevirtual 96, 3) := dk_182 0 96 (dk_at dksX14_with_1 11 rfl rfl)
theorem dX14_with_36 : decode cX14_with 36 = .ok (.pop, 1) := dk_87 (dk_at dksX14_with_1 14 rfl rfl)
theorem dX14_with_37 : decode cX14_with 37 = .ok (.iinc 2 1, 3) := dk_132 2 1 (dk_at dksX14_with_1 15 rfl rfl)
theorem dX14_with_40 : decode cX14_with 40 = .ok (.goto (-38), 3) := dk_167 255 218 (dk_at dksX14_with_1 18 rfl rfl)
theorem dX14_with_43 : decode cX14_with 43 = .ok (.aload_n 0, 1) := dk_42 (dk_at dksX14_with_1 21 rfl rfl)
theorem dX14_with_44 : decode cX14_with 44 = .ok (.getfield 16, 3) := dk_180 0 16 (dk_at dksX14_with_2 0 rfl rfl)
theorem dX14_with_47 : decode cX14_with 47 = .ok (.invokevirtual 85, 3) := dk_182 0 85 (dk_at dksX14_with_2 3 rfl rfl)
theorem dX14_with_50 : decode cX14_with 50 = .ok (.ireturn, 1) := dk_172 (dk_at dksX14_with_2 6 rfl rfl)
abbrev cX14_init : ByteArray := prog_13_method_1_code
def yX14_init : MethodName := ⟨RX14, "<init>", "(LIncidentKeeper;)V"⟩
def dkwX14_init_0 : List UInt8 := [42, 43, 181, 0, 1, 42, 183, 0, 7, 42, 187, 0, 13, 89, 183, 0, 15, 181, 0, 16, 177]
abbrev dktX14_init_0 : List UInt8 := dkwX14_init_0 ++ []
theorem dksX14_init_0 : cX14_init.data.toList.drop 0 = dktX14_init_0 := by decide +kernel
theorem dX14_init_0 : decode cX14_init 0 = .ok (.aload_n 0, 1) := dk_42 (dk_at dksX14_init_0 0 rfl rfl)
theorem dX14_init_1 : decode cX14_init 1 = .ok (.aload_n 1, 1) := dk_43 (dk_at dksX14_init_0 1 rfl rfl)
theorem dX14_init_2 : decode cX14_init 2 = .ok (.putfield 1, 3) := dk_181 0 1 (dk_at dksX14_init_0 2 rfl rfl)
theorem dX14_init_5 : decode cX14_init 5 = .ok (.aload_n 0, 1) := dk_42 (dk_at dksX14_init_0 5 rfl rfl)
theorem dX14_init_6 : decode cX14_init 6 = .ok (.invokespecial 7, 3) := dk_183 0 7 (dk_at dksX14_init_0 6 rfl rfl)
theorem dX14_init_9 : decode cX14_init 9 = .ok (.aload_n 0, 1) := dk_42 (dk_at dksX14_init_0 9 rfl rfl)
theorem dX14_init_10 : decode cX14_init 10 = .ok (.new 13, 3) := dk_187 0 13 (dk_at dksX14_init_0 10 rfl rfl)
theorem dX14_init_13 : decode cX14_init 13 = .ok (.dup, 1) := dk_89 (dk_at dksX14_init_0 13 rfl rfl)
theorem dX14_init_14 : decode cX14_init 14 = .ok (.invokespecial 15, 3) := dk_183 0 15 (dk_at dksX14_init_0 14 rfl rfl)
theorem dX14_init_17 : decode cX14_init 17 = .ok (.putfield 16, 3) := dk_181 0 16 (dk_at dksX14_init_0 17 rfl rfl)
theorem dX14_init_20 : decode cX14_init 20 = .ok (.return_, 1) := dk_177 (dk_at dksX14_init_0 20 rfl rfl)
abbrev cX14_readAll : ByteArray := prog_13_method_9_code
def yX14_readAll : MethodName := ⟨RX14, "readAll", "()LIncidentKeeper$Reader;"⟩
def dkwX14_readAll_1 : List UInt8 := [42, 182, 0, 82, 167, 255, 232, 42, 176]
abbrev dktX14_readAll_1 : List UInt8 := dkwX14_readAll_1 ++ []
def dkwX14_readAll_0 : List UInt8 := [42, 182, 0, 82, 42, 180, 0, 20, 42, 180, 0, 1, 180, 0, 24, 162, 0, 16, 42, 16, 59, 182, 0, 63]
abbrev dktX14_readAll_0 : List UInt8 := dkwX14_readAll_0 ++ dktX14_readAll_1
theorem dksX14_readAll_0 : cX14_readAll.data.toList.drop 0 = dktX14_readAll_0 := by decide +kernel
theorem dksX14_readAll_1 : cX14_readAll.data.toList.drop 24 = dktX14_readAll_1 := dk_seg dksX14_readAll_0 24 rfl rfl
theorem dX14_readAll_0 : decode cX14_readAll 0 = .ok (.aload_n 0, 1) := dk_42 (dk_at dksX14_readAll_0 0 rfl rfl)
theorem dX14_readAll_1 : decode cX14_readAll 1 = .ok (.invokevirtual 82, 3) := dk_182 0 82 (dk_at dksX14_readAll_0 1 rfl rfl)
theorem dX14_readAll_4 : decode cX14_readAll 4 = .ok (.aload_n 0, 1) := dk_42 (dk_at dksX14_readAll_0 4 rfl rfl)
theorem dX14_readAll_5 : decode cX14_readAll 5 = .ok (.getfield 20, 3) := dk_180 0 20 (dk_at dksX14_readAll_0 5 rfl rfl)
theorem dX14_readAll_8 : decode cX14_readAll 8 = .ok (.aload_n 0, 1) := dk_42 (dk_at dksX14_readAll_0 8 rfl rfl)
theorem dX14_readAll_9 : decode cX14_readAll 9 = .ok (.getfield 1, 3) := dk_180 0 1 (dk_at dksX14_readAll_0 9 rfl rfl)
theorem dX14_readAll_12 : decode cX14_readAll 12 = .ok (.getfield 24, 3) := dk_180 0 24 (dk_at dksX14_readAll_0 12 rfl rfl)
theorem dX14_readAll_15 : decode cX14_readAll 15 = .ok (.if_icmp .ge 16, 3) := dk_162 0 16 (dk_at dksX14_readAll_0 15 rfl rfl)
theorem dX14_readAll_18 : decode cX14_readAll 18 = .ok (.aload_n 0, 1) := dk_42 (dk_at dksX14_readAll_0 18 rfl rfl)
theorem dX14_readAll_19 : decode cX14_readAll 19 = .ok (.bipush 59, 2) := dk_16 59 (dk_at dksX14_readAll_0 19 rfl rfl)
theorem dX14_readAll_21 : decode cX14_readAll 21 = .ok (.invokevirtual 63, 3) := dk_182 0 63 (dk_at dksX14_readAll_0 21 rfl rfl)
theorem dX14_readAll_24 : decode cX14_readAll 24 = .ok (.aload_n 0, 1) := dk_42 (dk_at dksX14_readAll_1 0 rfl rfl)
theorem dX14_readAll_25 : decode cX14_readAll 25 = .ok (.invokevirtual 82, 3) := dk_182 0 82 (dk_at dksX14_readAll_1 1 rfl rfl)
theorem dX14_readAll_28 : decode cX14_readAll 28 = .ok (.goto (-24), 3) := dk_167 255 232 (dk_at dksX14_readAll_1 4 rfl rfl)
theorem dX14_readAll_31 : decode cX14_readAll 31 = .ok (.aload_n 0, 1) := dk_42 (dk_at dksX14_readAll_1 7 rfl rfl)
theorem dX14_readAll_32 : decode cX14_readAll 32 = .ok (.areturn, 1) := dk_176 (dk_at dksX14_readAll_1 8 rfl rfl)
abbrev cX14_readEntry : ByteArray := prog_13_method_8_code
def yX14_readEntry : MethodName := ⟨RX14, "readEntry", "()V"⟩
def dkwX14_readEntry_3 : List UInt8 := [182, 0, 74, 182, 0, 78, 87, 177]
abbrev dktX14_readEntry_3 : List UInt8 := dkwX14_readEntry_3 ++ []
def dkwX14_readEntry_2 : List UInt8 := [4, 96, 181, 0, 20, 42, 180, 0, 16, 42, 42, 180, 0, 1, 180, 0, 29, 42, 180, 0, 20, 4, 100, 52]
abbrev dktX14_readEntry_2 : List UInt8 := dkwX14_readEntry_2 ++ dktX14_readEntry_3
def dkwX14_readEntry_1 : List UInt8 := [42, 180, 0, 20, 52, 182, 0, 69, 155, 0, 7, 4, 167, 0, 4, 3, 182, 0, 46, 42, 89, 180, 0, 20]
abbrev dktX14_readEntry_1 : List UInt8 := dkwX14_readEntry_1 ++ dktX14_readEntry_2
def dkwX14_readEntry_0 : List UInt8 := [42, 42, 180, 0, 20, 42, 180, 0, 1, 180, 0, 24, 162, 0, 27, 18, 67, 42, 180, 0, 1, 180, 0, 29]
abbrev dktX14_readEntry_0 : List UInt8 := dkwX14_readEntry_0 ++ dktX14_readEntry_1
theorem dksX14_readEntry_0 : cX14_readEntry.data.toList.drop 0 = dktX14_readEntry_0 := by decide +kernel
theorem dksX14_readEntry_1 : cX14_readEntry.data.toList.drop 24 = dktX14_readEntry_1 := dk_seg dksX14_readEntry_0 24 rfl rfl
theorem dksX14_readEntry_2 : cX14_readEntry.data.toList.drop 48 = dktX14_readEntry_2 := dk_seg dksX14_readEntry_1 24 rfl rfl
theorem dksX14_readEntry_3 : cX14_readEntry.data.toList.drop 72 = dktX14_readEntry_3 := dk_seg dksX14_readEntry_2 24 rfl rfl
theorem dX14_readEntry_0 : decode cX14_readEntry 0 = .ok (.aload_n 0, 1) := dk_42 (dk_at dksX14_readEntry_0 0 rfl rfl)
theorem dX14_readEntry_1 : decode cX14_readEntry 1 = .ok (.aload_n 0, 1) := dk_42 (dk_at dksX14_readEntry_0 1 rfl rfl)
theorem dX14_readEntry_2 : decode cX14_readEntry 2 = .ok (.getfield 20, 3) := dk_180 0 20 (dk_at dksX14_readEntry_0 2 rfl rfl)
theorem dX14_readEntry_5 : decode cX14_readEntry 5 = .ok (.aload_n 0, 1) := dk_42 (dk_at dksX14_readEntry_0 5 rfl rfl)
theorem dX14_readEntry_6 : decode cX14_readEntry 6 = .ok (.getfield 1, 3) := dk_180 0 1 (dk_at dksX14_readEntry_0 6 rfl rfl)
theorem dX14_readEntry_9 : decode cX14_readEntry 9 = .ok (.getfield 24, 3) := dk_180 0 24 (dk_at dksX14_readEntry_0 9 rfl rfl)
theorem dX14_readEntry_12 : decode cX14_readEntry 12 = .ok (.if_icmp .ge 27, 3) := dk_162 0 27 (dk_at dksX14_readEntry_0 12 rfl rfl)
theorem dX14_readEntry_15 : decode cX14_readEntry 15 = .ok (.ldc 67, 2) := dk_18 67 (dk_at dksX14_readEntry_0 15 rfl rfl)
theorem dX14_readEntry_17 : decode cX14_readEntry 17 = .ok (.aload_n 0, 1) := dk_42 (dk_at dksX14_readEntry_0 17 rfl rfl)
theorem dX14_readEntry_18 : decode cX14_readEntry 18 = .ok (.getfield 1, 3) := dk_180 0 1 (dk_at dksX14_readEntry_0 18 rfl rfl)
theorem dX14_readEntry_21 : decode cX14_readEntry 21 = .ok (.getfield 29, 3) := dk_180 0 29 (dk_at dksX14_readEntry_0 21 rfl rfl)
theorem dX14_readEntry_24 : decode cX14_readEntry 24 = .ok (.aload_n 0, 1) := dk_42 (dk_at dksX14_readEntry_1 0 rfl rfl)
theorem dX14_readEntry_25 : decode cX14_readEntry 25 = .ok (.getfield 20, 3) := dk_180 0 20 (dk_at dksX14_readEntry_1 1 rfl rfl)
theorem dX14_readEntry_28 : decode cX14_readEntry 28 = .ok (.caload, 1) := dk_52 (dk_at dksX14_readEntry_1 4 rfl rfl)
theorem dX14_readEntry_29 : decode cX14_readEntry 29 = .ok (.invokevirtual 69, 3) := dk_182 0 69 (dk_at dksX14_readEntry_1 5 rfl rfl)
theorem dX14_readEntry_32 : decode cX14_readEntry 32 = .ok (.ifCond .lt 7, 3) := dk_155 0 7 (dk_at dksX14_readEntry_1 8 rfl rfl)
theorem dX14_readEntry_35 : decode cX14_readEntry 35 = .ok (.iconst 1, 1) := dk_4 (dk_at dksX14_readEntry_1 11 rfl rfl)
theorem dX14_readEntry_36 : decode cX14_readEntry 36 = .ok (.goto 4, 3) := dk_167 0 4 (dk_at dksX14_readEntry_1 12 rfl rfl)
theorem dX14_readEntry_39 : decode cX14_readEntry 39 = .ok (.iconst 0, 1) := dk_3 (dk_at dksX14_readEntry_1 15 rfl rfl)
theorem dX14_readEntry_40 : decode cX14_readEntry 40 = .ok (.invokevirtual 46, 3) := dk_182 0 46 (dk_at dksX14_readEntry_1 16 rfl rfl)
theorem dX14_readEntry_43 : decode cX14_readEntry 43 = .ok (.aload_n 0, 1) := dk_42 (dk_at dksX14_readEntry_1 19 rfl rfl)
theorem dX14_readEntry_44 : decode cX14_readEntry 44 = .ok (.dup, 1) := dk_89 (dk_at dksX14_readEntry_1 20 rfl rfl)
theorem dX14_readEntry_45 : decode cX14_readEntry 45 = .ok (.getfield 20, 3) := dk_180 0 20 (dk_at dksX14_readEntry_1 21 rfl rfl)
theorem dX14_readEntry_48 : decode cX14_readEntry 48 = .ok (.iconst 1, 1) := dk_4 (dk_at dksX14_readEntry_2 0 rfl rfl)
theorem dX14_readEntry_49 : decode cX14_readEntry 49 = .ok (.iadd, 1) := dk_96 (dk_at dksX14_readEntry_2 1 rfl rfl)
theorem dX14_readEntry_50 : decode cX14_readEntry 50 = .ok (.putfield 20, 3) := dk_181 0 20 (dk_at dksX14_readEntry_2 2 rfl rfl)
theorem dX14_readEntry_53 : decode cX14_readEntry 53 = .ok (.aload_n 0, 1) := dk_42 (dk_at dksX14_readEntry_2 5 rfl rfl)
theorem dX14_readEntry_54 : decode cX14_readEntry 54 = .ok (.getfield 16, 3) := dk_180 0 16 (dk_at dksX14_readEntry_2 6 rfl rfl)
theorem dX14_readEntry_57 : decode cX14_readEntry 57 = .ok (.aload_n 0, 1) := dk_42 (dk_at dksX14_readEntry_2 9 rfl rfl)
theorem dX14_readEntry_58 : decode cX14_readEntry 58 = .ok (.aload_n 0, 1) := dk_42 (dk_at dksX14_readEntry_2 10 rfl rfl)
theorem dX14_readEntry_59 : decode cX14_readEntry 59 = .ok (.getfield 1, 3) := dk_180 0 1 (dk_at dksX14_readEntry_2 11 rfl rfl)
theorem dX14_readEntry_62 : decode cX14_readEntry 62 = .ok (.getfield 29, 3) := dk_180 0 29 (dk_at dksX14_readEntry_2 14 rfl rfl)
theorem dX14_readEntry_65 : decode cX14_readEntry 65 = .ok (.aload_n 0, 1) := dk_42 (dk_at dksX14_readEntry_2 17 rfl rfl)
theorem dX14_readEntry_66 : decode cX14_readEntry 66 = .ok (.getfield 20, 3) := dk_180 0 20 (dk_at dksX14_readEntry_2 18 rfl rfl)
theorem dX14_readEntry_69 : decode cX14_readEntry 69 = .ok (.iconst 1, 1) := dk_4 (dk_at dksX14_readEntry_2 21 rfl rfl)
theorem dX14_readEntry_70 : decode cX14_readEntry 70 = .ok (.isub, 1) := dk_100 (dk_at dksX14_readEntry_2 22 rfl rfl)
theorem dX14_readEntry_71 : decode cX14_readEntry 71 = .ok (.caload, 1) := dk_52 (dk_at dksX14_readEntry_2 23 rfl rfl)
theorem dX14_readEntry_72 : decode cX14_readEntry 72 = .ok (.invokevirtual 74, 3) := dk_182 0 74 (dk_at dksX14_readEntry_3 0 rfl rfl)
theorem dX14_readEntry_75 : decode cX14_readEntry 75 = .ok (.invokevirtual 78, 3) := dk_182 0 78 (dk_at dksX14_readEntry_3 3 rfl rfl)
theorem dX14_readEntry_78 : decode cX14_readEntry 78 = .ok (.pop, 1) := dk_87 (dk_at dksX14_readEntry_3 6 rfl rfl)
theorem dX14_readEntry_79 : decode cX14_readEntry 79 = .ok (.return_, 1) := dk_177 (dk_at dksX14_readEntry_3 7 rfl rfl)
abbrev cX14_must : ByteArray := prog_13_method_3_code
def yX14_must : MethodName := ⟨RX14, "must", "(Z)V"⟩
def dkwX14_must_0 : List UInt8 := [27, 154, 0, 15, 187, 0, 37, 89, 42, 180, 0, 20, 183, 0, 39, 191, 177]
abbrev dktX14_must_0 : List UInt8 := dkwX14_must_0 ++ []
theorem dksX14_must_0 : cX14_must.data.toList.drop 0 = dktX14_must_0 := by decide +kernel
theorem dX14_must_0 : decode cX14_must 0 = .ok (.iload_n 1, 1) := dk_27 (dk_at dksX14_must_0 0 rfl rfl)
theorem dX14_must_1 : decode cX14_must 1 = .ok (.ifCond .ne 15, 3) := dk_154 0 15 (dk_at dksX14_must_0 1 rfl rfl)
theorem dX14_must_4 : decode cX14_must 4 = .ok (.new 37, 3) := dk_187 0 37 (dk_at dksX14_must_0 4 rfl rfl)
theorem dX14_must_7 : decode cX14_must 7 = .ok (.dup, 1) := dk_89 (dk_at dksX14_must_0 7 rfl rfl)
theorem dX14_must_8 : decode cX14_must 8 = .ok (.aload_n 0, 1) := dk_42 (dk_at dksX14_must_0 8 rfl rfl)
theorem dX14_must_9 : decode cX14_must 9 = .ok (.getfield 20, 3) := dk_180 0 20 (dk_at dksX14_must_0 9 rfl rfl)
theorem dX14_must_12 : decode cX14_must 12 = .ok (.invokespecial 39, 3) := dk_183 0 39 (dk_at dksX14_must_0 12 rfl rfl)
theorem dX14_must_15 : decode cX14_must 15 = .ok (.athrow, 1) := dk_191 (dk_at dksX14_must_0 15 rfl rfl)
theorem dX14_must_16 : decode cX14_must 16 = .ok (.return_, 1) := dk_177 (dk_at dksX14_must_0 16 rfl rfl)
abbrev cX14_read : ByteArray := prog_13_method_6_code
def yX14_read : MethodName := ⟨RX14, "read", "(C)LIncidentKeeper$Call;"⟩
def dkwX14_read_4 : List UInt8 := [187, 0, 54, 89, 27, 42, 6, 182, 0, 50, 3, 3, 183, 0, 56, 176]
abbrev dktX14_read_4 : List UInt8 := dkwX14_read_4 ++ []
def dkwX14_read_3 : List UInt8 := [16, 62, 182, 0, 59, 176, 42, 27, 16, 58, 182, 0, 59, 176, 42, 27, 16, 61, 182, 0, 59, 176]
abbrev dktX14_read_3 : List UInt8 := dkwX14_read_3 ++ dktX14_read_4
def dkwX14_read_2 : List UInt8 := [42, 4, 182, 0, 50, 61, 187, 0, 54, 89, 27, 28, 42, 4, 182, 0, 50, 3, 183, 0, 56, 176, 42, 27]
abbrev dktX14_read_2 : List UInt8 := dkwX14_read_2 ++ dktX14_read_3
def dkwX14_read_1 : List UInt8 := [171, 0, 0, 0, 0, 0, 97, 0, 0, 0, 5, 0, 0, 0, 103, 0, 0, 0, 81, 0, 0, 0, 104, 0, 0, 0, 73, 0, 0, 0, 110, 0, 0, 0, 51, 0, 0, 0, 115, 0, 0, 0, 81, 0, 0, 0, 118, 0, 0, 0, 89]
abbrev dktX14_read_1 : List UInt8 := dkwX14_read_1 ++ dktX14_read_2
def dkwX14_read_0 : List UInt8 := [27]
abbrev dktX14_read_0 : List UInt8 := dkwX14_read_0 ++ dktX14_read_1
theorem dksX14_read_0 : cX14_read.data.toList.drop 0 = dktX14_read_0 := by decide +kernel
theorem dksX14_read_1 : cX14_read.data.toList.drop 1 = dktX14_read_1 := dk_seg dksX14_read_0 1 rfl rfl
theorem dksX14_read_2 : cX14_read.data.toList.drop 52 = dktX14_read_2 := dk_seg dksX14_read_1 51 rfl rfl
theorem dksX14_read_3 : cX14_read.data.toList.drop 76 = dktX14_read_3 := dk_seg dksX14_read_2 24 rfl rfl
theorem dksX14_read_4 : cX14_read.data.toList.drop 98 = dktX14_read_4 := dk_seg dksX14_read_3 22 rfl rfl
theorem dX14_read_0 : decode cX14_read 0 = .ok (.iload_n 1, 1) := dk_27 (dk_at dksX14_read_0 0 rfl rfl)
theorem dX14_read_1 : decode cX14_read 1 = .ok (.lookupswitch 97 #[(103, 81), (104, 73), (110, 51), (115, 81), (118, 89)], 51) := by decide +kernel
theorem dX14_read_52 : decode cX14_read 52 = .ok (.aload_n 0, 1) := dk_42 (dk_at dksX14_read_2 0 rfl rfl)
theorem dX14_read_53 : decode cX14_read 53 = .ok (.iconst 1, 1) := dk_4 (dk_at dksX14_read_2 1 rfl rfl)
theorem dX14_read_54 : decode cX14_read 54 = .ok (.invokevirtual 50, 3) := dk_182 0 50 (dk_at dksX14_read_2 2 rfl rfl)
theorem dX14_read_57 : decode cX14_read 57 = .ok (.istore_n 2, 1) := dk_61 (dk_at dksX14_read_2 5 rfl rfl)
theorem dX14_read_58 : decode cX14_read 58 = .ok (.new 54, 3) := dk_187 0 54 (dk_at dksX14_read_2 6 rfl rfl)
theorem dX14_read_61 : decode cX14_read 61 = .ok (.dup, 1) := dk_89 (dk_at dksX14_read_2 9 rfl rfl)
theorem dX14_read_62 : decode cX14_read 62 = .ok (.iload_n 1, 1) := dk_27 (dk_at dksX14_read_2 10 rfl rfl)
theorem dX14_read_63 : decode cX14_read 63 = .ok (.iload_n 2, 1) := dk_28 (dk_at dksX14_read_2 11 rfl rfl)
theorem dX14_read_64 : decode cX14_read 64 = .ok (.aload_n 0, 1) := dk_42 (dk_at dksX14_read_2 12 rfl rfl)
theorem dX14_read_65 : decode cX14_read 65 = .ok (.iconst 1, 1) := dk_4 (dk_at dksX14_read_2 13 rfl rfl)
theorem dX14_read_66 : decode cX14_read 66 = .ok (.invokevirtual 50, 3) := dk_182 0 50 (dk_at dksX14_read_2 14 rfl rfl)
theorem dX14_read_69 : decode cX14_read 69 = .ok (.iconst 0, 1) := dk_3 (dk_at dksX14_read_2 17 rfl rfl)
theorem dX14_read_70 : decode cX14_read 70 = .ok (.invokespecial 56, 3) := dk_183 0 56 (dk_at dksX14_read_2 18 rfl rfl)
theorem dX14_read_73 : decode cX14_read 73 = .ok (.areturn, 1) := dk_176 (dk_at dksX14_read_2 21 rfl rfl)
theorem dX14_read_74 : decode cX14_read 74 = .ok (.aload_n 0, 1) := dk_42 (dk_at dksX14_read_2 22 rfl rfl)
theorem dX14_read_75 : decode cX14_read 75 = .ok (.iload_n 1, 1) := dk_27 (dk_at dksX14_read_2 23 rfl rfl)
theorem dX14_read_76 : decode cX14_read 76 = .ok (.bipush 62, 2) := dk_16 62 (dk_at dksX14_read_3 0 rfl rfl)
theorem dX14_read_78 : decode cX14_read 78 = .ok (.invokevirtual 59, 3) := dk_182 0 59 (dk_at dksX14_read_3 2 rfl rfl)
theorem dX14_read_81 : decode cX14_read 81 = .ok (.areturn, 1) := dk_176 (dk_at dksX14_read_3 5 rfl rfl)
theorem dX14_read_82 : decode cX14_read 82 = .ok (.aload_n 0, 1) := dk_42 (dk_at dksX14_read_3 6 rfl rfl)
theorem dX14_read_83 : decode cX14_read 83 = .ok (.iload_n 1, 1) := dk_27 (dk_at dksX14_read_3 7 rfl rfl)
theorem dX14_read_84 : decode cX14_read 84 = .ok (.bipush 58, 2) := dk_16 58 (dk_at dksX14_read_3 8 rfl rfl)
theorem dX14_read_86 : decode cX14_read 86 = .ok (.invokevirtual 59, 3) := dk_182 0 59 (dk_at dksX14_read_3 10 rfl rfl)
theorem dX14_read_89 : decode cX14_read 89 = .ok (.areturn, 1) := dk_176 (dk_at dksX14_read_3 13 rfl rfl)
theorem dX14_read_90 : decode cX14_read 90 = .ok (.aload_n 0, 1) := dk_42 (dk_at dksX14_read_3 14 rfl rfl)
theorem dX14_read_91 : decode cX14_read 91 = .ok (.iload_n 1, 1) := dk_27 (dk_at dksX14_read_3 15 rfl rfl)
theorem dX14_read_92 : decode cX14_read 92 = .ok (.bipush 61, 2) := dk_16 61 (dk_at dksX14_read_3 16 rfl rfl)
theorem dX14_read_94 : decode cX14_read 94 = .ok (.invokevirtual 59, 3) := dk_182 0 59 (dk_at dksX14_read_3 18 rfl rfl)
theorem dX14_read_97 : decode cX14_read 97 = .ok (.areturn, 1) := dk_176 (dk_at dksX14_read_3 21 rfl rfl)
theorem dX14_read_98 : decode cX14_read 98 = .ok (.new 54, 3) := dk_187 0 54 (dk_at dksX14_read_4 0 rfl rfl)
theorem dX14_read_101 : decode cX14_read 101 = .ok (.dup, 1) := dk_89 (dk_at dksX14_read_4 3 rfl rfl)
theorem dX14_read_102 : decode cX14_read 102 = .ok (.iload_n 1, 1) := dk_27 (dk_at dksX14_read_4 4 rfl rfl)
theorem dX14_read_103 : decode cX14_read 103 = .ok (.aload_n 0, 1) := dk_42 (dk_at dksX14_read_4 5 rfl rfl)
theorem dX14_read_104 : decode cX14_read 104 = .ok (.iconst 3, 1) := dk_6 (dk_at dksX14_read_4 6 rfl rfl)
theorem dX14_read_105 : decode cX14_read 105 = .ok (.invokevirtual 50, 3) := dk_182 0 50 (dk_at dksX14_read_4 7 rfl rfl)
theorem dX14_read_108 : decode cX14_read 108 = .ok (.iconst 0, 1) := dk_3 (dk_at dksX14_read_4 10 rfl rfl)
theorem dX14_read_109 : decode cX14_read 109 = .ok (.iconst 0, 1) := dk_3 (dk_at dksX14_read_4 11 rfl rfl)
theorem dX14_read_110 : decode cX14_read 110 = .ok (.invokespecial 56, 3) := dk_183 0 56 (dk_at dksX14_read_4 12 rfl rfl)
theorem dX14_read_113 : decode cX14_read 113 = .ok (.areturn, 1) := dk_176 (dk_at dksX14_read_4 15 rfl rfl)
abbrev cX14_number : ByteArray := prog_13_method_5_code
def yX14_number : MethodName := ⟨RX14, "number", "(I)I"⟩
def dkwX14_number_2 : List UInt8 := [96, 16, 48, 100, 61, 42, 89, 180, 0, 20, 4, 96, 181, 0, 20, 132, 3, 1, 167, 255, 206, 28, 172]
abbrev dktX14_number_2 : List UInt8 := dkwX14_number_2 ++ []
def dkwX14_number_1 : List UInt8 := [16, 57, 182, 0, 42, 153, 0, 40, 16, 10, 28, 104, 42, 180, 0, 1, 180, 0, 29, 42, 180, 0, 20, 52]
abbrev dktX14_number_1 : List UInt8 := dkwX14_number_1 ++ dktX14_number_2
def dkwX14_number_0 : List UInt8 := [42, 42, 16, 48, 16, 57, 182, 0, 42, 182, 0, 46, 3, 61, 3, 62, 29, 27, 162, 0, 51, 42, 16, 48]
abbrev dktX14_number_0 : List UInt8 := dkwX14_number_0 ++ dktX14_number_1
theorem dksX14_number_0 : cX14_number.data.toList.drop 0 = dktX14_number_0 := by decide +kernel
theorem dksX14_number_1 : cX14_number.data.toList.drop 24 = dktX14_number_1 := dk_seg dksX14_number_0 24 rfl rfl
theorem dksX14_number_2 : cX14_number.data.toList.drop 48 = dktX14_number_2 := dk_seg dksX14_number_1 24 rfl rfl
theorem dX14_number_0 : decode cX14_number 0 = .ok (.aload_n 0, 1) := dk_42 (dk_at dksX14_number_0 0 rfl rfl)
theorem dX14_number_1 : decode cX14_number 1 = .ok (.aload_n 0, 1) := dk_42 (dk_at dksX14_number_0 1 rfl rfl)
theorem dX14_number_2 : decode cX14_number 2 = .ok (.bipush 48, 2) := dk_16 48 (dk_at dksX14_number_0 2 rfl rfl)
theorem dX14_number_4 : decode cX14_number 4 = .ok (.bipush 57, 2) := dk_16 57 (dk_at dksX14_number_0 4 rfl rfl)
theorem dX14_number_6 : decode cX14_number 6 = .ok (.invokevirtual 42, 3) := dk_182 0 42 (dk_at dksX14_number_0 6 rfl rfl)
theorem dX14_number_9 : decode cX14_number 9 = .ok (.invokevirtual 46, 3) := dk_182 0 46 (dk_at dksX14_number_0 9 rfl rfl)
theorem dX14_number_12 : decode cX14_number 12 = .ok (.iconst 0, 1) := dk_3 (dk_at dksX14_number_0 12 rfl rfl)
theorem dX14_number_13 : decode cX14_number 13 = .ok (.istore_n 2, 1) := dk_61 (dk_at dksX14_number_0 13 rfl rfl)
theorem dX14_number_14 : decode cX14_number 14 = .ok (.iconst 0, 1) := dk_3 (dk_at dksX14_number_0 14 rfl rfl)
theorem dX14_number_15 : decode cX14_number 15 = .ok (.istore_n 3, 1) := dk_62 (dk_at dksX14_number_0 15 rfl rfl)
theorem dX14_number_16 : decode cX14_number 16 = .ok (.iload_n 3, 1) := dk_29 (dk_at dksX14_number_0 16 rfl rfl)
theorem dX14_number_17 : decode cX14_number 17 = .ok (.iload_n 1, 1) := dk_27 (dk_at dksX14_number_0 17 rfl rfl)
theorem dX14_number_18 : decode cX14_number 18 = .ok (.if_icmp .ge 51, 3) := dk_162 0 51 (dk_at dksX14_number_0 18 rfl rfl)
theorem dX14_number_21 : decode cX14_number 21 = .ok (.aload_n 0, 1) := dk_42 (dk_at dksX14_number_0 21 rfl rfl)
theorem dX14_number_22 : decode cX14_number 22 = .ok (.bipush 48, 2) := dk_16 48 (dk_at dksX14_number_0 22 rfl rfl)
theorem dX14_number_24 : decode cX14_number 24 = .ok (.bipush 57, 2) := dk_16 57 (dk_at dksX14_number_1 0 rfl rfl)
theorem dX14_number_26 : decode cX14_number 26 = .ok (.invokevirtual 42, 3) := dk_182 0 42 (dk_at dksX14_number_1 2 rfl rfl)
theorem dX14_number_29 : decode cX14_number 29 = .ok (.ifCond .eq 40, 3) := dk_153 0 40 (dk_at dksX14_number_1 5 rfl rfl)
theorem dX14_number_32 : decode cX14_number 32 = .ok (.bipush 10, 2) := dk_16 10 (dk_at dksX14_number_1 8 rfl rfl)
theorem dX14_number_34 : decode cX14_number 34 = .ok (.iload_n 2, 1) := dk_28 (dk_at dksX14_number_1 10 rfl rfl)
theorem dX14_number_35 : decode cX14_number 35 = .ok (.imul, 1) := dk_104 (dk_at dksX14_number_1 11 rfl rfl)
theorem dX14_number_36 : decode cX14_number 36 = .ok (.aload_n 0, 1) := dk_42 (dk_at dksX14_number_1 12 rfl rfl)
theorem dX14_number_37 : decode cX14_number 37 = .ok (.getfield 1, 3) := dk_180 0 1 (dk_at dksX14_number_1 13 rfl rfl)
theorem dX14_number_40 : decode cX14_number 40 = .ok (.getfield 29, 3) := dk_180 0 29 (dk_at dksX14_number_1 16 rfl rfl)
theorem dX14_number_43 : decode cX14_number 43 = .ok (.aload_n 0, 1) := dk_42 (dk_at dksX14_number_1 19 rfl rfl)
theorem dX14_number_44 : decode cX14_number 44 = .ok (.getfield 20, 3) := dk_180 0 20 (dk_at dksX14_number_1 20 rfl rfl)
theorem dX14_number_47 : decode cX14_number 47 = .ok (.caload, 1) := dk_52 (dk_at dksX14_number_1 23 rfl rfl)
theorem dX14_number_48 : decode cX14_number 48 = .ok (.iadd, 1) := dk_96 (dk_at dksX14_number_2 0 rfl rfl)
theorem dX14_number_49 : decode cX14_number 49 = .ok (.bipush 48, 2) := dk_16 48 (dk_at dksX14_number_2 1 rfl rfl)
theorem dX14_number_51 : decode cX14_number 51 = .ok (.isub, 1) := dk_100 (dk_at dksX14_number_2 3 rfl rfl)
theorem dX14_number_52 : decode cX14_number 52 = .ok (.istore_n 2, 1) := dk_61 (dk_at dksX14_number_2 4 rfl rfl)
theorem dX14_number_53 : decode cX14_number 53 = .ok (.aload_n 0, 1) := dk_42 (dk_at dksX14_number_2 5 rfl rfl)
theorem dX14_number_54 : decode cX14_number 54 = .ok (.dup, 1) := dk_89 (dk_at dksX14_number_2 6 rfl rfl)
theorem dX14_number_55 : decode cX14_number 55 = .ok (.getfield 20, 3) := dk_180 0 20 (dk_at dksX14_number_2 7 rfl rfl)
theorem dX14_number_58 : decode cX14_number 58 = .ok (.iconst 1, 1) := dk_4 (dk_at dksX14_number_2 10 rfl rfl)
theorem dX14_number_59 : decode cX14_number 59 = .ok (.iadd, 1) := dk_96 (dk_at dksX14_number_2 11 rfl rfl)
theorem dX14_number_60 : decode cX14_number 60 = .ok (.putfield 20, 3) := dk_181 0 20 (dk_at dksX14_number_2 12 rfl rfl)
theorem dX14_number_63 : decode cX14_number 63 = .ok (.iinc 3 1, 3) := dk_132 3 1 (dk_at dksX14_number_2 15 rfl rfl)
theorem dX14_number_66 : decode cX14_number 66 = .ok (.goto (-50), 3) := dk_167 255 206 (dk_at dksX14_number_2 18 rfl rfl)
theorem dX14_number_69 : decode cX14_number 69 = .ok (.iload_n 2, 1) := dk_28 (dk_at dksX14_number_2 21 rfl rfl)
theorem dX14_number_70 : decode cX14_number 70 = .ok (.ireturn, 1) := dk_172 (dk_at dksX14_number_2 22 rfl rfl)
abbrev cX14_sees : ByteArray := prog_13_method_2_code
def yX14_sees : MethodName := ⟨RX14, "sees", "(CC)Z"⟩
def dkwX14_sees_1 : List UInt8 := [180, 0, 20, 52, 27, 28, 184, 0, 33, 153, 0, 7, 4, 167, 0, 4, 3, 172]
abbrev dktX14_sees_1 : List UInt8 := dkwX14_sees_1 ++ []
def dkwX14_sees_0 : List UInt8 := [42, 180, 0, 20, 42, 180, 0, 1, 180, 0, 24, 162, 0, 27, 42, 180, 0, 1, 180, 0, 29, 42]
abbrev dktX14_sees_0 : List UInt8 := dkwX14_sees_0 ++ dktX14_sees_1
theorem dksX14_sees_0 : cX14_sees.data.toList.drop 0 = dktX14_sees_0 := by decide +kernel
theorem dksX14_sees_1 : cX14_sees.data.toList.drop 22 = dktX14_sees_1 := dk_seg dksX14_sees_0 22 rfl rfl
theorem dX14_sees_0 : decode cX14_sees 0 = .ok (.aload_n 0, 1) := dk_42 (dk_at dksX14_sees_0 0 rfl rfl)
theorem dX14_sees_1 : decode cX14_sees 1 = .ok (.getfield 20, 3) := dk_180 0 20 (dk_at dksX14_sees_0 1 rfl rfl)
theorem dX14_sees_4 : decode cX14_sees 4 = .ok (.aload_n 0, 1) := dk_42 (dk_at dksX14_sees_0 4 rfl rfl)
theorem dX14_sees_5 : decode cX14_sees 5 = .ok (.getfield 1, 3) := dk_180 0 1 (dk_at dksX14_sees_0 5 rfl rfl)
theorem dX14_sees_8 : decode cX14_sees 8 = .ok (.getfield 24, 3) := dk_180 0 24 (dk_at dksX14_sees_0 8 rfl rfl)
theorem dX14_sees_11 : decode cX14_sees 11 = .ok (.if_icmp .ge 27, 3) := dk_162 0 27 (dk_at dksX14_sees_0 11 rfl rfl)
theorem dX14_sees_14 : decode cX14_sees 14 = .ok (.aload_n 0, 1) := dk_42 (dk_at dksX14_sees_0 14 rfl rfl)
theorem dX14_sees_15 : decode cX14_sees 15 = .ok (.getfield 1, 3) := dk_180 0 1 (dk_at dksX14_sees_0 15 rfl rfl)
theorem dX14_sees_18 : decode cX14_sees 18 = .ok (.getfield 29, 3) := dk_180 0 29 (dk_at dksX14_sees_0 18 rfl rfl)
theorem dX14_sees_21 : decode cX14_sees 21 = .ok (.aload_n 0, 1) := dk_42 (dk_at dksX14_sees_0 21 rfl rfl)
theorem dX14_sees_22 : decode cX14_sees 22 = .ok (.getfield 20, 3) := dk_180 0 20 (dk_at dksX14_sees_1 0 rfl rfl)
theorem dX14_sees_25 : decode cX14_sees 25 = .ok (.caload, 1) := dk_52 (dk_at dksX14_sees_1 3 rfl rfl)
theorem dX14_sees_26 : decode cX14_sees 26 = .ok (.iload_n 1, 1) := dk_27 (dk_at dksX14_sees_1 4 rfl rfl)
theorem dX14_sees_27 : decode cX14_sees 27 = .ok (.iload_n 2, 1) := dk_28 (dk_at dksX14_sees_1 5 rfl rfl)
theorem dX14_sees_28 : decode cX14_sees 28 = .ok (.invokestatic 33, 3) := dk_184 0 33 (dk_at dksX14_sees_1 6 rfl rfl)
theorem dX14_sees_31 : decode cX14_sees 31 = .ok (.ifCond .eq 7, 3) := dk_153 0 7 (dk_at dksX14_sees_1 9 rfl rfl)
theorem dX14_sees_34 : decode cX14_sees 34 = .ok (.iconst 1, 1) := dk_4 (dk_at dksX14_sees_1 12 rfl rfl)
theorem dX14_sees_35 : decode cX14_sees 35 = .ok (.goto 4, 3) := dk_167 0 4 (dk_at dksX14_sees_1 13 rfl rfl)
theorem dX14_sees_38 : decode cX14_sees 38 = .ok (.iconst 0, 1) := dk_3 (dk_at dksX14_sees_1 16 rfl rfl)
theorem dX14_sees_39 : decode cX14_sees 39 = .ok (.ireturn, 1) := dk_172 (dk_at dksX14_sees_1 17 rfl rfl)
abbrev cX14_readTwo : ByteArray := prog_13_method_7_code
def yX14_readTwo : MethodName := ⟨RX14, "readTwo", "(CC)LIncidentKeeper$Call;"⟩
def dkwX14_readTwo_1 : List UInt8 := [183, 0, 56, 176]
abbrev dktX14_readTwo_1 : List UInt8 := dkwX14_readTwo_1 ++ []
def dkwX14_readTwo_0 : List UInt8 := [42, 6, 182, 0, 50, 62, 42, 28, 182, 0, 63, 187, 0, 54, 89, 27, 29, 42, 4, 182, 0, 50, 3]
abbrev dktX14_readTwo_0 : List UInt8 := dkwX14_readTwo_0 ++ dktX14_readTwo_1
theorem dksX14_readTwo_0 : cX14_readTwo.data.toList.drop 0 = dktX14_readTwo_0 := by decide +kernel
theorem dksX14_readTwo_1 : cX14_readTwo.data.toList.drop 23 = dktX14_readTwo_1 := dk_seg dksX14_readTwo_0 23 rfl rfl
theorem dX14_readTwo_0 : decode cX14_readTwo 0 = .ok (.aload_n 0, 1) := dk_42 (dk_at dksX14_readTwo_0 0 rfl rfl)
theorem dX14_readTwo_1 : decode cX14_readTwo 1 = .ok (.iconst 3, 1) := dk_6 (dk_at dksX14_readTwo_0 1 rfl rfl)
theorem dX14_readTwo_2 : decode cX14_readTwo 2 = .ok (.invokevirtual 50, 3) := dk_182 0 50 (dk_at dksX14_readTwo_0 2 rfl rfl)
theorem dX14_readTwo_5 : decode cX14_readTwo 5 = .ok (.istore_n 3, 1) := dk_62 (dk_at dksX14_readTwo_0 5 rfl rfl)
theorem dX14_readTwo_6 : decode cX14_readTwo 6 = .ok (.aload_n 0, 1) := dk_42 (dk_at dksX14_readTwo_0 6 rfl rfl)
theorem dX14_readTwo_7 : decode cX14_readTwo 7 = .ok (.iload_n 2, 1) := dk_28 (dk_at dksX14_readTwo_0 7 rfl rfl)
theorem dX14_readTwo_8 : decode cX14_readTwo 8 = .ok (.invokevirtual 63, 3) := dk_182 0 63 (dk_at dksX14_readTwo_0 8 rfl rfl)
theorem dX14_readTwo_11 : decode cX14_readTwo 11 = .ok (.new 54, 3) := dk_187 0 54 (dk_at dksX14_readTwo_0 11 rfl rfl)
theorem dX14_readTwo_14 : decode cX14_readTwo 14 = .ok (.dup, 1) := dk_89 (dk_at dksX14_readTwo_0 14 rfl rfl)
theorem dX14_readTwo_15 : decode cX14_readTwo 15 = .ok (.iload_n 1, 1) := dk_27 (dk_at dksX14_readTwo_0 15 rfl rfl)
theorem dX14_readTwo_16 : decode cX14_readTwo 16 = .ok (.iload_n 3, 1) := dk_29 (dk_at dksX14_readTwo_0 16 rfl rfl)
theorem dX14_readTwo_17 : decode cX14_readTwo 17 = .ok (.aload_n 0, 1) := dk_42 (dk_at dksX14_readTwo_0 17 rfl rfl)
theorem dX14_readTwo_18 : decode cX14_readTwo 18 = .ok (.iconst 1, 1) := dk_4 (dk_at dksX14_readTwo_0 18 rfl rfl)
theorem dX14_readTwo_19 : decode cX14_readTwo 19 = .ok (.invokevirtual 50, 3) := dk_182 0 50 (dk_at dksX14_readTwo_0 19 rfl rfl)
theorem dX14_readTwo_22 : decode cX14_readTwo 22 = .ok (.iconst 0, 1) := dk_3 (dk_at dksX14_readTwo_0 22 rfl rfl)
theorem dX14_readTwo_23 : decode cX14_readTwo 23 = .ok (.invokespecial 56, 3) := dk_183 0 56 (dk_at dksX14_readTwo_1 0 rfl rfl)
theorem dX14_readTwo_26 : decode cX14_readTwo 26 = .ok (.areturn, 1) := dk_176 (dk_at dksX14_readTwo_1 3 rfl rfl)
abbrev cX14_pass : ByteArray := prog_13_method_4_code
def yX14_pass : MethodName := ⟨RX14, "pass", "(C)V"⟩
def dkwX14_pass_0 : List UInt8 := [42, 42, 27, 27, 182, 0, 42, 182, 0, 46, 42, 89, 180, 0, 20, 4, 96, 181, 0, 20, 177]
abbrev dktX14_pass_0 : List UInt8 := dkwX14_pass_0 ++ []
theorem dksX14_pass_0 : cX14_pass.data.toList.drop 0 = dktX14_pass_0 := by decide +kernel
theorem dX14_pass_0 : decode cX14_pass 0 = .ok (.aload_n 0, 1) := dk_42 (dk_at dksX14_pass_0 0 rfl rfl)
theorem dX14_pass_1 : decode cX14_pass 1 = .ok (.aload_n 0, 1) := dk_42 (dk_at dksX14_pass_0 1 rfl rfl)
theorem dX14_pass_2 : decode cX14_pass 2 = .ok (.iload_n 1, 1) := dk_27 (dk_at dksX14_pass_0 2 rfl rfl)
theorem dX14_pass_3 : decode cX14_pass 3 = .ok (.iload_n 1, 1) := dk_27 (dk_at dksX14_pass_0 3 rfl rfl)
theorem dX14_pass_4 : decode cX14_pass 4 = .ok (.invokevirtual 42, 3) := dk_182 0 42 (dk_at dksX14_pass_0 4 rfl rfl)
theorem dX14_pass_7 : decode cX14_pass 7 = .ok (.invokevirtual 46, 3) := dk_182 0 46 (dk_at dksX14_pass_0 7 rfl rfl)
theorem dX14_pass_10 : decode cX14_pass 10 = .ok (.aload_n 0, 1) := dk_42 (dk_at dksX14_pass_0 10 rfl rfl)
theorem dX14_pass_11 : decode cX14_pass 11 = .ok (.dup, 1) := dk_89 (dk_at dksX14_pass_0 11 rfl rfl)
theorem dX14_pass_12 : decode cX14_pass 12 = .ok (.getfield 20, 3) := dk_180 0 20 (dk_at dksX14_pass_0 12 rfl rfl)
theorem dX14_pass_15 : decode cX14_pass 15 = .ok (.iconst 1, 1) := dk_4 (dk_at dksX14_pass_0 15 rfl rfl)
theorem dX14_pass_16 : decode cX14_pass 16 = .ok (.iadd, 1) := dk_96 (dk_at dksX14_pass_0 16 rfl rfl)
theorem dX14_pass_17 : decode cX14_pass 17 = .ok (.putfield 20, 3) := dk_181 0 20 (dk_at dksX14_pass_0 17 rfl rfl)
theorem dX14_pass_20 : decode cX14_pass 20 = .ok (.return_, 1) := dk_177 (dk_at dksX14_pass_0 20 rfl rfl)
theorem q93 : (Jvm.Cond.initialized "IncidentKeeper$Reader") ∈ lw_all := lw_g (lw_at lw_m1 29 rfl) rfl
theorem q204 : (Jvm.Cond.fieldLinkNest "IncidentKeeper$Reader" (89 : Nat) "IncidentKeeper" "nextEntry" "I" "IncidentKeeper") ∈ lw_tbl := lw_at lw_m1 140 rfl
theorem q206 : (Jvm.Cond.fieldLinkNest "IncidentKeeper$Reader" (29 : Nat) "IncidentKeeper" "text" "[C" "IncidentKeeper") ∈ lw_tbl := lw_at lw_m1 142 rfl
theorem q207 : (Jvm.Cond.fieldLinkNest "IncidentKeeper$Reader" (24 : Nat) "IncidentKeeper" "textLength" "I" "IncidentKeeper") ∈ lw_tbl := lw_at lw_m1 143 rfl
theorem q413 : (Jvm.Cond.selects "IncidentKeeper$Reader" ({ cls := "java/lang/Object", name := "getClass", desc := "()Ljava/lang/Class;" } : Jvm.MethodName) ({ cls := "java/lang/Object", name := "getClass", desc := "()Ljava/lang/Class;" } : Jvm.MethodName)) ∈ lw_all := lw_g (lw_at lw_m2 109 rfl) rfl
theorem q944 : (Jvm.Cond.castable "IncidentKeeper$Reader" "IncidentKeeper$Work") ∈ lw_tbl := lw_at lw_m4 160 rfl
theorem q945 : (Jvm.Cond.selects "IncidentKeeper$Reader" ({ cls := "IncidentKeeper$Work", name := "with", desc := "(LIncidentKeeper$Core;)I" } : Jvm.MethodName) ({ cls := "IncidentKeeper$Reader", name := "with", desc := "(LIncidentKeeper$Core;)I" } : Jvm.MethodName)) ∈ lw_all := lw_g (lw_at lw_m4 161 rfl) rfl
theorem q946 : (Jvm.Cond.unhidden "IncidentKeeper$Reader" "with" "(LIncidentKeeper$Core;)I") ∈ lw_tbl := lw_at lw_m4 162 rfl
theorem q947 : (Jvm.Cond.instanceMethod ({ cls := "IncidentKeeper$Reader", name := "with", desc := "(LIncidentKeeper$Core;)I" } : Jvm.MethodName)) ∈ lw_all := lw_g (lw_at lw_m4 163 rfl) rfl
theorem q948 : (Jvm.Cond.publicMethod ({ cls := "IncidentKeeper$Reader", name := "with", desc := "(LIncidentKeeper$Core;)I" } : Jvm.MethodName)) ∈ lw_tbl := lw_at lw_m4 164 rfl
theorem q949 : (Jvm.Cond.code ({ cls := "IncidentKeeper$Reader", name := "with", desc := "(LIncidentKeeper$Core;)I" } : Jvm.MethodName) prog_13_method_10_code (3 : Nat) (Option.some Jvm.ClassFile.FieldType.int)) ∈ lw_all := lw_g (lw_at lw_m4 165 rfl) rfl
theorem q950 : (Jvm.Cond.methodLink "IncidentKeeper$Reader" (85 : Nat) ({ cls := "java/util/ArrayList", name := "size", desc := "()I" } : Jvm.MethodName)) ∈ lw_all := lw_g (lw_at lw_m4 166 rfl) rfl
theorem q951 : (Jvm.Cond.methodLink "IncidentKeeper$Reader" (92 : Nat) ({ cls := "java/util/ArrayList", name := "get", desc := "(I)Ljava/lang/Object;" } : Jvm.MethodName)) ∈ lw_all := lw_g (lw_at lw_m4 167 rfl) rfl
theorem q952 : (Jvm.Cond.classLink "IncidentKeeper$Reader" (54 : Nat) "IncidentKeeper$Call") ∈ lw_all := lw_g (lw_at lw_m4 168 rfl) rfl
theorem q953 : (Jvm.Cond.methodLink "IncidentKeeper$Reader" (96 : Nat) ({ cls := "IncidentKeeper$Call", name := "with", desc := "(LIncidentKeeper$Core;)I" } : Jvm.MethodName)) ∈ lw_all := lw_g (lw_at lw_m4 169 rfl) rfl
theorem q1167 : (Jvm.Cond.instantiable "IncidentKeeper$Reader" (3 : Nat)) ∈ lw_all := lw_g (lw_at lw_m5 143 rfl) rfl
theorem q1169 : (Jvm.Cond.instanceMethod ({ cls := "IncidentKeeper$Reader", name := "<init>", desc := "(LIncidentKeeper;)V" } : Jvm.MethodName)) ∈ lw_all := lw_g (lw_at lw_m5 145 rfl) rfl
theorem q1170 : (Jvm.Cond.code ({ cls := "IncidentKeeper$Reader", name := "<init>", desc := "(LIncidentKeeper;)V" } : Jvm.MethodName) prog_13_method_1_code (2 : Nat) (Option.none : Option Jvm.ClassFile.FieldType)) ∈ lw_all := lw_g (lw_at lw_m5 146 rfl) rfl
theorem q1171 : (Jvm.Cond.methodLink "IncidentKeeper$Reader" (7 : Nat) ({ cls := "java/lang/Object", name := "<init>", desc := "()V" } : Jvm.MethodName)) ∈ lw_all := lw_g (lw_at lw_m5 147 rfl) rfl
theorem q1172 : (Jvm.Cond.classLink "IncidentKeeper$Reader" (13 : Nat) "java/util/ArrayList") ∈ lw_all := lw_g (lw_at lw_m5 148 rfl) rfl
theorem q1173 : (Jvm.Cond.methodLink "IncidentKeeper$Reader" (15 : Nat) ({ cls := "java/util/ArrayList", name := "<init>", desc := "()V" } : Jvm.MethodName)) ∈ lw_all := lw_g (lw_at lw_m5 149 rfl) rfl
theorem q1174 : (Jvm.Cond.fieldLink "IncidentKeeper$Reader" (16 : Nat) "IncidentKeeper$Reader" "calls" "Ljava/util/ArrayList;") ∈ lw_all := lw_g (lw_at lw_m5 150 rfl) rfl
theorem q1175 : (Jvm.Cond.fieldLink "IncidentKeeper$Reader" (20 : Nat) "IncidentKeeper$Reader" "at" "I") ∈ lw_all := lw_g (lw_at lw_m5 151 rfl) rfl
theorem q1176 : (Jvm.Cond.fieldLink "IncidentKeeper$Reader" (1 : Nat) "IncidentKeeper$Reader" "this$0" "LIncidentKeeper;") ∈ lw_all := lw_g (lw_at lw_m5 152 rfl) rfl
theorem q1177 : (Jvm.Cond.laysFinal "IncidentKeeper$Reader" "IncidentKeeper$Reader" "calls" "Ljava/util/ArrayList;") ∈ lw_all := lw_g (lw_at lw_m5 153 rfl) rfl
theorem q1178 : (Jvm.Cond.soleField "IncidentKeeper$Reader" "calls") ∈ lw_all := lw_g (lw_at lw_m5 154 rfl) rfl
theorem q1179 : (Jvm.Cond.lays "IncidentKeeper$Reader" "IncidentKeeper$Reader" "at" "I") ∈ lw_all := lw_g (lw_at lw_m5 155 rfl) rfl
theorem q1180 : (Jvm.Cond.soleField "IncidentKeeper$Reader" "at") ∈ lw_all := lw_g (lw_at lw_m5 156 rfl) rfl
theorem q1181 : (Jvm.Cond.laysFinal "IncidentKeeper$Reader" "IncidentKeeper$Reader" "this$0" "LIncidentKeeper;") ∈ lw_all := lw_g (lw_at lw_m5 157 rfl) rfl
theorem q1182 : (Jvm.Cond.soleField "IncidentKeeper$Reader" "this$0") ∈ lw_all := lw_g (lw_at lw_m5 158 rfl) rfl
theorem q1183 : (Jvm.Cond.superclass "IncidentKeeper$Reader" "java/lang/Object") ∈ lw_all := lw_g (lw_at lw_m5 159 rfl) rfl
theorem q1185 : (Jvm.Cond.instanceMethod ({ cls := "IncidentKeeper$Reader", name := "readAll", desc := "()LIncidentKeeper$Reader;" } : Jvm.MethodName)) ∈ lw_all := lw_g (lw_at lw_m5 161 rfl) rfl
theorem q1186 : (Jvm.Cond.selects "IncidentKeeper$Reader" ({ cls := "IncidentKeeper$Reader", name := "readAll", desc := "()LIncidentKeeper$Reader;" } : Jvm.MethodName) ({ cls := "IncidentKeeper$Reader", name := "readAll", desc := "()LIncidentKeeper$Reader;" } : Jvm.MethodName)) ∈ lw_all := lw_g (lw_at lw_m5 162 rfl) rfl
theorem q1187 : (Jvm.Cond.code ({ cls := "IncidentKeeper$Reader", name := "readAll", desc := "()LIncidentKeeper$Reader;" } : Jvm.MethodName) prog_13_method_9_code (1 : Nat) (Option.some (Jvm.ClassFile.FieldType.object "IncidentKeeper$Reader"))) ∈ lw_all := lw_g (lw_at lw_m5 163 rfl) rfl
theorem q1188 : (Jvm.Cond.methodLink "IncidentKeeper$Reader" (82 : Nat) ({ cls := "IncidentKeeper$Reader", name := "readEntry", desc := "()V" } : Jvm.MethodName)) ∈ lw_all := lw_g (lw_at lw_m5 164 rfl) rfl
theorem q1189 : (Jvm.Cond.privateMethod ({ cls := "IncidentKeeper$Reader", name := "readEntry", desc := "()V" } : Jvm.MethodName)) ∈ lw_tbl := lw_at lw_m5 165 rfl
theorem q1190 : (Jvm.Cond.instanceMethod ({ cls := "IncidentKeeper$Reader", name := "readEntry", desc := "()V" } : Jvm.MethodName)) ∈ lw_all := lw_g (lw_at lw_m5 166 rfl) rfl
theorem q1191 : (Jvm.Cond.code ({ cls := "IncidentKeeper$Reader", name := "readEntry", desc := "()V" } : Jvm.MethodName) prog_13_method_8_code (1 : Nat) (Option.none : Option Jvm.ClassFile.FieldType)) ∈ lw_all := lw_g (lw_at lw_m5 167 rfl) rfl
theorem q1192 : (Jvm.Cond.stringRef "IncidentKeeper$Reader" (67 : Nat) "nhsgvroct") ∈ lw_tbl := lw_at lw_m5 168 rfl
theorem q1193 : (Jvm.Cond.methodLink "IncidentKeeper$Reader" (69 : Nat) ({ cls := "java/lang/String", name := "indexOf", desc := "(I)I" } : Jvm.MethodName)) ∈ lw_all := lw_g (lw_at lw_m5 169 rfl) rfl
theorem q1275 : (Jvm.Cond.methodLink "IncidentKeeper$Reader" (46 : Nat) ({ cls := "IncidentKeeper$Reader", name := "must", desc := "(Z)V" } : Jvm.MethodName)) ∈ lw_all := lw_g (lw_at lw_m6 11 rfl) rfl
theorem q1276 : (Jvm.Cond.privateMethod ({ cls := "IncidentKeeper$Reader", name := "must", desc := "(Z)V" } : Jvm.MethodName)) ∈ lw_tbl := lw_at lw_m6 12 rfl
theorem q1277 : (Jvm.Cond.instanceMethod ({ cls := "IncidentKeeper$Reader", name := "must", desc := "(Z)V" } : Jvm.MethodName)) ∈ lw_all := lw_g (lw_at lw_m6 13 rfl) rfl
theorem q1278 : (Jvm.Cond.code ({ cls := "IncidentKeeper$Reader", name := "must", desc := "(Z)V" } : Jvm.MethodName) prog_13_method_3_code (2 : Nat) (Option.none : Option Jvm.ClassFile.FieldType)) ∈ lw_all := lw_g (lw_at lw_m6 14 rfl) rfl
theorem q1279 : (Jvm.Cond.classLink "IncidentKeeper$Reader" (37 : Nat) "IncidentKeeper$FaultException") ∈ lw_all := lw_g (lw_at lw_m6 15 rfl) rfl
theorem q1288 : (Jvm.Cond.methodLink "IncidentKeeper$Reader" (39 : Nat) ({ cls := "IncidentKeeper$FaultException", name := "<init>", desc := "(I)V" } : Jvm.MethodName)) ∈ lw_all := lw_g (lw_at lw_m6 24 rfl) rfl
theorem q1299 : (Jvm.Cond.methodLink "IncidentKeeper$Reader" (74 : Nat) ({ cls := "IncidentKeeper$Reader", name := "read", desc := "(C)LIncidentKeeper$Call;" } : Jvm.MethodName)) ∈ lw_all := lw_g (lw_at lw_m6 35 rfl) rfl
theorem q1300 : (Jvm.Cond.privateMethod ({ cls := "IncidentKeeper$Reader", name := "read", desc := "(C)LIncidentKeeper$Call;" } : Jvm.MethodName)) ∈ lw_tbl := lw_at lw_m6 36 rfl
theorem q1301 : (Jvm.Cond.instanceMethod ({ cls := "IncidentKeeper$Reader", name := "read", desc := "(C)LIncidentKeeper$Call;" } : Jvm.MethodName)) ∈ lw_all := lw_g (lw_at lw_m6 37 rfl) rfl
theorem q1302 : (Jvm.Cond.code ({ cls := "IncidentKeeper$Reader", name := "read", desc := "(C)LIncidentKeeper$Call;" } : Jvm.MethodName) prog_13_method_6_code (3 : Nat) (Option.some (Jvm.ClassFile.FieldType.object "IncidentKeeper$Call"))) ∈ lw_all := lw_g (lw_at lw_m6 38 rfl) rfl
theorem q1303 : (Jvm.Cond.methodLink "IncidentKeeper$Reader" (50 : Nat) ({ cls := "IncidentKeeper$Reader", name := "number", desc := "(I)I" } : Jvm.MethodName)) ∈ lw_all := lw_g (lw_at lw_m6 39 rfl) rfl
theorem q1304 : (Jvm.Cond.privateMethod ({ cls := "IncidentKeeper$Reader", name := "number", desc := "(I)I" } : Jvm.MethodName)) ∈ lw_tbl := lw_at lw_m6 40 rfl
theorem q1305 : (Jvm.Cond.instanceMethod ({ cls := "IncidentKeeper$Reader", name := "number", desc := "(I)I" } : Jvm.MethodName)) ∈ lw_all := lw_g (lw_at lw_m6 41 rfl) rfl
theorem q1306 : (Jvm.Cond.code ({ cls := "IncidentKeeper$Reader", name := "number", desc := "(I)I" } : Jvm.MethodName) prog_13_method_5_code (4 : Nat) (Option.some Jvm.ClassFile.FieldType.int)) ∈ lw_all := lw_g (lw_at lw_m6 42 rfl) rfl
theorem q1307 : (Jvm.Cond.methodLink "IncidentKeeper$Reader" (42 : Nat) ({ cls := "IncidentKeeper$Reader", name := "sees", desc := "(CC)Z" } : Jvm.MethodName)) ∈ lw_all := lw_g (lw_at lw_m6 43 rfl) rfl
theorem q1308 : (Jvm.Cond.privateMethod ({ cls := "IncidentKeeper$Reader", name := "sees", desc := "(CC)Z" } : Jvm.MethodName)) ∈ lw_tbl := lw_at lw_m6 44 rfl
theorem q1309 : (Jvm.Cond.instanceMethod ({ cls := "IncidentKeeper$Reader", name := "sees", desc := "(CC)Z" } : Jvm.MethodName)) ∈ lw_all := lw_g (lw_at lw_m6 45 rfl) rfl
theorem q1310 : (Jvm.Cond.code ({ cls := "IncidentKeeper$Reader", name := "sees", desc := "(CC)Z" } : Jvm.MethodName) prog_13_method_2_code (3 : Nat) (Option.some Jvm.ClassFile.FieldType.boolean)) ∈ lw_all := lw_g (lw_at lw_m6 46 rfl) rfl
theorem q1311 : (Jvm.Cond.methodLinkNest "IncidentKeeper$Reader" (33 : Nat) ({ cls := "IncidentKeeper", name := "isBetween", desc := "(III)Z" } : Jvm.MethodName) "IncidentKeeper") ∈ lw_tbl := lw_at lw_m6 47 rfl
theorem q1312 : (Jvm.Cond.methodLink "IncidentKeeper$Reader" (56 : Nat) ({ cls := "IncidentKeeper$Call", name := "<init>", desc := "(CIII)V" } : Jvm.MethodName)) ∈ lw_all := lw_g (lw_at lw_m6 48 rfl) rfl
theorem q1313 : (Jvm.Cond.methodLink "IncidentKeeper$Reader" (59 : Nat) ({ cls := "IncidentKeeper$Reader", name := "readTwo", desc := "(CC)LIncidentKeeper$Call;" } : Jvm.MethodName)) ∈ lw_all := lw_g (lw_at lw_m6 49 rfl) rfl
theorem q1314 : (Jvm.Cond.privateMethod ({ cls := "IncidentKeeper$Reader", name := "readTwo", desc := "(CC)LIncidentKeeper$Call;" } : Jvm.MethodName)) ∈ lw_tbl := lw_at lw_m6 50 rfl
theorem q1315 : (Jvm.Cond.instanceMethod ({ cls := "IncidentKeeper$Reader", name := "readTwo", desc := "(CC)LIncidentKeeper$Call;" } : Jvm.MethodName)) ∈ lw_all := lw_g (lw_at lw_m6 51 rfl) rfl
theorem q1316 : (Jvm.Cond.code ({ cls := "IncidentKeeper$Reader", name := "readTwo", desc := "(CC)LIncidentKeeper$Call;" } : Jvm.MethodName) prog_13_method_7_code (4 : Nat) (Option.some (Jvm.ClassFile.FieldType.object "IncidentKeeper$Call"))) ∈ lw_all := lw_g (lw_at lw_m6 52 rfl) rfl
theorem q1317 : (Jvm.Cond.methodLink "IncidentKeeper$Reader" (63 : Nat) ({ cls := "IncidentKeeper$Reader", name := "pass", desc := "(C)V" } : Jvm.MethodName)) ∈ lw_all := lw_g (lw_at lw_m6 53 rfl) rfl
theorem q1318 : (Jvm.Cond.privateMethod ({ cls := "IncidentKeeper$Reader", name := "pass", desc := "(C)V" } : Jvm.MethodName)) ∈ lw_tbl := lw_at lw_m6 54 rfl
theorem q1319 : (Jvm.Cond.instanceMethod ({ cls := "IncidentKeeper$Reader", name := "pass", desc := "(C)V" } : Jvm.MethodName)) ∈ lw_all := lw_g (lw_at lw_m6 55 rfl) rfl
theorem q1320 : (Jvm.Cond.code ({ cls := "IncidentKeeper$Reader", name := "pass", desc := "(C)V" } : Jvm.MethodName) prog_13_method_4_code (2 : Nat) (Option.none : Option Jvm.ClassFile.FieldType)) ∈ lw_all := lw_g (lw_at lw_m6 56 rfl) rfl
theorem q1321 : (Jvm.Cond.methodLink "IncidentKeeper$Reader" (78 : Nat) ({ cls := "java/util/ArrayList", name := "add", desc := "(Ljava/lang/Object;)Z" } : Jvm.MethodName)) ∈ lw_all := lw_g (lw_at lw_m6 57 rfl) rfl
theorem q2079 : (Jvm.Cond.castable "IncidentKeeper$Reader" "java/lang/Object") ∈ lw_tbl := lw_at lw_m9 95 rfl
theorem in_X14 : ∀ w ∈ wsX140, w ∈ lw_all := lw_in wsX140 [1177, 1179, 1181] (by decide +kernel) (by decide +kernel)
/-! IncidentKeeper$FaultException -/
set_option maxRecDepth 100000
def RX15 : String := "IncidentKeeper$FaultException"
def TX15 : u_T := fun k => match k with
  | 0 => ("java/lang/Throwable", "cause", "Ljava/lang/Throwable;", false)
  | 1 => ("java/lang/Throwable", "stackTrace", "[Ljava/lang/StackTraceElement;", false)
  | 2 => ("java/lang/Throwable", "suppressedExceptions", "Ljava/util/List;", false)
  | 3 => ("java/lang/Throwable", "detailMessage", "Ljava/lang/String;", false)
  | 4 => ("java/lang/Throwable", "backtrace", "Ljava/lang/Object;", false)
  | 5 => ("java/lang/Throwable", "depth", "I", false)
  | _ => ("IncidentKeeper$FaultException", "position", "I", true)
def tyX15 : Nat → FieldType := fun k => match k with
  | 0 => .object "java/lang/Throwable"
  | 1 => .array (.object "java/lang/StackTraceElement")
  | 2 => .object "java/util/List"
  | 3 => .object "java/lang/String"
  | 4 => .object "java/lang/Object"
  | 5 => .int
  | _ => .int
abbrev wsX150 : List Cond := u_ws RX15 TX15 7
theorem nmX15 : ∀ a, a < 7 → ∀ b, b < 7 → a ≠ b → (TX15 a).2.1 ≠ (TX15 b).2.1 := by decide +kernel
theorem tyX15_ok : ∀ k, k < 7 → parseFieldDescriptor (TX15 k).2.2.1 = some (tyX15 k) := by decide +kernel
abbrev cX15_init : ByteArray := prog_12_method_1_code
def yX15_init : MethodName := ⟨RX15, "<init>", "(I)V"⟩
def dkwX15_init_0 : List UInt8 := [42, 1, 1, 3, 3, 183, 0, 1, 42, 27, 181, 0, 7, 177]
abbrev dktX15_init_0 : List UInt8 := dkwX15_init_0 ++ []
theorem dksX15_init_0 : cX15_init.data.toList.drop 0 = dktX15_init_0 := by decide +kernel
theorem dX15_init_0 : decode cX15_init 0 = .ok (.aload_n 0, 1) := dk_42 (dk_at dksX15_init_0 0 rfl rfl)
theorem dX15_init_1 : decode cX15_init 1 = .ok (.aconst_null, 1) := dk_1 (dk_at dksX15_init_0 1 rfl rfl)
theorem dX15_init_2 : decode cX15_init 2 = .ok (.aconst_null, 1) := dk_1 (dk_at dksX15_init_0 2 rfl rfl)
theorem dX15_init_3 : decode cX15_init 3 = .ok (.iconst 0, 1) := dk_3 (dk_at dksX15_init_0 3 rfl rfl)
theorem dX15_init_4 : decode cX15_init 4 = .ok (.iconst 0, 1) := dk_3 (dk_at dksX15_init_0 4 rfl rfl)
theorem dX15_init_5 : decode cX15_init 5 = .ok (.invokespecial 1, 3) := dk_183 0 1 (dk_at dksX15_init_0 5 rfl rfl)
theorem dX15_init_8 : decode cX15_init 8 = .ok (.aload_n 0, 1) := dk_42 (dk_at dksX15_init_0 8 rfl rfl)
theorem dX15_init_9 : decode cX15_init 9 = .ok (.iload_n 1, 1) := dk_27 (dk_at dksX15_init_0 9 rfl rfl)
theorem dX15_init_10 : decode cX15_init 10 = .ok (.putfield 7, 3) := dk_181 0 7 (dk_at dksX15_init_0 10 rfl rfl)
theorem dX15_init_13 : decode cX15_init 13 = .ok (.return_, 1) := dk_177 (dk_at dksX15_init_0 13 rfl rfl)
theorem q98 : (Jvm.Cond.initialized "IncidentKeeper$FaultException") ∈ lw_all := lw_g (lw_at lw_m1 34 rfl) rfl
theorem q412 : (Jvm.Cond.selects "IncidentKeeper$FaultException" ({ cls := "java/lang/Object", name := "getClass", desc := "()Ljava/lang/Class;" } : Jvm.MethodName) ({ cls := "java/lang/Object", name := "getClass", desc := "()Ljava/lang/Class;" } : Jvm.MethodName)) ∈ lw_all := lw_g (lw_at lw_m2 108 rfl) rfl
theorem q563 : (Jvm.Cond.selects "IncidentKeeper$FaultException" ({ cls := "java/lang/Throwable", name := "fillInStackTrace", desc := "()Ljava/lang/Throwable;" } : Jvm.MethodName) ({ cls := "java/lang/Throwable", name := "fillInStackTrace", desc := "()Ljava/lang/Throwable;" } : Jvm.MethodName)) ∈ lw_all := lw_g (lw_at lw_m3 19 rfl) rfl
theorem q1280 : (Jvm.Cond.instantiable "IncidentKeeper$FaultException" (7 : Nat)) ∈ lw_all := lw_g (lw_at lw_m6 16 rfl) rfl
theorem q1281 : (Jvm.Cond.castable "IncidentKeeper$FaultException" "IncidentKeeper$FaultException") ∈ lw_tbl := lw_at lw_m6 17 rfl
theorem q1282 : (Jvm.Cond.selects "IncidentKeeper$FaultException" ({ cls := "java/lang/Throwable", name := "fillInStackTrace", desc := "(I)Ljava/lang/Throwable;" } : Jvm.MethodName) ({ cls := "java/lang/Throwable", name := "fillInStackTrace", desc := "(I)Ljava/lang/Throwable;" } : Jvm.MethodName)) ∈ lw_all := lw_g (lw_at lw_m6 18 rfl) rfl
theorem q1283 : (Jvm.Cond.lays "IncidentKeeper$FaultException" "java/lang/Throwable" "cause" "Ljava/lang/Throwable;") ∈ lw_all := lw_g (lw_at lw_m6 19 rfl) rfl
theorem q1284 : (Jvm.Cond.lays "IncidentKeeper$FaultException" "java/lang/Throwable" "stackTrace" "[Ljava/lang/StackTraceElement;") ∈ lw_all := lw_g (lw_at lw_m6 20 rfl) rfl
theorem q1285 : (Jvm.Cond.lays "IncidentKeeper$FaultException" "java/lang/Throwable" "suppressedExceptions" "Ljava/util/List;") ∈ lw_all := lw_g (lw_at lw_m6 21 rfl) rfl
theorem q1286 : (Jvm.Cond.lays "IncidentKeeper$FaultException" "java/lang/Throwable" "detailMessage" "Ljava/lang/String;") ∈ lw_all := lw_g (lw_at lw_m6 22 rfl) rfl
theorem q1287 : (Jvm.Cond.lays "IncidentKeeper$FaultException" "java/lang/Throwable" "backtrace" "Ljava/lang/Object;") ∈ lw_all := lw_g (lw_at lw_m6 23 rfl) rfl
theorem q1289 : (Jvm.Cond.instanceMethod ({ cls := "IncidentKeeper$FaultException", name := "<init>", desc := "(I)V" } : Jvm.MethodName)) ∈ lw_all := lw_g (lw_at lw_m6 25 rfl) rfl
theorem q1290 : (Jvm.Cond.code ({ cls := "IncidentKeeper$FaultException", name := "<init>", desc := "(I)V" } : Jvm.MethodName) prog_12_method_1_code (2 : Nat) (Option.none : Option Jvm.ClassFile.FieldType)) ∈ lw_all := lw_g (lw_at lw_m6 26 rfl) rfl
theorem q1291 : (Jvm.Cond.methodLink "IncidentKeeper$FaultException" (1 : Nat) ({ cls := "java/lang/Exception", name := "<init>", desc := "(Ljava/lang/String;Ljava/lang/Throwable;ZZ)V" } : Jvm.MethodName)) ∈ lw_all := lw_g (lw_at lw_m6 27 rfl) rfl
theorem q1292 : (Jvm.Cond.fieldLink "IncidentKeeper$FaultException" (7 : Nat) "IncidentKeeper$FaultException" "position" "I") ∈ lw_all := lw_g (lw_at lw_m6 28 rfl) rfl
theorem q1294 : (Jvm.Cond.laysFinal "IncidentKeeper$FaultException" "IncidentKeeper$FaultException" "position" "I") ∈ lw_all := lw_g (lw_at lw_m6 30 rfl) rfl
theorem q1295 : (Jvm.Cond.soleField "IncidentKeeper$FaultException" "position") ∈ lw_all := lw_g (lw_at lw_m6 31 rfl) rfl
theorem q1296 : (Jvm.Cond.lays "IncidentKeeper$FaultException" "java/lang/Throwable" "depth" "I") ∈ lw_all := lw_g (lw_at lw_m6 32 rfl) rfl
theorem q1297 : (Jvm.Cond.superclass "IncidentKeeper$FaultException" "java/lang/Exception") ∈ lw_all := lw_g (lw_at lw_m6 33 rfl) rfl
theorem q2080 : (Jvm.Cond.castable "IncidentKeeper$FaultException" "java/lang/Object") ∈ lw_tbl := lw_at lw_m9 96 rfl
theorem in_X15 : ∀ w ∈ wsX150, w ∈ lw_all := lw_in wsX150 [1283, 1284, 1285, 1286, 1287, 1296, 1294] (by decide +kernel) (by decide +kernel)
/-! IncidentKeeper$Timed -/
set_option maxRecDepth 100000
def RX16 : String := "IncidentKeeper$Timed"
abbrev cX16_end : ByteArray := prog_15_method_3_code
def yX16_end : MethodName := ⟨RX16, "end", "()I"⟩
theorem dX16_end_0 : decode cX16_end 0 = .ok (.aload_n 0, 1) := by decide +kernel
theorem dX16_end_1 : decode cX16_end 1 = .ok (.invokeinterface 1 1, 5) := by decide +kernel
theorem dX16_end_6 : decode cX16_end 6 = .ok (.ireturn, 1) := by decide +kernel
theorem q913 : (Jvm.Cond.declares ({ cls := "IncidentKeeper$Timed", name := "end", desc := "()I" } : Jvm.MethodName)) ∈ lw_tbl := lw_at lw_m4 129 rfl
theorem q914 : (Jvm.Cond.instanceMethod ({ cls := "IncidentKeeper$Timed", name := "end", desc := "()I" } : Jvm.MethodName)) ∈ lw_all := lw_g (lw_at lw_m4 130 rfl) rfl
theorem q915 : (Jvm.Cond.code ({ cls := "IncidentKeeper$Timed", name := "end", desc := "()I" } : Jvm.MethodName) prog_15_method_3_code (1 : Nat) (Option.some Jvm.ClassFile.FieldType.int)) ∈ lw_all := lw_g (lw_at lw_m4 131 rfl) rfl
theorem q916 : (Jvm.Cond.interfaceEntry "IncidentKeeper$Timed" (1 : Nat)) ∈ lw_tbl := lw_at lw_m4 132 rfl
theorem q917 : (Jvm.Cond.methodLink "IncidentKeeper$Timed" (1 : Nat) ({ cls := "IncidentKeeper$Timed", name := "first", desc := "()I" } : Jvm.MethodName)) ∈ lw_all := lw_g (lw_at lw_m4 133 rfl) rfl
theorem q918 : (Jvm.Cond.interfaceMethod "IncidentKeeper$Timed" "IncidentKeeper$Timed" "first" "()I") ∈ lw_tbl := lw_at lw_m4 134 rfl
theorem q919 : (Jvm.Cond.declares ({ cls := "IncidentKeeper$Timed", name := "first", desc := "()I" } : Jvm.MethodName)) ∈ lw_tbl := lw_at lw_m4 135 rfl
theorem q2062 : (Jvm.Cond.initialized "IncidentKeeper$Timed") ∈ lw_all := lw_g (lw_at lw_m9 78 rfl) rfl
/-! IncidentKeeper$1 -/
set_option maxRecDepth 100000
def RX4 : String := "IncidentKeeper$1"
def TX4 : u_T := fun k => match k with
  | 0 => ("IncidentKeeper$1", "val$person", "I", true)
  | 1 => ("IncidentKeeper$1", "val$isOn", "Z", true)
  | _ => ("IncidentKeeper$1", "this$0", "LIncidentKeeper;", true)
def tyX4 : Nat → FieldType := fun k => match k with
  | 0 => .int
  | 1 => .boolean
  | _ => .object "IncidentKeeper"
abbrev wsX40 : List Cond := u_ws RX4 TX4 3
theorem nmX4 : ∀ a, a < 3 → ∀ b, b < 3 → a ≠ b → (TX4 a).2.1 ≠ (TX4 b).2.1 := by decide +kernel
theorem tyX4_ok : ∀ k, k < 3 → parseFieldDescriptor (TX4 k).2.2.1 = some (tyX4 k) := by decide +kernel
abbrev cX4_init : ByteArray := prog_2_method_1_code
def yX4_init : MethodName := ⟨RX4, "<init>", "(LIncidentKeeper;IZ)V"⟩
def dkwX4_init_0 : List UInt8 := [42, 43, 181, 0, 1, 42, 28, 181, 0, 7, 42, 29, 181, 0, 11, 42, 183, 0, 15, 177]
abbrev dktX4_init_0 : List UInt8 := dkwX4_init_0 ++ []
theorem dksX4_init_0 : cX4_init.data.toList.drop 0 = dktX4_init_0 := by decide +kernel
theorem dX4_init_0 : decode cX4_init 0 = .ok (.aload_n 0, 1) := dk_42 (dk_at dksX4_init_0 0 rfl rfl)
theorem dX4_init_1 : decode cX4_init 1 = .ok (.aload_n 1, 1) := dk_43 (dk_at dksX4_init_0 1 rfl rfl)
theorem dX4_init_2 : decode cX4_init 2 = .ok (.putfield 1, 3) := dk_181 0 1 (dk_at dksX4_init_0 2 rfl rfl)
theorem dX4_init_5 : decode cX4_init 5 = .ok (.aload_n 0, 1) := dk_42 (dk_at dksX4_init_0 5 rfl rfl)
theorem dX4_init_6 : decode cX4_init 6 = .ok (.iload_n 2, 1) := dk_28 (dk_at dksX4_init_0 6 rfl rfl)
theorem dX4_init_7 : decode cX4_init 7 = .ok (.putfield 7, 3) := dk_181 0 7 (dk_at dksX4_init_0 7 rfl rfl)
theorem dX4_init_10 : decode cX4_init 10 = .ok (.aload_n 0, 1) := dk_42 (dk_at dksX4_init_0 10 rfl rfl)
theorem dX4_init_11 : decode cX4_init 11 = .ok (.iload_n 3, 1) := dk_29 (dk_at dksX4_init_0 11 rfl rfl)
theorem dX4_init_12 : decode cX4_init 12 = .ok (.putfield 11, 3) := dk_181 0 11 (dk_at dksX4_init_0 12 rfl rfl)
theorem dX4_init_15 : decode cX4_init 15 = .ok (.aload_n 0, 1) := dk_42 (dk_at dksX4_init_0 15 rfl rfl)
theorem dX4_init_16 : decode cX4_init 16 = .ok (.invokespecial 15, 3) := dk_183 0 15 (dk_at dksX4_init_0 16 rfl rfl)
theorem dX4_init_19 : decode cX4_init 19 = .ok (.return_, 1) := dk_177 (dk_at dksX4_init_0 19 rfl rfl)
abbrev cX4_with : ByteArray := prog_2_method_2_code
def yX4_with : MethodName := ⟨RX4, "with", "(LIncidentKeeper$Core;)I"⟩
def dkwX4_with_0 : List UInt8 := [43, 42, 180, 0, 7, 42, 180, 0, 11, 182, 0, 21, 172]
abbrev dktX4_with_0 : List UInt8 := dkwX4_with_0 ++ []
theorem dksX4_with_0 : cX4_with.data.toList.drop 0 = dktX4_with_0 := by decide +kernel
theorem dX4_with_0 : decode cX4_with 0 = .ok (.aload_n 1, 1) := dk_43 (dk_at dksX4_with_0 0 rfl rfl)
theorem dX4_with_1 : decode cX4_with 1 = .ok (.aload_n 0, 1) := dk_42 (dk_at dksX4_with_0 1 rfl rfl)
theorem dX4_with_2 : decode cX4_with 2 = .ok (.getfield 7, 3) := dk_180 0 7 (dk_at dksX4_with_0 2 rfl rfl)
theorem dX4_with_5 : decode cX4_with 5 = .ok (.aload_n 0, 1) := dk_42 (dk_at dksX4_with_0 5 rfl rfl)
theorem dX4_with_6 : decode cX4_with 6 = .ok (.getfield 11, 3) := dk_180 0 11 (dk_at dksX4_with_0 6 rfl rfl)
theorem dX4_with_9 : decode cX4_with 9 = .ok (.invokevirtual 21, 3) := dk_182 0 21 (dk_at dksX4_with_0 9 rfl rfl)
theorem dX4_with_12 : decode cX4_with 12 = .ok (.ireturn, 1) := dk_172 (dk_at dksX4_with_0 12 rfl rfl)
theorem q71 : (Jvm.Cond.initialized "IncidentKeeper$1") ∈ lw_all := lw_g (lw_at lw_m1 7 rfl) rfl
theorem q403 : (Jvm.Cond.selects "IncidentKeeper$1" ({ cls := "java/lang/Object", name := "getClass", desc := "()Ljava/lang/Class;" } : Jvm.MethodName) ({ cls := "java/lang/Object", name := "getClass", desc := "()Ljava/lang/Class;" } : Jvm.MethodName)) ∈ lw_all := lw_g (lw_at lw_m2 99 rfl) rfl
theorem q487 : (Jvm.Cond.instantiable "IncidentKeeper$1" (3 : Nat)) ∈ lw_all := lw_g (lw_at lw_m2 183 rfl) rfl
theorem q489 : (Jvm.Cond.instanceMethod ({ cls := "IncidentKeeper$1", name := "<init>", desc := "(LIncidentKeeper;IZ)V" } : Jvm.MethodName)) ∈ lw_all := lw_g (lw_at lw_m2 185 rfl) rfl
theorem q490 : (Jvm.Cond.code ({ cls := "IncidentKeeper$1", name := "<init>", desc := "(LIncidentKeeper;IZ)V" } : Jvm.MethodName) prog_2_method_1_code (4 : Nat) (Option.none : Option Jvm.ClassFile.FieldType)) ∈ lw_all := lw_g (lw_at lw_m2 186 rfl) rfl
theorem q491 : (Jvm.Cond.methodLink "IncidentKeeper$1" (15 : Nat) ({ cls := "java/lang/Object", name := "<init>", desc := "()V" } : Jvm.MethodName)) ∈ lw_all := lw_g (lw_at lw_m2 187 rfl) rfl
theorem q492 : (Jvm.Cond.fieldLink "IncidentKeeper$1" (7 : Nat) "IncidentKeeper$1" "val$person" "I") ∈ lw_all := lw_g (lw_at lw_m2 188 rfl) rfl
theorem q493 : (Jvm.Cond.fieldLink "IncidentKeeper$1" (11 : Nat) "IncidentKeeper$1" "val$isOn" "Z") ∈ lw_all := lw_g (lw_at lw_m2 189 rfl) rfl
theorem q494 : (Jvm.Cond.fieldLink "IncidentKeeper$1" (1 : Nat) "IncidentKeeper$1" "this$0" "LIncidentKeeper;") ∈ lw_all := lw_g (lw_at lw_m2 190 rfl) rfl
theorem q495 : (Jvm.Cond.laysFinal "IncidentKeeper$1" "IncidentKeeper$1" "val$person" "I") ∈ lw_all := lw_g (lw_at lw_m2 191 rfl) rfl
theorem q496 : (Jvm.Cond.soleField "IncidentKeeper$1" "val$person") ∈ lw_all := lw_g (lw_at lw_m2 192 rfl) rfl
theorem q497 : (Jvm.Cond.laysFinal "IncidentKeeper$1" "IncidentKeeper$1" "val$isOn" "Z") ∈ lw_all := lw_g (lw_at lw_m2 193 rfl) rfl
theorem q498 : (Jvm.Cond.soleField "IncidentKeeper$1" "val$isOn") ∈ lw_all := lw_g (lw_at lw_m2 194 rfl) rfl
theorem q499 : (Jvm.Cond.laysFinal "IncidentKeeper$1" "IncidentKeeper$1" "this$0" "LIncidentKeeper;") ∈ lw_all := lw_g (lw_at lw_m2 195 rfl) rfl
theorem q500 : (Jvm.Cond.soleField "IncidentKeeper$1" "this$0") ∈ lw_all := lw_g (lw_at lw_m2 196 rfl) rfl
theorem q501 : (Jvm.Cond.superclass "IncidentKeeper$1" "java/lang/Object") ∈ lw_all := lw_g (lw_at lw_m2 197 rfl) rfl
theorem q511 : (Jvm.Cond.castable "IncidentKeeper$1" "IncidentKeeper$Work") ∈ lw_tbl := lw_at lw_m2 207 rfl
theorem q512 : (Jvm.Cond.selects "IncidentKeeper$1" ({ cls := "IncidentKeeper$Work", name := "with", desc := "(LIncidentKeeper$Core;)I" } : Jvm.MethodName) ({ cls := "IncidentKeeper$1", name := "with", desc := "(LIncidentKeeper$Core;)I" } : Jvm.MethodName)) ∈ lw_all := lw_g (lw_at lw_m2 208 rfl) rfl
theorem q513 : (Jvm.Cond.unhidden "IncidentKeeper$1" "with" "(LIncidentKeeper$Core;)I") ∈ lw_tbl := lw_at lw_m2 209 rfl
theorem q514 : (Jvm.Cond.instanceMethod ({ cls := "IncidentKeeper$1", name := "with", desc := "(LIncidentKeeper$Core;)I" } : Jvm.MethodName)) ∈ lw_all := lw_g (lw_at lw_m2 210 rfl) rfl
theorem q515 : (Jvm.Cond.publicMethod ({ cls := "IncidentKeeper$1", name := "with", desc := "(LIncidentKeeper$Core;)I" } : Jvm.MethodName)) ∈ lw_tbl := lw_at lw_m2 211 rfl
theorem q516 : (Jvm.Cond.code ({ cls := "IncidentKeeper$1", name := "with", desc := "(LIncidentKeeper$Core;)I" } : Jvm.MethodName) prog_2_method_2_code (2 : Nat) (Option.some Jvm.ClassFile.FieldType.int)) ∈ lw_all := lw_g (lw_at lw_m2 212 rfl) rfl
theorem q517 : (Jvm.Cond.methodLink "IncidentKeeper$1" (21 : Nat) ({ cls := "IncidentKeeper$Core", name := "setDuty", desc := "(IZ)I" } : Jvm.MethodName)) ∈ lw_all := lw_g (lw_at lw_m2 213 rfl) rfl
theorem q2068 : (Jvm.Cond.castable "IncidentKeeper$1" "java/lang/Object") ∈ lw_tbl := lw_at lw_m9 84 rfl
theorem in_X4 : ∀ w ∈ wsX40, w ∈ lw_all := lw_in wsX40 [495, 497, 499] (by decide +kernel) (by decide +kernel)
/-! IncidentKeeper$Entry -/
set_option maxRecDepth 100000
def RX5 : String := "IncidentKeeper$Entry"
abbrev cX5_system : ByteArray := prog_10_method_2_code
def yX5_system : MethodName := ⟨RX5, "system", "()I"⟩
theorem dX5_system_0 : decode cX5_system 0 = .ok (.aload_n 0, 1) := by decide +kernel
theorem dX5_system_1 : decode cX5_system 1 = .ok (.getfield 7, 3) := by decide +kernel
theorem dX5_system_4 : decode cX5_system 4 = .ok (.ireturn, 1) := by decide +kernel
abbrev cX5_first : ByteArray := prog_10_method_3_code
def yX5_first : MethodName := ⟨RX5, "first", "()I"⟩
theorem dX5_first_0 : decode cX5_first 0 = .ok (.aload_n 0, 1) := by decide +kernel
theorem dX5_first_1 : decode cX5_first 1 = .ok (.getfield 13, 3) := by decide +kernel
theorem dX5_first_4 : decode cX5_first 4 = .ok (.ireturn, 1) := by decide +kernel
abbrev cX5_init : ByteArray := prog_10_method_1_code
def yX5_init : MethodName := ⟨RX5, "<init>", "(II)V"⟩
def dkwX5_init_0 : List UInt8 := [42, 183, 0, 1, 42, 27, 181, 0, 7, 42, 28, 181, 0, 13, 177]
abbrev dktX5_init_0 : List UInt8 := dkwX5_init_0 ++ []
theorem dksX5_init_0 : cX5_init.data.toList.drop 0 = dktX5_init_0 := by decide +kernel
theorem dX5_init_0 : decode cX5_init 0 = .ok (.aload_n 0, 1) := dk_42 (dk_at dksX5_init_0 0 rfl rfl)
theorem dX5_init_1 : decode cX5_init 1 = .ok (.invokespecial 1, 3) := dk_183 0 1 (dk_at dksX5_init_0 1 rfl rfl)
theorem dX5_init_4 : decode cX5_init 4 = .ok (.aload_n 0, 1) := dk_42 (dk_at dksX5_init_0 4 rfl rfl)
theorem dX5_init_5 : decode cX5_init 5 = .ok (.iload_n 1, 1) := dk_27 (dk_at dksX5_init_0 5 rfl rfl)
theorem dX5_init_6 : decode cX5_init 6 = .ok (.putfield 7, 3) := dk_181 0 7 (dk_at dksX5_init_0 6 rfl rfl)
theorem dX5_init_9 : decode cX5_init 9 = .ok (.aload_n 0, 1) := dk_42 (dk_at dksX5_init_0 9 rfl rfl)
theorem dX5_init_10 : decode cX5_init 10 = .ok (.iload_n 2, 1) := dk_28 (dk_at dksX5_init_0 10 rfl rfl)
theorem dX5_init_11 : decode cX5_init 11 = .ok (.putfield 13, 3) := dk_181 0 13 (dk_at dksX5_init_0 11 rfl rfl)
theorem dX5_init_14 : decode cX5_init 14 = .ok (.return_, 1) := dk_177 (dk_at dksX5_init_0 14 rfl rfl)
theorem q74 : (Jvm.Cond.initialized "IncidentKeeper$Entry") ∈ lw_all := lw_g (lw_at lw_m1 10 rfl) rfl
theorem q267 : (Jvm.Cond.declares ({ cls := "IncidentKeeper$Entry", name := "system", desc := "()I" } : Jvm.MethodName)) ∈ lw_tbl := lw_at lw_m1 203 rfl
theorem q269 : (Jvm.Cond.instanceMethod ({ cls := "IncidentKeeper$Entry", name := "system", desc := "()I" } : Jvm.MethodName)) ∈ lw_all := lw_g (lw_at lw_m1 205 rfl) rfl
theorem q270 : (Jvm.Cond.code ({ cls := "IncidentKeeper$Entry", name := "system", desc := "()I" } : Jvm.MethodName) prog_10_method_2_code (1 : Nat) (Option.some Jvm.ClassFile.FieldType.int)) ∈ lw_all := lw_g (lw_at lw_m1 206 rfl) rfl
theorem q273 : (Jvm.Cond.declares ({ cls := "IncidentKeeper$Entry", name := "first", desc := "()I" } : Jvm.MethodName)) ∈ lw_tbl := lw_at lw_m1 209 rfl
theorem q275 : (Jvm.Cond.instanceMethod ({ cls := "IncidentKeeper$Entry", name := "first", desc := "()I" } : Jvm.MethodName)) ∈ lw_all := lw_g (lw_at lw_m1 211 rfl) rfl
theorem q276 : (Jvm.Cond.code ({ cls := "IncidentKeeper$Entry", name := "first", desc := "()I" } : Jvm.MethodName) prog_10_method_3_code (1 : Nat) (Option.some Jvm.ClassFile.FieldType.int)) ∈ lw_all := lw_g (lw_at lw_m1 212 rfl) rfl
theorem q286 : (Jvm.Cond.instanceMethod ({ cls := "IncidentKeeper$Entry", name := "<init>", desc := "(II)V" } : Jvm.MethodName)) ∈ lw_all := lw_g (lw_at lw_m1 222 rfl) rfl
theorem q287 : (Jvm.Cond.code ({ cls := "IncidentKeeper$Entry", name := "<init>", desc := "(II)V" } : Jvm.MethodName) prog_10_method_1_code (3 : Nat) (Option.none : Option Jvm.ClassFile.FieldType)) ∈ lw_all := lw_g (lw_at lw_m1 223 rfl) rfl
theorem q288 : (Jvm.Cond.methodLink "IncidentKeeper$Entry" (1 : Nat) ({ cls := "java/lang/Object", name := "<init>", desc := "()V" } : Jvm.MethodName)) ∈ lw_all := lw_g (lw_at lw_m1 224 rfl) rfl
theorem q331 : (Jvm.Cond.fieldLink "IncidentKeeper$Entry" (7 : Nat) "IncidentKeeper$Entry" "system" "I") ∈ lw_all := lw_g (lw_at lw_m2 27 rfl) rfl
theorem q332 : (Jvm.Cond.fieldLink "IncidentKeeper$Entry" (13 : Nat) "IncidentKeeper$Entry" "first" "I") ∈ lw_all := lw_g (lw_at lw_m2 28 rfl) rfl
theorem q366 : (Jvm.Cond.soleField "IncidentKeeper$Entry" "system") ∈ lw_all := lw_g (lw_at lw_m2 62 rfl) rfl
theorem q368 : (Jvm.Cond.soleField "IncidentKeeper$Entry" "first") ∈ lw_all := lw_g (lw_at lw_m2 64 rfl) rfl
theorem q912 : (Jvm.Cond.superclass "IncidentKeeper$Entry" "java/lang/Object") ∈ lw_all := lw_g (lw_at lw_m4 128 rfl) rfl
theorem q923 : (Jvm.Cond.publicMethod ({ cls := "IncidentKeeper$Entry", name := "first", desc := "()I" } : Jvm.MethodName)) ∈ lw_tbl := lw_at lw_m4 139 rfl
/-! IncidentKeeper$Core$Incident -/
set_option maxRecDepth 100000
def RX6 : String := "IncidentKeeper$Core$Incident"
def TX6 : u_T := fun k => match k with
  | 0 => ("IncidentKeeper$Entry", "system", "I", true)
  | 1 => ("IncidentKeeper$Entry", "first", "I", true)
  | 2 => ("IncidentKeeper$Core$Incident", "number", "I", true)
  | 3 => ("IncidentKeeper$Core$Incident", "counts", "[I", true)
  | 4 => ("IncidentKeeper$Core$Incident", "severity", "I", false)
  | 5 => ("IncidentKeeper$Core$Incident", "holder", "I", false)
  | 6 => ("IncidentKeeper$Core$Incident", "causes", "I", false)
  | 7 => ("IncidentKeeper$Core$Incident", "state", "I", false)
  | 8 => ("IncidentKeeper$Core$Incident", "clock", "I", false)
  | 9 => ("IncidentKeeper$Core$Incident", "base", "I", false)
  | 10 => ("IncidentKeeper$Core$Incident", "stopped", "I", false)
  | 11 => ("IncidentKeeper$Core$Incident", "idle", "I", false)
  | 12 => ("IncidentKeeper$Core$Incident", "parent", "I", false)
  | 13 => ("IncidentKeeper$Core$Incident", "change", "I", false)
  | 14 => ("IncidentKeeper$Core$Incident", "review", "I", false)
  | 15 => ("IncidentKeeper$Core$Incident", "handovers", "I", false)
  | 16 => ("IncidentKeeper$Core$Incident", "isOverdue", "Z", false)
  | _ => ("IncidentKeeper$Core$Incident", "this$0", "LIncidentKeeper$Core;", true)
def tyX6 : Nat → FieldType := fun k => match k with
  | 0 => .int
  | 1 => .int
  | 2 => .int
  | 3 => .array .int
  | 4 => .int
  | 5 => .int
  | 6 => .int
  | 7 => .int
  | 8 => .int
  | 9 => .int
  | 10 => .int
  | 11 => .int
  | 12 => .int
  | 13 => .int
  | 14 => .int
  | 15 => .int
  | 16 => .boolean
  | _ => .object "IncidentKeeper$Core"
abbrev wsX60 : List Cond := u_ws RX6 TX6 18
set_option maxRecDepth 100000 in
theorem nmX6 : ∀ a, a < 18 → ∀ b, b < 18 → a ≠ b → (TX6 a).2.1 ≠ (TX6 b).2.1 := by decide +kernel
set_option maxRecDepth 100000 in
theorem tyX6_ok : ∀ k, k < 18 → parseFieldDescriptor (TX6 k).2.2.1 = some (tyX6 k) := by decide +kernel
abbrev cX6_init : ByteArray := prog_9_method_1_code
def yX6_init : MethodName := ⟨RX6, "<init>", "(LIncidentKeeper$Core;III)V"⟩
def dkwX6_init_1 : List UInt8 := [42, 2, 181, 0, 23, 42, 2, 181, 0, 26, 42, 28, 181, 0, 29, 177]
abbrev dktX6_init_1 : List UInt8 := dkwX6_init_1 ++ []
def dkwX6_init_0 : List UInt8 := [42, 43, 181, 0, 3, 42, 29, 21, 4, 183, 0, 9, 42, 7, 188, 10, 181, 0, 15, 42, 2, 181, 0, 19]
abbrev dktX6_init_0 : List UInt8 := dkwX6_init_0 ++ dktX6_init_1
theorem dksX6_init_0 : cX6_init.data.toList.drop 0 = dktX6_init_0 := by decide +kernel
theorem dksX6_init_1 : cX6_init.data.toList.drop 24 = dktX6_init_1 := dk_seg dksX6_init_0 24 rfl rfl
theorem dX6_init_0 : decode cX6_init 0 = .ok (.aload_n 0, 1) := dk_42 (dk_at dksX6_init_0 0 rfl rfl)
theorem dX6_init_1 : decode cX6_init 1 = .ok (.aload_n 1, 1) := dk_43 (dk_at dksX6_init_0 1 rfl rfl)
theorem dX6_init_2 : decode cX6_init 2 = .ok (.putfield 3, 3) := dk_181 0 3 (dk_at dksX6_init_0 2 rfl rfl)
theorem dX6_init_5 : decode cX6_init 5 = .ok (.aload_n 0, 1) := dk_42 (dk_at dksX6_init_0 5 rfl rfl)
theorem dX6_init_6 : decode cX6_init 6 = .ok (.iload_n 3, 1) := dk_29 (dk_at dksX6_init_0 6 rfl rfl)
theorem dX6_init_7 : decode cX6_init 7 = .ok (.iload 4, 2) := dk_21 4 (dk_at dksX6_init_0 7 rfl rfl)
theorem dX6_init_9 : decode cX6_init 9 = .ok (.invokespecial 9, 3) := dk_183 0 9 (dk_at dksX6_init_0 9 rfl rfl)
theorem dX6_init_12 : decode cX6_init 12 = .ok (.aload_n 0, 1) := dk_42 (dk_at dksX6_init_0 12 rfl rfl)
theorem dX6_init_13 : decode cX6_init 13 = .ok (.iconst 4, 1) := dk_7 (dk_at dksX6_init_0 13 rfl rfl)
theorem dX6_init_14 : decode cX6_init 14 = .ok (.newarray .int, 2) := dk_188_10 (dk_at dksX6_init_0 14 rfl rfl)
theorem dX6_init_16 : decode cX6_init 16 = .ok (.putfield 15, 3) := dk_181 0 15 (dk_at dksX6_init_0 16 rfl rfl)
theorem dX6_init_19 : decode cX6_init 19 = .ok (.aload_n 0, 1) := dk_42 (dk_at dksX6_init_0 19 rfl rfl)
theorem dX6_init_20 : decode cX6_init 20 = .ok (.iconst (-1), 1) := dk_2 (dk_at dksX6_init_0 20 rfl rfl)
theorem dX6_init_21 : decode cX6_init 21 = .ok (.putfield 19, 3) := dk_181 0 19 (dk_at dksX6_init_0 21 rfl rfl)
theorem dX6_init_24 : decode cX6_init 24 = .ok (.aload_n 0, 1) := dk_42 (dk_at dksX6_init_1 0 rfl rfl)
theorem dX6_init_25 : decode cX6_init 25 = .ok (.iconst (-1), 1) := dk_2 (dk_at dksX6_init_1 1 rfl rfl)
theorem dX6_init_26 : decode cX6_init 26 = .ok (.putfield 23, 3) := dk_181 0 23 (dk_at dksX6_init_1 2 rfl rfl)
theorem dX6_init_29 : decode cX6_init 29 = .ok (.aload_n 0, 1) := dk_42 (dk_at dksX6_init_1 5 rfl rfl)
theorem dX6_init_30 : decode cX6_init 30 = .ok (.iconst (-1), 1) := dk_2 (dk_at dksX6_init_1 6 rfl rfl)
theorem dX6_init_31 : decode cX6_init 31 = .ok (.putfield 26, 3) := dk_181 0 26 (dk_at dksX6_init_1 7 rfl rfl)
theorem dX6_init_34 : decode cX6_init 34 = .ok (.aload_n 0, 1) := dk_42 (dk_at dksX6_init_1 10 rfl rfl)
theorem dX6_init_35 : decode cX6_init 35 = .ok (.iload_n 2, 1) := dk_28 (dk_at dksX6_init_1 11 rfl rfl)
theorem dX6_init_36 : decode cX6_init 36 = .ok (.putfield 29, 3) := dk_181 0 29 (dk_at dksX6_init_1 12 rfl rfl)
theorem dX6_init_39 : decode cX6_init 39 = .ok (.return_, 1) := dk_177 (dk_at dksX6_init_1 15 rfl rfl)
abbrev cX6_take : ByteArray := prog_9_method_2_code
def yX6_take : MethodName := ⟨RX6, "take", "(LIncidentKeeper$Core$Incident;)V"⟩
def dkwX6_take_4 : List UInt8 := [180, 0, 26, 181, 0, 26, 42, 43, 180, 0, 62, 181, 0, 62, 42, 43, 180, 0, 65, 181, 0, 65, 177]
abbrev dktX6_take_4 : List UInt8 := dkwX6_take_4 ++ []
def dkwX6_take_3 : List UInt8 := [180, 0, 59, 181, 0, 59, 42, 43, 180, 0, 19, 181, 0, 19, 42, 43, 180, 0, 23, 181, 0, 23, 42, 43]
abbrev dktX6_take_3 : List UInt8 := dkwX6_take_3 ++ dktX6_take_4
def dkwX6_take_2 : List UInt8 := [180, 0, 50, 181, 0, 50, 42, 43, 180, 0, 53, 181, 0, 53, 42, 43, 180, 0, 56, 181, 0, 56, 42, 43]
abbrev dktX6_take_2 : List UInt8 := dkwX6_take_2 ++ dktX6_take_3
def dkwX6_take_1 : List UInt8 := [180, 0, 41, 181, 0, 41, 42, 43, 180, 0, 44, 181, 0, 44, 42, 43, 180, 0, 47, 181, 0, 47, 42, 43]
abbrev dktX6_take_1 : List UInt8 := dkwX6_take_1 ++ dktX6_take_2
def dkwX6_take_0 : List UInt8 := [43, 180, 0, 15, 3, 42, 180, 0, 15, 3, 7, 184, 0, 32, 42, 43, 180, 0, 38, 181, 0, 38, 42, 43]
abbrev dktX6_take_0 : List UInt8 := dkwX6_take_0 ++ dktX6_take_1
theorem dksX6_take_0 : cX6_take.data.toList.drop 0 = dktX6_take_0 := by decide +kernel
theorem dksX6_take_1 : cX6_take.data.toList.drop 24 = dktX6_take_1 := dk_seg dksX6_take_0 24 rfl rfl
theorem dksX6_take_2 : cX6_take.data.toList.drop 48 = dktX6_take_2 := dk_seg dksX6_take_1 24 rfl rfl
theorem dksX6_take_3 : cX6_take.data.toList.drop 72 = dktX6_take_3 := dk_seg dksX6_take_2 24 rfl rfl
theorem dksX6_take_4 : cX6_take.data.toList.drop 96 = dktX6_take_4 := dk_seg dksX6_take_3 24 rfl rfl
theorem dX6_take_0 : decode cX6_take 0 = .ok (.aload_n 1, 1) := dk_43 (dk_at dksX6_take_0 0 rfl rfl)
theorem dX6_take_1 : decode cX6_take 1 = .ok (.getfield 15, 3) := dk_180 0 15 (dk_at dksX6_take_0 1 rfl rfl)
theorem dX6_take_4 : decode cX6_take 4 = .ok (.iconst 0, 1) := dk_3 (dk_at dksX6_take_0 4 rfl rfl)
theorem dX6_take_5 : decode cX6_take 5 = .ok (.aload_n 0, 1) := dk_42 (dk_at dksX6_take_0 5 rfl rfl)
theorem dX6_take_6 : decode cX6_take 6 = .ok (.getfield 15, 3) := dk_180 0 15 (dk_at dksX6_take_0 6 rfl rfl)
theorem dX6_take_9 : decode cX6_take 9 = .ok (.iconst 0, 1) := dk_3 (dk_at dksX6_take_0 9 rfl rfl)
theorem dX6_take_10 : decode cX6_take 10 = .ok (.iconst 4, 1) := dk_7 (dk_at dksX6_take_0 10 rfl rfl)
theorem dX6_take_11 : decode cX6_take 11 = .ok (.invokestatic 32, 3) := dk_184 0 32 (dk_at dksX6_take_0 11 rfl rfl)
theorem dX6_take_14 : decode cX6_take 14 = .ok (.aload_n 0, 1) := dk_42 (dk_at dksX6_take_0 14 rfl rfl)
theorem dX6_take_15 : decode cX6_take 15 = .ok (.aload_n 1, 1) := dk_43 (dk_at dksX6_take_0 15 rfl rfl)
theorem dX6_take_16 : decode cX6_take 16 = .ok (.getfield 38, 3) := dk_180 0 38 (dk_at dksX6_take_0 16 rfl rfl)
theorem dX6_take_19 : decode cX6_take 19 = .ok (.putfield 38, 3) := dk_181 0 38 (dk_at dksX6_take_0 19 rfl rfl)
theorem dX6_take_22 : decode cX6_take 22 = .ok (.aload_n 0, 1) := dk_42 (dk_at dksX6_take_0 22 rfl rfl)
theorem dX6_take_23 : decode cX6_take 23 = .ok (.aload_n 1, 1) := dk_43 (dk_at dksX6_take_0 23 rfl rfl)
theorem dX6_take_24 : decode cX6_take 24 = .ok (.getfield 41, 3) := dk_180 0 41 (dk_at dksX6_take_1 0 rfl rfl)
theorem dX6_take_27 : decode cX6_take 27 = .ok (.putfield 41, 3) := dk_181 0 41 (dk_at dksX6_take_1 3 rfl rfl)
theorem dX6_take_30 : decode cX6_take 30 = .ok (.aload_n 0, 1) := dk_42 (dk_at dksX6_take_1 6 rfl rfl)
theorem dX6_take_31 : decode cX6_take 31 = .ok (.aload_n 1, 1) := dk_43 (dk_at dksX6_take_1 7 rfl rfl)
theorem dX6_take_32 : decode cX6_take 32 = .ok (.getfield 44, 3) := dk_180 0 44 (dk_at dksX6_take_1 8 rfl rfl)
theorem dX6_take_35 : decode cX6_take 35 = .ok (.putfield 44, 3) := dk_181 0 44 (dk_at dksX6_take_1 11 rfl rfl)
theorem dX6_take_38 : decode cX6_take 38 = .ok (.aload_n 0, 1) := dk_42 (dk_at dksX6_take_1 14 rfl rfl)
theorem dX6_take_39 : decode cX6_take 39 = .ok (.aload_n 1, 1) := dk_43 (dk_at dksX6_take_1 15 rfl rfl)
theorem dX6_take_40 : decode cX6_take 40 = .ok (.getfield 47, 3) := dk_180 0 47 (dk_at dksX6_take_1 16 rfl rfl)
theorem dX6_take_43 : decode cX6_take 43 = .ok (.putfield 47, 3) := dk_181 0 47 (dk_at dksX6_take_1 19 rfl rfl)
theorem dX6_take_46 : decode cX6_take 46 = .ok (.aload_n 0, 1) := dk_42 (dk_at dksX6_take_1 22 rfl rfl)
theorem dX6_take_47 : decode cX6_take 47 = .ok (.aload_n 1, 1) := dk_43 (dk_at dksX6_take_1 23 rfl rfl)
theorem dX6_take_48 : decode cX6_take 48 = .ok (.getfield 50, 3) := dk_180 0 50 (dk_at dksX6_take_2 0 rfl rfl)
theorem dX6_take_51 : decode cX6_take 51 = .ok (.putfield 50, 3) := dk_181 0 50 (dk_at dksX6_take_2 3 rfl rfl)
theorem dX6_take_54 : decode cX6_take 54 = .ok (.aload_n 0, 1) := dk_42 (dk_at dksX6_take_2 6 rfl rfl)
theorem dX6_take_55 : decode cX6_take 55 = .ok (.aload_n 1, 1) := dk_43 (dk_at dksX6_take_2 7 rfl rfl)
theorem dX6_take_56 : decode cX6_take 56 = .ok (.getfield 53, 3) := dk_180 0 53 (dk_at dksX6_take_2 8 rfl rfl)
theorem dX6_take_59 : decode cX6_take 59 = .ok (.putfield 53, 3) := dk_181 0 53 (dk_at dksX6_take_2 11 rfl rfl)
theorem dX6_take_62 : decode cX6_take 62 = .ok (.aload_n 0, 1) := dk_42 (dk_at dksX6_take_2 14 rfl rfl)
theorem dX6_take_63 : decode cX6_take 63 = .ok (.aload_n 1, 1) := dk_43 (dk_at dksX6_take_2 15 rfl rfl)
theorem dX6_take_64 : decode cX6_take 64 = .ok (.getfield 56, 3) := dk_180 0 56 (dk_at dksX6_take_2 16 rfl rfl)
theorem dX6_take_67 : decode cX6_take 67 = .ok (.putfield 56, 3) := dk_181 0 56 (dk_at dksX6_take_2 19 rfl rfl)
theorem dX6_take_70 : decode cX6_take 70 = .ok (.aload_n 0, 1) := dk_42 (dk_at dksX6_take_2 22 rfl rfl)
theorem dX6_take_71 : decode cX6_take 71 = .ok (.aload_n 1, 1) := dk_43 (dk_at dksX6_take_2 23 rfl rfl)
theorem dX6_take_72 : decode cX6_take 72 = .ok (.getfield 59, 3) := dk_180 0 59 (dk_at dksX6_take_3 0 rfl rfl)
theorem dX6_take_75 : decode cX6_take 75 = .ok (.putfield 59, 3) := dk_181 0 59 (dk_at dksX6_take_3 3 rfl rfl)
theorem dX6_take_78 : decode cX6_take 78 = .ok (.aload_n 0, 1) := dk_42 (dk_at dksX6_take_3 6 rfl rfl)
theorem dX6_take_79 : decode cX6_take 79 = .ok (.aload_n 1, 1) := dk_43 (dk_at dksX6_take_3 7 rfl rfl)
theorem dX6_take_80 : decode cX6_take 80 = .ok (.getfield 19, 3) := dk_180 0 19 (dk_at dksX6_take_3 8 rfl rfl)
theorem dX6_take_83 : decode cX6_take 83 = .ok (.putfield 19, 3) := dk_181 0 19 (dk_at dksX6_take_3 11 rfl rfl)
theorem dX6_take_86 : decode cX6_take 86 = .ok (.aload_n 0, 1) := dk_42 (dk_at dksX6_take_3 14 rfl rfl)
theorem dX6_take_87 : decode cX6_take 87 = .ok (.aload_n 1, 1) := dk_43 (dk_at dksX6_take_3 15 rfl rfl)
theorem dX6_take_88 : decode cX6_take 88 = .ok (.getfield 23, 3) := dk_180 0 23 (dk_at dksX6_take_3 16 rfl rfl)
theorem dX6_take_91 : decode cX6_take 91 = .ok (.putfield 23, 3) := dk_181 0 23 (dk_at dksX6_take_3 19 rfl rfl)
theorem dX6_take_94 : decode cX6_take 94 = .ok (.aload_n 0, 1) := dk_42 (dk_at dksX6_take_3 22 rfl rfl)
theorem dX6_take_95 : decode cX6_take 95 = .ok (.aload_n 1, 1) := dk_43 (dk_at dksX6_take_3 23 rfl rfl)
theorem dX6_take_96 : decode cX6_take 96 = .ok (.getfield 26, 3) := dk_180 0 26 (dk_at dksX6_take_4 0 rfl rfl)
theorem dX6_take_99 : decode cX6_take 99 = .ok (.putfield 26, 3) := dk_181 0 26 (dk_at dksX6_take_4 3 rfl rfl)
theorem dX6_take_102 : decode cX6_take 102 = .ok (.aload_n 0, 1) := dk_42 (dk_at dksX6_take_4 6 rfl rfl)
theorem dX6_take_103 : decode cX6_take 103 = .ok (.aload_n 1, 1) := dk_43 (dk_at dksX6_take_4 7 rfl rfl)
theorem dX6_take_104 : decode cX6_take 104 = .ok (.getfield 62, 3) := dk_180 0 62 (dk_at dksX6_take_4 8 rfl rfl)
theorem dX6_take_107 : decode cX6_take 107 = .ok (.putfield 62, 3) := dk_181 0 62 (dk_at dksX6_take_4 11 rfl rfl)
theorem dX6_take_110 : decode cX6_take 110 = .ok (.aload_n 0, 1) := dk_42 (dk_at dksX6_take_4 14 rfl rfl)
theorem dX6_take_111 : decode cX6_take 111 = .ok (.aload_n 1, 1) := dk_43 (dk_at dksX6_take_4 15 rfl rfl)
theorem dX6_take_112 : decode cX6_take 112 = .ok (.getfield 65, 3) := dk_180 0 65 (dk_at dksX6_take_4 16 rfl rfl)
theorem dX6_take_115 : decode cX6_take 115 = .ok (.putfield 65, 3) := dk_181 0 65 (dk_at dksX6_take_4 19 rfl rfl)
theorem dX6_take_118 : decode cX6_take 118 = .ok (.return_, 1) := dk_177 (dk_at dksX6_take_4 22 rfl rfl)
abbrev cX6_isActive : ByteArray := prog_9_method_3_code
def yX6_isActive : MethodName := ⟨RX6, "isActive", "()Z"⟩
def dkwX6_isActive_0 : List UInt8 := [42, 180, 0, 47, 4, 163, 0, 7, 4, 167, 0, 4, 3, 172]
abbrev dktX6_isActive_0 : List UInt8 := dkwX6_isActive_0 ++ []
theorem dksX6_isActive_0 : cX6_isActive.data.toList.drop 0 = dktX6_isActive_0 := by decide +kernel
theorem dX6_isActive_0 : decode cX6_isActive 0 = .ok (.aload_n 0, 1) := dk_42 (dk_at dksX6_isActive_0 0 rfl rfl)
theorem dX6_isActive_1 : decode cX6_isActive 1 = .ok (.getfield 47, 3) := dk_180 0 47 (dk_at dksX6_isActive_0 1 rfl rfl)
theorem dX6_isActive_4 : decode cX6_isActive 4 = .ok (.iconst 1, 1) := dk_4 (dk_at dksX6_isActive_0 4 rfl rfl)
theorem dX6_isActive_5 : decode cX6_isActive 5 = .ok (.if_icmp .gt 7, 3) := dk_163 0 7 (dk_at dksX6_isActive_0 5 rfl rfl)
theorem dX6_isActive_8 : decode cX6_isActive 8 = .ok (.iconst 1, 1) := dk_4 (dk_at dksX6_isActive_0 8 rfl rfl)
theorem dX6_isActive_9 : decode cX6_isActive 9 = .ok (.goto 4, 3) := dk_167 0 4 (dk_at dksX6_isActive_0 9 rfl rfl)
theorem dX6_isActive_12 : decode cX6_isActive 12 = .ok (.iconst 0, 1) := dk_3 (dk_at dksX6_isActive_0 12 rfl rfl)
theorem dX6_isActive_13 : decode cX6_isActive 13 = .ok (.ireturn, 1) := dk_172 (dk_at dksX6_isActive_0 13 rfl rfl)
abbrev cX6_hand : ByteArray := prog_9_method_12_code
def yX6_hand : MethodName := ⟨RX6, "hand", "(I)V"⟩
def dkwX6_hand_1 : List UInt8 := [27, 182, 0, 82, 177]
abbrev dktX6_hand_1 : List UInt8 := dkwX6_hand_1 ++ []
def dkwX6_hand_0 : List UInt8 := [42, 27, 181, 0, 41, 42, 89, 180, 0, 62, 4, 96, 181, 0, 62, 42, 180, 0, 3, 5, 42, 180, 0, 29]
abbrev dktX6_hand_0 : List UInt8 := dkwX6_hand_0 ++ dktX6_hand_1
theorem dksX6_hand_0 : cX6_hand.data.toList.drop 0 = dktX6_hand_0 := by decide +kernel
theorem dksX6_hand_1 : cX6_hand.data.toList.drop 24 = dktX6_hand_1 := dk_seg dksX6_hand_0 24 rfl rfl
theorem dX6_hand_0 : decode cX6_hand 0 = .ok (.aload_n 0, 1) := dk_42 (dk_at dksX6_hand_0 0 rfl rfl)
theorem dX6_hand_1 : decode cX6_hand 1 = .ok (.iload_n 1, 1) := dk_27 (dk_at dksX6_hand_0 1 rfl rfl)
theorem dX6_hand_2 : decode cX6_hand 2 = .ok (.putfield 41, 3) := dk_181 0 41 (dk_at dksX6_hand_0 2 rfl rfl)
theorem dX6_hand_5 : decode cX6_hand 5 = .ok (.aload_n 0, 1) := dk_42 (dk_at dksX6_hand_0 5 rfl rfl)
theorem dX6_hand_6 : decode cX6_hand 6 = .ok (.dup, 1) := dk_89 (dk_at dksX6_hand_0 6 rfl rfl)
theorem dX6_hand_7 : decode cX6_hand 7 = .ok (.getfield 62, 3) := dk_180 0 62 (dk_at dksX6_hand_0 7 rfl rfl)
theorem dX6_hand_10 : decode cX6_hand 10 = .ok (.iconst 1, 1) := dk_4 (dk_at dksX6_hand_0 10 rfl rfl)
theorem dX6_hand_11 : decode cX6_hand 11 = .ok (.iadd, 1) := dk_96 (dk_at dksX6_hand_0 11 rfl rfl)
theorem dX6_hand_12 : decode cX6_hand 12 = .ok (.putfield 62, 3) := dk_181 0 62 (dk_at dksX6_hand_0 12 rfl rfl)
theorem dX6_hand_15 : decode cX6_hand 15 = .ok (.aload_n 0, 1) := dk_42 (dk_at dksX6_hand_0 15 rfl rfl)
theorem dX6_hand_16 : decode cX6_hand 16 = .ok (.getfield 3, 3) := dk_180 0 3 (dk_at dksX6_hand_0 16 rfl rfl)
theorem dX6_hand_19 : decode cX6_hand 19 = .ok (.iconst 2, 1) := dk_5 (dk_at dksX6_hand_0 19 rfl rfl)
theorem dX6_hand_20 : decode cX6_hand 20 = .ok (.aload_n 0, 1) := dk_42 (dk_at dksX6_hand_0 20 rfl rfl)
theorem dX6_hand_21 : decode cX6_hand 21 = .ok (.getfield 29, 3) := dk_180 0 29 (dk_at dksX6_hand_0 21 rfl rfl)
theorem dX6_hand_24 : decode cX6_hand 24 = .ok (.iload_n 1, 1) := dk_27 (dk_at dksX6_hand_1 0 rfl rfl)
theorem dX6_hand_25 : decode cX6_hand 25 = .ok (.invokevirtual 82, 3) := dk_182 0 82 (dk_at dksX6_hand_1 1 rfl rfl)
theorem dX6_hand_28 : decode cX6_hand 28 = .ok (.return_, 1) := dk_177 (dk_at dksX6_hand_1 4 rfl rfl)
abbrev cX6_findState : ByteArray := prog_9_method_7_code
def yX6_findState : MethodName := ⟨RX6, "findState", "()V"⟩
def dkwX6_findState_0 : List UInt8 := [42, 42, 180, 0, 44, 154, 0, 7, 3, 167, 0, 4, 4, 182, 0, 78, 177]
abbrev dktX6_findState_0 : List UInt8 := dkwX6_findState_0 ++ []
theorem dksX6_findState_0 : cX6_findState.data.toList.drop 0 = dktX6_findState_0 := by decide +kernel
theorem dX6_findState_0 : decode cX6_findState 0 = .ok (.aload_n 0, 1) := dk_42 (dk_at dksX6_findState_0 0 rfl rfl)
theorem dX6_findState_1 : decode cX6_findState 1 = .ok (.aload_n 0, 1) := dk_42 (dk_at dksX6_findState_0 1 rfl rfl)
theorem dX6_findState_2 : decode cX6_findState 2 = .ok (.getfield 44, 3) := dk_180 0 44 (dk_at dksX6_findState_0 2 rfl rfl)
theorem dX6_findState_5 : decode cX6_findState 5 = .ok (.ifCond .ne 7, 3) := dk_154 0 7 (dk_at dksX6_findState_0 5 rfl rfl)
theorem dX6_findState_8 : decode cX6_findState 8 = .ok (.iconst 0, 1) := dk_3 (dk_at dksX6_findState_0 8 rfl rfl)
theorem dX6_findState_9 : decode cX6_findState 9 = .ok (.goto 4, 3) := dk_167 0 4 (dk_at dksX6_findState_0 9 rfl rfl)
theorem dX6_findState_12 : decode cX6_findState 12 = .ok (.iconst 1, 1) := dk_4 (dk_at dksX6_findState_0 12 rfl rfl)
theorem dX6_findState_13 : decode cX6_findState 13 = .ok (.invokevirtual 78, 3) := dk_182 0 78 (dk_at dksX6_findState_0 13 rfl rfl)
theorem dX6_findState_16 : decode cX6_findState 16 = .ok (.return_, 1) := dk_177 (dk_at dksX6_findState_0 16 rfl rfl)
abbrev cX6_setState : ByteArray := prog_9_method_6_code
def yX6_setState : MethodName := ⟨RX6, "setState", "(I)V"⟩
def dkwX6_setState_0 : List UInt8 := [42, 27, 181, 0, 47, 177]
abbrev dktX6_setState_0 : List UInt8 := dkwX6_setState_0 ++ []
theorem dksX6_setState_0 : cX6_setState.data.toList.drop 0 = dktX6_setState_0 := by decide +kernel
theorem dX6_setState_0 : decode cX6_setState 0 = .ok (.aload_n 0, 1) := dk_42 (dk_at dksX6_setState_0 0 rfl rfl)
theorem dX6_setState_1 : decode cX6_setState 1 = .ok (.iload_n 1, 1) := dk_27 (dk_at dksX6_setState_0 1 rfl rfl)
theorem dX6_setState_2 : decode cX6_setState 2 = .ok (.putfield 47, 3) := dk_181 0 47 (dk_at dksX6_setState_0 2 rfl rfl)
theorem dX6_setState_5 : decode cX6_setState 5 = .ok (.return_, 1) := dk_177 (dk_at dksX6_setState_0 5 rfl rfl)
abbrev cX6_end : ByteArray := prog_9_method_9_code
def yX6_end : MethodName := ⟨RX6, "end", "(I)V"⟩
def dkwX6_end_1 : List UInt8 := [180, 0, 29, 27, 182, 0, 82, 177]
abbrev dktX6_end_1 : List UInt8 := dkwX6_end_1 ++ []
def dkwX6_end_0 : List UInt8 := [42, 89, 180, 0, 44, 4, 27, 120, 2, 130, 126, 181, 0, 44, 42, 182, 0, 86, 42, 180, 0, 3, 7, 42]
abbrev dktX6_end_0 : List UInt8 := dkwX6_end_0 ++ dktX6_end_1
theorem dksX6_end_0 : cX6_end.data.toList.drop 0 = dktX6_end_0 := by decide +kernel
theorem dksX6_end_1 : cX6_end.data.toList.drop 24 = dktX6_end_1 := dk_seg dksX6_end_0 24 rfl rfl
theorem dX6_end_0 : decode cX6_end 0 = .ok (.aload_n 0, 1) := dk_42 (dk_at dksX6_end_0 0 rfl rfl)
theorem dX6_end_1 : decode cX6_end 1 = .ok (.dup, 1) := dk_89 (dk_at dksX6_end_0 1 rfl rfl)
theorem dX6_end_2 : decode cX6_end 2 = .ok (.getfield 44, 3) := dk_180 0 44 (dk_at dksX6_end_0 2 rfl rfl)
theorem dX6_end_5 : decode cX6_end 5 = .ok (.iconst 1, 1) := dk_4 (dk_at dksX6_end_0 5 rfl rfl)
theorem dX6_end_6 : decode cX6_end 6 = .ok (.iload_n 1, 1) := dk_27 (dk_at dksX6_end_0 6 rfl rfl)
theorem dX6_end_7 : decode cX6_end 7 = .ok (.ishl, 1) := dk_120 (dk_at dksX6_end_0 7 rfl rfl)
theorem dX6_end_8 : decode cX6_end 8 = .ok (.iconst (-1), 1) := dk_2 (dk_at dksX6_end_0 8 rfl rfl)
theorem dX6_end_9 : decode cX6_end 9 = .ok (.ixor, 1) := dk_130 (dk_at dksX6_end_0 9 rfl rfl)
theorem dX6_end_10 : decode cX6_end 10 = .ok (.iand, 1) := dk_126 (dk_at dksX6_end_0 10 rfl rfl)
theorem dX6_end_11 : decode cX6_end 11 = .ok (.putfield 44, 3) := dk_181 0 44 (dk_at dksX6_end_0 11 rfl rfl)
theorem dX6_end_14 : decode cX6_end 14 = .ok (.aload_n 0, 1) := dk_42 (dk_at dksX6_end_0 14 rfl rfl)
theorem dX6_end_15 : decode cX6_end 15 = .ok (.invokevirtual 86, 3) := dk_182 0 86 (dk_at dksX6_end_0 15 rfl rfl)
theorem dX6_end_18 : decode cX6_end 18 = .ok (.aload_n 0, 1) := dk_42 (dk_at dksX6_end_0 18 rfl rfl)
theorem dX6_end_19 : decode cX6_end 19 = .ok (.getfield 3, 3) := dk_180 0 3 (dk_at dksX6_end_0 19 rfl rfl)
theorem dX6_end_22 : decode cX6_end 22 = .ok (.iconst 4, 1) := dk_7 (dk_at dksX6_end_0 22 rfl rfl)
theorem dX6_end_23 : decode cX6_end 23 = .ok (.aload_n 0, 1) := dk_42 (dk_at dksX6_end_0 23 rfl rfl)
theorem dX6_end_24 : decode cX6_end 24 = .ok (.getfield 29, 3) := dk_180 0 29 (dk_at dksX6_end_1 0 rfl rfl)
theorem dX6_end_27 : decode cX6_end 27 = .ok (.iload_n 1, 1) := dk_27 (dk_at dksX6_end_1 3 rfl rfl)
theorem dX6_end_28 : decode cX6_end 28 = .ok (.invokevirtual 82, 3) := dk_182 0 82 (dk_at dksX6_end_1 4 rfl rfl)
theorem dX6_end_31 : decode cX6_end 31 = .ok (.return_, 1) := dk_177 (dk_at dksX6_end_1 7 rfl rfl)
abbrev cX6_rate : ByteArray := prog_9_method_8_code
def yX6_rate : MethodName := ⟨RX6, "rate", "(I)V"⟩
def dkwX6_rate_1 : List UInt8 := [182, 0, 82, 177]
abbrev dktX6_rate_1 : List UInt8 := dkwX6_rate_1 ++ []
def dkwX6_rate_0 : List UInt8 := [42, 27, 181, 0, 38, 42, 42, 180, 0, 50, 181, 0, 53, 42, 180, 0, 3, 4, 42, 180, 0, 29, 27]
abbrev dktX6_rate_0 : List UInt8 := dkwX6_rate_0 ++ dktX6_rate_1
theorem dksX6_rate_0 : cX6_rate.data.toList.drop 0 = dktX6_rate_0 := by decide +kernel
theorem dksX6_rate_1 : cX6_rate.data.toList.drop 23 = dktX6_rate_1 := dk_seg dksX6_rate_0 23 rfl rfl
theorem dX6_rate_0 : decode cX6_rate 0 = .ok (.aload_n 0, 1) := dk_42 (dk_at dksX6_rate_0 0 rfl rfl)
theorem dX6_rate_1 : decode cX6_rate 1 = .ok (.iload_n 1, 1) := dk_27 (dk_at dksX6_rate_0 1 rfl rfl)
theorem dX6_rate_2 : decode cX6_rate 2 = .ok (.putfield 38, 3) := dk_181 0 38 (dk_at dksX6_rate_0 2 rfl rfl)
theorem dX6_rate_5 : decode cX6_rate 5 = .ok (.aload_n 0, 1) := dk_42 (dk_at dksX6_rate_0 5 rfl rfl)
theorem dX6_rate_6 : decode cX6_rate 6 = .ok (.aload_n 0, 1) := dk_42 (dk_at dksX6_rate_0 6 rfl rfl)
theorem dX6_rate_7 : decode cX6_rate 7 = .ok (.getfield 50, 3) := dk_180 0 50 (dk_at dksX6_rate_0 7 rfl rfl)
theorem dX6_rate_10 : decode cX6_rate 10 = .ok (.putfield 53, 3) := dk_181 0 53 (dk_at dksX6_rate_0 10 rfl rfl)
theorem dX6_rate_13 : decode cX6_rate 13 = .ok (.aload_n 0, 1) := dk_42 (dk_at dksX6_rate_0 13 rfl rfl)
theorem dX6_rate_14 : decode cX6_rate 14 = .ok (.getfield 3, 3) := dk_180 0 3 (dk_at dksX6_rate_0 14 rfl rfl)
theorem dX6_rate_17 : decode cX6_rate 17 = .ok (.iconst 1, 1) := dk_4 (dk_at dksX6_rate_0 17 rfl rfl)
theorem dX6_rate_18 : decode cX6_rate 18 = .ok (.aload_n 0, 1) := dk_42 (dk_at dksX6_rate_0 18 rfl rfl)
theorem dX6_rate_19 : decode cX6_rate 19 = .ok (.getfield 29, 3) := dk_180 0 29 (dk_at dksX6_rate_0 19 rfl rfl)
theorem dX6_rate_22 : decode cX6_rate 22 = .ok (.iload_n 1, 1) := dk_27 (dk_at dksX6_rate_0 22 rfl rfl)
theorem dX6_rate_23 : decode cX6_rate 23 = .ok (.invokevirtual 82, 3) := dk_182 0 82 (dk_at dksX6_rate_1 0 rfl rfl)
theorem dX6_rate_26 : decode cX6_rate 26 = .ok (.return_, 1) := dk_177 (dk_at dksX6_rate_1 3 rfl rfl)
abbrev cX6_passes : ByteArray := prog_9_method_11_code
def yX6_passes : MethodName := ⟨RX6, "passes", "()I"⟩
def dkwX6_passes_4 : List UInt8 := [132, 2, 1, 167, 255, 192, 27, 172]
abbrev dktX6_passes_4 : List UInt8 := dkwX6_passes_4 ++ []
def dkwX6_passes_3 : List UInt8 := [180, 0, 15, 28, 46, 42, 180, 0, 3, 180, 0, 104, 28, 46, 161, 0, 8, 42, 28, 182, 0, 107]
abbrev dktX6_passes_3 : List UInt8 := dkwX6_passes_3 ++ dktX6_passes_4
def dkwX6_passes_2 : List UInt8 := [180, 0, 15, 28, 92, 46, 4, 96, 79, 42, 180, 0, 3, 180, 0, 104, 28, 46, 158, 0, 26, 42]
abbrev dktX6_passes_2 : List UInt8 := dkwX6_passes_2 ++ dktX6_passes_3
def dkwX6_passes_1 : List UInt8 := [181, 0, 56, 3, 61, 28, 7, 162, 0, 65, 42, 180, 0, 44, 28, 184, 0, 100, 153, 0, 48, 42]
abbrev dktX6_passes_1 : List UInt8 := dkwX6_passes_1 ++ dktX6_passes_2
def dkwX6_passes_0 : List UInt8 := [3, 60, 42, 180, 0, 47, 154, 0, 11, 42, 182, 0, 97, 60, 167, 0, 13, 42, 89, 180, 0, 56, 4, 96]
abbrev dktX6_passes_0 : List UInt8 := dkwX6_passes_0 ++ dktX6_passes_1
theorem dksX6_passes_0 : cX6_passes.data.toList.drop 0 = dktX6_passes_0 := by decide +kernel
theorem dksX6_passes_1 : cX6_passes.data.toList.drop 24 = dktX6_passes_1 := dk_seg dksX6_passes_0 24 rfl rfl
theorem dksX6_passes_2 : cX6_passes.data.toList.drop 46 = dktX6_passes_2 := dk_seg dksX6_passes_1 22 rfl rfl
theorem dksX6_passes_3 : cX6_passes.data.toList.drop 68 = dktX6_passes_3 := dk_seg dksX6_passes_2 22 rfl rfl
theorem dksX6_passes_4 : cX6_passes.data.toList.drop 90 = dktX6_passes_4 := dk_seg dksX6_passes_3 22 rfl rfl
theorem dX6_passes_0 : decode cX6_passes 0 = .ok (.iconst 0, 1) := dk_3 (dk_at dksX6_passes_0 0 rfl rfl)
theorem dX6_passes_1 : decode cX6_passes 1 = .ok (.istore_n 1, 1) := dk_60 (dk_at dksX6_passes_0 1 rfl rfl)
theorem dX6_passes_2 : decode cX6_passes 2 = .ok (.aload_n 0, 1) := dk_42 (dk_at dksX6_passes_0 2 rfl rfl)
theorem dX6_passes_3 : decode cX6_passes 3 = .ok (.getfield 47, 3) := dk_180 0 47 (dk_at dksX6_passes_0 3 rfl rfl)
theorem dX6_passes_6 : decode cX6_passes 6 = .ok (.ifCond .ne 11, 3) := dk_154 0 11 (dk_at dksX6_passes_0 6 rfl rfl)
theorem dX6_passes_9 : decode cX6_passes 9 = .ok (.aload_n 0, 1) := dk_42 (dk_at dksX6_passes_0 9 rfl rfl)
theorem dX6_passes_10 : decode cX6_passes 10 = .ok (.invokevirtual 97, 3) := dk_182 0 97 (dk_at dksX6_passes_0 10 rfl rfl)
theorem dX6_passes_13 : decode cX6_passes 13 = .ok (.istore_n 1, 1) := dk_60 (dk_at dksX6_passes_0 13 rfl rfl)
theorem dX6_passes_14 : decode cX6_passes 14 = .ok (.goto 13, 3) := dk_167 0 13 (dk_at dksX6_passes_0 14 rfl rfl)
theorem dX6_passes_17 : decode cX6_passes 17 = .ok (.aload_n 0, 1) := dk_42 (dk_at dksX6_passes_0 17 rfl rfl)
theorem dX6_passes_18 : decode cX6_passes 18 = .ok (.dup, 1) := dk_89 (dk_at dksX6_passes_0 18 rfl rfl)
theorem dX6_passes_19 : decode cX6_passes 19 = .ok (.getfield 56, 3) := dk_180 0 56 (dk_at dksX6_passes_0 19 rfl rfl)
theorem dX6_passes_22 : decode cX6_passes 22 = .ok (.iconst 1, 1) := dk_4 (dk_at dksX6_passes_0 22 rfl rfl)
theorem dX6_passes_23 : decode cX6_passes 23 = .ok (.iadd, 1) := dk_96 (dk_at dksX6_passes_0 23 rfl rfl)
theorem dX6_passes_24 : decode cX6_passes 24 = .ok (.putfield 56, 3) := dk_181 0 56 (dk_at dksX6_passes_1 0 rfl rfl)
theorem dX6_passes_27 : decode cX6_passes 27 = .ok (.iconst 0, 1) := dk_3 (dk_at dksX6_passes_1 3 rfl rfl)
theorem dX6_passes_28 : decode cX6_passes 28 = .ok (.istore_n 2, 1) := dk_61 (dk_at dksX6_passes_1 4 rfl rfl)
theorem dX6_passes_29 : decode cX6_passes 29 = .ok (.iload_n 2, 1) := dk_28 (dk_at dksX6_passes_1 5 rfl rfl)
theorem dX6_passes_30 : decode cX6_passes 30 = .ok (.iconst 4, 1) := dk_7 (dk_at dksX6_passes_1 6 rfl rfl)
theorem dX6_passes_31 : decode cX6_passes 31 = .ok (.if_icmp .ge 65, 3) := dk_162 0 65 (dk_at dksX6_passes_1 7 rfl rfl)
theorem dX6_passes_34 : decode cX6_passes 34 = .ok (.aload_n 0, 1) := dk_42 (dk_at dksX6_passes_1 10 rfl rfl)
theorem dX6_passes_35 : decode cX6_passes 35 = .ok (.getfield 44, 3) := dk_180 0 44 (dk_at dksX6_passes_1 11 rfl rfl)
theorem dX6_passes_38 : decode cX6_passes 38 = .ok (.iload_n 2, 1) := dk_28 (dk_at dksX6_passes_1 14 rfl rfl)
theorem dX6_passes_39 : decode cX6_passes 39 = .ok (.invokestatic 100, 3) := dk_184 0 100 (dk_at dksX6_passes_1 15 rfl rfl)
theorem dX6_passes_42 : decode cX6_passes 42 = .ok (.ifCond .eq 48, 3) := dk_153 0 48 (dk_at dksX6_passes_1 18 rfl rfl)
theorem dX6_passes_45 : decode cX6_passes 45 = .ok (.aload_n 0, 1) := dk_42 (dk_at dksX6_passes_1 21 rfl rfl)
theorem dX6_passes_46 : decode cX6_passes 46 = .ok (.getfield 15, 3) := dk_180 0 15 (dk_at dksX6_passes_2 0 rfl rfl)
theorem dX6_passes_49 : decode cX6_passes 49 = .ok (.iload_n 2, 1) := dk_28 (dk_at dksX6_passes_2 3 rfl rfl)
theorem dX6_passes_50 : decode cX6_passes 50 = .ok (.dup2, 1) := dk_92 (dk_at dksX6_passes_2 4 rfl rfl)
theorem dX6_passes_51 : decode cX6_passes 51 = .ok (.iaload, 1) := dk_46 (dk_at dksX6_passes_2 5 rfl rfl)
theorem dX6_passes_52 : decode cX6_passes 52 = .ok (.iconst 1, 1) := dk_4 (dk_at dksX6_passes_2 6 rfl rfl)
theorem dX6_passes_53 : decode cX6_passes 53 = .ok (.iadd, 1) := dk_96 (dk_at dksX6_passes_2 7 rfl rfl)
theorem dX6_passes_54 : decode cX6_passes 54 = .ok (.iastore, 1) := dk_79 (dk_at dksX6_passes_2 8 rfl rfl)
theorem dX6_passes_55 : decode cX6_passes 55 = .ok (.aload_n 0, 1) := dk_42 (dk_at dksX6_passes_2 9 rfl rfl)
theorem dX6_passes_56 : decode cX6_passes 56 = .ok (.getfield 3, 3) := dk_180 0 3 (dk_at dksX6_passes_2 10 rfl rfl)
theorem dX6_passes_59 : decode cX6_passes 59 = .ok (.getfield 104, 3) := dk_180 0 104 (dk_at dksX6_passes_2 13 rfl rfl)
theorem dX6_passes_62 : decode cX6_passes 62 = .ok (.iload_n 2, 1) := dk_28 (dk_at dksX6_passes_2 16 rfl rfl)
theorem dX6_passes_63 : decode cX6_passes 63 = .ok (.iaload, 1) := dk_46 (dk_at dksX6_passes_2 17 rfl rfl)
theorem dX6_passes_64 : decode cX6_passes 64 = .ok (.ifCond .le 26, 3) := dk_158 0 26 (dk_at dksX6_passes_2 18 rfl rfl)
theorem dX6_passes_67 : decode cX6_passes 67 = .ok (.aload_n 0, 1) := dk_42 (dk_at dksX6_passes_2 21 rfl rfl)
theorem dX6_passes_68 : decode cX6_passes 68 = .ok (.getfield 15, 3) := dk_180 0 15 (dk_at dksX6_passes_3 0 rfl rfl)
theorem dX6_passes_71 : decode cX6_passes 71 = .ok (.iload_n 2, 1) := dk_28 (dk_at dksX6_passes_3 3 rfl rfl)
theorem dX6_passes_72 : decode cX6_passes 72 = .ok (.iaload, 1) := dk_46 (dk_at dksX6_passes_3 4 rfl rfl)
theorem dX6_passes_73 : decode cX6_passes 73 = .ok (.aload_n 0, 1) := dk_42 (dk_at dksX6_passes_3 5 rfl rfl)
theorem dX6_passes_74 : decode cX6_passes 74 = .ok (.getfield 3, 3) := dk_180 0 3 (dk_at dksX6_passes_3 6 rfl rfl)
theorem dX6_passes_77 : decode cX6_passes 77 = .ok (.getfield 104, 3) := dk_180 0 104 (dk_at dksX6_passes_3 9 rfl rfl)
theorem dX6_passes_80 : decode cX6_passes 80 = .ok (.iload_n 2, 1) := dk_28 (dk_at dksX6_passes_3 12 rfl rfl)
theorem dX6_passes_81 : decode cX6_passes 81 = .ok (.iaload, 1) := dk_46 (dk_at dksX6_passes_3 13 rfl rfl)
theorem dX6_passes_82 : decode cX6_passes 82 = .ok (.if_icmp .lt 8, 3) := dk_161 0 8 (dk_at dksX6_passes_3 14 rfl rfl)
theorem dX6_passes_85 : decode cX6_passes 85 = .ok (.aload_n 0, 1) := dk_42 (dk_at dksX6_passes_3 17 rfl rfl)
theorem dX6_passes_86 : decode cX6_passes 86 = .ok (.iload_n 2, 1) := dk_28 (dk_at dksX6_passes_3 18 rfl rfl)
theorem dX6_passes_87 : decode cX6_passes 87 = .ok (.invokevirtual 107, 3) := dk_182 0 107 (dk_at dksX6_passes_3 19 rfl rfl)
theorem dX6_passes_90 : decode cX6_passes 90 = .ok (.iinc 2 1, 3) := dk_132 2 1 (dk_at dksX6_passes_4 0 rfl rfl)
theorem dX6_passes_93 : decode cX6_passes 93 = .ok (.goto (-64), 3) := dk_167 255 192 (dk_at dksX6_passes_4 3 rfl rfl)
theorem dX6_passes_96 : decode cX6_passes 96 = .ok (.iload_n 1, 1) := dk_27 (dk_at dksX6_passes_4 6 rfl rfl)
theorem dX6_passes_97 : decode cX6_passes 97 = .ok (.ireturn, 1) := dk_172 (dk_at dksX6_passes_4 7 rfl rfl)
abbrev cX6_grows : ByteArray := prog_9_method_10_code
def yX6_grows : MethodName := ⟨RX6, "grows", "()I"⟩
def dkwX6_grows_1 : List UInt8 := [160, 0, 10, 42, 4, 181, 0, 65, 3, 172, 42, 42, 180, 0, 38, 4, 100, 182, 0, 94, 4, 172]
abbrev dktX6_grows_1 : List UInt8 := dkwX6_grows_1 ++ []
def dkwX6_grows_0 : List UInt8 := [42, 89, 180, 0, 50, 4, 96, 181, 0, 50, 42, 182, 0, 90, 154, 0, 5, 3, 172, 42, 180, 0, 38, 4]
abbrev dktX6_grows_0 : List UInt8 := dkwX6_grows_0 ++ dktX6_grows_1
theorem dksX6_grows_0 : cX6_grows.data.toList.drop 0 = dktX6_grows_0 := by decide +kernel
theorem dksX6_grows_1 : cX6_grows.data.toList.drop 24 = dktX6_grows_1 := dk_seg dksX6_grows_0 24 rfl rfl
theorem dX6_grows_0 : decode cX6_grows 0 = .ok (.aload_n 0, 1) := dk_42 (dk_at dksX6_grows_0 0 rfl rfl)
theorem dX6_grows_1 : decode cX6_grows 1 = .ok (.dup, 1) := dk_89 (dk_at dksX6_grows_0 1 rfl rfl)
theorem dX6_grows_2 : decode cX6_grows 2 = .ok (.getfield 50, 3) := dk_180 0 50 (dk_at dksX6_grows_0 2 rfl rfl)
theorem dX6_grows_5 : decode cX6_grows 5 = .ok (.iconst 1, 1) := dk_4 (dk_at dksX6_grows_0 5 rfl rfl)
theorem dX6_grows_6 : decode cX6_grows 6 = .ok (.iadd, 1) := dk_96 (dk_at dksX6_grows_0 6 rfl rfl)
theorem dX6_grows_7 : decode cX6_grows 7 = .ok (.putfield 50, 3) := dk_181 0 50 (dk_at dksX6_grows_0 7 rfl rfl)
theorem dX6_grows_10 : decode cX6_grows 10 = .ok (.aload_n 0, 1) := dk_42 (dk_at dksX6_grows_0 10 rfl rfl)
theorem dX6_grows_11 : decode cX6_grows 11 = .ok (.invokevirtual 90, 3) := dk_182 0 90 (dk_at dksX6_grows_0 11 rfl rfl)
theorem dX6_grows_14 : decode cX6_grows 14 = .ok (.ifCond .ne 5, 3) := dk_154 0 5 (dk_at dksX6_grows_0 14 rfl rfl)
theorem dX6_grows_17 : decode cX6_grows 17 = .ok (.iconst 0, 1) := dk_3 (dk_at dksX6_grows_0 17 rfl rfl)
theorem dX6_grows_18 : decode cX6_grows 18 = .ok (.ireturn, 1) := dk_172 (dk_at dksX6_grows_0 18 rfl rfl)
theorem dX6_grows_19 : decode cX6_grows 19 = .ok (.aload_n 0, 1) := dk_42 (dk_at dksX6_grows_0 19 rfl rfl)
theorem dX6_grows_20 : decode cX6_grows 20 = .ok (.getfield 38, 3) := dk_180 0 38 (dk_at dksX6_grows_0 20 rfl rfl)
theorem dX6_grows_23 : decode cX6_grows 23 = .ok (.iconst 1, 1) := dk_4 (dk_at dksX6_grows_0 23 rfl rfl)
theorem dX6_grows_24 : decode cX6_grows 24 = .ok (.if_icmp .ne 10, 3) := dk_160 0 10 (dk_at dksX6_grows_1 0 rfl rfl)
theorem dX6_grows_27 : decode cX6_grows 27 = .ok (.aload_n 0, 1) := dk_42 (dk_at dksX6_grows_1 3 rfl rfl)
theorem dX6_grows_28 : decode cX6_grows 28 = .ok (.iconst 1, 1) := dk_4 (dk_at dksX6_grows_1 4 rfl rfl)
theorem dX6_grows_29 : decode cX6_grows 29 = .ok (.putfield 65, 3) := dk_181 0 65 (dk_at dksX6_grows_1 5 rfl rfl)
theorem dX6_grows_32 : decode cX6_grows 32 = .ok (.iconst 0, 1) := dk_3 (dk_at dksX6_grows_1 8 rfl rfl)
theorem dX6_grows_33 : decode cX6_grows 33 = .ok (.ireturn, 1) := dk_172 (dk_at dksX6_grows_1 9 rfl rfl)
theorem dX6_grows_34 : decode cX6_grows 34 = .ok (.aload_n 0, 1) := dk_42 (dk_at dksX6_grows_1 10 rfl rfl)
theorem dX6_grows_35 : decode cX6_grows 35 = .ok (.aload_n 0, 1) := dk_42 (dk_at dksX6_grows_1 11 rfl rfl)
theorem dX6_grows_36 : decode cX6_grows 36 = .ok (.getfield 38, 3) := dk_180 0 38 (dk_at dksX6_grows_1 12 rfl rfl)
theorem dX6_grows_39 : decode cX6_grows 39 = .ok (.iconst 1, 1) := dk_4 (dk_at dksX6_grows_1 15 rfl rfl)
theorem dX6_grows_40 : decode cX6_grows 40 = .ok (.isub, 1) := dk_100 (dk_at dksX6_grows_1 16 rfl rfl)
theorem dX6_grows_41 : decode cX6_grows 41 = .ok (.invokevirtual 94, 3) := dk_182 0 94 (dk_at dksX6_grows_1 17 rfl rfl)
theorem dX6_grows_44 : decode cX6_grows 44 = .ok (.iconst 1, 1) := dk_4 (dk_at dksX6_grows_1 20 rfl rfl)
theorem dX6_grows_45 : decode cX6_grows 45 = .ok (.ireturn, 1) := dk_172 (dk_at dksX6_grows_1 21 rfl rfl)
abbrev cX6_isReached : ByteArray := prog_9_method_5_code
def yX6_isReached : MethodName := ⟨RX6, "isReached", "()Z"⟩
def dkwX6_isReached_1 : List UInt8 := [167, 0, 4, 3, 172]
abbrev dktX6_isReached_1 : List UInt8 := dkwX6_isReached_1 ++ []
def dkwX6_isReached_0 : List UInt8 := [42, 182, 0, 69, 42, 180, 0, 3, 180, 0, 73, 42, 180, 0, 38, 4, 100, 46, 161, 0, 7, 4]
abbrev dktX6_isReached_0 : List UInt8 := dkwX6_isReached_0 ++ dktX6_isReached_1
theorem dksX6_isReached_0 : cX6_isReached.data.toList.drop 0 = dktX6_isReached_0 := by decide +kernel
theorem dksX6_isReached_1 : cX6_isReached.data.toList.drop 22 = dktX6_isReached_1 := dk_seg dksX6_isReached_0 22 rfl rfl
theorem dX6_isReached_0 : decode cX6_isReached 0 = .ok (.aload_n 0, 1) := dk_42 (dk_at dksX6_isReached_0 0 rfl rfl)
theorem dX6_isReached_1 : decode cX6_isReached 1 = .ok (.invokevirtual 69, 3) := dk_182 0 69 (dk_at dksX6_isReached_0 1 rfl rfl)
theorem dX6_isReached_4 : decode cX6_isReached 4 = .ok (.aload_n 0, 1) := dk_42 (dk_at dksX6_isReached_0 4 rfl rfl)
theorem dX6_isReached_5 : decode cX6_isReached 5 = .ok (.getfield 3, 3) := dk_180 0 3 (dk_at dksX6_isReached_0 5 rfl rfl)
theorem dX6_isReached_8 : decode cX6_isReached 8 = .ok (.getfield 73, 3) := dk_180 0 73 (dk_at dksX6_isReached_0 8 rfl rfl)
theorem dX6_isReached_11 : decode cX6_isReached 11 = .ok (.aload_n 0, 1) := dk_42 (dk_at dksX6_isReached_0 11 rfl rfl)
theorem dX6_isReached_12 : decode cX6_isReached 12 = .ok (.getfield 38, 3) := dk_180 0 38 (dk_at dksX6_isReached_0 12 rfl rfl)
theorem dX6_isReached_15 : decode cX6_isReached 15 = .ok (.iconst 1, 1) := dk_4 (dk_at dksX6_isReached_0 15 rfl rfl)
theorem dX6_isReached_16 : decode cX6_isReached 16 = .ok (.isub, 1) := dk_100 (dk_at dksX6_isReached_0 16 rfl rfl)
theorem dX6_isReached_17 : decode cX6_isReached 17 = .ok (.iaload, 1) := dk_46 (dk_at dksX6_isReached_0 17 rfl rfl)
theorem dX6_isReached_18 : decode cX6_isReached 18 = .ok (.if_icmp .lt 7, 3) := dk_161 0 7 (dk_at dksX6_isReached_0 18 rfl rfl)
theorem dX6_isReached_21 : decode cX6_isReached 21 = .ok (.iconst 1, 1) := dk_4 (dk_at dksX6_isReached_0 21 rfl rfl)
theorem dX6_isReached_22 : decode cX6_isReached 22 = .ok (.goto 4, 3) := dk_167 0 4 (dk_at dksX6_isReached_1 0 rfl rfl)
theorem dX6_isReached_25 : decode cX6_isReached 25 = .ok (.iconst 0, 1) := dk_3 (dk_at dksX6_isReached_1 3 rfl rfl)
theorem dX6_isReached_26 : decode cX6_isReached 26 = .ok (.ireturn, 1) := dk_172 (dk_at dksX6_isReached_1 4 rfl rfl)
abbrev cX6_age : ByteArray := prog_9_method_4_code
def yX6_age : MethodName := ⟨RX6, "age", "()I"⟩
def dkwX6_age_0 : List UInt8 := [42, 180, 0, 50, 42, 180, 0, 53, 100, 172]
abbrev dktX6_age_0 : List UInt8 := dkwX6_age_0 ++ []
theorem dksX6_age_0 : cX6_age.data.toList.drop 0 = dktX6_age_0 := by decide +kernel
theorem dX6_age_0 : decode cX6_age 0 = .ok (.aload_n 0, 1) := dk_42 (dk_at dksX6_age_0 0 rfl rfl)
theorem dX6_age_1 : decode cX6_age 1 = .ok (.getfield 50, 3) := dk_180 0 50 (dk_at dksX6_age_0 1 rfl rfl)
theorem dX6_age_4 : decode cX6_age 4 = .ok (.aload_n 0, 1) := dk_42 (dk_at dksX6_age_0 4 rfl rfl)
theorem dX6_age_5 : decode cX6_age 5 = .ok (.getfield 53, 3) := dk_180 0 53 (dk_at dksX6_age_0 5 rfl rfl)
theorem dX6_age_8 : decode cX6_age 8 = .ok (.isub, 1) := dk_100 (dk_at dksX6_age_0 8 rfl rfl)
theorem dX6_age_9 : decode cX6_age 9 = .ok (.ireturn, 1) := dk_172 (dk_at dksX6_age_0 9 rfl rfl)
abbrev cX6_isSuspected : ByteArray := prog_9_method_13_code
def yX6_isSuspected : MethodName := ⟨RX6, "isSuspected", "(LIncidentKeeper$Change;)Z"⟩
def dkwX6_isSuspected_1 : List UInt8 := [182, 0, 120, 42, 182, 0, 119, 42, 180, 0, 3, 180, 0, 122, 100, 161, 0, 7, 4, 167, 0, 4, 3, 172]
abbrev dktX6_isSuspected_1 : List UInt8 := dkwX6_isSuspected_1 ++ []
def dkwX6_isSuspected_0 : List UInt8 := [43, 182, 0, 110, 42, 182, 0, 115, 160, 0, 37, 43, 182, 0, 116, 42, 182, 0, 119, 163, 0, 26, 43]
abbrev dktX6_isSuspected_0 : List UInt8 := dkwX6_isSuspected_0 ++ dktX6_isSuspected_1
theorem dksX6_isSuspected_0 : cX6_isSuspected.data.toList.drop 0 = dktX6_isSuspected_0 := by decide +kernel
theorem dksX6_isSuspected_1 : cX6_isSuspected.data.toList.drop 23 = dktX6_isSuspected_1 := dk_seg dksX6_isSuspected_0 23 rfl rfl
theorem dX6_isSuspected_0 : decode cX6_isSuspected 0 = .ok (.aload_n 1, 1) := dk_43 (dk_at dksX6_isSuspected_0 0 rfl rfl)
theorem dX6_isSuspected_1 : decode cX6_isSuspected 1 = .ok (.invokevirtual 110, 3) := dk_182 0 110 (dk_at dksX6_isSuspected_0 1 rfl rfl)
theorem dX6_isSuspected_4 : decode cX6_isSuspected 4 = .ok (.aload_n 0, 1) := dk_42 (dk_at dksX6_isSuspected_0 4 rfl rfl)
theorem dX6_isSuspected_5 : decode cX6_isSuspected 5 = .ok (.invokevirtual 115, 3) := dk_182 0 115 (dk_at dksX6_isSuspected_0 5 rfl rfl)
theorem dX6_isSuspected_8 : decode cX6_isSuspected 8 = .ok (.if_icmp .ne 37, 3) := dk_160 0 37 (dk_at dksX6_isSuspected_0 8 rfl rfl)
theorem dX6_isSuspected_11 : decode cX6_isSuspected 11 = .ok (.aload_n 1, 1) := dk_43 (dk_at dksX6_isSuspected_0 11 rfl rfl)
theorem dX6_isSuspected_12 : decode cX6_isSuspected 12 = .ok (.invokevirtual 116, 3) := dk_182 0 116 (dk_at dksX6_isSuspected_0 12 rfl rfl)
theorem dX6_isSuspected_15 : decode cX6_isSuspected 15 = .ok (.aload_n 0, 1) := dk_42 (dk_at dksX6_isSuspected_0 15 rfl rfl)
theorem dX6_isSuspected_16 : decode cX6_isSuspected 16 = .ok (.invokevirtual 119, 3) := dk_182 0 119 (dk_at dksX6_isSuspected_0 16 rfl rfl)
theorem dX6_isSuspected_19 : decode cX6_isSuspected 19 = .ok (.if_icmp .gt 26, 3) := dk_163 0 26 (dk_at dksX6_isSuspected_0 19 rfl rfl)
theorem dX6_isSuspected_22 : decode cX6_isSuspected 22 = .ok (.aload_n 1, 1) := dk_43 (dk_at dksX6_isSuspected_0 22 rfl rfl)
theorem dX6_isSuspected_23 : decode cX6_isSuspected 23 = .ok (.invokevirtual 120, 3) := dk_182 0 120 (dk_at dksX6_isSuspected_1 0 rfl rfl)
theorem dX6_isSuspected_26 : decode cX6_isSuspected 26 = .ok (.aload_n 0, 1) := dk_42 (dk_at dksX6_isSuspected_1 3 rfl rfl)
theorem dX6_isSuspected_27 : decode cX6_isSuspected 27 = .ok (.invokevirtual 119, 3) := dk_182 0 119 (dk_at dksX6_isSuspected_1 4 rfl rfl)
theorem dX6_isSuspected_30 : decode cX6_isSuspected 30 = .ok (.aload_n 0, 1) := dk_42 (dk_at dksX6_isSuspected_1 7 rfl rfl)
theorem dX6_isSuspected_31 : decode cX6_isSuspected 31 = .ok (.getfield 3, 3) := dk_180 0 3 (dk_at dksX6_isSuspected_1 8 rfl rfl)
theorem dX6_isSuspected_34 : decode cX6_isSuspected 34 = .ok (.getfield 122, 3) := dk_180 0 122 (dk_at dksX6_isSuspected_1 11 rfl rfl)
theorem dX6_isSuspected_37 : decode cX6_isSuspected 37 = .ok (.isub, 1) := dk_100 (dk_at dksX6_isSuspected_1 14 rfl rfl)
theorem dX6_isSuspected_38 : decode cX6_isSuspected 38 = .ok (.if_icmp .lt 7, 3) := dk_161 0 7 (dk_at dksX6_isSuspected_1 15 rfl rfl)
theorem dX6_isSuspected_41 : decode cX6_isSuspected 41 = .ok (.iconst 1, 1) := dk_4 (dk_at dksX6_isSuspected_1 18 rfl rfl)
theorem dX6_isSuspected_42 : decode cX6_isSuspected 42 = .ok (.goto 4, 3) := dk_167 0 4 (dk_at dksX6_isSuspected_1 19 rfl rfl)
theorem dX6_isSuspected_45 : decode cX6_isSuspected 45 = .ok (.iconst 0, 1) := dk_3 (dk_at dksX6_isSuspected_1 22 rfl rfl)
theorem dX6_isSuspected_46 : decode cX6_isSuspected 46 = .ok (.ireturn, 1) := dk_172 (dk_at dksX6_isSuspected_1 23 rfl rfl)
theorem q75 : (Jvm.Cond.initialized "IncidentKeeper$Core$Incident") ∈ lw_all := lw_g (lw_at lw_m1 11 rfl) rfl
theorem q157 : (Jvm.Cond.fieldLinkNest "IncidentKeeper$Core$Incident" (73 : Nat) "IncidentKeeper$Core" "targets" "[I" "IncidentKeeper") ∈ lw_tbl := lw_at lw_m1 93 rfl
theorem q160 : (Jvm.Cond.fieldLinkNest "IncidentKeeper$Core$Incident" (104 : Nat) "IncidentKeeper$Core" "limits" "[I" "IncidentKeeper") ∈ lw_tbl := lw_at lw_m1 96 rfl
theorem q167 : (Jvm.Cond.fieldLinkNest "IncidentKeeper$Core$Incident" (122 : Nat) "IncidentKeeper$Core" "window" "I" "IncidentKeeper") ∈ lw_tbl := lw_at lw_m1 103 rfl
theorem q266 : (Jvm.Cond.sameMethod "IncidentKeeper$Core$Incident" "IncidentKeeper$Entry" "system" "()I") ∈ lw_all := lw_g (lw_at lw_m1 202 rfl) rfl
theorem q268 : (Jvm.Cond.selects "IncidentKeeper$Core$Incident" ({ cls := "IncidentKeeper$Core$Incident", name := "system", desc := "()I" } : Jvm.MethodName) ({ cls := "IncidentKeeper$Entry", name := "system", desc := "()I" } : Jvm.MethodName)) ∈ lw_all := lw_g (lw_at lw_m1 204 rfl) rfl
theorem q272 : (Jvm.Cond.sameMethod "IncidentKeeper$Core$Incident" "IncidentKeeper$Entry" "first" "()I") ∈ lw_all := lw_g (lw_at lw_m1 208 rfl) rfl
theorem q274 : (Jvm.Cond.selects "IncidentKeeper$Core$Incident" ({ cls := "IncidentKeeper$Core$Incident", name := "first", desc := "()I" } : Jvm.MethodName) ({ cls := "IncidentKeeper$Entry", name := "first", desc := "()I" } : Jvm.MethodName)) ∈ lw_all := lw_g (lw_at lw_m1 210 rfl) rfl
theorem q281 : (Jvm.Cond.instantiable "IncidentKeeper$Core$Incident" (18 : Nat)) ∈ lw_all := lw_g (lw_at lw_m1 217 rfl) rfl
theorem q283 : (Jvm.Cond.instanceMethod ({ cls := "IncidentKeeper$Core$Incident", name := "<init>", desc := "(LIncidentKeeper$Core;III)V" } : Jvm.MethodName)) ∈ lw_all := lw_g (lw_at lw_m1 219 rfl) rfl
theorem q284 : (Jvm.Cond.code ({ cls := "IncidentKeeper$Core$Incident", name := "<init>", desc := "(LIncidentKeeper$Core;III)V" } : Jvm.MethodName) prog_9_method_1_code (5 : Nat) (Option.none : Option Jvm.ClassFile.FieldType)) ∈ lw_all := lw_g (lw_at lw_m1 220 rfl) rfl
theorem q285 : (Jvm.Cond.methodLink "IncidentKeeper$Core$Incident" (9 : Nat) ({ cls := "IncidentKeeper$Entry", name := "<init>", desc := "(II)V" } : Jvm.MethodName)) ∈ lw_all := lw_g (lw_at lw_m1 221 rfl) rfl
theorem q289 : (Jvm.Cond.fieldLink "IncidentKeeper$Core$Incident" (29 : Nat) "IncidentKeeper$Core$Incident" "number" "I") ∈ lw_all := lw_g (lw_at lw_m1 225 rfl) rfl
theorem q292 : (Jvm.Cond.fieldLink "IncidentKeeper$Core$Incident" (15 : Nat) "IncidentKeeper$Core$Incident" "counts" "[I") ∈ lw_all := lw_g (lw_at lw_m1 228 rfl) rfl
theorem q295 : (Jvm.Cond.fieldLink "IncidentKeeper$Core$Incident" (38 : Nat) "IncidentKeeper$Core$Incident" "severity" "I") ∈ lw_all := lw_g (lw_at lw_m1 231 rfl) rfl
theorem q298 : (Jvm.Cond.fieldLink "IncidentKeeper$Core$Incident" (41 : Nat) "IncidentKeeper$Core$Incident" "holder" "I") ∈ lw_all := lw_g (lw_at lw_m1 234 rfl) rfl
theorem q301 : (Jvm.Cond.fieldLink "IncidentKeeper$Core$Incident" (44 : Nat) "IncidentKeeper$Core$Incident" "causes" "I") ∈ lw_all := lw_g (lw_at lw_m1 237 rfl) rfl
theorem q304 : (Jvm.Cond.fieldLink "IncidentKeeper$Core$Incident" (47 : Nat) "IncidentKeeper$Core$Incident" "state" "I") ∈ lw_all := lw_g (lw_at lw_m2 0 rfl) rfl
theorem q307 : (Jvm.Cond.fieldLink "IncidentKeeper$Core$Incident" (50 : Nat) "IncidentKeeper$Core$Incident" "clock" "I") ∈ lw_all := lw_g (lw_at lw_m2 3 rfl) rfl
theorem q310 : (Jvm.Cond.fieldLink "IncidentKeeper$Core$Incident" (53 : Nat) "IncidentKeeper$Core$Incident" "base" "I") ∈ lw_all := lw_g (lw_at lw_m2 6 rfl) rfl
theorem q311 : (Jvm.Cond.fieldLink "IncidentKeeper$Core$Incident" (56 : Nat) "IncidentKeeper$Core$Incident" "stopped" "I") ∈ lw_all := lw_g (lw_at lw_m2 7 rfl) rfl
theorem q313 : (Jvm.Cond.fieldLink "IncidentKeeper$Core$Incident" (59 : Nat) "IncidentKeeper$Core$Incident" "idle" "I") ∈ lw_all := lw_g (lw_at lw_m2 9 rfl) rfl
theorem q316 : (Jvm.Cond.fieldLink "IncidentKeeper$Core$Incident" (19 : Nat) "IncidentKeeper$Core$Incident" "parent" "I") ∈ lw_all := lw_g (lw_at lw_m2 12 rfl) rfl
theorem q320 : (Jvm.Cond.fieldLink "IncidentKeeper$Core$Incident" (23 : Nat) "IncidentKeeper$Core$Incident" "change" "I") ∈ lw_all := lw_g (lw_at lw_m2 16 rfl) rfl
theorem q323 : (Jvm.Cond.fieldLink "IncidentKeeper$Core$Incident" (26 : Nat) "IncidentKeeper$Core$Incident" "review" "I") ∈ lw_all := lw_g (lw_at lw_m2 19 rfl) rfl
theorem q326 : (Jvm.Cond.fieldLink "IncidentKeeper$Core$Incident" (62 : Nat) "IncidentKeeper$Core$Incident" "handovers" "I") ∈ lw_all := lw_g (lw_at lw_m2 22 rfl) rfl
theorem q328 : (Jvm.Cond.fieldLink "IncidentKeeper$Core$Incident" (65 : Nat) "IncidentKeeper$Core$Incident" "isOverdue" "Z") ∈ lw_all := lw_g (lw_at lw_m2 24 rfl) rfl
theorem q330 : (Jvm.Cond.fieldLink "IncidentKeeper$Core$Incident" (3 : Nat) "IncidentKeeper$Core$Incident" "this$0" "LIncidentKeeper$Core;") ∈ lw_all := lw_g (lw_at lw_m2 26 rfl) rfl
theorem q333 : (Jvm.Cond.laysFinal "IncidentKeeper$Core$Incident" "IncidentKeeper$Core$Incident" "number" "I") ∈ lw_all := lw_g (lw_at lw_m2 29 rfl) rfl
theorem q334 : (Jvm.Cond.soleField "IncidentKeeper$Core$Incident" "number") ∈ lw_all := lw_g (lw_at lw_m2 30 rfl) rfl
theorem q335 : (Jvm.Cond.laysFinal "IncidentKeeper$Core$Incident" "IncidentKeeper$Core$Incident" "counts" "[I") ∈ lw_all := lw_g (lw_at lw_m2 31 rfl) rfl
theorem q336 : (Jvm.Cond.soleField "IncidentKeeper$Core$Incident" "counts") ∈ lw_all := lw_g (lw_at lw_m2 32 rfl) rfl
theorem q337 : (Jvm.Cond.lays "IncidentKeeper$Core$Incident" "IncidentKeeper$Core$Incident" "severity" "I") ∈ lw_all := lw_g (lw_at lw_m2 33 rfl) rfl
theorem q338 : (Jvm.Cond.soleField "IncidentKeeper$Core$Incident" "severity") ∈ lw_all := lw_g (lw_at lw_m2 34 rfl) rfl
theorem q339 : (Jvm.Cond.lays "IncidentKeeper$Core$Incident" "IncidentKeeper$Core$Incident" "holder" "I") ∈ lw_all := lw_g (lw_at lw_m2 35 rfl) rfl
theorem q340 : (Jvm.Cond.soleField "IncidentKeeper$Core$Incident" "holder") ∈ lw_all := lw_g (lw_at lw_m2 36 rfl) rfl
theorem q341 : (Jvm.Cond.lays "IncidentKeeper$Core$Incident" "IncidentKeeper$Core$Incident" "causes" "I") ∈ lw_all := lw_g (lw_at lw_m2 37 rfl) rfl
theorem q342 : (Jvm.Cond.soleField "IncidentKeeper$Core$Incident" "causes") ∈ lw_all := lw_g (lw_at lw_m2 38 rfl) rfl
theorem q343 : (Jvm.Cond.lays "IncidentKeeper$Core$Incident" "IncidentKeeper$Core$Incident" "state" "I") ∈ lw_all := lw_g (lw_at lw_m2 39 rfl) rfl
theorem q344 : (Jvm.Cond.soleField "IncidentKeeper$Core$Incident" "state") ∈ lw_all := lw_g (lw_at lw_m2 40 rfl) rfl
theorem q345 : (Jvm.Cond.lays "IncidentKeeper$Core$Incident" "IncidentKeeper$Core$Incident" "clock" "I") ∈ lw_all := lw_g (lw_at lw_m2 41 rfl) rfl
theorem q346 : (Jvm.Cond.soleField "IncidentKeeper$Core$Incident" "clock") ∈ lw_all := lw_g (lw_at lw_m2 42 rfl) rfl
theorem q347 : (Jvm.Cond.lays "IncidentKeeper$Core$Incident" "IncidentKeeper$Core$Incident" "base" "I") ∈ lw_all := lw_g (lw_at lw_m2 43 rfl) rfl
theorem q348 : (Jvm.Cond.soleField "IncidentKeeper$Core$Incident" "base") ∈ lw_all := lw_g (lw_at lw_m2 44 rfl) rfl
theorem q349 : (Jvm.Cond.lays "IncidentKeeper$Core$Incident" "IncidentKeeper$Core$Incident" "stopped" "I") ∈ lw_all := lw_g (lw_at lw_m2 45 rfl) rfl
theorem q350 : (Jvm.Cond.soleField "IncidentKeeper$Core$Incident" "stopped") ∈ lw_all := lw_g (lw_at lw_m2 46 rfl) rfl
theorem q351 : (Jvm.Cond.lays "IncidentKeeper$Core$Incident" "IncidentKeeper$Core$Incident" "idle" "I") ∈ lw_all := lw_g (lw_at lw_m2 47 rfl) rfl
theorem q352 : (Jvm.Cond.soleField "IncidentKeeper$Core$Incident" "idle") ∈ lw_all := lw_g (lw_at lw_m2 48 rfl) rfl
theorem q353 : (Jvm.Cond.lays "IncidentKeeper$Core$Incident" "IncidentKeeper$Core$Incident" "parent" "I") ∈ lw_all := lw_g (lw_at lw_m2 49 rfl) rfl
theorem q354 : (Jvm.Cond.soleField "IncidentKeeper$Core$Incident" "parent") ∈ lw_all := lw_g (lw_at lw_m2 50 rfl) rfl
theorem q355 : (Jvm.Cond.lays "IncidentKeeper$Core$Incident" "IncidentKeeper$Core$Incident" "change" "I") ∈ lw_all := lw_g (lw_at lw_m2 51 rfl) rfl
theorem q356 : (Jvm.Cond.soleField "IncidentKeeper$Core$Incident" "change") ∈ lw_all := lw_g (lw_at lw_m2 52 rfl) rfl
theorem q357 : (Jvm.Cond.lays "IncidentKeeper$Core$Incident" "IncidentKeeper$Core$Incident" "review" "I") ∈ lw_all := lw_g (lw_at lw_m2 53 rfl) rfl
theorem q358 : (Jvm.Cond.soleField "IncidentKeeper$Core$Incident" "review") ∈ lw_all := lw_g (lw_at lw_m2 54 rfl) rfl
theorem q359 : (Jvm.Cond.lays "IncidentKeeper$Core$Incident" "IncidentKeeper$Core$Incident" "handovers" "I") ∈ lw_all := lw_g (lw_at lw_m2 55 rfl) rfl
theorem q360 : (Jvm.Cond.soleField "IncidentKeeper$Core$Incident" "handovers") ∈ lw_all := lw_g (lw_at lw_m2 56 rfl) rfl
theorem q361 : (Jvm.Cond.lays "IncidentKeeper$Core$Incident" "IncidentKeeper$Core$Incident" "isOverdue" "Z") ∈ lw_all := lw_g (lw_at lw_m2 57 rfl) rfl
theorem q362 : (Jvm.Cond.soleField "IncidentKeeper$Core$Incident" "isOverdue") ∈ lw_all := lw_g (lw_at lw_m2 58 rfl) rfl
theorem q363 : (Jvm.Cond.laysFinal "IncidentKeeper$Core$Incident" "IncidentKeeper$Core$Incident" "this$0" "LIncidentKeeper$Core;") ∈ lw_all := lw_g (lw_at lw_m2 59 rfl) rfl
theorem q364 : (Jvm.Cond.soleField "IncidentKeeper$Core$Incident" "this$0") ∈ lw_all := lw_g (lw_at lw_m2 60 rfl) rfl
theorem q365 : (Jvm.Cond.laysFinal "IncidentKeeper$Core$Incident" "IncidentKeeper$Entry" "system" "I") ∈ lw_all := lw_g (lw_at lw_m2 61 rfl) rfl
theorem q367 : (Jvm.Cond.laysFinal "IncidentKeeper$Core$Incident" "IncidentKeeper$Entry" "first" "I") ∈ lw_all := lw_g (lw_at lw_m2 63 rfl) rfl
theorem q369 : (Jvm.Cond.superclass "IncidentKeeper$Core$Incident" "IncidentKeeper$Entry") ∈ lw_all := lw_g (lw_at lw_m2 65 rfl) rfl
theorem q410 : (Jvm.Cond.selects "IncidentKeeper$Core$Incident" ({ cls := "java/lang/Object", name := "getClass", desc := "()Ljava/lang/Class;" } : Jvm.MethodName) ({ cls := "java/lang/Object", name := "getClass", desc := "()Ljava/lang/Class;" } : Jvm.MethodName)) ∈ lw_all := lw_g (lw_at lw_m2 106 rfl) rfl
theorem q440 : (Jvm.Cond.instanceMethod ({ cls := "IncidentKeeper$Core$Incident", name := "take", desc := "(LIncidentKeeper$Core$Incident;)V" } : Jvm.MethodName)) ∈ lw_all := lw_g (lw_at lw_m2 136 rfl) rfl
theorem q441 : (Jvm.Cond.selects "IncidentKeeper$Core$Incident" ({ cls := "IncidentKeeper$Core$Incident", name := "take", desc := "(LIncidentKeeper$Core$Incident;)V" } : Jvm.MethodName) ({ cls := "IncidentKeeper$Core$Incident", name := "take", desc := "(LIncidentKeeper$Core$Incident;)V" } : Jvm.MethodName)) ∈ lw_all := lw_g (lw_at lw_m2 137 rfl) rfl
theorem q442 : (Jvm.Cond.code ({ cls := "IncidentKeeper$Core$Incident", name := "take", desc := "(LIncidentKeeper$Core$Incident;)V" } : Jvm.MethodName) prog_9_method_2_code (2 : Nat) (Option.none : Option Jvm.ClassFile.FieldType)) ∈ lw_all := lw_g (lw_at lw_m2 138 rfl) rfl
theorem q443 : (Jvm.Cond.methodLink "IncidentKeeper$Core$Incident" (32 : Nat) ({ cls := "java/lang/System", name := "arraycopy", desc := "(Ljava/lang/Object;ILjava/lang/Object;II)V" } : Jvm.MethodName)) ∈ lw_all := lw_g (lw_at lw_m2 139 rfl) rfl
theorem q611 : (Jvm.Cond.instanceMethod ({ cls := "IncidentKeeper$Core$Incident", name := "isActive", desc := "()Z" } : Jvm.MethodName)) ∈ lw_all := lw_g (lw_at lw_m3 67 rfl) rfl
theorem q612 : (Jvm.Cond.selects "IncidentKeeper$Core$Incident" ({ cls := "IncidentKeeper$Core$Incident", name := "isActive", desc := "()Z" } : Jvm.MethodName) ({ cls := "IncidentKeeper$Core$Incident", name := "isActive", desc := "()Z" } : Jvm.MethodName)) ∈ lw_all := lw_g (lw_at lw_m3 68 rfl) rfl
theorem q613 : (Jvm.Cond.code ({ cls := "IncidentKeeper$Core$Incident", name := "isActive", desc := "()Z" } : Jvm.MethodName) prog_9_method_3_code (1 : Nat) (Option.some Jvm.ClassFile.FieldType.boolean)) ∈ lw_all := lw_g (lw_at lw_m3 69 rfl) rfl
theorem q623 : (Jvm.Cond.instanceMethod ({ cls := "IncidentKeeper$Core$Incident", name := "hand", desc := "(I)V" } : Jvm.MethodName)) ∈ lw_all := lw_g (lw_at lw_m3 79 rfl) rfl
theorem q624 : (Jvm.Cond.selects "IncidentKeeper$Core$Incident" ({ cls := "IncidentKeeper$Core$Incident", name := "hand", desc := "(I)V" } : Jvm.MethodName) ({ cls := "IncidentKeeper$Core$Incident", name := "hand", desc := "(I)V" } : Jvm.MethodName)) ∈ lw_all := lw_g (lw_at lw_m3 80 rfl) rfl
theorem q625 : (Jvm.Cond.code ({ cls := "IncidentKeeper$Core$Incident", name := "hand", desc := "(I)V" } : Jvm.MethodName) prog_9_method_12_code (2 : Nat) (Option.none : Option Jvm.ClassFile.FieldType)) ∈ lw_all := lw_g (lw_at lw_m3 81 rfl) rfl
theorem q626 : (Jvm.Cond.methodLinkNest "IncidentKeeper$Core$Incident" (82 : Nat) ({ cls := "IncidentKeeper$Core", name := "happens", desc := "(III)V" } : Jvm.MethodName) "IncidentKeeper") ∈ lw_tbl := lw_at lw_m3 82 rfl
theorem q694 : (Jvm.Cond.instanceMethod ({ cls := "IncidentKeeper$Core$Incident", name := "findState", desc := "()V" } : Jvm.MethodName)) ∈ lw_all := lw_g (lw_at lw_m3 150 rfl) rfl
theorem q695 : (Jvm.Cond.selects "IncidentKeeper$Core$Incident" ({ cls := "IncidentKeeper$Core$Incident", name := "findState", desc := "()V" } : Jvm.MethodName) ({ cls := "IncidentKeeper$Core$Incident", name := "findState", desc := "()V" } : Jvm.MethodName)) ∈ lw_all := lw_g (lw_at lw_m3 151 rfl) rfl
theorem q696 : (Jvm.Cond.code ({ cls := "IncidentKeeper$Core$Incident", name := "findState", desc := "()V" } : Jvm.MethodName) prog_9_method_7_code (1 : Nat) (Option.none : Option Jvm.ClassFile.FieldType)) ∈ lw_all := lw_g (lw_at lw_m3 152 rfl) rfl
theorem q697 : (Jvm.Cond.methodLink "IncidentKeeper$Core$Incident" (78 : Nat) ({ cls := "IncidentKeeper$Core$Incident", name := "setState", desc := "(I)V" } : Jvm.MethodName)) ∈ lw_all := lw_g (lw_at lw_m3 153 rfl) rfl
theorem q698 : (Jvm.Cond.instanceMethod ({ cls := "IncidentKeeper$Core$Incident", name := "setState", desc := "(I)V" } : Jvm.MethodName)) ∈ lw_all := lw_g (lw_at lw_m3 154 rfl) rfl
theorem q699 : (Jvm.Cond.selects "IncidentKeeper$Core$Incident" ({ cls := "IncidentKeeper$Core$Incident", name := "setState", desc := "(I)V" } : Jvm.MethodName) ({ cls := "IncidentKeeper$Core$Incident", name := "setState", desc := "(I)V" } : Jvm.MethodName)) ∈ lw_all := lw_g (lw_at lw_m3 155 rfl) rfl
theorem q700 : (Jvm.Cond.code ({ cls := "IncidentKeeper$Core$Incident", name := "setState", desc := "(I)V" } : Jvm.MethodName) prog_9_method_6_code (2 : Nat) (Option.none : Option Jvm.ClassFile.FieldType)) ∈ lw_all := lw_g (lw_at lw_m3 156 rfl) rfl
theorem q706 : (Jvm.Cond.instanceMethod ({ cls := "IncidentKeeper$Core$Incident", name := "end", desc := "(I)V" } : Jvm.MethodName)) ∈ lw_all := lw_g (lw_at lw_m3 162 rfl) rfl
theorem q707 : (Jvm.Cond.selects "IncidentKeeper$Core$Incident" ({ cls := "IncidentKeeper$Core$Incident", name := "end", desc := "(I)V" } : Jvm.MethodName) ({ cls := "IncidentKeeper$Core$Incident", name := "end", desc := "(I)V" } : Jvm.MethodName)) ∈ lw_all := lw_g (lw_at lw_m3 163 rfl) rfl
theorem q708 : (Jvm.Cond.code ({ cls := "IncidentKeeper$Core$Incident", name := "end", desc := "(I)V" } : Jvm.MethodName) prog_9_method_9_code (2 : Nat) (Option.none : Option Jvm.ClassFile.FieldType)) ∈ lw_all := lw_g (lw_at lw_m3 164 rfl) rfl
theorem q709 : (Jvm.Cond.methodLink "IncidentKeeper$Core$Incident" (86 : Nat) ({ cls := "IncidentKeeper$Core$Incident", name := "findState", desc := "()V" } : Jvm.MethodName)) ∈ lw_all := lw_g (lw_at lw_m3 165 rfl) rfl
theorem q715 : (Jvm.Cond.instanceMethod ({ cls := "IncidentKeeper$Core$Incident", name := "rate", desc := "(I)V" } : Jvm.MethodName)) ∈ lw_all := lw_g (lw_at lw_m3 171 rfl) rfl
theorem q716 : (Jvm.Cond.selects "IncidentKeeper$Core$Incident" ({ cls := "IncidentKeeper$Core$Incident", name := "rate", desc := "(I)V" } : Jvm.MethodName) ({ cls := "IncidentKeeper$Core$Incident", name := "rate", desc := "(I)V" } : Jvm.MethodName)) ∈ lw_all := lw_g (lw_at lw_m3 172 rfl) rfl
theorem q717 : (Jvm.Cond.code ({ cls := "IncidentKeeper$Core$Incident", name := "rate", desc := "(I)V" } : Jvm.MethodName) prog_9_method_8_code (2 : Nat) (Option.none : Option Jvm.ClassFile.FieldType)) ∈ lw_all := lw_g (lw_at lw_m3 173 rfl) rfl
theorem q831 : (Jvm.Cond.instanceMethod ({ cls := "IncidentKeeper$Core$Incident", name := "passes", desc := "()I" } : Jvm.MethodName)) ∈ lw_all := lw_g (lw_at lw_m4 47 rfl) rfl
theorem q832 : (Jvm.Cond.selects "IncidentKeeper$Core$Incident" ({ cls := "IncidentKeeper$Core$Incident", name := "passes", desc := "()I" } : Jvm.MethodName) ({ cls := "IncidentKeeper$Core$Incident", name := "passes", desc := "()I" } : Jvm.MethodName)) ∈ lw_all := lw_g (lw_at lw_m4 48 rfl) rfl
theorem q833 : (Jvm.Cond.code ({ cls := "IncidentKeeper$Core$Incident", name := "passes", desc := "()I" } : Jvm.MethodName) prog_9_method_11_code (3 : Nat) (Option.some Jvm.ClassFile.FieldType.int)) ∈ lw_all := lw_g (lw_at lw_m4 49 rfl) rfl
theorem q834 : (Jvm.Cond.methodLink "IncidentKeeper$Core$Incident" (97 : Nat) ({ cls := "IncidentKeeper$Core$Incident", name := "grows", desc := "()I" } : Jvm.MethodName)) ∈ lw_all := lw_g (lw_at lw_m4 50 rfl) rfl
theorem q835 : (Jvm.Cond.privateMethod ({ cls := "IncidentKeeper$Core$Incident", name := "grows", desc := "()I" } : Jvm.MethodName)) ∈ lw_tbl := lw_at lw_m4 51 rfl
theorem q836 : (Jvm.Cond.instanceMethod ({ cls := "IncidentKeeper$Core$Incident", name := "grows", desc := "()I" } : Jvm.MethodName)) ∈ lw_all := lw_g (lw_at lw_m4 52 rfl) rfl
theorem q837 : (Jvm.Cond.code ({ cls := "IncidentKeeper$Core$Incident", name := "grows", desc := "()I" } : Jvm.MethodName) prog_9_method_10_code (1 : Nat) (Option.some Jvm.ClassFile.FieldType.int)) ∈ lw_all := lw_g (lw_at lw_m4 53 rfl) rfl
theorem q838 : (Jvm.Cond.methodLink "IncidentKeeper$Core$Incident" (90 : Nat) ({ cls := "IncidentKeeper$Core$Incident", name := "isReached", desc := "()Z" } : Jvm.MethodName)) ∈ lw_all := lw_g (lw_at lw_m4 54 rfl) rfl
theorem q839 : (Jvm.Cond.instanceMethod ({ cls := "IncidentKeeper$Core$Incident", name := "isReached", desc := "()Z" } : Jvm.MethodName)) ∈ lw_all := lw_g (lw_at lw_m4 55 rfl) rfl
theorem q840 : (Jvm.Cond.selects "IncidentKeeper$Core$Incident" ({ cls := "IncidentKeeper$Core$Incident", name := "isReached", desc := "()Z" } : Jvm.MethodName) ({ cls := "IncidentKeeper$Core$Incident", name := "isReached", desc := "()Z" } : Jvm.MethodName)) ∈ lw_all := lw_g (lw_at lw_m4 56 rfl) rfl
theorem q841 : (Jvm.Cond.code ({ cls := "IncidentKeeper$Core$Incident", name := "isReached", desc := "()Z" } : Jvm.MethodName) prog_9_method_5_code (1 : Nat) (Option.some Jvm.ClassFile.FieldType.boolean)) ∈ lw_all := lw_g (lw_at lw_m4 57 rfl) rfl
theorem q842 : (Jvm.Cond.methodLink "IncidentKeeper$Core$Incident" (69 : Nat) ({ cls := "IncidentKeeper$Core$Incident", name := "age", desc := "()I" } : Jvm.MethodName)) ∈ lw_all := lw_g (lw_at lw_m4 58 rfl) rfl
theorem q843 : (Jvm.Cond.instanceMethod ({ cls := "IncidentKeeper$Core$Incident", name := "age", desc := "()I" } : Jvm.MethodName)) ∈ lw_all := lw_g (lw_at lw_m4 59 rfl) rfl
theorem q844 : (Jvm.Cond.selects "IncidentKeeper$Core$Incident" ({ cls := "IncidentKeeper$Core$Incident", name := "age", desc := "()I" } : Jvm.MethodName) ({ cls := "IncidentKeeper$Core$Incident", name := "age", desc := "()I" } : Jvm.MethodName)) ∈ lw_all := lw_g (lw_at lw_m4 60 rfl) rfl
theorem q845 : (Jvm.Cond.code ({ cls := "IncidentKeeper$Core$Incident", name := "age", desc := "()I" } : Jvm.MethodName) prog_9_method_4_code (1 : Nat) (Option.some Jvm.ClassFile.FieldType.int)) ∈ lw_all := lw_g (lw_at lw_m4 61 rfl) rfl
theorem q846 : (Jvm.Cond.methodLink "IncidentKeeper$Core$Incident" (94 : Nat) ({ cls := "IncidentKeeper$Core$Incident", name := "rate", desc := "(I)V" } : Jvm.MethodName)) ∈ lw_all := lw_g (lw_at lw_m4 62 rfl) rfl
theorem q847 : (Jvm.Cond.methodLinkNest "IncidentKeeper$Core$Incident" (100 : Nat) ({ cls := "IncidentKeeper", name := "has", desc := "(II)Z" } : Jvm.MethodName) "IncidentKeeper") ∈ lw_tbl := lw_at lw_m4 63 rfl
theorem q848 : (Jvm.Cond.methodLink "IncidentKeeper$Core$Incident" (107 : Nat) ({ cls := "IncidentKeeper$Core$Incident", name := "end", desc := "(I)V" } : Jvm.MethodName)) ∈ lw_all := lw_g (lw_at lw_m4 64 rfl) rfl
theorem q897 : (Jvm.Cond.instanceMethod ({ cls := "IncidentKeeper$Core$Incident", name := "isSuspected", desc := "(LIncidentKeeper$Change;)Z" } : Jvm.MethodName)) ∈ lw_all := lw_g (lw_at lw_m4 113 rfl) rfl
theorem q898 : (Jvm.Cond.selects "IncidentKeeper$Core$Incident" ({ cls := "IncidentKeeper$Core$Incident", name := "isSuspected", desc := "(LIncidentKeeper$Change;)Z" } : Jvm.MethodName) ({ cls := "IncidentKeeper$Core$Incident", name := "isSuspected", desc := "(LIncidentKeeper$Change;)Z" } : Jvm.MethodName)) ∈ lw_all := lw_g (lw_at lw_m4 114 rfl) rfl
theorem q899 : (Jvm.Cond.code ({ cls := "IncidentKeeper$Core$Incident", name := "isSuspected", desc := "(LIncidentKeeper$Change;)Z" } : Jvm.MethodName) prog_9_method_13_code (2 : Nat) (Option.some Jvm.ClassFile.FieldType.boolean)) ∈ lw_all := lw_g (lw_at lw_m4 115 rfl) rfl
theorem q900 : (Jvm.Cond.methodLink "IncidentKeeper$Core$Incident" (110 : Nat) ({ cls := "IncidentKeeper$Change", name := "system", desc := "()I" } : Jvm.MethodName)) ∈ lw_all := lw_g (lw_at lw_m4 116 rfl) rfl
theorem q903 : (Jvm.Cond.methodLink "IncidentKeeper$Core$Incident" (115 : Nat) ({ cls := "IncidentKeeper$Core$Incident", name := "system", desc := "()I" } : Jvm.MethodName)) ∈ lw_all := lw_g (lw_at lw_m4 119 rfl) rfl
theorem q904 : (Jvm.Cond.methodLink "IncidentKeeper$Core$Incident" (116 : Nat) ({ cls := "IncidentKeeper$Change", name := "first", desc := "()I" } : Jvm.MethodName)) ∈ lw_all := lw_g (lw_at lw_m4 120 rfl) rfl
theorem q907 : (Jvm.Cond.methodLink "IncidentKeeper$Core$Incident" (119 : Nat) ({ cls := "IncidentKeeper$Core$Incident", name := "first", desc := "()I" } : Jvm.MethodName)) ∈ lw_all := lw_g (lw_at lw_m4 123 rfl) rfl
theorem q908 : (Jvm.Cond.methodLink "IncidentKeeper$Core$Incident" (120 : Nat) ({ cls := "IncidentKeeper$Change", name := "end", desc := "()I" } : Jvm.MethodName)) ∈ lw_all := lw_g (lw_at lw_m4 124 rfl) rfl
theorem q924 : (Jvm.Cond.castable "IncidentKeeper$Core$Incident" "IncidentKeeper$Timed") ∈ lw_tbl := lw_at lw_m4 140 rfl
theorem q925 : (Jvm.Cond.selects "IncidentKeeper$Core$Incident" ({ cls := "IncidentKeeper$Timed", name := "first", desc := "()I" } : Jvm.MethodName) ({ cls := "IncidentKeeper$Entry", name := "first", desc := "()I" } : Jvm.MethodName)) ∈ lw_all := lw_g (lw_at lw_m4 141 rfl) rfl
theorem q926 : (Jvm.Cond.unhidden "IncidentKeeper$Core$Incident" "first" "()I") ∈ lw_tbl := lw_at lw_m4 142 rfl
theorem q2069 : (Jvm.Cond.castable "IncidentKeeper$Core$Incident" "java/lang/Object") ∈ lw_tbl := lw_at lw_m9 85 rfl
theorem in_X6 : ∀ w ∈ wsX60, w ∈ lw_all := lw_in wsX60 [365, 367, 333, 335, 337, 339, 341, 343, 345, 347, 349, 351, 353, 355, 357, 359, 361, 363] (by decide +kernel) (by decide +kernel)
/-! IncidentKeeper$Action -/
set_option maxRecDepth 100000
def RX7 : String := "IncidentKeeper$Action"
def TX7 : u_T := fun k => match k with
  | 0 => ("IncidentKeeper$Action", "review", "I", true)
  | 1 => ("IncidentKeeper$Action", "person", "I", true)
  | 2 => ("IncidentKeeper$Action", "weight", "I", true)
  | _ => ("IncidentKeeper$Action", "isDone", "Z", false)
def tyX7 : Nat → FieldType := fun k => match k with
  | 0 => .int
  | 1 => .int
  | 2 => .int
  | _ => .boolean
abbrev wsX70 : List Cond := u_ws RX7 TX7 4
theorem nmX7 : ∀ a, a < 4 → ∀ b, b < 4 → a ≠ b → (TX7 a).2.1 ≠ (TX7 b).2.1 := by decide +kernel
theorem tyX7_ok : ∀ k, k < 4 → parseFieldDescriptor (TX7 k).2.2.1 = some (tyX7 k) := by decide +kernel
abbrev cX7_copy : ByteArray := prog_3_method_2_code
def yX7_copy : MethodName := ⟨RX7, "copy", "()LIncidentKeeper$Action;"⟩
def dkwX7_copy_1 : List UInt8 := [180, 0, 22, 181, 0, 22, 43, 176]
abbrev dktX7_copy_1 : List UInt8 := dkwX7_copy_1 ++ []
def dkwX7_copy_0 : List UInt8 := [187, 0, 8, 89, 42, 180, 0, 7, 42, 180, 0, 13, 42, 180, 0, 16, 183, 0, 19, 76, 43, 42]
abbrev dktX7_copy_0 : List UInt8 := dkwX7_copy_0 ++ dktX7_copy_1
theorem dksX7_copy_0 : cX7_copy.data.toList.drop 0 = dktX7_copy_0 := by decide +kernel
theorem dksX7_copy_1 : cX7_copy.data.toList.drop 22 = dktX7_copy_1 := dk_seg dksX7_copy_0 22 rfl rfl
theorem dX7_copy_0 : decode cX7_copy 0 = .ok (.new 8, 3) := dk_187 0 8 (dk_at dksX7_copy_0 0 rfl rfl)
theorem dX7_copy_3 : decode cX7_copy 3 = .ok (.dup, 1) := dk_89 (dk_at dksX7_copy_0 3 rfl rfl)
theorem dX7_copy_4 : decode cX7_copy 4 = .ok (.aload_n 0, 1) := dk_42 (dk_at dksX7_copy_0 4 rfl rfl)
theorem dX7_copy_5 : decode cX7_copy 5 = .ok (.getfield 7, 3) := dk_180 0 7 (dk_at dksX7_copy_0 5 rfl rfl)
theorem dX7_copy_8 : decode cX7_copy 8 = .ok (.aload_n 0, 1) := dk_42 (dk_at dksX7_copy_0 8 rfl rfl)
theorem dX7_copy_9 : decode cX7_copy 9 = .ok (.getfield 13, 3) := dk_180 0 13 (dk_at dksX7_copy_0 9 rfl rfl)
theorem dX7_copy_12 : decode cX7_copy 12 = .ok (.aload_n 0, 1) := dk_42 (dk_at dksX7_copy_0 12 rfl rfl)
theorem dX7_copy_13 : decode cX7_copy 13 = .ok (.getfield 16, 3) := dk_180 0 16 (dk_at dksX7_copy_0 13 rfl rfl)
theorem dX7_copy_16 : decode cX7_copy 16 = .ok (.invokespecial 19, 3) := dk_183 0 19 (dk_at dksX7_copy_0 16 rfl rfl)
theorem dX7_copy_19 : decode cX7_copy 19 = .ok (.astore_n 1, 1) := dk_76 (dk_at dksX7_copy_0 19 rfl rfl)
theorem dX7_copy_20 : decode cX7_copy 20 = .ok (.aload_n 1, 1) := dk_43 (dk_at dksX7_copy_0 20 rfl rfl)
theorem dX7_copy_21 : decode cX7_copy 21 = .ok (.aload_n 0, 1) := dk_42 (dk_at dksX7_copy_0 21 rfl rfl)
theorem dX7_copy_22 : decode cX7_copy 22 = .ok (.getfield 22, 3) := dk_180 0 22 (dk_at dksX7_copy_1 0 rfl rfl)
theorem dX7_copy_25 : decode cX7_copy 25 = .ok (.putfield 22, 3) := dk_181 0 22 (dk_at dksX7_copy_1 3 rfl rfl)
theorem dX7_copy_28 : decode cX7_copy 28 = .ok (.aload_n 1, 1) := dk_43 (dk_at dksX7_copy_1 6 rfl rfl)
theorem dX7_copy_29 : decode cX7_copy 29 = .ok (.areturn, 1) := dk_176 (dk_at dksX7_copy_1 7 rfl rfl)
abbrev cX7_init : ByteArray := prog_3_method_1_code
def yX7_init : MethodName := ⟨RX7, "<init>", "(III)V"⟩
def dkwX7_init_0 : List UInt8 := [42, 183, 0, 1, 42, 27, 181, 0, 7, 42, 28, 181, 0, 13, 42, 29, 181, 0, 16, 177]
abbrev dktX7_init_0 : List UInt8 := dkwX7_init_0 ++ []
theorem dksX7_init_0 : cX7_init.data.toList.drop 0 = dktX7_init_0 := by decide +kernel
theorem dX7_init_0 : decode cX7_init 0 = .ok (.aload_n 0, 1) := dk_42 (dk_at dksX7_init_0 0 rfl rfl)
theorem dX7_init_1 : decode cX7_init 1 = .ok (.invokespecial 1, 3) := dk_183 0 1 (dk_at dksX7_init_0 1 rfl rfl)
theorem dX7_init_4 : decode cX7_init 4 = .ok (.aload_n 0, 1) := dk_42 (dk_at dksX7_init_0 4 rfl rfl)
theorem dX7_init_5 : decode cX7_init 5 = .ok (.iload_n 1, 1) := dk_27 (dk_at dksX7_init_0 5 rfl rfl)
theorem dX7_init_6 : decode cX7_init 6 = .ok (.putfield 7, 3) := dk_181 0 7 (dk_at dksX7_init_0 6 rfl rfl)
theorem dX7_init_9 : decode cX7_init 9 = .ok (.aload_n 0, 1) := dk_42 (dk_at dksX7_init_0 9 rfl rfl)
theorem dX7_init_10 : decode cX7_init 10 = .ok (.iload_n 2, 1) := dk_28 (dk_at dksX7_init_0 10 rfl rfl)
theorem dX7_init_11 : decode cX7_init 11 = .ok (.putfield 13, 3) := dk_181 0 13 (dk_at dksX7_init_0 11 rfl rfl)
theorem dX7_init_14 : decode cX7_init 14 = .ok (.aload_n 0, 1) := dk_42 (dk_at dksX7_init_0 14 rfl rfl)
theorem dX7_init_15 : decode cX7_init 15 = .ok (.iload_n 3, 1) := dk_29 (dk_at dksX7_init_0 15 rfl rfl)
theorem dX7_init_16 : decode cX7_init 16 = .ok (.putfield 16, 3) := dk_181 0 16 (dk_at dksX7_init_0 16 rfl rfl)
theorem dX7_init_19 : decode cX7_init 19 = .ok (.return_, 1) := dk_177 (dk_at dksX7_init_0 19 rfl rfl)
theorem q80 : (Jvm.Cond.initialized "IncidentKeeper$Action") ∈ lw_all := lw_g (lw_at lw_m1 16 rfl) rfl
theorem q404 : (Jvm.Cond.selects "IncidentKeeper$Action" ({ cls := "java/lang/Object", name := "getClass", desc := "()Ljava/lang/Class;" } : Jvm.MethodName) ({ cls := "java/lang/Object", name := "getClass", desc := "()Ljava/lang/Class;" } : Jvm.MethodName)) ∈ lw_all := lw_g (lw_at lw_m2 100 rfl) rfl
theorem q447 : (Jvm.Cond.instanceMethod ({ cls := "IncidentKeeper$Action", name := "copy", desc := "()LIncidentKeeper$Action;" } : Jvm.MethodName)) ∈ lw_all := lw_g (lw_at lw_m2 143 rfl) rfl
theorem q448 : (Jvm.Cond.selects "IncidentKeeper$Action" ({ cls := "IncidentKeeper$Action", name := "copy", desc := "()LIncidentKeeper$Action;" } : Jvm.MethodName) ({ cls := "IncidentKeeper$Action", name := "copy", desc := "()LIncidentKeeper$Action;" } : Jvm.MethodName)) ∈ lw_all := lw_g (lw_at lw_m2 144 rfl) rfl
theorem q449 : (Jvm.Cond.code ({ cls := "IncidentKeeper$Action", name := "copy", desc := "()LIncidentKeeper$Action;" } : Jvm.MethodName) prog_3_method_2_code (2 : Nat) (Option.some (Jvm.ClassFile.FieldType.object "IncidentKeeper$Action"))) ∈ lw_all := lw_g (lw_at lw_m2 145 rfl) rfl
theorem q450 : (Jvm.Cond.classLink "IncidentKeeper$Action" (8 : Nat) "IncidentKeeper$Action") ∈ lw_all := lw_g (lw_at lw_m2 146 rfl) rfl
theorem q451 : (Jvm.Cond.instantiable "IncidentKeeper$Action" (4 : Nat)) ∈ lw_all := lw_g (lw_at lw_m2 147 rfl) rfl
theorem q452 : (Jvm.Cond.methodLink "IncidentKeeper$Action" (19 : Nat) ({ cls := "IncidentKeeper$Action", name := "<init>", desc := "(III)V" } : Jvm.MethodName)) ∈ lw_all := lw_g (lw_at lw_m2 148 rfl) rfl
theorem q453 : (Jvm.Cond.instanceMethod ({ cls := "IncidentKeeper$Action", name := "<init>", desc := "(III)V" } : Jvm.MethodName)) ∈ lw_all := lw_g (lw_at lw_m2 149 rfl) rfl
theorem q454 : (Jvm.Cond.code ({ cls := "IncidentKeeper$Action", name := "<init>", desc := "(III)V" } : Jvm.MethodName) prog_3_method_1_code (4 : Nat) (Option.none : Option Jvm.ClassFile.FieldType)) ∈ lw_all := lw_g (lw_at lw_m2 150 rfl) rfl
theorem q455 : (Jvm.Cond.methodLink "IncidentKeeper$Action" (1 : Nat) ({ cls := "java/lang/Object", name := "<init>", desc := "()V" } : Jvm.MethodName)) ∈ lw_all := lw_g (lw_at lw_m2 151 rfl) rfl
theorem q456 : (Jvm.Cond.fieldLink "IncidentKeeper$Action" (7 : Nat) "IncidentKeeper$Action" "review" "I") ∈ lw_all := lw_g (lw_at lw_m2 152 rfl) rfl
theorem q459 : (Jvm.Cond.fieldLink "IncidentKeeper$Action" (13 : Nat) "IncidentKeeper$Action" "person" "I") ∈ lw_all := lw_g (lw_at lw_m2 155 rfl) rfl
theorem q461 : (Jvm.Cond.fieldLink "IncidentKeeper$Action" (16 : Nat) "IncidentKeeper$Action" "weight" "I") ∈ lw_all := lw_g (lw_at lw_m2 157 rfl) rfl
theorem q463 : (Jvm.Cond.fieldLink "IncidentKeeper$Action" (22 : Nat) "IncidentKeeper$Action" "isDone" "Z") ∈ lw_all := lw_g (lw_at lw_m2 159 rfl) rfl
theorem q466 : (Jvm.Cond.laysFinal "IncidentKeeper$Action" "IncidentKeeper$Action" "review" "I") ∈ lw_all := lw_g (lw_at lw_m2 162 rfl) rfl
theorem q467 : (Jvm.Cond.soleField "IncidentKeeper$Action" "review") ∈ lw_all := lw_g (lw_at lw_m2 163 rfl) rfl
theorem q468 : (Jvm.Cond.laysFinal "IncidentKeeper$Action" "IncidentKeeper$Action" "person" "I") ∈ lw_all := lw_g (lw_at lw_m2 164 rfl) rfl
theorem q469 : (Jvm.Cond.soleField "IncidentKeeper$Action" "person") ∈ lw_all := lw_g (lw_at lw_m2 165 rfl) rfl
theorem q470 : (Jvm.Cond.laysFinal "IncidentKeeper$Action" "IncidentKeeper$Action" "weight" "I") ∈ lw_all := lw_g (lw_at lw_m2 166 rfl) rfl
theorem q471 : (Jvm.Cond.soleField "IncidentKeeper$Action" "weight") ∈ lw_all := lw_g (lw_at lw_m2 167 rfl) rfl
theorem q472 : (Jvm.Cond.lays "IncidentKeeper$Action" "IncidentKeeper$Action" "isDone" "Z") ∈ lw_all := lw_g (lw_at lw_m2 168 rfl) rfl
theorem q473 : (Jvm.Cond.soleField "IncidentKeeper$Action" "isDone") ∈ lw_all := lw_g (lw_at lw_m2 169 rfl) rfl
theorem q474 : (Jvm.Cond.superclass "IncidentKeeper$Action" "java/lang/Object") ∈ lw_all := lw_g (lw_at lw_m2 170 rfl) rfl
theorem q2070 : (Jvm.Cond.castable "IncidentKeeper$Action" "java/lang/Object") ∈ lw_tbl := lw_at lw_m9 86 rfl
theorem in_X7 : ∀ w ∈ wsX70, w ∈ lw_all := lw_in wsX70 [466, 468, 470, 472] (by decide +kernel) (by decide +kernel)
/-! IncidentKeeper$RefusedException -/
set_option maxRecDepth 100000
def RX8 : String := "IncidentKeeper$RefusedException"
def TX8 : u_T := fun k => match k with
  | 0 => ("java/lang/Throwable", "cause", "Ljava/lang/Throwable;", false)
  | 1 => ("java/lang/Throwable", "stackTrace", "[Ljava/lang/StackTraceElement;", false)
  | 2 => ("java/lang/Throwable", "suppressedExceptions", "Ljava/util/List;", false)
  | 3 => ("java/lang/Throwable", "detailMessage", "Ljava/lang/String;", false)
  | 4 => ("java/lang/Throwable", "backtrace", "Ljava/lang/Object;", false)
  | 5 => ("java/lang/Throwable", "depth", "I", false)
  | 6 => ("IncidentKeeper$RefusedException", "reason", "I", true)
  | _ => ("IncidentKeeper$RefusedException", "detail", "I", true)
def tyX8 : Nat → FieldType := fun k => match k with
  | 0 => .object "java/lang/Throwable"
  | 1 => .array (.object "java/lang/StackTraceElement")
  | 2 => .object "java/util/List"
  | 3 => .object "java/lang/String"
  | 4 => .object "java/lang/Object"
  | 5 => .int
  | 6 => .int
  | _ => .int
abbrev wsX80 : List Cond := u_ws RX8 TX8 8
theorem nmX8 : ∀ a, a < 8 → ∀ b, b < 8 → a ≠ b → (TX8 a).2.1 ≠ (TX8 b).2.1 := by decide +kernel
theorem tyX8_ok : ∀ k, k < 8 → parseFieldDescriptor (TX8 k).2.2.1 = some (tyX8 k) := by decide +kernel
abbrev cX8_init : ByteArray := prog_14_method_1_code
def yX8_init : MethodName := ⟨RX8, "<init>", "(II)V"⟩
def dkwX8_init_0 : List UInt8 := [42, 1, 1, 3, 3, 183, 0, 1, 42, 27, 181, 0, 7, 42, 28, 181, 0, 13, 177]
abbrev dktX8_init_0 : List UInt8 := dkwX8_init_0 ++ []
theorem dksX8_init_0 : cX8_init.data.toList.drop 0 = dktX8_init_0 := by decide +kernel
theorem dX8_init_0 : decode cX8_init 0 = .ok (.aload_n 0, 1) := dk_42 (dk_at dksX8_init_0 0 rfl rfl)
theorem dX8_init_1 : decode cX8_init 1 = .ok (.aconst_null, 1) := dk_1 (dk_at dksX8_init_0 1 rfl rfl)
theorem dX8_init_2 : decode cX8_init 2 = .ok (.aconst_null, 1) := dk_1 (dk_at dksX8_init_0 2 rfl rfl)
theorem dX8_init_3 : decode cX8_init 3 = .ok (.iconst 0, 1) := dk_3 (dk_at dksX8_init_0 3 rfl rfl)
theorem dX8_init_4 : decode cX8_init 4 = .ok (.iconst 0, 1) := dk_3 (dk_at dksX8_init_0 4 rfl rfl)
theorem dX8_init_5 : decode cX8_init 5 = .ok (.invokespecial 1, 3) := dk_183 0 1 (dk_at dksX8_init_0 5 rfl rfl)
theorem dX8_init_8 : decode cX8_init 8 = .ok (.aload_n 0, 1) := dk_42 (dk_at dksX8_init_0 8 rfl rfl)
theorem dX8_init_9 : decode cX8_init 9 = .ok (.iload_n 1, 1) := dk_27 (dk_at dksX8_init_0 9 rfl rfl)
theorem dX8_init_10 : decode cX8_init 10 = .ok (.putfield 7, 3) := dk_181 0 7 (dk_at dksX8_init_0 10 rfl rfl)
theorem dX8_init_13 : decode cX8_init 13 = .ok (.aload_n 0, 1) := dk_42 (dk_at dksX8_init_0 13 rfl rfl)
theorem dX8_init_14 : decode cX8_init 14 = .ok (.iload_n 2, 1) := dk_28 (dk_at dksX8_init_0 14 rfl rfl)
theorem dX8_init_15 : decode cX8_init 15 = .ok (.putfield 13, 3) := dk_181 0 13 (dk_at dksX8_init_0 15 rfl rfl)
theorem dX8_init_18 : decode cX8_init 18 = .ok (.return_, 1) := dk_177 (dk_at dksX8_init_0 18 rfl rfl)
theorem q83 : (Jvm.Cond.initialized "IncidentKeeper$RefusedException") ∈ lw_all := lw_g (lw_at lw_m1 19 rfl) rfl
theorem q414 : (Jvm.Cond.selects "IncidentKeeper$RefusedException" ({ cls := "java/lang/Object", name := "getClass", desc := "()Ljava/lang/Class;" } : Jvm.MethodName) ({ cls := "java/lang/Object", name := "getClass", desc := "()Ljava/lang/Class;" } : Jvm.MethodName)) ∈ lw_all := lw_g (lw_at lw_m2 110 rfl) rfl
theorem q533 : (Jvm.Cond.instantiable "IncidentKeeper$RefusedException" (8 : Nat)) ∈ lw_all := lw_g (lw_at lw_m2 229 rfl) rfl
theorem q534 : (Jvm.Cond.castable "IncidentKeeper$RefusedException" "IncidentKeeper$RefusedException") ∈ lw_tbl := lw_at lw_m2 230 rfl
theorem q539 : (Jvm.Cond.selects "IncidentKeeper$RefusedException" ({ cls := "java/lang/Throwable", name := "fillInStackTrace", desc := "(I)Ljava/lang/Throwable;" } : Jvm.MethodName) ({ cls := "java/lang/Throwable", name := "fillInStackTrace", desc := "(I)Ljava/lang/Throwable;" } : Jvm.MethodName)) ∈ lw_all := lw_g (lw_at lw_m2 235 rfl) rfl
theorem q540 : (Jvm.Cond.selects "IncidentKeeper$RefusedException" ({ cls := "java/lang/Throwable", name := "fillInStackTrace", desc := "()Ljava/lang/Throwable;" } : Jvm.MethodName) ({ cls := "java/lang/Throwable", name := "fillInStackTrace", desc := "()Ljava/lang/Throwable;" } : Jvm.MethodName)) ∈ lw_all := lw_g (lw_at lw_m2 236 rfl) rfl
theorem q541 : (Jvm.Cond.lays "IncidentKeeper$RefusedException" "java/lang/Throwable" "cause" "Ljava/lang/Throwable;") ∈ lw_all := lw_g (lw_at lw_m2 237 rfl) rfl
theorem q543 : (Jvm.Cond.lays "IncidentKeeper$RefusedException" "java/lang/Throwable" "stackTrace" "[Ljava/lang/StackTraceElement;") ∈ lw_all := lw_g (lw_at lw_m2 239 rfl) rfl
theorem q545 : (Jvm.Cond.lays "IncidentKeeper$RefusedException" "java/lang/Throwable" "suppressedExceptions" "Ljava/util/List;") ∈ lw_all := lw_g (lw_at lw_m3 1 rfl) rfl
theorem q547 : (Jvm.Cond.lays "IncidentKeeper$RefusedException" "java/lang/Throwable" "detailMessage" "Ljava/lang/String;") ∈ lw_all := lw_g (lw_at lw_m3 3 rfl) rfl
theorem q549 : (Jvm.Cond.lays "IncidentKeeper$RefusedException" "java/lang/Throwable" "backtrace" "Ljava/lang/Object;") ∈ lw_all := lw_g (lw_at lw_m3 5 rfl) rfl
theorem q578 : (Jvm.Cond.instanceMethod ({ cls := "IncidentKeeper$RefusedException", name := "<init>", desc := "(II)V" } : Jvm.MethodName)) ∈ lw_all := lw_g (lw_at lw_m3 34 rfl) rfl
theorem q579 : (Jvm.Cond.code ({ cls := "IncidentKeeper$RefusedException", name := "<init>", desc := "(II)V" } : Jvm.MethodName) prog_14_method_1_code (3 : Nat) (Option.none : Option Jvm.ClassFile.FieldType)) ∈ lw_all := lw_g (lw_at lw_m3 35 rfl) rfl
theorem q580 : (Jvm.Cond.methodLink "IncidentKeeper$RefusedException" (1 : Nat) ({ cls := "java/lang/Exception", name := "<init>", desc := "(Ljava/lang/String;Ljava/lang/Throwable;ZZ)V" } : Jvm.MethodName)) ∈ lw_all := lw_g (lw_at lw_m3 36 rfl) rfl
theorem q586 : (Jvm.Cond.fieldLink "IncidentKeeper$RefusedException" (7 : Nat) "IncidentKeeper$RefusedException" "reason" "I") ∈ lw_all := lw_g (lw_at lw_m3 42 rfl) rfl
theorem q588 : (Jvm.Cond.fieldLink "IncidentKeeper$RefusedException" (13 : Nat) "IncidentKeeper$RefusedException" "detail" "I") ∈ lw_all := lw_g (lw_at lw_m3 44 rfl) rfl
theorem q595 : (Jvm.Cond.laysFinal "IncidentKeeper$RefusedException" "IncidentKeeper$RefusedException" "reason" "I") ∈ lw_all := lw_g (lw_at lw_m3 51 rfl) rfl
theorem q596 : (Jvm.Cond.soleField "IncidentKeeper$RefusedException" "reason") ∈ lw_all := lw_g (lw_at lw_m3 52 rfl) rfl
theorem q597 : (Jvm.Cond.laysFinal "IncidentKeeper$RefusedException" "IncidentKeeper$RefusedException" "detail" "I") ∈ lw_all := lw_g (lw_at lw_m3 53 rfl) rfl
theorem q598 : (Jvm.Cond.soleField "IncidentKeeper$RefusedException" "detail") ∈ lw_all := lw_g (lw_at lw_m3 54 rfl) rfl
theorem q603 : (Jvm.Cond.lays "IncidentKeeper$RefusedException" "java/lang/Throwable" "depth" "I") ∈ lw_all := lw_g (lw_at lw_m3 59 rfl) rfl
theorem q606 : (Jvm.Cond.superclass "IncidentKeeper$RefusedException" "java/lang/Exception") ∈ lw_all := lw_g (lw_at lw_m3 62 rfl) rfl
theorem q2071 : (Jvm.Cond.castable "IncidentKeeper$RefusedException" "java/lang/Object") ∈ lw_tbl := lw_at lw_m9 87 rfl
theorem in_X8 : ∀ w ∈ wsX80, w ∈ lw_all := lw_in wsX80 [541, 543, 545, 547, 549, 603, 595, 597] (by decide +kernel) (by decide +kernel)
/-! IncidentKeeper$Event -/
set_option maxRecDepth 100000
def RX9 : String := "IncidentKeeper$Event"
def TX9 : u_T := fun k => match k with
  | 0 => ("IncidentKeeper$Event", "minute", "I", true)
  | 1 => ("IncidentKeeper$Event", "kind", "I", true)
  | 2 => ("IncidentKeeper$Event", "incident", "I", true)
  | _ => ("IncidentKeeper$Event", "more", "I", true)
def tyX9 : Nat → FieldType := fun k => match k with
  | 0 => .int
  | 1 => .int
  | 2 => .int
  | _ => .int
abbrev wsX90 : List Cond := u_ws RX9 TX9 4
theorem nmX9 : ∀ a, a < 4 → ∀ b, b < 4 → a ≠ b → (TX9 a).2.1 ≠ (TX9 b).2.1 := by decide +kernel
theorem tyX9_ok : ∀ k, k < 4 → parseFieldDescriptor (TX9 k).2.2.1 = some (tyX9 k) := by decide +kernel
abbrev cX9_init : ByteArray := prog_11_method_1_code
def yX9_init : MethodName := ⟨RX9, "<init>", "(IIII)V"⟩
def dkwX9_init_1 : List UInt8 := [181, 0, 19, 177]
abbrev dktX9_init_1 : List UInt8 := dkwX9_init_1 ++ []
def dkwX9_init_0 : List UInt8 := [42, 183, 0, 1, 42, 27, 181, 0, 7, 42, 28, 181, 0, 13, 42, 29, 181, 0, 16, 42, 21, 4]
abbrev dktX9_init_0 : List UInt8 := dkwX9_init_0 ++ dktX9_init_1
theorem dksX9_init_0 : cX9_init.data.toList.drop 0 = dktX9_init_0 := by decide +kernel
theorem dksX9_init_1 : cX9_init.data.toList.drop 22 = dktX9_init_1 := dk_seg dksX9_init_0 22 rfl rfl
theorem dX9_init_0 : decode cX9_init 0 = .ok (.aload_n 0, 1) := dk_42 (dk_at dksX9_init_0 0 rfl rfl)
theorem dX9_init_1 : decode cX9_init 1 = .ok (.invokespecial 1, 3) := dk_183 0 1 (dk_at dksX9_init_0 1 rfl rfl)
theorem dX9_init_4 : decode cX9_init 4 = .ok (.aload_n 0, 1) := dk_42 (dk_at dksX9_init_0 4 rfl rfl)
theorem dX9_init_5 : decode cX9_init 5 = .ok (.iload_n 1, 1) := dk_27 (dk_at dksX9_init_0 5 rfl rfl)
theorem dX9_init_6 : decode cX9_init 6 = .ok (.putfield 7, 3) := dk_181 0 7 (dk_at dksX9_init_0 6 rfl rfl)
theorem dX9_init_9 : decode cX9_init 9 = .ok (.aload_n 0, 1) := dk_42 (dk_at dksX9_init_0 9 rfl rfl)
theorem dX9_init_10 : decode cX9_init 10 = .ok (.iload_n 2, 1) := dk_28 (dk_at dksX9_init_0 10 rfl rfl)
theorem dX9_init_11 : decode cX9_init 11 = .ok (.putfield 13, 3) := dk_181 0 13 (dk_at dksX9_init_0 11 rfl rfl)
theorem dX9_init_14 : decode cX9_init 14 = .ok (.aload_n 0, 1) := dk_42 (dk_at dksX9_init_0 14 rfl rfl)
theorem dX9_init_15 : decode cX9_init 15 = .ok (.iload_n 3, 1) := dk_29 (dk_at dksX9_init_0 15 rfl rfl)
theorem dX9_init_16 : decode cX9_init 16 = .ok (.putfield 16, 3) := dk_181 0 16 (dk_at dksX9_init_0 16 rfl rfl)
theorem dX9_init_19 : decode cX9_init 19 = .ok (.aload_n 0, 1) := dk_42 (dk_at dksX9_init_0 19 rfl rfl)
theorem dX9_init_20 : decode cX9_init 20 = .ok (.iload 4, 2) := dk_21 4 (dk_at dksX9_init_0 20 rfl rfl)
theorem dX9_init_22 : decode cX9_init 22 = .ok (.putfield 19, 3) := dk_181 0 19 (dk_at dksX9_init_1 0 rfl rfl)
theorem dX9_init_25 : decode cX9_init 25 = .ok (.return_, 1) := dk_177 (dk_at dksX9_init_1 3 rfl rfl)
theorem q84 : (Jvm.Cond.initialized "IncidentKeeper$Event") ∈ lw_all := lw_g (lw_at lw_m1 20 rfl) rfl
theorem q411 : (Jvm.Cond.selects "IncidentKeeper$Event" ({ cls := "java/lang/Object", name := "getClass", desc := "()Ljava/lang/Class;" } : Jvm.MethodName) ({ cls := "java/lang/Object", name := "getClass", desc := "()Ljava/lang/Class;" } : Jvm.MethodName)) ∈ lw_all := lw_g (lw_at lw_m2 107 rfl) rfl
theorem q639 : (Jvm.Cond.instantiable "IncidentKeeper$Event" (4 : Nat)) ∈ lw_all := lw_g (lw_at lw_m3 95 rfl) rfl
theorem q641 : (Jvm.Cond.instanceMethod ({ cls := "IncidentKeeper$Event", name := "<init>", desc := "(IIII)V" } : Jvm.MethodName)) ∈ lw_all := lw_g (lw_at lw_m3 97 rfl) rfl
theorem q642 : (Jvm.Cond.code ({ cls := "IncidentKeeper$Event", name := "<init>", desc := "(IIII)V" } : Jvm.MethodName) prog_11_method_1_code (5 : Nat) (Option.none : Option Jvm.ClassFile.FieldType)) ∈ lw_all := lw_g (lw_at lw_m3 98 rfl) rfl
theorem q643 : (Jvm.Cond.methodLink "IncidentKeeper$Event" (1 : Nat) ({ cls := "java/lang/Object", name := "<init>", desc := "()V" } : Jvm.MethodName)) ∈ lw_all := lw_g (lw_at lw_m3 99 rfl) rfl
theorem q644 : (Jvm.Cond.fieldLink "IncidentKeeper$Event" (7 : Nat) "IncidentKeeper$Event" "minute" "I") ∈ lw_all := lw_g (lw_at lw_m3 100 rfl) rfl
theorem q646 : (Jvm.Cond.fieldLink "IncidentKeeper$Event" (13 : Nat) "IncidentKeeper$Event" "kind" "I") ∈ lw_all := lw_g (lw_at lw_m3 102 rfl) rfl
theorem q648 : (Jvm.Cond.fieldLink "IncidentKeeper$Event" (16 : Nat) "IncidentKeeper$Event" "incident" "I") ∈ lw_all := lw_g (lw_at lw_m3 104 rfl) rfl
theorem q650 : (Jvm.Cond.fieldLink "IncidentKeeper$Event" (19 : Nat) "IncidentKeeper$Event" "more" "I") ∈ lw_all := lw_g (lw_at lw_m3 106 rfl) rfl
theorem q652 : (Jvm.Cond.laysFinal "IncidentKeeper$Event" "IncidentKeeper$Event" "minute" "I") ∈ lw_all := lw_g (lw_at lw_m3 108 rfl) rfl
theorem q653 : (Jvm.Cond.soleField "IncidentKeeper$Event" "minute") ∈ lw_all := lw_g (lw_at lw_m3 109 rfl) rfl
theorem q654 : (Jvm.Cond.laysFinal "IncidentKeeper$Event" "IncidentKeeper$Event" "kind" "I") ∈ lw_all := lw_g (lw_at lw_m3 110 rfl) rfl
theorem q655 : (Jvm.Cond.soleField "IncidentKeeper$Event" "kind") ∈ lw_all := lw_g (lw_at lw_m3 111 rfl) rfl
theorem q656 : (Jvm.Cond.laysFinal "IncidentKeeper$Event" "IncidentKeeper$Event" "incident" "I") ∈ lw_all := lw_g (lw_at lw_m3 112 rfl) rfl
theorem q657 : (Jvm.Cond.soleField "IncidentKeeper$Event" "incident") ∈ lw_all := lw_g (lw_at lw_m3 113 rfl) rfl
theorem q658 : (Jvm.Cond.laysFinal "IncidentKeeper$Event" "IncidentKeeper$Event" "more" "I") ∈ lw_all := lw_g (lw_at lw_m3 114 rfl) rfl
theorem q659 : (Jvm.Cond.soleField "IncidentKeeper$Event" "more") ∈ lw_all := lw_g (lw_at lw_m3 115 rfl) rfl
theorem q660 : (Jvm.Cond.superclass "IncidentKeeper$Event" "java/lang/Object") ∈ lw_all := lw_g (lw_at lw_m3 116 rfl) rfl
theorem q2072 : (Jvm.Cond.castable "IncidentKeeper$Event" "java/lang/Object") ∈ lw_tbl := lw_at lw_m9 88 rfl
theorem in_X9 : ∀ w ∈ wsX90, w ∈ lw_all := lw_in wsX90 [652, 654, 656, 658] (by decide +kernel) (by decide +kernel)
