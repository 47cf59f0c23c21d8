/-! IncidentKeeperLaw -/
set_option maxRecDepth 100000
def RX0 : String := "IncidentKeeperLaw"
abbrev cX0_duty : ByteArray := method_3_code
def yX0_duty : MethodName := ⟨RX0, "duty", "(LIncidentKeeper;IZ[J)I"⟩
def dkwX0_duty_0 : List UInt8 := [45, 3, 42, 27, 28, 182, 0, 7, 133, 80, 167, 0, 7, 58, 4, 4, 172, 3, 172]
abbrev dktX0_duty_0 : List UInt8 := dkwX0_duty_0 ++ []
theorem dksX0_duty_0 : cX0_duty.data.toList.drop 0 = dktX0_duty_0 := by decide +kernel
theorem dX0_duty_0 : decode cX0_duty 0 = .ok (.aload_n 3, 1) := dk_45 (dk_at dksX0_duty_0 0 rfl rfl)
theorem dX0_duty_1 : decode cX0_duty 1 = .ok (.iconst 0, 1) := dk_3 (dk_at dksX0_duty_0 1 rfl rfl)
theorem dX0_duty_2 : decode cX0_duty 2 = .ok (.aload_n 0, 1) := dk_42 (dk_at dksX0_duty_0 2 rfl rfl)
theorem dX0_duty_3 : decode cX0_duty 3 = .ok (.iload_n 1, 1) := dk_27 (dk_at dksX0_duty_0 3 rfl rfl)
theorem dX0_duty_4 : decode cX0_duty 4 = .ok (.iload_n 2, 1) := dk_28 (dk_at dksX0_duty_0 4 rfl rfl)
theorem dX0_duty_5 : decode cX0_duty 5 = .ok (.invokevirtual 7, 3) := dk_182 0 7 (dk_at dksX0_duty_0 5 rfl rfl)
theorem dX0_duty_8 : decode cX0_duty 8 = .ok (.i2l, 1) := dk_133 (dk_at dksX0_duty_0 8 rfl rfl)
theorem dX0_duty_9 : decode cX0_duty 9 = .ok (.lastore, 1) := dk_80 (dk_at dksX0_duty_0 9 rfl rfl)
theorem dX0_duty_10 : decode cX0_duty 10 = .ok (.goto 7, 3) := dk_167 0 7 (dk_at dksX0_duty_0 10 rfl rfl)
theorem dX0_duty_13 : decode cX0_duty 13 = .ok (.astore 4, 2) := dk_58 4 (dk_at dksX0_duty_0 13 rfl rfl)
theorem dX0_duty_15 : decode cX0_duty 15 = .ok (.iconst 1, 1) := dk_4 (dk_at dksX0_duty_0 15 rfl rfl)
theorem dX0_duty_16 : decode cX0_duty 16 = .ok (.ireturn, 1) := dk_172 (dk_at dksX0_duty_0 16 rfl rfl)
theorem dX0_duty_17 : decode cX0_duty 17 = .ok (.iconst 0, 1) := dk_3 (dk_at dksX0_duty_0 17 rfl rfl)
theorem dX0_duty_18 : decode cX0_duty 18 = .ok (.ireturn, 1) := dk_172 (dk_at dksX0_duty_0 18 rfl rfl)
abbrev cX0_target : ByteArray := method_4_code
def yX0_target : MethodName := ⟨RX0, "target", "(LIncidentKeeper;II[J)I"⟩
def dkwX0_target_0 : List UInt8 := [45, 3, 42, 27, 28, 182, 0, 15, 133, 80, 167, 0, 7, 58, 4, 4, 172, 3, 172]
abbrev dktX0_target_0 : List UInt8 := dkwX0_target_0 ++ []
theorem dksX0_target_0 : cX0_target.data.toList.drop 0 = dktX0_target_0 := by decide +kernel
theorem dX0_target_0 : decode cX0_target 0 = .ok (.aload_n 3, 1) := dk_45 (dk_at dksX0_target_0 0 rfl rfl)
theorem dX0_target_1 : decode cX0_target 1 = .ok (.iconst 0, 1) := dk_3 (dk_at dksX0_target_0 1 rfl rfl)
theorem dX0_target_2 : decode cX0_target 2 = .ok (.aload_n 0, 1) := dk_42 (dk_at dksX0_target_0 2 rfl rfl)
theorem dX0_target_3 : decode cX0_target 3 = .ok (.iload_n 1, 1) := dk_27 (dk_at dksX0_target_0 3 rfl rfl)
theorem dX0_target_4 : decode cX0_target 4 = .ok (.iload_n 2, 1) := dk_28 (dk_at dksX0_target_0 4 rfl rfl)
theorem dX0_target_5 : decode cX0_target 5 = .ok (.invokevirtual 15, 3) := dk_182 0 15 (dk_at dksX0_target_0 5 rfl rfl)
theorem dX0_target_8 : decode cX0_target 8 = .ok (.i2l, 1) := dk_133 (dk_at dksX0_target_0 8 rfl rfl)
theorem dX0_target_9 : decode cX0_target 9 = .ok (.lastore, 1) := dk_80 (dk_at dksX0_target_0 9 rfl rfl)
theorem dX0_target_10 : decode cX0_target 10 = .ok (.goto 7, 3) := dk_167 0 7 (dk_at dksX0_target_0 10 rfl rfl)
theorem dX0_target_13 : decode cX0_target 13 = .ok (.astore 4, 2) := dk_58 4 (dk_at dksX0_target_0 13 rfl rfl)
theorem dX0_target_15 : decode cX0_target 15 = .ok (.iconst 1, 1) := dk_4 (dk_at dksX0_target_0 15 rfl rfl)
theorem dX0_target_16 : decode cX0_target 16 = .ok (.ireturn, 1) := dk_172 (dk_at dksX0_target_0 16 rfl rfl)
theorem dX0_target_17 : decode cX0_target 17 = .ok (.iconst 0, 1) := dk_3 (dk_at dksX0_target_0 17 rfl rfl)
theorem dX0_target_18 : decode cX0_target 18 = .ok (.ireturn, 1) := dk_172 (dk_at dksX0_target_0 18 rfl rfl)
abbrev cX0_limit : ByteArray := method_5_code
def yX0_limit : MethodName := ⟨RX0, "limit", "(LIncidentKeeper;II[J)I"⟩
def dkwX0_limit_0 : List UInt8 := [45, 3, 42, 27, 28, 182, 0, 19, 133, 80, 167, 0, 7, 58, 4, 4, 172, 3, 172]
abbrev dktX0_limit_0 : List UInt8 := dkwX0_limit_0 ++ []
theorem dksX0_limit_0 : cX0_limit.data.toList.drop 0 = dktX0_limit_0 := by decide +kernel
theorem dX0_limit_0 : decode cX0_limit 0 = .ok (.aload_n 3, 1) := dk_45 (dk_at dksX0_limit_0 0 rfl rfl)
theorem dX0_limit_1 : decode cX0_limit 1 = .ok (.iconst 0, 1) := dk_3 (dk_at dksX0_limit_0 1 rfl rfl)
theorem dX0_limit_2 : decode cX0_limit 2 = .ok (.aload_n 0, 1) := dk_42 (dk_at dksX0_limit_0 2 rfl rfl)
theorem dX0_limit_3 : decode cX0_limit 3 = .ok (.iload_n 1, 1) := dk_27 (dk_at dksX0_limit_0 3 rfl rfl)
theorem dX0_limit_4 : decode cX0_limit 4 = .ok (.iload_n 2, 1) := dk_28 (dk_at dksX0_limit_0 4 rfl rfl)
theorem dX0_limit_5 : decode cX0_limit 5 = .ok (.invokevirtual 19, 3) := dk_182 0 19 (dk_at dksX0_limit_0 5 rfl rfl)
theorem dX0_limit_8 : decode cX0_limit 8 = .ok (.i2l, 1) := dk_133 (dk_at dksX0_limit_0 8 rfl rfl)
theorem dX0_limit_9 : decode cX0_limit 9 = .ok (.lastore, 1) := dk_80 (dk_at dksX0_limit_0 9 rfl rfl)
theorem dX0_limit_10 : decode cX0_limit 10 = .ok (.goto 7, 3) := dk_167 0 7 (dk_at dksX0_limit_0 10 rfl rfl)
theorem dX0_limit_13 : decode cX0_limit 13 = .ok (.astore 4, 2) := dk_58 4 (dk_at dksX0_limit_0 13 rfl rfl)
theorem dX0_limit_15 : decode cX0_limit 15 = .ok (.iconst 1, 1) := dk_4 (dk_at dksX0_limit_0 15 rfl rfl)
theorem dX0_limit_16 : decode cX0_limit 16 = .ok (.ireturn, 1) := dk_172 (dk_at dksX0_limit_0 16 rfl rfl)
theorem dX0_limit_17 : decode cX0_limit 17 = .ok (.iconst 0, 1) := dk_3 (dk_at dksX0_limit_0 17 rfl rfl)
theorem dX0_limit_18 : decode cX0_limit 18 = .ok (.ireturn, 1) := dk_172 (dk_at dksX0_limit_0 18 rfl rfl)
abbrev cX0_window : ByteArray := method_6_code
def yX0_window : MethodName := ⟨RX0, "window", "(LIncidentKeeper;I[J)I"⟩
def dkwX0_window_0 : List UInt8 := [44, 3, 42, 27, 182, 0, 22, 133, 80, 167, 0, 6, 78, 4, 172, 3, 172]
abbrev dktX0_window_0 : List UInt8 := dkwX0_window_0 ++ []
theorem dksX0_window_0 : cX0_window.data.toList.drop 0 = dktX0_window_0 := by decide +kernel
theorem dX0_window_0 : decode cX0_window 0 = .ok (.aload_n 2, 1) := dk_44 (dk_at dksX0_window_0 0 rfl rfl)
theorem dX0_window_1 : decode cX0_window 1 = .ok (.iconst 0, 1) := dk_3 (dk_at dksX0_window_0 1 rfl rfl)
theorem dX0_window_2 : decode cX0_window 2 = .ok (.aload_n 0, 1) := dk_42 (dk_at dksX0_window_0 2 rfl rfl)
theorem dX0_window_3 : decode cX0_window 3 = .ok (.iload_n 1, 1) := dk_27 (dk_at dksX0_window_0 3 rfl rfl)
theorem dX0_window_4 : decode cX0_window 4 = .ok (.invokevirtual 22, 3) := dk_182 0 22 (dk_at dksX0_window_0 4 rfl rfl)
theorem dX0_window_7 : decode cX0_window 7 = .ok (.i2l, 1) := dk_133 (dk_at dksX0_window_0 7 rfl rfl)
theorem dX0_window_8 : decode cX0_window 8 = .ok (.lastore, 1) := dk_80 (dk_at dksX0_window_0 8 rfl rfl)
theorem dX0_window_9 : decode cX0_window 9 = .ok (.goto 6, 3) := dk_167 0 6 (dk_at dksX0_window_0 9 rfl rfl)
theorem dX0_window_12 : decode cX0_window 12 = .ok (.astore_n 3, 1) := dk_78 (dk_at dksX0_window_0 12 rfl rfl)
theorem dX0_window_13 : decode cX0_window 13 = .ok (.iconst 1, 1) := dk_4 (dk_at dksX0_window_0 13 rfl rfl)
theorem dX0_window_14 : decode cX0_window 14 = .ok (.ireturn, 1) := dk_172 (dk_at dksX0_window_0 14 rfl rfl)
theorem dX0_window_15 : decode cX0_window 15 = .ok (.iconst 0, 1) := dk_3 (dk_at dksX0_window_0 15 rfl rfl)
theorem dX0_window_16 : decode cX0_window 16 = .ok (.ireturn, 1) := dk_172 (dk_at dksX0_window_0 16 rfl rfl)
abbrev cX0_open : ByteArray := method_7_code
def yX0_open : MethodName := ⟨RX0, "open", "(LIncidentKeeper;II[J)I"⟩
def dkwX0_open_0 : List UInt8 := [45, 3, 42, 27, 28, 182, 0, 26, 133, 80, 167, 0, 7, 58, 4, 4, 172, 3, 172]
abbrev dktX0_open_0 : List UInt8 := dkwX0_open_0 ++ []
theorem dksX0_open_0 : cX0_open.data.toList.drop 0 = dktX0_open_0 := by decide +kernel
theorem dX0_open_0 : decode cX0_open 0 = .ok (.aload_n 3, 1) := dk_45 (dk_at dksX0_open_0 0 rfl rfl)
theorem dX0_open_1 : decode cX0_open 1 = .ok (.iconst 0, 1) := dk_3 (dk_at dksX0_open_0 1 rfl rfl)
theorem dX0_open_2 : decode cX0_open 2 = .ok (.aload_n 0, 1) := dk_42 (dk_at dksX0_open_0 2 rfl rfl)
theorem dX0_open_3 : decode cX0_open 3 = .ok (.iload_n 1, 1) := dk_27 (dk_at dksX0_open_0 3 rfl rfl)
theorem dX0_open_4 : decode cX0_open 4 = .ok (.iload_n 2, 1) := dk_28 (dk_at dksX0_open_0 4 rfl rfl)
theorem dX0_open_5 : decode cX0_open 5 = .ok (.invokevirtual 26, 3) := dk_182 0 26 (dk_at dksX0_open_0 5 rfl rfl)
theorem dX0_open_8 : decode cX0_open 8 = .ok (.i2l, 1) := dk_133 (dk_at dksX0_open_0 8 rfl rfl)
theorem dX0_open_9 : decode cX0_open 9 = .ok (.lastore, 1) := dk_80 (dk_at dksX0_open_0 9 rfl rfl)
theorem dX0_open_10 : decode cX0_open 10 = .ok (.goto 7, 3) := dk_167 0 7 (dk_at dksX0_open_0 10 rfl rfl)
theorem dX0_open_13 : decode cX0_open 13 = .ok (.astore 4, 2) := dk_58 4 (dk_at dksX0_open_0 13 rfl rfl)
theorem dX0_open_15 : decode cX0_open 15 = .ok (.iconst 1, 1) := dk_4 (dk_at dksX0_open_0 15 rfl rfl)
theorem dX0_open_16 : decode cX0_open 16 = .ok (.ireturn, 1) := dk_172 (dk_at dksX0_open_0 16 rfl rfl)
theorem dX0_open_17 : decode cX0_open 17 = .ok (.iconst 0, 1) := dk_3 (dk_at dksX0_open_0 17 rfl rfl)
theorem dX0_open_18 : decode cX0_open 18 = .ok (.ireturn, 1) := dk_172 (dk_at dksX0_open_0 18 rfl rfl)
abbrev cX0_rate : ByteArray := method_8_code
def yX0_rate : MethodName := ⟨RX0, "rate", "(LIncidentKeeper;II[J)I"⟩
def dkwX0_rate_0 : List UInt8 := [45, 3, 42, 27, 28, 182, 0, 29, 133, 80, 167, 0, 7, 58, 4, 4, 172, 3, 172]
abbrev dktX0_rate_0 : List UInt8 := dkwX0_rate_0 ++ []
theorem dksX0_rate_0 : cX0_rate.data.toList.drop 0 = dktX0_rate_0 := by decide +kernel
theorem dX0_rate_0 : decode cX0_rate 0 = .ok (.aload_n 3, 1) := dk_45 (dk_at dksX0_rate_0 0 rfl rfl)
theorem dX0_rate_1 : decode cX0_rate 1 = .ok (.iconst 0, 1) := dk_3 (dk_at dksX0_rate_0 1 rfl rfl)
theorem dX0_rate_2 : decode cX0_rate 2 = .ok (.aload_n 0, 1) := dk_42 (dk_at dksX0_rate_0 2 rfl rfl)
theorem dX0_rate_3 : decode cX0_rate 3 = .ok (.iload_n 1, 1) := dk_27 (dk_at dksX0_rate_0 3 rfl rfl)
theorem dX0_rate_4 : decode cX0_rate 4 = .ok (.iload_n 2, 1) := dk_28 (dk_at dksX0_rate_0 4 rfl rfl)
theorem dX0_rate_5 : decode cX0_rate 5 = .ok (.invokevirtual 29, 3) := dk_182 0 29 (dk_at dksX0_rate_0 5 rfl rfl)
theorem dX0_rate_8 : decode cX0_rate 8 = .ok (.i2l, 1) := dk_133 (dk_at dksX0_rate_0 8 rfl rfl)
theorem dX0_rate_9 : decode cX0_rate 9 = .ok (.lastore, 1) := dk_80 (dk_at dksX0_rate_0 9 rfl rfl)
theorem dX0_rate_10 : decode cX0_rate 10 = .ok (.goto 7, 3) := dk_167 0 7 (dk_at dksX0_rate_0 10 rfl rfl)
theorem dX0_rate_13 : decode cX0_rate 13 = .ok (.astore 4, 2) := dk_58 4 (dk_at dksX0_rate_0 13 rfl rfl)
theorem dX0_rate_15 : decode cX0_rate 15 = .ok (.iconst 1, 1) := dk_4 (dk_at dksX0_rate_0 15 rfl rfl)
theorem dX0_rate_16 : decode cX0_rate 16 = .ok (.ireturn, 1) := dk_172 (dk_at dksX0_rate_0 16 rfl rfl)
theorem dX0_rate_17 : decode cX0_rate 17 = .ok (.iconst 0, 1) := dk_3 (dk_at dksX0_rate_0 17 rfl rfl)
theorem dX0_rate_18 : decode cX0_rate 18 = .ok (.ireturn, 1) := dk_172 (dk_at dksX0_rate_0 18 rfl rfl)
abbrev cX0_hand : ByteArray := method_9_code
def yX0_hand : MethodName := ⟨RX0, "hand", "(LIncidentKeeper;II[J)I"⟩
def dkwX0_hand_0 : List UInt8 := [45, 3, 42, 27, 28, 182, 0, 32, 133, 80, 167, 0, 7, 58, 4, 4, 172, 3, 172]
abbrev dktX0_hand_0 : List UInt8 := dkwX0_hand_0 ++ []
theorem dksX0_hand_0 : cX0_hand.data.toList.drop 0 = dktX0_hand_0 := by decide +kernel
theorem dX0_hand_0 : decode cX0_hand 0 = .ok (.aload_n 3, 1) := dk_45 (dk_at dksX0_hand_0 0 rfl rfl)
theorem dX0_hand_1 : decode cX0_hand 1 = .ok (.iconst 0, 1) := dk_3 (dk_at dksX0_hand_0 1 rfl rfl)
theorem dX0_hand_2 : decode cX0_hand 2 = .ok (.aload_n 0, 1) := dk_42 (dk_at dksX0_hand_0 2 rfl rfl)
theorem dX0_hand_3 : decode cX0_hand 3 = .ok (.iload_n 1, 1) := dk_27 (dk_at dksX0_hand_0 3 rfl rfl)
theorem dX0_hand_4 : decode cX0_hand 4 = .ok (.iload_n 2, 1) := dk_28 (dk_at dksX0_hand_0 4 rfl rfl)
theorem dX0_hand_5 : decode cX0_hand 5 = .ok (.invokevirtual 32, 3) := dk_182 0 32 (dk_at dksX0_hand_0 5 rfl rfl)
theorem dX0_hand_8 : decode cX0_hand 8 = .ok (.i2l, 1) := dk_133 (dk_at dksX0_hand_0 8 rfl rfl)
theorem dX0_hand_9 : decode cX0_hand 9 = .ok (.lastore, 1) := dk_80 (dk_at dksX0_hand_0 9 rfl rfl)
theorem dX0_hand_10 : decode cX0_hand 10 = .ok (.goto 7, 3) := dk_167 0 7 (dk_at dksX0_hand_0 10 rfl rfl)
theorem dX0_hand_13 : decode cX0_hand 13 = .ok (.astore 4, 2) := dk_58 4 (dk_at dksX0_hand_0 13 rfl rfl)
theorem dX0_hand_15 : decode cX0_hand 15 = .ok (.iconst 1, 1) := dk_4 (dk_at dksX0_hand_0 15 rfl rfl)
theorem dX0_hand_16 : decode cX0_hand 16 = .ok (.ireturn, 1) := dk_172 (dk_at dksX0_hand_0 16 rfl rfl)
theorem dX0_hand_17 : decode cX0_hand 17 = .ok (.iconst 0, 1) := dk_3 (dk_at dksX0_hand_0 17 rfl rfl)
theorem dX0_hand_18 : decode cX0_hand 18 = .ok (.ireturn, 1) := dk_172 (dk_at dksX0_hand_0 18 rfl rfl)
abbrev cX0_stop : ByteArray := method_10_code
def yX0_stop : MethodName := ⟨RX0, "stop", "(LIncidentKeeper;II[J)I"⟩
def dkwX0_stop_0 : List UInt8 := [45, 3, 42, 27, 28, 182, 0, 35, 133, 80, 167, 0, 7, 58, 4, 4, 172, 3, 172]
abbrev dktX0_stop_0 : List UInt8 := dkwX0_stop_0 ++ []
theorem dksX0_stop_0 : cX0_stop.data.toList.drop 0 = dktX0_stop_0 := by decide +kernel
theorem dX0_stop_0 : decode cX0_stop 0 = .ok (.aload_n 3, 1) := dk_45 (dk_at dksX0_stop_0 0 rfl rfl)
theorem dX0_stop_1 : decode cX0_stop 1 = .ok (.iconst 0, 1) := dk_3 (dk_at dksX0_stop_0 1 rfl rfl)
theorem dX0_stop_2 : decode cX0_stop 2 = .ok (.aload_n 0, 1) := dk_42 (dk_at dksX0_stop_0 2 rfl rfl)
theorem dX0_stop_3 : decode cX0_stop 3 = .ok (.iload_n 1, 1) := dk_27 (dk_at dksX0_stop_0 3 rfl rfl)
theorem dX0_stop_4 : decode cX0_stop 4 = .ok (.iload_n 2, 1) := dk_28 (dk_at dksX0_stop_0 4 rfl rfl)
theorem dX0_stop_5 : decode cX0_stop 5 = .ok (.invokevirtual 35, 3) := dk_182 0 35 (dk_at dksX0_stop_0 5 rfl rfl)
theorem dX0_stop_8 : decode cX0_stop 8 = .ok (.i2l, 1) := dk_133 (dk_at dksX0_stop_0 8 rfl rfl)
theorem dX0_stop_9 : decode cX0_stop 9 = .ok (.lastore, 1) := dk_80 (dk_at dksX0_stop_0 9 rfl rfl)
theorem dX0_stop_10 : decode cX0_stop 10 = .ok (.goto 7, 3) := dk_167 0 7 (dk_at dksX0_stop_0 10 rfl rfl)
theorem dX0_stop_13 : decode cX0_stop 13 = .ok (.astore 4, 2) := dk_58 4 (dk_at dksX0_stop_0 13 rfl rfl)
theorem dX0_stop_15 : decode cX0_stop 15 = .ok (.iconst 1, 1) := dk_4 (dk_at dksX0_stop_0 15 rfl rfl)
theorem dX0_stop_16 : decode cX0_stop 16 = .ok (.ireturn, 1) := dk_172 (dk_at dksX0_stop_0 16 rfl rfl)
theorem dX0_stop_17 : decode cX0_stop 17 = .ok (.iconst 0, 1) := dk_3 (dk_at dksX0_stop_0 17 rfl rfl)
theorem dX0_stop_18 : decode cX0_stop 18 = .ok (.ireturn, 1) := dk_172 (dk_at dksX0_stop_0 18 rfl rfl)
abbrev cX0_go : ByteArray := method_11_code
def yX0_go : MethodName := ⟨RX0, "go", "(LIncidentKeeper;II[J)I"⟩
def dkwX0_go_0 : List UInt8 := [45, 3, 42, 27, 28, 182, 0, 38, 133, 80, 167, 0, 7, 58, 4, 4, 172, 3, 172]
abbrev dktX0_go_0 : List UInt8 := dkwX0_go_0 ++ []
theorem dksX0_go_0 : cX0_go.data.toList.drop 0 = dktX0_go_0 := by decide +kernel
theorem dX0_go_0 : decode cX0_go 0 = .ok (.aload_n 3, 1) := dk_45 (dk_at dksX0_go_0 0 rfl rfl)
theorem dX0_go_1 : decode cX0_go 1 = .ok (.iconst 0, 1) := dk_3 (dk_at dksX0_go_0 1 rfl rfl)
theorem dX0_go_2 : decode cX0_go 2 = .ok (.aload_n 0, 1) := dk_42 (dk_at dksX0_go_0 2 rfl rfl)
theorem dX0_go_3 : decode cX0_go 3 = .ok (.iload_n 1, 1) := dk_27 (dk_at dksX0_go_0 3 rfl rfl)
theorem dX0_go_4 : decode cX0_go 4 = .ok (.iload_n 2, 1) := dk_28 (dk_at dksX0_go_0 4 rfl rfl)
theorem dX0_go_5 : decode cX0_go 5 = .ok (.invokevirtual 38, 3) := dk_182 0 38 (dk_at dksX0_go_0 5 rfl rfl)
theorem dX0_go_8 : decode cX0_go 8 = .ok (.i2l, 1) := dk_133 (dk_at dksX0_go_0 8 rfl rfl)
theorem dX0_go_9 : decode cX0_go 9 = .ok (.lastore, 1) := dk_80 (dk_at dksX0_go_0 9 rfl rfl)
theorem dX0_go_10 : decode cX0_go 10 = .ok (.goto 7, 3) := dk_167 0 7 (dk_at dksX0_go_0 10 rfl rfl)
theorem dX0_go_13 : decode cX0_go 13 = .ok (.astore 4, 2) := dk_58 4 (dk_at dksX0_go_0 13 rfl rfl)
theorem dX0_go_15 : decode cX0_go 15 = .ok (.iconst 1, 1) := dk_4 (dk_at dksX0_go_0 15 rfl rfl)
theorem dX0_go_16 : decode cX0_go 16 = .ok (.ireturn, 1) := dk_172 (dk_at dksX0_go_0 16 rfl rfl)
theorem dX0_go_17 : decode cX0_go 17 = .ok (.iconst 0, 1) := dk_3 (dk_at dksX0_go_0 17 rfl rfl)
theorem dX0_go_18 : decode cX0_go 18 = .ok (.ireturn, 1) := dk_172 (dk_at dksX0_go_0 18 rfl rfl)
abbrev cX0_resolve : ByteArray := method_12_code
def yX0_resolve : MethodName := ⟨RX0, "resolve", "(LIncidentKeeper;I[J)I"⟩
def dkwX0_resolve_0 : List UInt8 := [44, 3, 42, 27, 182, 0, 41, 133, 80, 167, 0, 6, 78, 4, 172, 3, 172]
abbrev dktX0_resolve_0 : List UInt8 := dkwX0_resolve_0 ++ []
theorem dksX0_resolve_0 : cX0_resolve.data.toList.drop 0 = dktX0_resolve_0 := by decide +kernel
theorem dX0_resolve_0 : decode cX0_resolve 0 = .ok (.aload_n 2, 1) := dk_44 (dk_at dksX0_resolve_0 0 rfl rfl)
theorem dX0_resolve_1 : decode cX0_resolve 1 = .ok (.iconst 0, 1) := dk_3 (dk_at dksX0_resolve_0 1 rfl rfl)
theorem dX0_resolve_2 : decode cX0_resolve 2 = .ok (.aload_n 0, 1) := dk_42 (dk_at dksX0_resolve_0 2 rfl rfl)
theorem dX0_resolve_3 : decode cX0_resolve 3 = .ok (.iload_n 1, 1) := dk_27 (dk_at dksX0_resolve_0 3 rfl rfl)
theorem dX0_resolve_4 : decode cX0_resolve 4 = .ok (.invokevirtual 41, 3) := dk_182 0 41 (dk_at dksX0_resolve_0 4 rfl rfl)
theorem dX0_resolve_7 : decode cX0_resolve 7 = .ok (.i2l, 1) := dk_133 (dk_at dksX0_resolve_0 7 rfl rfl)
theorem dX0_resolve_8 : decode cX0_resolve 8 = .ok (.lastore, 1) := dk_80 (dk_at dksX0_resolve_0 8 rfl rfl)
theorem dX0_resolve_9 : decode cX0_resolve 9 = .ok (.goto 6, 3) := dk_167 0 6 (dk_at dksX0_resolve_0 9 rfl rfl)
theorem dX0_resolve_12 : decode cX0_resolve 12 = .ok (.astore_n 3, 1) := dk_78 (dk_at dksX0_resolve_0 12 rfl rfl)
theorem dX0_resolve_13 : decode cX0_resolve 13 = .ok (.iconst 1, 1) := dk_4 (dk_at dksX0_resolve_0 13 rfl rfl)
theorem dX0_resolve_14 : decode cX0_resolve 14 = .ok (.ireturn, 1) := dk_172 (dk_at dksX0_resolve_0 14 rfl rfl)
theorem dX0_resolve_15 : decode cX0_resolve 15 = .ok (.iconst 0, 1) := dk_3 (dk_at dksX0_resolve_0 15 rfl rfl)
theorem dX0_resolve_16 : decode cX0_resolve 16 = .ok (.ireturn, 1) := dk_172 (dk_at dksX0_resolve_0 16 rfl rfl)
abbrev cX0_reopen : ByteArray := method_13_code
def yX0_reopen : MethodName := ⟨RX0, "reopen", "(LIncidentKeeper;I[J)I"⟩
def dkwX0_reopen_0 : List UInt8 := [44, 3, 42, 27, 182, 0, 44, 133, 80, 167, 0, 6, 78, 4, 172, 3, 172]
abbrev dktX0_reopen_0 : List UInt8 := dkwX0_reopen_0 ++ []
theorem dksX0_reopen_0 : cX0_reopen.data.toList.drop 0 = dktX0_reopen_0 := by decide +kernel
theorem dX0_reopen_0 : decode cX0_reopen 0 = .ok (.aload_n 2, 1) := dk_44 (dk_at dksX0_reopen_0 0 rfl rfl)
theorem dX0_reopen_1 : decode cX0_reopen 1 = .ok (.iconst 0, 1) := dk_3 (dk_at dksX0_reopen_0 1 rfl rfl)
theorem dX0_reopen_2 : decode cX0_reopen 2 = .ok (.aload_n 0, 1) := dk_42 (dk_at dksX0_reopen_0 2 rfl rfl)
theorem dX0_reopen_3 : decode cX0_reopen 3 = .ok (.iload_n 1, 1) := dk_27 (dk_at dksX0_reopen_0 3 rfl rfl)
theorem dX0_reopen_4 : decode cX0_reopen 4 = .ok (.invokevirtual 44, 3) := dk_182 0 44 (dk_at dksX0_reopen_0 4 rfl rfl)
theorem dX0_reopen_7 : decode cX0_reopen 7 = .ok (.i2l, 1) := dk_133 (dk_at dksX0_reopen_0 7 rfl rfl)
theorem dX0_reopen_8 : decode cX0_reopen 8 = .ok (.lastore, 1) := dk_80 (dk_at dksX0_reopen_0 8 rfl rfl)
theorem dX0_reopen_9 : decode cX0_reopen 9 = .ok (.goto 6, 3) := dk_167 0 6 (dk_at dksX0_reopen_0 9 rfl rfl)
theorem dX0_reopen_12 : decode cX0_reopen 12 = .ok (.astore_n 3, 1) := dk_78 (dk_at dksX0_reopen_0 12 rfl rfl)
theorem dX0_reopen_13 : decode cX0_reopen 13 = .ok (.iconst 1, 1) := dk_4 (dk_at dksX0_reopen_0 13 rfl rfl)
theorem dX0_reopen_14 : decode cX0_reopen 14 = .ok (.ireturn, 1) := dk_172 (dk_at dksX0_reopen_0 14 rfl rfl)
theorem dX0_reopen_15 : decode cX0_reopen 15 = .ok (.iconst 0, 1) := dk_3 (dk_at dksX0_reopen_0 15 rfl rfl)
theorem dX0_reopen_16 : decode cX0_reopen 16 = .ok (.ireturn, 1) := dk_172 (dk_at dksX0_reopen_0 16 rfl rfl)
abbrev cX0_close : ByteArray := method_14_code
def yX0_close : MethodName := ⟨RX0, "close", "(LIncidentKeeper;I[J)I"⟩
def dkwX0_close_0 : List UInt8 := [44, 3, 42, 27, 182, 0, 47, 133, 80, 167, 0, 6, 78, 4, 172, 3, 172]
abbrev dktX0_close_0 : List UInt8 := dkwX0_close_0 ++ []
theorem dksX0_close_0 : cX0_close.data.toList.drop 0 = dktX0_close_0 := by decide +kernel
theorem dX0_close_0 : decode cX0_close 0 = .ok (.aload_n 2, 1) := dk_44 (dk_at dksX0_close_0 0 rfl rfl)
theorem dX0_close_1 : decode cX0_close 1 = .ok (.iconst 0, 1) := dk_3 (dk_at dksX0_close_0 1 rfl rfl)
theorem dX0_close_2 : decode cX0_close 2 = .ok (.aload_n 0, 1) := dk_42 (dk_at dksX0_close_0 2 rfl rfl)
theorem dX0_close_3 : decode cX0_close 3 = .ok (.iload_n 1, 1) := dk_27 (dk_at dksX0_close_0 3 rfl rfl)
theorem dX0_close_4 : decode cX0_close 4 = .ok (.invokevirtual 47, 3) := dk_182 0 47 (dk_at dksX0_close_0 4 rfl rfl)
theorem dX0_close_7 : decode cX0_close 7 = .ok (.i2l, 1) := dk_133 (dk_at dksX0_close_0 7 rfl rfl)
theorem dX0_close_8 : decode cX0_close 8 = .ok (.lastore, 1) := dk_80 (dk_at dksX0_close_0 8 rfl rfl)
theorem dX0_close_9 : decode cX0_close 9 = .ok (.goto 6, 3) := dk_167 0 6 (dk_at dksX0_close_0 9 rfl rfl)
theorem dX0_close_12 : decode cX0_close 12 = .ok (.astore_n 3, 1) := dk_78 (dk_at dksX0_close_0 12 rfl rfl)
theorem dX0_close_13 : decode cX0_close 13 = .ok (.iconst 1, 1) := dk_4 (dk_at dksX0_close_0 13 rfl rfl)
theorem dX0_close_14 : decode cX0_close 14 = .ok (.ireturn, 1) := dk_172 (dk_at dksX0_close_0 14 rfl rfl)
theorem dX0_close_15 : decode cX0_close 15 = .ok (.iconst 0, 1) := dk_3 (dk_at dksX0_close_0 15 rfl rfl)
theorem dX0_close_16 : decode cX0_close 16 = .ok (.ireturn, 1) := dk_172 (dk_at dksX0_close_0 16 rfl rfl)
abbrev cX0_cause : ByteArray := method_15_code
def yX0_cause : MethodName := ⟨RX0, "cause", "(LIncidentKeeper;II[J)I"⟩
def dkwX0_cause_0 : List UInt8 := [45, 3, 42, 27, 28, 182, 0, 50, 133, 80, 167, 0, 7, 58, 4, 4, 172, 3, 172]
abbrev dktX0_cause_0 : List UInt8 := dkwX0_cause_0 ++ []
theorem dksX0_cause_0 : cX0_cause.data.toList.drop 0 = dktX0_cause_0 := by decide +kernel
theorem dX0_cause_0 : decode cX0_cause 0 = .ok (.aload_n 3, 1) := dk_45 (dk_at dksX0_cause_0 0 rfl rfl)
theorem dX0_cause_1 : decode cX0_cause 1 = .ok (.iconst 0, 1) := dk_3 (dk_at dksX0_cause_0 1 rfl rfl)
theorem dX0_cause_2 : decode cX0_cause 2 = .ok (.aload_n 0, 1) := dk_42 (dk_at dksX0_cause_0 2 rfl rfl)
theorem dX0_cause_3 : decode cX0_cause 3 = .ok (.iload_n 1, 1) := dk_27 (dk_at dksX0_cause_0 3 rfl rfl)
theorem dX0_cause_4 : decode cX0_cause 4 = .ok (.iload_n 2, 1) := dk_28 (dk_at dksX0_cause_0 4 rfl rfl)
theorem dX0_cause_5 : decode cX0_cause 5 = .ok (.invokevirtual 50, 3) := dk_182 0 50 (dk_at dksX0_cause_0 5 rfl rfl)
theorem dX0_cause_8 : decode cX0_cause 8 = .ok (.i2l, 1) := dk_133 (dk_at dksX0_cause_0 8 rfl rfl)
theorem dX0_cause_9 : decode cX0_cause 9 = .ok (.lastore, 1) := dk_80 (dk_at dksX0_cause_0 9 rfl rfl)
theorem dX0_cause_10 : decode cX0_cause 10 = .ok (.goto 7, 3) := dk_167 0 7 (dk_at dksX0_cause_0 10 rfl rfl)
theorem dX0_cause_13 : decode cX0_cause 13 = .ok (.astore 4, 2) := dk_58 4 (dk_at dksX0_cause_0 13 rfl rfl)
theorem dX0_cause_15 : decode cX0_cause 15 = .ok (.iconst 1, 1) := dk_4 (dk_at dksX0_cause_0 15 rfl rfl)
theorem dX0_cause_16 : decode cX0_cause 16 = .ok (.ireturn, 1) := dk_172 (dk_at dksX0_cause_0 16 rfl rfl)
theorem dX0_cause_17 : decode cX0_cause 17 = .ok (.iconst 0, 1) := dk_3 (dk_at dksX0_cause_0 17 rfl rfl)
theorem dX0_cause_18 : decode cX0_cause 18 = .ok (.ireturn, 1) := dk_172 (dk_at dksX0_cause_0 18 rfl rfl)
abbrev cX0_note : ByteArray := method_16_code
def yX0_note : MethodName := ⟨RX0, "note", "(LIncidentKeeper;III[J)I"⟩
def dkwX0_note_0 : List UInt8 := [25, 4, 3, 42, 27, 28, 29, 182, 0, 53, 133, 80, 167, 0, 7, 58, 5, 4, 172, 3, 172]
abbrev dktX0_note_0 : List UInt8 := dkwX0_note_0 ++ []
theorem dksX0_note_0 : cX0_note.data.toList.drop 0 = dktX0_note_0 := by decide +kernel
theorem dX0_note_0 : decode cX0_note 0 = .ok (.aload 4, 2) := dk_25 4 (dk_at dksX0_note_0 0 rfl rfl)
theorem dX0_note_2 : decode cX0_note 2 = .ok (.iconst 0, 1) := dk_3 (dk_at dksX0_note_0 2 rfl rfl)
theorem dX0_note_3 : decode cX0_note 3 = .ok (.aload_n 0, 1) := dk_42 (dk_at dksX0_note_0 3 rfl rfl)
theorem dX0_note_4 : decode cX0_note 4 = .ok (.iload_n 1, 1) := dk_27 (dk_at dksX0_note_0 4 rfl rfl)
theorem dX0_note_5 : decode cX0_note 5 = .ok (.iload_n 2, 1) := dk_28 (dk_at dksX0_note_0 5 rfl rfl)
theorem dX0_note_6 : decode cX0_note 6 = .ok (.iload_n 3, 1) := dk_29 (dk_at dksX0_note_0 6 rfl rfl)
theorem dX0_note_7 : decode cX0_note 7 = .ok (.invokevirtual 53, 3) := dk_182 0 53 (dk_at dksX0_note_0 7 rfl rfl)
theorem dX0_note_10 : decode cX0_note 10 = .ok (.i2l, 1) := dk_133 (dk_at dksX0_note_0 10 rfl rfl)
theorem dX0_note_11 : decode cX0_note 11 = .ok (.lastore, 1) := dk_80 (dk_at dksX0_note_0 11 rfl rfl)
theorem dX0_note_12 : decode cX0_note 12 = .ok (.goto 7, 3) := dk_167 0 7 (dk_at dksX0_note_0 12 rfl rfl)
theorem dX0_note_15 : decode cX0_note 15 = .ok (.astore 5, 2) := dk_58 5 (dk_at dksX0_note_0 15 rfl rfl)
theorem dX0_note_17 : decode cX0_note 17 = .ok (.iconst 1, 1) := dk_4 (dk_at dksX0_note_0 17 rfl rfl)
theorem dX0_note_18 : decode cX0_note 18 = .ok (.ireturn, 1) := dk_172 (dk_at dksX0_note_0 18 rfl rfl)
theorem dX0_note_19 : decode cX0_note 19 = .ok (.iconst 0, 1) := dk_3 (dk_at dksX0_note_0 19 rfl rfl)
theorem dX0_note_20 : decode cX0_note 20 = .ok (.ireturn, 1) := dk_172 (dk_at dksX0_note_0 20 rfl rfl)
abbrev cX0_link : ByteArray := method_17_code
def yX0_link : MethodName := ⟨RX0, "link", "(LIncidentKeeper;II[J)I"⟩
def dkwX0_link_0 : List UInt8 := [45, 3, 42, 27, 28, 182, 0, 57, 133, 80, 167, 0, 7, 58, 4, 4, 172, 3, 172]
abbrev dktX0_link_0 : List UInt8 := dkwX0_link_0 ++ []
theorem dksX0_link_0 : cX0_link.data.toList.drop 0 = dktX0_link_0 := by decide +kernel
theorem dX0_link_0 : decode cX0_link 0 = .ok (.aload_n 3, 1) := dk_45 (dk_at dksX0_link_0 0 rfl rfl)
theorem dX0_link_1 : decode cX0_link 1 = .ok (.iconst 0, 1) := dk_3 (dk_at dksX0_link_0 1 rfl rfl)
theorem dX0_link_2 : decode cX0_link 2 = .ok (.aload_n 0, 1) := dk_42 (dk_at dksX0_link_0 2 rfl rfl)
theorem dX0_link_3 : decode cX0_link 3 = .ok (.iload_n 1, 1) := dk_27 (dk_at dksX0_link_0 3 rfl rfl)
theorem dX0_link_4 : decode cX0_link 4 = .ok (.iload_n 2, 1) := dk_28 (dk_at dksX0_link_0 4 rfl rfl)
theorem dX0_link_5 : decode cX0_link 5 = .ok (.invokevirtual 57, 3) := dk_182 0 57 (dk_at dksX0_link_0 5 rfl rfl)
theorem dX0_link_8 : decode cX0_link 8 = .ok (.i2l, 1) := dk_133 (dk_at dksX0_link_0 8 rfl rfl)
theorem dX0_link_9 : decode cX0_link 9 = .ok (.lastore, 1) := dk_80 (dk_at dksX0_link_0 9 rfl rfl)
theorem dX0_link_10 : decode cX0_link 10 = .ok (.goto 7, 3) := dk_167 0 7 (dk_at dksX0_link_0 10 rfl rfl)
theorem dX0_link_13 : decode cX0_link 13 = .ok (.astore 4, 2) := dk_58 4 (dk_at dksX0_link_0 13 rfl rfl)
theorem dX0_link_15 : decode cX0_link 15 = .ok (.iconst 1, 1) := dk_4 (dk_at dksX0_link_0 15 rfl rfl)
theorem dX0_link_16 : decode cX0_link 16 = .ok (.ireturn, 1) := dk_172 (dk_at dksX0_link_0 16 rfl rfl)
theorem dX0_link_17 : decode cX0_link 17 = .ok (.iconst 0, 1) := dk_3 (dk_at dksX0_link_0 17 rfl rfl)
theorem dX0_link_18 : decode cX0_link 18 = .ok (.ireturn, 1) := dk_172 (dk_at dksX0_link_0 18 rfl rfl)
abbrev cX0_review : ByteArray := method_18_code
def yX0_review : MethodName := ⟨RX0, "review", "(LIncidentKeeper;I[J)I"⟩
def dkwX0_review_0 : List UInt8 := [44, 3, 42, 27, 182, 0, 60, 133, 80, 167, 0, 6, 78, 4, 172, 3, 172]
abbrev dktX0_review_0 : List UInt8 := dkwX0_review_0 ++ []
theorem dksX0_review_0 : cX0_review.data.toList.drop 0 = dktX0_review_0 := by decide +kernel
theorem dX0_review_0 : decode cX0_review 0 = .ok (.aload_n 2, 1) := dk_44 (dk_at dksX0_review_0 0 rfl rfl)
theorem dX0_review_1 : decode cX0_review 1 = .ok (.iconst 0, 1) := dk_3 (dk_at dksX0_review_0 1 rfl rfl)
theorem dX0_review_2 : decode cX0_review 2 = .ok (.aload_n 0, 1) := dk_42 (dk_at dksX0_review_0 2 rfl rfl)
theorem dX0_review_3 : decode cX0_review 3 = .ok (.iload_n 1, 1) := dk_27 (dk_at dksX0_review_0 3 rfl rfl)
theorem dX0_review_4 : decode cX0_review 4 = .ok (.invokevirtual 60, 3) := dk_182 0 60 (dk_at dksX0_review_0 4 rfl rfl)
theorem dX0_review_7 : decode cX0_review 7 = .ok (.i2l, 1) := dk_133 (dk_at dksX0_review_0 7 rfl rfl)
theorem dX0_review_8 : decode cX0_review 8 = .ok (.lastore, 1) := dk_80 (dk_at dksX0_review_0 8 rfl rfl)
theorem dX0_review_9 : decode cX0_review 9 = .ok (.goto 6, 3) := dk_167 0 6 (dk_at dksX0_review_0 9 rfl rfl)
theorem dX0_review_12 : decode cX0_review 12 = .ok (.astore_n 3, 1) := dk_78 (dk_at dksX0_review_0 12 rfl rfl)
theorem dX0_review_13 : decode cX0_review 13 = .ok (.iconst 1, 1) := dk_4 (dk_at dksX0_review_0 13 rfl rfl)
theorem dX0_review_14 : decode cX0_review 14 = .ok (.ireturn, 1) := dk_172 (dk_at dksX0_review_0 14 rfl rfl)
theorem dX0_review_15 : decode cX0_review 15 = .ok (.iconst 0, 1) := dk_3 (dk_at dksX0_review_0 15 rfl rfl)
theorem dX0_review_16 : decode cX0_review 16 = .ok (.ireturn, 1) := dk_172 (dk_at dksX0_review_0 16 rfl rfl)
abbrev cX0_action : ByteArray := method_19_code
def yX0_action : MethodName := ⟨RX0, "action", "(LIncidentKeeper;III[J)I"⟩
def dkwX0_action_0 : List UInt8 := [25, 4, 3, 42, 27, 28, 29, 182, 0, 63, 133, 80, 167, 0, 7, 58, 5, 4, 172, 3, 172]
abbrev dktX0_action_0 : List UInt8 := dkwX0_action_0 ++ []
theorem dksX0_action_0 : cX0_action.data.toList.drop 0 = dktX0_action_0 := by decide +kernel
theorem dX0_action_0 : decode cX0_action 0 = .ok (.aload 4, 2) := dk_25 4 (dk_at dksX0_action_0 0 rfl rfl)
theorem dX0_action_2 : decode cX0_action 2 = .ok (.iconst 0, 1) := dk_3 (dk_at dksX0_action_0 2 rfl rfl)
theorem dX0_action_3 : decode cX0_action 3 = .ok (.aload_n 0, 1) := dk_42 (dk_at dksX0_action_0 3 rfl rfl)
theorem dX0_action_4 : decode cX0_action 4 = .ok (.iload_n 1, 1) := dk_27 (dk_at dksX0_action_0 4 rfl rfl)
theorem dX0_action_5 : decode cX0_action 5 = .ok (.iload_n 2, 1) := dk_28 (dk_at dksX0_action_0 5 rfl rfl)
theorem dX0_action_6 : decode cX0_action 6 = .ok (.iload_n 3, 1) := dk_29 (dk_at dksX0_action_0 6 rfl rfl)
theorem dX0_action_7 : decode cX0_action 7 = .ok (.invokevirtual 63, 3) := dk_182 0 63 (dk_at dksX0_action_0 7 rfl rfl)
theorem dX0_action_10 : decode cX0_action 10 = .ok (.i2l, 1) := dk_133 (dk_at dksX0_action_0 10 rfl rfl)
theorem dX0_action_11 : decode cX0_action 11 = .ok (.lastore, 1) := dk_80 (dk_at dksX0_action_0 11 rfl rfl)
theorem dX0_action_12 : decode cX0_action 12 = .ok (.goto 7, 3) := dk_167 0 7 (dk_at dksX0_action_0 12 rfl rfl)
theorem dX0_action_15 : decode cX0_action 15 = .ok (.astore 5, 2) := dk_58 5 (dk_at dksX0_action_0 15 rfl rfl)
theorem dX0_action_17 : decode cX0_action 17 = .ok (.iconst 1, 1) := dk_4 (dk_at dksX0_action_0 17 rfl rfl)
theorem dX0_action_18 : decode cX0_action 18 = .ok (.ireturn, 1) := dk_172 (dk_at dksX0_action_0 18 rfl rfl)
theorem dX0_action_19 : decode cX0_action 19 = .ok (.iconst 0, 1) := dk_3 (dk_at dksX0_action_0 19 rfl rfl)
theorem dX0_action_20 : decode cX0_action 20 = .ok (.ireturn, 1) := dk_172 (dk_at dksX0_action_0 20 rfl rfl)
abbrev cX0_finish : ByteArray := method_20_code
def yX0_finish : MethodName := ⟨RX0, "finish", "(LIncidentKeeper;I[J)I"⟩
def dkwX0_finish_0 : List UInt8 := [44, 3, 42, 27, 182, 0, 66, 133, 80, 167, 0, 6, 78, 4, 172, 3, 172]
abbrev dktX0_finish_0 : List UInt8 := dkwX0_finish_0 ++ []
theorem dksX0_finish_0 : cX0_finish.data.toList.drop 0 = dktX0_finish_0 := by decide +kernel
theorem dX0_finish_0 : decode cX0_finish 0 = .ok (.aload_n 2, 1) := dk_44 (dk_at dksX0_finish_0 0 rfl rfl)
theorem dX0_finish_1 : decode cX0_finish 1 = .ok (.iconst 0, 1) := dk_3 (dk_at dksX0_finish_0 1 rfl rfl)
theorem dX0_finish_2 : decode cX0_finish 2 = .ok (.aload_n 0, 1) := dk_42 (dk_at dksX0_finish_0 2 rfl rfl)
theorem dX0_finish_3 : decode cX0_finish 3 = .ok (.iload_n 1, 1) := dk_27 (dk_at dksX0_finish_0 3 rfl rfl)
theorem dX0_finish_4 : decode cX0_finish 4 = .ok (.invokevirtual 66, 3) := dk_182 0 66 (dk_at dksX0_finish_0 4 rfl rfl)
theorem dX0_finish_7 : decode cX0_finish 7 = .ok (.i2l, 1) := dk_133 (dk_at dksX0_finish_0 7 rfl rfl)
theorem dX0_finish_8 : decode cX0_finish 8 = .ok (.lastore, 1) := dk_80 (dk_at dksX0_finish_0 8 rfl rfl)
theorem dX0_finish_9 : decode cX0_finish 9 = .ok (.goto 6, 3) := dk_167 0 6 (dk_at dksX0_finish_0 9 rfl rfl)
theorem dX0_finish_12 : decode cX0_finish 12 = .ok (.astore_n 3, 1) := dk_78 (dk_at dksX0_finish_0 12 rfl rfl)
theorem dX0_finish_13 : decode cX0_finish 13 = .ok (.iconst 1, 1) := dk_4 (dk_at dksX0_finish_0 13 rfl rfl)
theorem dX0_finish_14 : decode cX0_finish 14 = .ok (.ireturn, 1) := dk_172 (dk_at dksX0_finish_0 14 rfl rfl)
theorem dX0_finish_15 : decode cX0_finish 15 = .ok (.iconst 0, 1) := dk_3 (dk_at dksX0_finish_0 15 rfl rfl)
theorem dX0_finish_16 : decode cX0_finish 16 = .ok (.ireturn, 1) := dk_172 (dk_at dksX0_finish_0 16 rfl rfl)
abbrev cX0_pass : ByteArray := method_21_code
def yX0_pass : MethodName := ⟨RX0, "pass", "(LIncidentKeeper;I[J)I"⟩
def dkwX0_pass_0 : List UInt8 := [44, 3, 42, 27, 182, 0, 69, 133, 80, 167, 0, 6, 78, 4, 172, 3, 172]
abbrev dktX0_pass_0 : List UInt8 := dkwX0_pass_0 ++ []
theorem dksX0_pass_0 : cX0_pass.data.toList.drop 0 = dktX0_pass_0 := by decide +kernel
theorem dX0_pass_0 : decode cX0_pass 0 = .ok (.aload_n 2, 1) := dk_44 (dk_at dksX0_pass_0 0 rfl rfl)
theorem dX0_pass_1 : decode cX0_pass 1 = .ok (.iconst 0, 1) := dk_3 (dk_at dksX0_pass_0 1 rfl rfl)
theorem dX0_pass_2 : decode cX0_pass 2 = .ok (.aload_n 0, 1) := dk_42 (dk_at dksX0_pass_0 2 rfl rfl)
theorem dX0_pass_3 : decode cX0_pass 3 = .ok (.iload_n 1, 1) := dk_27 (dk_at dksX0_pass_0 3 rfl rfl)
theorem dX0_pass_4 : decode cX0_pass 4 = .ok (.invokevirtual 69, 3) := dk_182 0 69 (dk_at dksX0_pass_0 4 rfl rfl)
theorem dX0_pass_7 : decode cX0_pass 7 = .ok (.i2l, 1) := dk_133 (dk_at dksX0_pass_0 7 rfl rfl)
theorem dX0_pass_8 : decode cX0_pass 8 = .ok (.lastore, 1) := dk_80 (dk_at dksX0_pass_0 8 rfl rfl)
theorem dX0_pass_9 : decode cX0_pass 9 = .ok (.goto 6, 3) := dk_167 0 6 (dk_at dksX0_pass_0 9 rfl rfl)
theorem dX0_pass_12 : decode cX0_pass 12 = .ok (.astore_n 3, 1) := dk_78 (dk_at dksX0_pass_0 12 rfl rfl)
theorem dX0_pass_13 : decode cX0_pass 13 = .ok (.iconst 1, 1) := dk_4 (dk_at dksX0_pass_0 13 rfl rfl)
theorem dX0_pass_14 : decode cX0_pass 14 = .ok (.ireturn, 1) := dk_172 (dk_at dksX0_pass_0 14 rfl rfl)
theorem dX0_pass_15 : decode cX0_pass 15 = .ok (.iconst 0, 1) := dk_3 (dk_at dksX0_pass_0 15 rfl rfl)
theorem dX0_pass_16 : decode cX0_pass 16 = .ok (.ireturn, 1) := dk_172 (dk_at dksX0_pass_0 16 rfl rfl)
abbrev cX0_append : ByteArray := method_22_code
def yX0_append : MethodName := ⟨RX0, "append", "(LIncidentKeeper;C[J)I"⟩
def dkwX0_append_0 : List UInt8 := [44, 3, 42, 27, 182, 0, 72, 133, 80, 167, 0, 6, 78, 4, 172, 3, 172]
abbrev dktX0_append_0 : List UInt8 := dkwX0_append_0 ++ []
theorem dksX0_append_0 : cX0_append.data.toList.drop 0 = dktX0_append_0 := by decide +kernel
theorem dX0_append_0 : decode cX0_append 0 = .ok (.aload_n 2, 1) := dk_44 (dk_at dksX0_append_0 0 rfl rfl)
theorem dX0_append_1 : decode cX0_append 1 = .ok (.iconst 0, 1) := dk_3 (dk_at dksX0_append_0 1 rfl rfl)
theorem dX0_append_2 : decode cX0_append 2 = .ok (.aload_n 0, 1) := dk_42 (dk_at dksX0_append_0 2 rfl rfl)
theorem dX0_append_3 : decode cX0_append 3 = .ok (.iload_n 1, 1) := dk_27 (dk_at dksX0_append_0 3 rfl rfl)
theorem dX0_append_4 : decode cX0_append 4 = .ok (.invokevirtual 72, 3) := dk_182 0 72 (dk_at dksX0_append_0 4 rfl rfl)
theorem dX0_append_7 : decode cX0_append 7 = .ok (.i2l, 1) := dk_133 (dk_at dksX0_append_0 7 rfl rfl)
theorem dX0_append_8 : decode cX0_append 8 = .ok (.lastore, 1) := dk_80 (dk_at dksX0_append_0 8 rfl rfl)
theorem dX0_append_9 : decode cX0_append 9 = .ok (.goto 6, 3) := dk_167 0 6 (dk_at dksX0_append_0 9 rfl rfl)
theorem dX0_append_12 : decode cX0_append 12 = .ok (.astore_n 3, 1) := dk_78 (dk_at dksX0_append_0 12 rfl rfl)
theorem dX0_append_13 : decode cX0_append 13 = .ok (.iconst 1, 1) := dk_4 (dk_at dksX0_append_0 13 rfl rfl)
theorem dX0_append_14 : decode cX0_append 14 = .ok (.ireturn, 1) := dk_172 (dk_at dksX0_append_0 14 rfl rfl)
theorem dX0_append_15 : decode cX0_append 15 = .ok (.iconst 0, 1) := dk_3 (dk_at dksX0_append_0 15 rfl rfl)
theorem dX0_append_16 : decode cX0_append 16 = .ok (.ireturn, 1) := dk_172 (dk_at dksX0_append_0 16 rfl rfl)
abbrev cX0_run : ByteArray := method_23_code
def yX0_run : MethodName := ⟨RX0, "run", "(LIncidentKeeper;[J)I"⟩
def dkwX0_run_0 : List UInt8 := [43, 3, 42, 182, 0, 78, 133, 80, 167, 0, 9, 77, 4, 172, 77, 5, 172, 3, 172]
abbrev dktX0_run_0 : List UInt8 := dkwX0_run_0 ++ []
theorem dksX0_run_0 : cX0_run.data.toList.drop 0 = dktX0_run_0 := by decide +kernel
theorem dX0_run_0 : decode cX0_run 0 = .ok (.aload_n 1, 1) := dk_43 (dk_at dksX0_run_0 0 rfl rfl)
theorem dX0_run_1 : decode cX0_run 1 = .ok (.iconst 0, 1) := dk_3 (dk_at dksX0_run_0 1 rfl rfl)
theorem dX0_run_2 : decode cX0_run 2 = .ok (.aload_n 0, 1) := dk_42 (dk_at dksX0_run_0 2 rfl rfl)
theorem dX0_run_3 : decode cX0_run 3 = .ok (.invokevirtual 78, 3) := dk_182 0 78 (dk_at dksX0_run_0 3 rfl rfl)
theorem dX0_run_6 : decode cX0_run 6 = .ok (.i2l, 1) := dk_133 (dk_at dksX0_run_0 6 rfl rfl)
theorem dX0_run_7 : decode cX0_run 7 = .ok (.lastore, 1) := dk_80 (dk_at dksX0_run_0 7 rfl rfl)
theorem dX0_run_8 : decode cX0_run 8 = .ok (.goto 9, 3) := dk_167 0 9 (dk_at dksX0_run_0 8 rfl rfl)
theorem dX0_run_11 : decode cX0_run 11 = .ok (.astore_n 2, 1) := dk_77 (dk_at dksX0_run_0 11 rfl rfl)
theorem dX0_run_12 : decode cX0_run 12 = .ok (.iconst 1, 1) := dk_4 (dk_at dksX0_run_0 12 rfl rfl)
theorem dX0_run_13 : decode cX0_run 13 = .ok (.ireturn, 1) := dk_172 (dk_at dksX0_run_0 13 rfl rfl)
theorem dX0_run_14 : decode cX0_run 14 = .ok (.astore_n 2, 1) := dk_77 (dk_at dksX0_run_0 14 rfl rfl)
theorem dX0_run_15 : decode cX0_run 15 = .ok (.iconst 2, 1) := dk_5 (dk_at dksX0_run_0 15 rfl rfl)
theorem dX0_run_16 : decode cX0_run 16 = .ok (.ireturn, 1) := dk_172 (dk_at dksX0_run_0 16 rfl rfl)
theorem dX0_run_17 : decode cX0_run 17 = .ok (.iconst 0, 1) := dk_3 (dk_at dksX0_run_0 17 rfl rfl)
theorem dX0_run_18 : decode cX0_run 18 = .ok (.ireturn, 1) := dk_172 (dk_at dksX0_run_0 18 rfl rfl)
abbrev cX0_reason : ByteArray := method_24_code
def yX0_reason : MethodName := ⟨RX0, "reason", "(LIncidentKeeper;I[J)I"⟩
def dkwX0_reason_0 : List UInt8 := [44, 3, 42, 27, 182, 0, 84, 133, 80, 167, 0, 9, 78, 4, 172, 78, 5, 172, 3, 172]
abbrev dktX0_reason_0 : List UInt8 := dkwX0_reason_0 ++ []
theorem dksX0_reason_0 : cX0_reason.data.toList.drop 0 = dktX0_reason_0 := by decide +kernel
theorem dX0_reason_0 : decode cX0_reason 0 = .ok (.aload_n 2, 1) := dk_44 (dk_at dksX0_reason_0 0 rfl rfl)
theorem dX0_reason_1 : decode cX0_reason 1 = .ok (.iconst 0, 1) := dk_3 (dk_at dksX0_reason_0 1 rfl rfl)
theorem dX0_reason_2 : decode cX0_reason 2 = .ok (.aload_n 0, 1) := dk_42 (dk_at dksX0_reason_0 2 rfl rfl)
theorem dX0_reason_3 : decode cX0_reason 3 = .ok (.iload_n 1, 1) := dk_27 (dk_at dksX0_reason_0 3 rfl rfl)
theorem dX0_reason_4 : decode cX0_reason 4 = .ok (.invokevirtual 84, 3) := dk_182 0 84 (dk_at dksX0_reason_0 4 rfl rfl)
theorem dX0_reason_7 : decode cX0_reason 7 = .ok (.i2l, 1) := dk_133 (dk_at dksX0_reason_0 7 rfl rfl)
theorem dX0_reason_8 : decode cX0_reason 8 = .ok (.lastore, 1) := dk_80 (dk_at dksX0_reason_0 8 rfl rfl)
theorem dX0_reason_9 : decode cX0_reason 9 = .ok (.goto 9, 3) := dk_167 0 9 (dk_at dksX0_reason_0 9 rfl rfl)
theorem dX0_reason_12 : decode cX0_reason 12 = .ok (.astore_n 3, 1) := dk_78 (dk_at dksX0_reason_0 12 rfl rfl)
theorem dX0_reason_13 : decode cX0_reason 13 = .ok (.iconst 1, 1) := dk_4 (dk_at dksX0_reason_0 13 rfl rfl)
theorem dX0_reason_14 : decode cX0_reason 14 = .ok (.ireturn, 1) := dk_172 (dk_at dksX0_reason_0 14 rfl rfl)
theorem dX0_reason_15 : decode cX0_reason 15 = .ok (.astore_n 3, 1) := dk_78 (dk_at dksX0_reason_0 15 rfl rfl)
theorem dX0_reason_16 : decode cX0_reason 16 = .ok (.iconst 2, 1) := dk_5 (dk_at dksX0_reason_0 16 rfl rfl)
theorem dX0_reason_17 : decode cX0_reason 17 = .ok (.ireturn, 1) := dk_172 (dk_at dksX0_reason_0 17 rfl rfl)
theorem dX0_reason_18 : decode cX0_reason 18 = .ok (.iconst 0, 1) := dk_3 (dk_at dksX0_reason_0 18 rfl rfl)
theorem dX0_reason_19 : decode cX0_reason 19 = .ok (.ireturn, 1) := dk_172 (dk_at dksX0_reason_0 19 rfl rfl)
abbrev cX0_incident : ByteArray := method_25_code
def yX0_incident : MethodName := ⟨RX0, "incident", "(LIncidentKeeper;II[J)I"⟩
def dkwX0_incident_0 : List UInt8 := [45, 3, 42, 27, 28, 182, 0, 89, 133, 80, 167, 0, 11, 58, 4, 4, 172, 58, 4, 5, 172, 3, 172]
abbrev dktX0_incident_0 : List UInt8 := dkwX0_incident_0 ++ []
theorem dksX0_incident_0 : cX0_incident.data.toList.drop 0 = dktX0_incident_0 := by decide +kernel
theorem dX0_incident_0 : decode cX0_incident 0 = .ok (.aload_n 3, 1) := dk_45 (dk_at dksX0_incident_0 0 rfl rfl)
theorem dX0_incident_1 : decode cX0_incident 1 = .ok (.iconst 0, 1) := dk_3 (dk_at dksX0_incident_0 1 rfl rfl)
theorem dX0_incident_2 : decode cX0_incident 2 = .ok (.aload_n 0, 1) := dk_42 (dk_at dksX0_incident_0 2 rfl rfl)
theorem dX0_incident_3 : decode cX0_incident 3 = .ok (.iload_n 1, 1) := dk_27 (dk_at dksX0_incident_0 3 rfl rfl)
theorem dX0_incident_4 : decode cX0_incident 4 = .ok (.iload_n 2, 1) := dk_28 (dk_at dksX0_incident_0 4 rfl rfl)
theorem dX0_incident_5 : decode cX0_incident 5 = .ok (.invokevirtual 89, 3) := dk_182 0 89 (dk_at dksX0_incident_0 5 rfl rfl)
theorem dX0_incident_8 : decode cX0_incident 8 = .ok (.i2l, 1) := dk_133 (dk_at dksX0_incident_0 8 rfl rfl)
theorem dX0_incident_9 : decode cX0_incident 9 = .ok (.lastore, 1) := dk_80 (dk_at dksX0_incident_0 9 rfl rfl)
theorem dX0_incident_10 : decode cX0_incident 10 = .ok (.goto 11, 3) := dk_167 0 11 (dk_at dksX0_incident_0 10 rfl rfl)
theorem dX0_incident_13 : decode cX0_incident 13 = .ok (.astore 4, 2) := dk_58 4 (dk_at dksX0_incident_0 13 rfl rfl)
theorem dX0_incident_15 : decode cX0_incident 15 = .ok (.iconst 1, 1) := dk_4 (dk_at dksX0_incident_0 15 rfl rfl)
theorem dX0_incident_16 : decode cX0_incident 16 = .ok (.ireturn, 1) := dk_172 (dk_at dksX0_incident_0 16 rfl rfl)
theorem dX0_incident_17 : decode cX0_incident 17 = .ok (.astore 4, 2) := dk_58 4 (dk_at dksX0_incident_0 17 rfl rfl)
theorem dX0_incident_19 : decode cX0_incident 19 = .ok (.iconst 2, 1) := dk_5 (dk_at dksX0_incident_0 19 rfl rfl)
theorem dX0_incident_20 : decode cX0_incident 20 = .ok (.ireturn, 1) := dk_172 (dk_at dksX0_incident_0 20 rfl rfl)
theorem dX0_incident_21 : decode cX0_incident 21 = .ok (.iconst 0, 1) := dk_3 (dk_at dksX0_incident_0 21 rfl rfl)
theorem dX0_incident_22 : decode cX0_incident 22 = .ok (.ireturn, 1) := dk_172 (dk_at dksX0_incident_0 22 rfl rfl)
abbrev cX0_count : ByteArray := method_26_code
def yX0_count : MethodName := ⟨RX0, "count", "(LIncidentKeeper;II[J)I"⟩
def dkwX0_count_0 : List UInt8 := [45, 3, 42, 27, 28, 182, 0, 94, 133, 80, 167, 0, 7, 58, 4, 4, 172, 3, 172]
abbrev dktX0_count_0 : List UInt8 := dkwX0_count_0 ++ []
theorem dksX0_count_0 : cX0_count.data.toList.drop 0 = dktX0_count_0 := by decide +kernel
theorem dX0_count_0 : decode cX0_count 0 = .ok (.aload_n 3, 1) := dk_45 (dk_at dksX0_count_0 0 rfl rfl)
theorem dX0_count_1 : decode cX0_count 1 = .ok (.iconst 0, 1) := dk_3 (dk_at dksX0_count_0 1 rfl rfl)
theorem dX0_count_2 : decode cX0_count 2 = .ok (.aload_n 0, 1) := dk_42 (dk_at dksX0_count_0 2 rfl rfl)
theorem dX0_count_3 : decode cX0_count 3 = .ok (.iload_n 1, 1) := dk_27 (dk_at dksX0_count_0 3 rfl rfl)
theorem dX0_count_4 : decode cX0_count 4 = .ok (.iload_n 2, 1) := dk_28 (dk_at dksX0_count_0 4 rfl rfl)
theorem dX0_count_5 : decode cX0_count 5 = .ok (.invokevirtual 94, 3) := dk_182 0 94 (dk_at dksX0_count_0 5 rfl rfl)
theorem dX0_count_8 : decode cX0_count 8 = .ok (.i2l, 1) := dk_133 (dk_at dksX0_count_0 8 rfl rfl)
theorem dX0_count_9 : decode cX0_count 9 = .ok (.lastore, 1) := dk_80 (dk_at dksX0_count_0 9 rfl rfl)
theorem dX0_count_10 : decode cX0_count 10 = .ok (.goto 7, 3) := dk_167 0 7 (dk_at dksX0_count_0 10 rfl rfl)
theorem dX0_count_13 : decode cX0_count 13 = .ok (.astore 4, 2) := dk_58 4 (dk_at dksX0_count_0 13 rfl rfl)
theorem dX0_count_15 : decode cX0_count 15 = .ok (.iconst 1, 1) := dk_4 (dk_at dksX0_count_0 15 rfl rfl)
theorem dX0_count_16 : decode cX0_count 16 = .ok (.ireturn, 1) := dk_172 (dk_at dksX0_count_0 16 rfl rfl)
theorem dX0_count_17 : decode cX0_count 17 = .ok (.iconst 0, 1) := dk_3 (dk_at dksX0_count_0 17 rfl rfl)
theorem dX0_count_18 : decode cX0_count 18 = .ok (.ireturn, 1) := dk_172 (dk_at dksX0_count_0 18 rfl rfl)
abbrev cX0_clockAgain : ByteArray := method_27_code
def yX0_clockAgain : MethodName := ⟨RX0, "clockAgain", "(LIncidentKeeper;I[J)I"⟩
def dkwX0_clockAgain_0 : List UInt8 := [44, 3, 42, 27, 182, 0, 97, 133, 80, 167, 0, 6, 78, 4, 172, 3, 172]
abbrev dktX0_clockAgain_0 : List UInt8 := dkwX0_clockAgain_0 ++ []
theorem dksX0_clockAgain_0 : cX0_clockAgain.data.toList.drop 0 = dktX0_clockAgain_0 := by decide +kernel
theorem dX0_clockAgain_0 : decode cX0_clockAgain 0 = .ok (.aload_n 2, 1) := dk_44 (dk_at dksX0_clockAgain_0 0 rfl rfl)
theorem dX0_clockAgain_1 : decode cX0_clockAgain 1 = .ok (.iconst 0, 1) := dk_3 (dk_at dksX0_clockAgain_0 1 rfl rfl)
theorem dX0_clockAgain_2 : decode cX0_clockAgain 2 = .ok (.aload_n 0, 1) := dk_42 (dk_at dksX0_clockAgain_0 2 rfl rfl)
theorem dX0_clockAgain_3 : decode cX0_clockAgain 3 = .ok (.iload_n 1, 1) := dk_27 (dk_at dksX0_clockAgain_0 3 rfl rfl)
theorem dX0_clockAgain_4 : decode cX0_clockAgain 4 = .ok (.invokevirtual 97, 3) := dk_182 0 97 (dk_at dksX0_clockAgain_0 4 rfl rfl)
theorem dX0_clockAgain_7 : decode cX0_clockAgain 7 = .ok (.i2l, 1) := dk_133 (dk_at dksX0_clockAgain_0 7 rfl rfl)
theorem dX0_clockAgain_8 : decode cX0_clockAgain 8 = .ok (.lastore, 1) := dk_80 (dk_at dksX0_clockAgain_0 8 rfl rfl)
theorem dX0_clockAgain_9 : decode cX0_clockAgain 9 = .ok (.goto 6, 3) := dk_167 0 6 (dk_at dksX0_clockAgain_0 9 rfl rfl)
theorem dX0_clockAgain_12 : decode cX0_clockAgain 12 = .ok (.astore_n 3, 1) := dk_78 (dk_at dksX0_clockAgain_0 12 rfl rfl)
theorem dX0_clockAgain_13 : decode cX0_clockAgain 13 = .ok (.iconst 1, 1) := dk_4 (dk_at dksX0_clockAgain_0 13 rfl rfl)
theorem dX0_clockAgain_14 : decode cX0_clockAgain 14 = .ok (.ireturn, 1) := dk_172 (dk_at dksX0_clockAgain_0 14 rfl rfl)
theorem dX0_clockAgain_15 : decode cX0_clockAgain 15 = .ok (.iconst 0, 1) := dk_3 (dk_at dksX0_clockAgain_0 15 rfl rfl)
theorem dX0_clockAgain_16 : decode cX0_clockAgain 16 = .ok (.ireturn, 1) := dk_172 (dk_at dksX0_clockAgain_0 16 rfl rfl)
abbrev cX0_tree : ByteArray := method_28_code
def yX0_tree : MethodName := ⟨RX0, "tree", "(LIncidentKeeper;I[J)I"⟩
def dkwX0_tree_0 : List UInt8 := [44, 3, 42, 27, 182, 0, 100, 133, 80, 167, 0, 6, 78, 4, 172, 3, 172]
abbrev dktX0_tree_0 : List UInt8 := dkwX0_tree_0 ++ []
theorem dksX0_tree_0 : cX0_tree.data.toList.drop 0 = dktX0_tree_0 := by decide +kernel
theorem dX0_tree_0 : decode cX0_tree 0 = .ok (.aload_n 2, 1) := dk_44 (dk_at dksX0_tree_0 0 rfl rfl)
theorem dX0_tree_1 : decode cX0_tree 1 = .ok (.iconst 0, 1) := dk_3 (dk_at dksX0_tree_0 1 rfl rfl)
theorem dX0_tree_2 : decode cX0_tree 2 = .ok (.aload_n 0, 1) := dk_42 (dk_at dksX0_tree_0 2 rfl rfl)
theorem dX0_tree_3 : decode cX0_tree 3 = .ok (.iload_n 1, 1) := dk_27 (dk_at dksX0_tree_0 3 rfl rfl)
theorem dX0_tree_4 : decode cX0_tree 4 = .ok (.invokevirtual 100, 3) := dk_182 0 100 (dk_at dksX0_tree_0 4 rfl rfl)
theorem dX0_tree_7 : decode cX0_tree 7 = .ok (.i2l, 1) := dk_133 (dk_at dksX0_tree_0 7 rfl rfl)
theorem dX0_tree_8 : decode cX0_tree 8 = .ok (.lastore, 1) := dk_80 (dk_at dksX0_tree_0 8 rfl rfl)
theorem dX0_tree_9 : decode cX0_tree 9 = .ok (.goto 6, 3) := dk_167 0 6 (dk_at dksX0_tree_0 9 rfl rfl)
theorem dX0_tree_12 : decode cX0_tree 12 = .ok (.astore_n 3, 1) := dk_78 (dk_at dksX0_tree_0 12 rfl rfl)
theorem dX0_tree_13 : decode cX0_tree 13 = .ok (.iconst 1, 1) := dk_4 (dk_at dksX0_tree_0 13 rfl rfl)
theorem dX0_tree_14 : decode cX0_tree 14 = .ok (.ireturn, 1) := dk_172 (dk_at dksX0_tree_0 14 rfl rfl)
theorem dX0_tree_15 : decode cX0_tree 15 = .ok (.iconst 0, 1) := dk_3 (dk_at dksX0_tree_0 15 rfl rfl)
theorem dX0_tree_16 : decode cX0_tree 16 = .ok (.ireturn, 1) := dk_172 (dk_at dksX0_tree_0 16 rfl rfl)
abbrev cX0_deepest : ByteArray := method_29_code
def yX0_deepest : MethodName := ⟨RX0, "deepest", "(LIncidentKeeper;I[J)I"⟩
def dkwX0_deepest_0 : List UInt8 := [44, 3, 42, 27, 182, 0, 103, 133, 80, 167, 0, 6, 78, 4, 172, 3, 172]
abbrev dktX0_deepest_0 : List UInt8 := dkwX0_deepest_0 ++ []
theorem dksX0_deepest_0 : cX0_deepest.data.toList.drop 0 = dktX0_deepest_0 := by decide +kernel
theorem dX0_deepest_0 : decode cX0_deepest 0 = .ok (.aload_n 2, 1) := dk_44 (dk_at dksX0_deepest_0 0 rfl rfl)
theorem dX0_deepest_1 : decode cX0_deepest 1 = .ok (.iconst 0, 1) := dk_3 (dk_at dksX0_deepest_0 1 rfl rfl)
theorem dX0_deepest_2 : decode cX0_deepest 2 = .ok (.aload_n 0, 1) := dk_42 (dk_at dksX0_deepest_0 2 rfl rfl)
theorem dX0_deepest_3 : decode cX0_deepest 3 = .ok (.iload_n 1, 1) := dk_27 (dk_at dksX0_deepest_0 3 rfl rfl)
theorem dX0_deepest_4 : decode cX0_deepest 4 = .ok (.invokevirtual 103, 3) := dk_182 0 103 (dk_at dksX0_deepest_0 4 rfl rfl)
theorem dX0_deepest_7 : decode cX0_deepest 7 = .ok (.i2l, 1) := dk_133 (dk_at dksX0_deepest_0 7 rfl rfl)
theorem dX0_deepest_8 : decode cX0_deepest 8 = .ok (.lastore, 1) := dk_80 (dk_at dksX0_deepest_0 8 rfl rfl)
theorem dX0_deepest_9 : decode cX0_deepest 9 = .ok (.goto 6, 3) := dk_167 0 6 (dk_at dksX0_deepest_0 9 rfl rfl)
theorem dX0_deepest_12 : decode cX0_deepest 12 = .ok (.astore_n 3, 1) := dk_78 (dk_at dksX0_deepest_0 12 rfl rfl)
theorem dX0_deepest_13 : decode cX0_deepest 13 = .ok (.iconst 1, 1) := dk_4 (dk_at dksX0_deepest_0 13 rfl rfl)
theorem dX0_deepest_14 : decode cX0_deepest 14 = .ok (.ireturn, 1) := dk_172 (dk_at dksX0_deepest_0 14 rfl rfl)
theorem dX0_deepest_15 : decode cX0_deepest 15 = .ok (.iconst 0, 1) := dk_3 (dk_at dksX0_deepest_0 15 rfl rfl)
theorem dX0_deepest_16 : decode cX0_deepest 16 = .ok (.ireturn, 1) := dk_172 (dk_at dksX0_deepest_0 16 rfl rfl)
abbrev cX0_treeClock : ByteArray := method_30_code
def yX0_treeClock : MethodName := ⟨RX0, "treeClock", "(LIncidentKeeper;I[J)I"⟩
def dkwX0_treeClock_0 : List UInt8 := [44, 3, 42, 27, 182, 0, 106, 133, 80, 167, 0, 6, 78, 4, 172, 3, 172]
abbrev dktX0_treeClock_0 : List UInt8 := dkwX0_treeClock_0 ++ []
theorem dksX0_treeClock_0 : cX0_treeClock.data.toList.drop 0 = dktX0_treeClock_0 := by decide +kernel
theorem dX0_treeClock_0 : decode cX0_treeClock 0 = .ok (.aload_n 2, 1) := dk_44 (dk_at dksX0_treeClock_0 0 rfl rfl)
theorem dX0_treeClock_1 : decode cX0_treeClock 1 = .ok (.iconst 0, 1) := dk_3 (dk_at dksX0_treeClock_0 1 rfl rfl)
theorem dX0_treeClock_2 : decode cX0_treeClock 2 = .ok (.aload_n 0, 1) := dk_42 (dk_at dksX0_treeClock_0 2 rfl rfl)
theorem dX0_treeClock_3 : decode cX0_treeClock 3 = .ok (.iload_n 1, 1) := dk_27 (dk_at dksX0_treeClock_0 3 rfl rfl)
theorem dX0_treeClock_4 : decode cX0_treeClock 4 = .ok (.invokevirtual 106, 3) := dk_182 0 106 (dk_at dksX0_treeClock_0 4 rfl rfl)
theorem dX0_treeClock_7 : decode cX0_treeClock 7 = .ok (.i2l, 1) := dk_133 (dk_at dksX0_treeClock_0 7 rfl rfl)
theorem dX0_treeClock_8 : decode cX0_treeClock 8 = .ok (.lastore, 1) := dk_80 (dk_at dksX0_treeClock_0 8 rfl rfl)
theorem dX0_treeClock_9 : decode cX0_treeClock 9 = .ok (.goto 6, 3) := dk_167 0 6 (dk_at dksX0_treeClock_0 9 rfl rfl)
theorem dX0_treeClock_12 : decode cX0_treeClock 12 = .ok (.astore_n 3, 1) := dk_78 (dk_at dksX0_treeClock_0 12 rfl rfl)
theorem dX0_treeClock_13 : decode cX0_treeClock 13 = .ok (.iconst 1, 1) := dk_4 (dk_at dksX0_treeClock_0 13 rfl rfl)
theorem dX0_treeClock_14 : decode cX0_treeClock 14 = .ok (.ireturn, 1) := dk_172 (dk_at dksX0_treeClock_0 14 rfl rfl)
theorem dX0_treeClock_15 : decode cX0_treeClock 15 = .ok (.iconst 0, 1) := dk_3 (dk_at dksX0_treeClock_0 15 rfl rfl)
theorem dX0_treeClock_16 : decode cX0_treeClock 16 = .ok (.ireturn, 1) := dk_172 (dk_at dksX0_treeClock_0 16 rfl rfl)
abbrev cX0_suspects : ByteArray := method_31_code
def yX0_suspects : MethodName := ⟨RX0, "suspects", "(LIncidentKeeper;I[J)I"⟩
def dkwX0_suspects_0 : List UInt8 := [44, 3, 42, 27, 182, 0, 109, 133, 80, 167, 0, 6, 78, 4, 172, 3, 172]
abbrev dktX0_suspects_0 : List UInt8 := dkwX0_suspects_0 ++ []
theorem dksX0_suspects_0 : cX0_suspects.data.toList.drop 0 = dktX0_suspects_0 := by decide +kernel
theorem dX0_suspects_0 : decode cX0_suspects 0 = .ok (.aload_n 2, 1) := dk_44 (dk_at dksX0_suspects_0 0 rfl rfl)
theorem dX0_suspects_1 : decode cX0_suspects 1 = .ok (.iconst 0, 1) := dk_3 (dk_at dksX0_suspects_0 1 rfl rfl)
theorem dX0_suspects_2 : decode cX0_suspects 2 = .ok (.aload_n 0, 1) := dk_42 (dk_at dksX0_suspects_0 2 rfl rfl)
theorem dX0_suspects_3 : decode cX0_suspects 3 = .ok (.iload_n 1, 1) := dk_27 (dk_at dksX0_suspects_0 3 rfl rfl)
theorem dX0_suspects_4 : decode cX0_suspects 4 = .ok (.invokevirtual 109, 3) := dk_182 0 109 (dk_at dksX0_suspects_0 4 rfl rfl)
theorem dX0_suspects_7 : decode cX0_suspects 7 = .ok (.i2l, 1) := dk_133 (dk_at dksX0_suspects_0 7 rfl rfl)
theorem dX0_suspects_8 : decode cX0_suspects 8 = .ok (.lastore, 1) := dk_80 (dk_at dksX0_suspects_0 8 rfl rfl)
theorem dX0_suspects_9 : decode cX0_suspects 9 = .ok (.goto 6, 3) := dk_167 0 6 (dk_at dksX0_suspects_0 9 rfl rfl)
theorem dX0_suspects_12 : decode cX0_suspects 12 = .ok (.astore_n 3, 1) := dk_78 (dk_at dksX0_suspects_0 12 rfl rfl)
theorem dX0_suspects_13 : decode cX0_suspects 13 = .ok (.iconst 1, 1) := dk_4 (dk_at dksX0_suspects_0 13 rfl rfl)
theorem dX0_suspects_14 : decode cX0_suspects 14 = .ok (.ireturn, 1) := dk_172 (dk_at dksX0_suspects_0 14 rfl rfl)
theorem dX0_suspects_15 : decode cX0_suspects 15 = .ok (.iconst 0, 1) := dk_3 (dk_at dksX0_suspects_0 15 rfl rfl)
theorem dX0_suspects_16 : decode cX0_suspects 16 = .ok (.ireturn, 1) := dk_172 (dk_at dksX0_suspects_0 16 rfl rfl)
abbrev cX0_likeliest : ByteArray := method_32_code
def yX0_likeliest : MethodName := ⟨RX0, "likeliest", "(LIncidentKeeper;I[J)I"⟩
def dkwX0_likeliest_0 : List UInt8 := [44, 3, 42, 27, 182, 0, 112, 133, 80, 167, 0, 9, 78, 4, 172, 78, 5, 172, 3, 172]
abbrev dktX0_likeliest_0 : List UInt8 := dkwX0_likeliest_0 ++ []
theorem dksX0_likeliest_0 : cX0_likeliest.data.toList.drop 0 = dktX0_likeliest_0 := by decide +kernel
theorem dX0_likeliest_0 : decode cX0_likeliest 0 = .ok (.aload_n 2, 1) := dk_44 (dk_at dksX0_likeliest_0 0 rfl rfl)
theorem dX0_likeliest_1 : decode cX0_likeliest 1 = .ok (.iconst 0, 1) := dk_3 (dk_at dksX0_likeliest_0 1 rfl rfl)
theorem dX0_likeliest_2 : decode cX0_likeliest 2 = .ok (.aload_n 0, 1) := dk_42 (dk_at dksX0_likeliest_0 2 rfl rfl)
theorem dX0_likeliest_3 : decode cX0_likeliest 3 = .ok (.iload_n 1, 1) := dk_27 (dk_at dksX0_likeliest_0 3 rfl rfl)
theorem dX0_likeliest_4 : decode cX0_likeliest 4 = .ok (.invokevirtual 112, 3) := dk_182 0 112 (dk_at dksX0_likeliest_0 4 rfl rfl)
theorem dX0_likeliest_7 : decode cX0_likeliest 7 = .ok (.i2l, 1) := dk_133 (dk_at dksX0_likeliest_0 7 rfl rfl)
theorem dX0_likeliest_8 : decode cX0_likeliest 8 = .ok (.lastore, 1) := dk_80 (dk_at dksX0_likeliest_0 8 rfl rfl)
theorem dX0_likeliest_9 : decode cX0_likeliest 9 = .ok (.goto 9, 3) := dk_167 0 9 (dk_at dksX0_likeliest_0 9 rfl rfl)
theorem dX0_likeliest_12 : decode cX0_likeliest 12 = .ok (.astore_n 3, 1) := dk_78 (dk_at dksX0_likeliest_0 12 rfl rfl)
theorem dX0_likeliest_13 : decode cX0_likeliest 13 = .ok (.iconst 1, 1) := dk_4 (dk_at dksX0_likeliest_0 13 rfl rfl)
theorem dX0_likeliest_14 : decode cX0_likeliest 14 = .ok (.ireturn, 1) := dk_172 (dk_at dksX0_likeliest_0 14 rfl rfl)
theorem dX0_likeliest_15 : decode cX0_likeliest 15 = .ok (.astore_n 3, 1) := dk_78 (dk_at dksX0_likeliest_0 15 rfl rfl)
theorem dX0_likeliest_16 : decode cX0_likeliest 16 = .ok (.iconst 2, 1) := dk_5 (dk_at dksX0_likeliest_0 16 rfl rfl)
theorem dX0_likeliest_17 : decode cX0_likeliest 17 = .ok (.ireturn, 1) := dk_172 (dk_at dksX0_likeliest_0 17 rfl rfl)
theorem dX0_likeliest_18 : decode cX0_likeliest 18 = .ok (.iconst 0, 1) := dk_3 (dk_at dksX0_likeliest_0 18 rfl rfl)
theorem dX0_likeliest_19 : decode cX0_likeliest 19 = .ok (.ireturn, 1) := dk_172 (dk_at dksX0_likeliest_0 19 rfl rfl)
abbrev cX0_next : ByteArray := method_33_code
def yX0_next : MethodName := ⟨RX0, "next", "(LIncidentKeeper;[J)I"⟩
def dkwX0_next_0 : List UInt8 := [43, 3, 42, 182, 0, 115, 133, 80, 167, 0, 6, 77, 4, 172, 3, 172]
abbrev dktX0_next_0 : List UInt8 := dkwX0_next_0 ++ []
theorem dksX0_next_0 : cX0_next.data.toList.drop 0 = dktX0_next_0 := by decide +kernel
theorem dX0_next_0 : decode cX0_next 0 = .ok (.aload_n 1, 1) := dk_43 (dk_at dksX0_next_0 0 rfl rfl)
theorem dX0_next_1 : decode cX0_next 1 = .ok (.iconst 0, 1) := dk_3 (dk_at dksX0_next_0 1 rfl rfl)
theorem dX0_next_2 : decode cX0_next 2 = .ok (.aload_n 0, 1) := dk_42 (dk_at dksX0_next_0 2 rfl rfl)
theorem dX0_next_3 : decode cX0_next 3 = .ok (.invokevirtual 115, 3) := dk_182 0 115 (dk_at dksX0_next_0 3 rfl rfl)
theorem dX0_next_6 : decode cX0_next 6 = .ok (.i2l, 1) := dk_133 (dk_at dksX0_next_0 6 rfl rfl)
theorem dX0_next_7 : decode cX0_next 7 = .ok (.lastore, 1) := dk_80 (dk_at dksX0_next_0 7 rfl rfl)
theorem dX0_next_8 : decode cX0_next 8 = .ok (.goto 6, 3) := dk_167 0 6 (dk_at dksX0_next_0 8 rfl rfl)
theorem dX0_next_11 : decode cX0_next 11 = .ok (.astore_n 2, 1) := dk_77 (dk_at dksX0_next_0 11 rfl rfl)
theorem dX0_next_12 : decode cX0_next 12 = .ok (.iconst 1, 1) := dk_4 (dk_at dksX0_next_0 12 rfl rfl)
theorem dX0_next_13 : decode cX0_next 13 = .ok (.ireturn, 1) := dk_172 (dk_at dksX0_next_0 13 rfl rfl)
theorem dX0_next_14 : decode cX0_next 14 = .ok (.iconst 0, 1) := dk_3 (dk_at dksX0_next_0 14 rfl rfl)
theorem dX0_next_15 : decode cX0_next 15 = .ok (.ireturn, 1) := dk_172 (dk_at dksX0_next_0 15 rfl rfl)
abbrev cX0_risesIn : ByteArray := method_34_code
def yX0_risesIn : MethodName := ⟨RX0, "risesIn", "(LIncidentKeeper;I[J)I"⟩
def dkwX0_risesIn_0 : List UInt8 := [44, 3, 42, 27, 182, 0, 118, 133, 80, 167, 0, 9, 78, 4, 172, 78, 5, 172, 3, 172]
abbrev dktX0_risesIn_0 : List UInt8 := dkwX0_risesIn_0 ++ []
theorem dksX0_risesIn_0 : cX0_risesIn.data.toList.drop 0 = dktX0_risesIn_0 := by decide +kernel
theorem dX0_risesIn_0 : decode cX0_risesIn 0 = .ok (.aload_n 2, 1) := dk_44 (dk_at dksX0_risesIn_0 0 rfl rfl)
theorem dX0_risesIn_1 : decode cX0_risesIn 1 = .ok (.iconst 0, 1) := dk_3 (dk_at dksX0_risesIn_0 1 rfl rfl)
theorem dX0_risesIn_2 : decode cX0_risesIn 2 = .ok (.aload_n 0, 1) := dk_42 (dk_at dksX0_risesIn_0 2 rfl rfl)
theorem dX0_risesIn_3 : decode cX0_risesIn 3 = .ok (.iload_n 1, 1) := dk_27 (dk_at dksX0_risesIn_0 3 rfl rfl)
theorem dX0_risesIn_4 : decode cX0_risesIn 4 = .ok (.invokevirtual 118, 3) := dk_182 0 118 (dk_at dksX0_risesIn_0 4 rfl rfl)
theorem dX0_risesIn_7 : decode cX0_risesIn 7 = .ok (.i2l, 1) := dk_133 (dk_at dksX0_risesIn_0 7 rfl rfl)
theorem dX0_risesIn_8 : decode cX0_risesIn 8 = .ok (.lastore, 1) := dk_80 (dk_at dksX0_risesIn_0 8 rfl rfl)
theorem dX0_risesIn_9 : decode cX0_risesIn 9 = .ok (.goto 9, 3) := dk_167 0 9 (dk_at dksX0_risesIn_0 9 rfl rfl)
theorem dX0_risesIn_12 : decode cX0_risesIn 12 = .ok (.astore_n 3, 1) := dk_78 (dk_at dksX0_risesIn_0 12 rfl rfl)
theorem dX0_risesIn_13 : decode cX0_risesIn 13 = .ok (.iconst 1, 1) := dk_4 (dk_at dksX0_risesIn_0 13 rfl rfl)
theorem dX0_risesIn_14 : decode cX0_risesIn 14 = .ok (.ireturn, 1) := dk_172 (dk_at dksX0_risesIn_0 14 rfl rfl)
theorem dX0_risesIn_15 : decode cX0_risesIn 15 = .ok (.astore_n 3, 1) := dk_78 (dk_at dksX0_risesIn_0 15 rfl rfl)
theorem dX0_risesIn_16 : decode cX0_risesIn 16 = .ok (.iconst 2, 1) := dk_5 (dk_at dksX0_risesIn_0 16 rfl rfl)
theorem dX0_risesIn_17 : decode cX0_risesIn 17 = .ok (.ireturn, 1) := dk_172 (dk_at dksX0_risesIn_0 17 rfl rfl)
theorem dX0_risesIn_18 : decode cX0_risesIn 18 = .ok (.iconst 0, 1) := dk_3 (dk_at dksX0_risesIn_0 18 rfl rfl)
theorem dX0_risesIn_19 : decode cX0_risesIn 19 = .ok (.ireturn, 1) := dk_172 (dk_at dksX0_risesIn_0 19 rfl rfl)
abbrev cX0_person : ByteArray := method_35_code
def yX0_person : MethodName := ⟨RX0, "person", "(LIncidentKeeper;II[J)I"⟩
def dkwX0_person_0 : List UInt8 := [45, 3, 42, 27, 28, 182, 0, 121, 133, 80, 167, 0, 11, 58, 4, 4, 172, 58, 4, 5, 172, 3, 172]
abbrev dktX0_person_0 : List UInt8 := dkwX0_person_0 ++ []
theorem dksX0_person_0 : cX0_person.data.toList.drop 0 = dktX0_person_0 := by decide +kernel
theorem dX0_person_0 : decode cX0_person 0 = .ok (.aload_n 3, 1) := dk_45 (dk_at dksX0_person_0 0 rfl rfl)
theorem dX0_person_1 : decode cX0_person 1 = .ok (.iconst 0, 1) := dk_3 (dk_at dksX0_person_0 1 rfl rfl)
theorem dX0_person_2 : decode cX0_person 2 = .ok (.aload_n 0, 1) := dk_42 (dk_at dksX0_person_0 2 rfl rfl)
theorem dX0_person_3 : decode cX0_person 3 = .ok (.iload_n 1, 1) := dk_27 (dk_at dksX0_person_0 3 rfl rfl)
theorem dX0_person_4 : decode cX0_person 4 = .ok (.iload_n 2, 1) := dk_28 (dk_at dksX0_person_0 4 rfl rfl)
theorem dX0_person_5 : decode cX0_person 5 = .ok (.invokevirtual 121, 3) := dk_182 0 121 (dk_at dksX0_person_0 5 rfl rfl)
theorem dX0_person_8 : decode cX0_person 8 = .ok (.i2l, 1) := dk_133 (dk_at dksX0_person_0 8 rfl rfl)
theorem dX0_person_9 : decode cX0_person 9 = .ok (.lastore, 1) := dk_80 (dk_at dksX0_person_0 9 rfl rfl)
theorem dX0_person_10 : decode cX0_person 10 = .ok (.goto 11, 3) := dk_167 0 11 (dk_at dksX0_person_0 10 rfl rfl)
theorem dX0_person_13 : decode cX0_person 13 = .ok (.astore 4, 2) := dk_58 4 (dk_at dksX0_person_0 13 rfl rfl)
theorem dX0_person_15 : decode cX0_person 15 = .ok (.iconst 1, 1) := dk_4 (dk_at dksX0_person_0 15 rfl rfl)
theorem dX0_person_16 : decode cX0_person 16 = .ok (.ireturn, 1) := dk_172 (dk_at dksX0_person_0 16 rfl rfl)
theorem dX0_person_17 : decode cX0_person 17 = .ok (.astore 4, 2) := dk_58 4 (dk_at dksX0_person_0 17 rfl rfl)
theorem dX0_person_19 : decode cX0_person 19 = .ok (.iconst 2, 1) := dk_5 (dk_at dksX0_person_0 19 rfl rfl)
theorem dX0_person_20 : decode cX0_person 20 = .ok (.ireturn, 1) := dk_172 (dk_at dksX0_person_0 20 rfl rfl)
theorem dX0_person_21 : decode cX0_person 21 = .ok (.iconst 0, 1) := dk_3 (dk_at dksX0_person_0 21 rfl rfl)
theorem dX0_person_22 : decode cX0_person 22 = .ok (.ireturn, 1) := dk_172 (dk_at dksX0_person_0 22 rfl rfl)
abbrev cX0_reviewOf : ByteArray := method_36_code
def yX0_reviewOf : MethodName := ⟨RX0, "reviewOf", "(LIncidentKeeper;II[J)I"⟩
def dkwX0_reviewOf_0 : List UInt8 := [45, 3, 42, 27, 28, 182, 0, 124, 133, 80, 167, 0, 11, 58, 4, 4, 172, 58, 4, 5, 172, 3, 172]
abbrev dktX0_reviewOf_0 : List UInt8 := dkwX0_reviewOf_0 ++ []
theorem dksX0_reviewOf_0 : cX0_reviewOf.data.toList.drop 0 = dktX0_reviewOf_0 := by decide +kernel
theorem dX0_reviewOf_0 : decode cX0_reviewOf 0 = .ok (.aload_n 3, 1) := dk_45 (dk_at dksX0_reviewOf_0 0 rfl rfl)
theorem dX0_reviewOf_1 : decode cX0_reviewOf 1 = .ok (.iconst 0, 1) := dk_3 (dk_at dksX0_reviewOf_0 1 rfl rfl)
theorem dX0_reviewOf_2 : decode cX0_reviewOf 2 = .ok (.aload_n 0, 1) := dk_42 (dk_at dksX0_reviewOf_0 2 rfl rfl)
theorem dX0_reviewOf_3 : decode cX0_reviewOf 3 = .ok (.iload_n 1, 1) := dk_27 (dk_at dksX0_reviewOf_0 3 rfl rfl)
theorem dX0_reviewOf_4 : decode cX0_reviewOf 4 = .ok (.iload_n 2, 1) := dk_28 (dk_at dksX0_reviewOf_0 4 rfl rfl)
theorem dX0_reviewOf_5 : decode cX0_reviewOf 5 = .ok (.invokevirtual 124, 3) := dk_182 0 124 (dk_at dksX0_reviewOf_0 5 rfl rfl)
theorem dX0_reviewOf_8 : decode cX0_reviewOf 8 = .ok (.i2l, 1) := dk_133 (dk_at dksX0_reviewOf_0 8 rfl rfl)
theorem dX0_reviewOf_9 : decode cX0_reviewOf 9 = .ok (.lastore, 1) := dk_80 (dk_at dksX0_reviewOf_0 9 rfl rfl)
theorem dX0_reviewOf_10 : decode cX0_reviewOf 10 = .ok (.goto 11, 3) := dk_167 0 11 (dk_at dksX0_reviewOf_0 10 rfl rfl)
theorem dX0_reviewOf_13 : decode cX0_reviewOf 13 = .ok (.astore 4, 2) := dk_58 4 (dk_at dksX0_reviewOf_0 13 rfl rfl)
theorem dX0_reviewOf_15 : decode cX0_reviewOf 15 = .ok (.iconst 1, 1) := dk_4 (dk_at dksX0_reviewOf_0 15 rfl rfl)
theorem dX0_reviewOf_16 : decode cX0_reviewOf 16 = .ok (.ireturn, 1) := dk_172 (dk_at dksX0_reviewOf_0 16 rfl rfl)
theorem dX0_reviewOf_17 : decode cX0_reviewOf 17 = .ok (.astore 4, 2) := dk_58 4 (dk_at dksX0_reviewOf_0 17 rfl rfl)
theorem dX0_reviewOf_19 : decode cX0_reviewOf 19 = .ok (.iconst 2, 1) := dk_5 (dk_at dksX0_reviewOf_0 19 rfl rfl)
theorem dX0_reviewOf_20 : decode cX0_reviewOf 20 = .ok (.ireturn, 1) := dk_172 (dk_at dksX0_reviewOf_0 20 rfl rfl)
theorem dX0_reviewOf_21 : decode cX0_reviewOf 21 = .ok (.iconst 0, 1) := dk_3 (dk_at dksX0_reviewOf_0 21 rfl rfl)
theorem dX0_reviewOf_22 : decode cX0_reviewOf 22 = .ok (.ireturn, 1) := dk_172 (dk_at dksX0_reviewOf_0 22 rfl rfl)
abbrev cX0_event : ByteArray := method_37_code
def yX0_event : MethodName := ⟨RX0, "event", "(LIncidentKeeper;II[J)I"⟩
def dkwX0_event_0 : List UInt8 := [45, 3, 42, 27, 28, 182, 0, 127, 133, 80, 167, 0, 11, 58, 4, 4, 172, 58, 4, 5, 172, 3, 172]
abbrev dktX0_event_0 : List UInt8 := dkwX0_event_0 ++ []
theorem dksX0_event_0 : cX0_event.data.toList.drop 0 = dktX0_event_0 := by decide +kernel
theorem dX0_event_0 : decode cX0_event 0 = .ok (.aload_n 3, 1) := dk_45 (dk_at dksX0_event_0 0 rfl rfl)
theorem dX0_event_1 : decode cX0_event 1 = .ok (.iconst 0, 1) := dk_3 (dk_at dksX0_event_0 1 rfl rfl)
theorem dX0_event_2 : decode cX0_event 2 = .ok (.aload_n 0, 1) := dk_42 (dk_at dksX0_event_0 2 rfl rfl)
theorem dX0_event_3 : decode cX0_event 3 = .ok (.iload_n 1, 1) := dk_27 (dk_at dksX0_event_0 3 rfl rfl)
theorem dX0_event_4 : decode cX0_event 4 = .ok (.iload_n 2, 1) := dk_28 (dk_at dksX0_event_0 4 rfl rfl)
theorem dX0_event_5 : decode cX0_event 5 = .ok (.invokevirtual 127, 3) := dk_182 0 127 (dk_at dksX0_event_0 5 rfl rfl)
theorem dX0_event_8 : decode cX0_event 8 = .ok (.i2l, 1) := dk_133 (dk_at dksX0_event_0 8 rfl rfl)
theorem dX0_event_9 : decode cX0_event 9 = .ok (.lastore, 1) := dk_80 (dk_at dksX0_event_0 9 rfl rfl)
theorem dX0_event_10 : decode cX0_event 10 = .ok (.goto 11, 3) := dk_167 0 11 (dk_at dksX0_event_0 10 rfl rfl)
theorem dX0_event_13 : decode cX0_event 13 = .ok (.astore 4, 2) := dk_58 4 (dk_at dksX0_event_0 13 rfl rfl)
theorem dX0_event_15 : decode cX0_event 15 = .ok (.iconst 1, 1) := dk_4 (dk_at dksX0_event_0 15 rfl rfl)
theorem dX0_event_16 : decode cX0_event 16 = .ok (.ireturn, 1) := dk_172 (dk_at dksX0_event_0 16 rfl rfl)
theorem dX0_event_17 : decode cX0_event 17 = .ok (.astore 4, 2) := dk_58 4 (dk_at dksX0_event_0 17 rfl rfl)
theorem dX0_event_19 : decode cX0_event 19 = .ok (.iconst 2, 1) := dk_5 (dk_at dksX0_event_0 19 rfl rfl)
theorem dX0_event_20 : decode cX0_event 20 = .ok (.ireturn, 1) := dk_172 (dk_at dksX0_event_0 20 rfl rfl)
theorem dX0_event_21 : decode cX0_event 21 = .ok (.iconst 0, 1) := dk_3 (dk_at dksX0_event_0 21 rfl rfl)
theorem dX0_event_22 : decode cX0_event 22 = .ok (.ireturn, 1) := dk_172 (dk_at dksX0_event_0 22 rfl rfl)
abbrev cX0_letter : ByteArray := method_38_code
def yX0_letter : MethodName := ⟨RX0, "letter", "(LIncidentKeeper;I[J)I"⟩
def dkwX0_letter_0 : List UInt8 := [44, 3, 42, 27, 182, 0, 130, 133, 80, 167, 0, 6, 78, 4, 172, 3, 172]
abbrev dktX0_letter_0 : List UInt8 := dkwX0_letter_0 ++ []
theorem dksX0_letter_0 : cX0_letter.data.toList.drop 0 = dktX0_letter_0 := by decide +kernel
theorem dX0_letter_0 : decode cX0_letter 0 = .ok (.aload_n 2, 1) := dk_44 (dk_at dksX0_letter_0 0 rfl rfl)
theorem dX0_letter_1 : decode cX0_letter 1 = .ok (.iconst 0, 1) := dk_3 (dk_at dksX0_letter_0 1 rfl rfl)
theorem dX0_letter_2 : decode cX0_letter 2 = .ok (.aload_n 0, 1) := dk_42 (dk_at dksX0_letter_0 2 rfl rfl)
theorem dX0_letter_3 : decode cX0_letter 3 = .ok (.iload_n 1, 1) := dk_27 (dk_at dksX0_letter_0 3 rfl rfl)
theorem dX0_letter_4 : decode cX0_letter 4 = .ok (.invokevirtual 130, 3) := dk_182 0 130 (dk_at dksX0_letter_0 4 rfl rfl)
theorem dX0_letter_7 : decode cX0_letter 7 = .ok (.i2l, 1) := dk_133 (dk_at dksX0_letter_0 7 rfl rfl)
theorem dX0_letter_8 : decode cX0_letter 8 = .ok (.lastore, 1) := dk_80 (dk_at dksX0_letter_0 8 rfl rfl)
theorem dX0_letter_9 : decode cX0_letter 9 = .ok (.goto 6, 3) := dk_167 0 6 (dk_at dksX0_letter_0 9 rfl rfl)
theorem dX0_letter_12 : decode cX0_letter 12 = .ok (.astore_n 3, 1) := dk_78 (dk_at dksX0_letter_0 12 rfl rfl)
theorem dX0_letter_13 : decode cX0_letter 13 = .ok (.iconst 1, 1) := dk_4 (dk_at dksX0_letter_0 13 rfl rfl)
theorem dX0_letter_14 : decode cX0_letter 14 = .ok (.ireturn, 1) := dk_172 (dk_at dksX0_letter_0 14 rfl rfl)
theorem dX0_letter_15 : decode cX0_letter 15 = .ok (.iconst 0, 1) := dk_3 (dk_at dksX0_letter_0 15 rfl rfl)
theorem dX0_letter_16 : decode cX0_letter 16 = .ok (.ireturn, 1) := dk_172 (dk_at dksX0_letter_0 16 rfl rfl)
abbrev cX0_stoppedShare : ByteArray := method_39_code
def yX0_stoppedShare : MethodName := ⟨RX0, "stoppedShare", "(LIncidentKeeper;I[D)I"⟩
def dkwX0_stoppedShare_0 : List UInt8 := [44, 3, 42, 27, 182, 0, 134, 141, 82, 167, 0, 9, 78, 4, 172, 78, 5, 172, 3, 172]
abbrev dktX0_stoppedShare_0 : List UInt8 := dkwX0_stoppedShare_0 ++ []
theorem dksX0_stoppedShare_0 : cX0_stoppedShare.data.toList.drop 0 = dktX0_stoppedShare_0 := by decide +kernel
theorem dX0_stoppedShare_0 : decode cX0_stoppedShare 0 = .ok (.aload_n 2, 1) := dk_44 (dk_at dksX0_stoppedShare_0 0 rfl rfl)
theorem dX0_stoppedShare_1 : decode cX0_stoppedShare 1 = .ok (.iconst 0, 1) := dk_3 (dk_at dksX0_stoppedShare_0 1 rfl rfl)
theorem dX0_stoppedShare_2 : decode cX0_stoppedShare 2 = .ok (.aload_n 0, 1) := dk_42 (dk_at dksX0_stoppedShare_0 2 rfl rfl)
theorem dX0_stoppedShare_3 : decode cX0_stoppedShare 3 = .ok (.iload_n 1, 1) := dk_27 (dk_at dksX0_stoppedShare_0 3 rfl rfl)
theorem dX0_stoppedShare_4 : decode cX0_stoppedShare 4 = .ok (.invokevirtual 134, 3) := dk_182 0 134 (dk_at dksX0_stoppedShare_0 4 rfl rfl)
theorem dX0_stoppedShare_7 : decode cX0_stoppedShare 7 = .ok (.f2d, 1) := dk_141 (dk_at dksX0_stoppedShare_0 7 rfl rfl)
theorem dX0_stoppedShare_8 : decode cX0_stoppedShare 8 = .ok (.dastore, 1) := dk_82 (dk_at dksX0_stoppedShare_0 8 rfl rfl)
theorem dX0_stoppedShare_9 : decode cX0_stoppedShare 9 = .ok (.goto 9, 3) := dk_167 0 9 (dk_at dksX0_stoppedShare_0 9 rfl rfl)
theorem dX0_stoppedShare_12 : decode cX0_stoppedShare 12 = .ok (.astore_n 3, 1) := dk_78 (dk_at dksX0_stoppedShare_0 12 rfl rfl)
theorem dX0_stoppedShare_13 : decode cX0_stoppedShare 13 = .ok (.iconst 1, 1) := dk_4 (dk_at dksX0_stoppedShare_0 13 rfl rfl)
theorem dX0_stoppedShare_14 : decode cX0_stoppedShare 14 = .ok (.ireturn, 1) := dk_172 (dk_at dksX0_stoppedShare_0 14 rfl rfl)
theorem dX0_stoppedShare_15 : decode cX0_stoppedShare 15 = .ok (.astore_n 3, 1) := dk_78 (dk_at dksX0_stoppedShare_0 15 rfl rfl)
theorem dX0_stoppedShare_16 : decode cX0_stoppedShare 16 = .ok (.iconst 2, 1) := dk_5 (dk_at dksX0_stoppedShare_0 16 rfl rfl)
theorem dX0_stoppedShare_17 : decode cX0_stoppedShare 17 = .ok (.ireturn, 1) := dk_172 (dk_at dksX0_stoppedShare_0 17 rfl rfl)
theorem dX0_stoppedShare_18 : decode cX0_stoppedShare 18 = .ok (.iconst 0, 1) := dk_3 (dk_at dksX0_stoppedShare_0 18 rfl rfl)
theorem dX0_stoppedShare_19 : decode cX0_stoppedShare 19 = .ok (.ireturn, 1) := dk_172 (dk_at dksX0_stoppedShare_0 19 rfl rfl)
abbrev cX0_meanClock : ByteArray := method_40_code
def yX0_meanClock : MethodName := ⟨RX0, "meanClock", "(LIncidentKeeper;[D)I"⟩
def dkwX0_meanClock_0 : List UInt8 := [43, 3, 42, 182, 0, 140, 82, 167, 0, 6, 77, 4, 172, 3, 172]
abbrev dktX0_meanClock_0 : List UInt8 := dkwX0_meanClock_0 ++ []
theorem dksX0_meanClock_0 : cX0_meanClock.data.toList.drop 0 = dktX0_meanClock_0 := by decide +kernel
theorem dX0_meanClock_0 : decode cX0_meanClock 0 = .ok (.aload_n 1, 1) := dk_43 (dk_at dksX0_meanClock_0 0 rfl rfl)
theorem dX0_meanClock_1 : decode cX0_meanClock 1 = .ok (.iconst 0, 1) := dk_3 (dk_at dksX0_meanClock_0 1 rfl rfl)
theorem dX0_meanClock_2 : decode cX0_meanClock 2 = .ok (.aload_n 0, 1) := dk_42 (dk_at dksX0_meanClock_0 2 rfl rfl)
theorem dX0_meanClock_3 : decode cX0_meanClock 3 = .ok (.invokevirtual 140, 3) := dk_182 0 140 (dk_at dksX0_meanClock_0 3 rfl rfl)
theorem dX0_meanClock_6 : decode cX0_meanClock 6 = .ok (.dastore, 1) := dk_82 (dk_at dksX0_meanClock_0 6 rfl rfl)
theorem dX0_meanClock_7 : decode cX0_meanClock 7 = .ok (.goto 6, 3) := dk_167 0 6 (dk_at dksX0_meanClock_0 7 rfl rfl)
theorem dX0_meanClock_10 : decode cX0_meanClock 10 = .ok (.astore_n 2, 1) := dk_77 (dk_at dksX0_meanClock_0 10 rfl rfl)
theorem dX0_meanClock_11 : decode cX0_meanClock 11 = .ok (.iconst 1, 1) := dk_4 (dk_at dksX0_meanClock_0 11 rfl rfl)
theorem dX0_meanClock_12 : decode cX0_meanClock 12 = .ok (.ireturn, 1) := dk_172 (dk_at dksX0_meanClock_0 12 rfl rfl)
theorem dX0_meanClock_13 : decode cX0_meanClock 13 = .ok (.iconst 0, 1) := dk_3 (dk_at dksX0_meanClock_0 13 rfl rfl)
theorem dX0_meanClock_14 : decode cX0_meanClock 14 = .ok (.ireturn, 1) := dk_172 (dk_at dksX0_meanClock_0 14 rfl rfl)
abbrev cX0_account : ByteArray := method_41_code
def yX0_account : MethodName := ⟨RX0, "account", "(LIncidentKeeper;I[J)I"⟩
def dkwX0_account_0 : List UInt8 := [44, 3, 42, 27, 182, 0, 144, 133, 80, 167, 0, 6, 78, 4, 172, 3, 172]
abbrev dktX0_account_0 : List UInt8 := dkwX0_account_0 ++ []
theorem dksX0_account_0 : cX0_account.data.toList.drop 0 = dktX0_account_0 := by decide +kernel
theorem dX0_account_0 : decode cX0_account 0 = .ok (.aload_n 2, 1) := dk_44 (dk_at dksX0_account_0 0 rfl rfl)
theorem dX0_account_1 : decode cX0_account 1 = .ok (.iconst 0, 1) := dk_3 (dk_at dksX0_account_0 1 rfl rfl)
theorem dX0_account_2 : decode cX0_account 2 = .ok (.aload_n 0, 1) := dk_42 (dk_at dksX0_account_0 2 rfl rfl)
theorem dX0_account_3 : decode cX0_account 3 = .ok (.iload_n 1, 1) := dk_27 (dk_at dksX0_account_0 3 rfl rfl)
theorem dX0_account_4 : decode cX0_account 4 = .ok (.invokevirtual 144, 3) := dk_182 0 144 (dk_at dksX0_account_0 4 rfl rfl)
theorem dX0_account_7 : decode cX0_account 7 = .ok (.i2l, 1) := dk_133 (dk_at dksX0_account_0 7 rfl rfl)
theorem dX0_account_8 : decode cX0_account 8 = .ok (.lastore, 1) := dk_80 (dk_at dksX0_account_0 8 rfl rfl)
theorem dX0_account_9 : decode cX0_account 9 = .ok (.goto 6, 3) := dk_167 0 6 (dk_at dksX0_account_0 9 rfl rfl)
theorem dX0_account_12 : decode cX0_account 12 = .ok (.astore_n 3, 1) := dk_78 (dk_at dksX0_account_0 12 rfl rfl)
theorem dX0_account_13 : decode cX0_account 13 = .ok (.iconst 1, 1) := dk_4 (dk_at dksX0_account_0 13 rfl rfl)
theorem dX0_account_14 : decode cX0_account 14 = .ok (.ireturn, 1) := dk_172 (dk_at dksX0_account_0 14 rfl rfl)
theorem dX0_account_15 : decode cX0_account 15 = .ok (.iconst 0, 1) := dk_3 (dk_at dksX0_account_0 15 rfl rfl)
theorem dX0_account_16 : decode cX0_account 16 = .ok (.ireturn, 1) := dk_172 (dk_at dksX0_account_0 16 rfl rfl)
abbrev cX0_undo : ByteArray := method_42_code
def yX0_undo : MethodName := ⟨RX0, "undo", "(LIncidentKeeper;[J)I"⟩
def dkwX0_undo_0 : List UInt8 := [43, 3, 42, 182, 0, 147, 133, 80, 167, 0, 6, 77, 4, 172, 3, 172]
abbrev dktX0_undo_0 : List UInt8 := dkwX0_undo_0 ++ []
theorem dksX0_undo_0 : cX0_undo.data.toList.drop 0 = dktX0_undo_0 := by decide +kernel
theorem dX0_undo_0 : decode cX0_undo 0 = .ok (.aload_n 1, 1) := dk_43 (dk_at dksX0_undo_0 0 rfl rfl)
theorem dX0_undo_1 : decode cX0_undo 1 = .ok (.iconst 0, 1) := dk_3 (dk_at dksX0_undo_0 1 rfl rfl)
theorem dX0_undo_2 : decode cX0_undo 2 = .ok (.aload_n 0, 1) := dk_42 (dk_at dksX0_undo_0 2 rfl rfl)
theorem dX0_undo_3 : decode cX0_undo 3 = .ok (.invokevirtual 147, 3) := dk_182 0 147 (dk_at dksX0_undo_0 3 rfl rfl)
theorem dX0_undo_6 : decode cX0_undo 6 = .ok (.i2l, 1) := dk_133 (dk_at dksX0_undo_0 6 rfl rfl)
theorem dX0_undo_7 : decode cX0_undo 7 = .ok (.lastore, 1) := dk_80 (dk_at dksX0_undo_0 7 rfl rfl)
theorem dX0_undo_8 : decode cX0_undo 8 = .ok (.goto 6, 3) := dk_167 0 6 (dk_at dksX0_undo_0 8 rfl rfl)
theorem dX0_undo_11 : decode cX0_undo 11 = .ok (.astore_n 2, 1) := dk_77 (dk_at dksX0_undo_0 11 rfl rfl)
theorem dX0_undo_12 : decode cX0_undo 12 = .ok (.iconst 1, 1) := dk_4 (dk_at dksX0_undo_0 12 rfl rfl)
theorem dX0_undo_13 : decode cX0_undo 13 = .ok (.ireturn, 1) := dk_172 (dk_at dksX0_undo_0 13 rfl rfl)
theorem dX0_undo_14 : decode cX0_undo 14 = .ok (.iconst 0, 1) := dk_3 (dk_at dksX0_undo_0 14 rfl rfl)
theorem dX0_undo_15 : decode cX0_undo 15 = .ok (.ireturn, 1) := dk_172 (dk_at dksX0_undo_0 15 rfl rfl)
abbrev cX0_restore : ByteArray := method_43_code
def yX0_restore : MethodName := ⟨RX0, "restore", "(LIncidentKeeper;[J)I"⟩
def dkwX0_restore_0 : List UInt8 := [43, 3, 42, 182, 0, 150, 133, 80, 167, 0, 6, 77, 4, 172, 3, 172]
abbrev dktX0_restore_0 : List UInt8 := dkwX0_restore_0 ++ []
theorem dksX0_restore_0 : cX0_restore.data.toList.drop 0 = dktX0_restore_0 := by decide +kernel
theorem dX0_restore_0 : decode cX0_restore 0 = .ok (.aload_n 1, 1) := dk_43 (dk_at dksX0_restore_0 0 rfl rfl)
theorem dX0_restore_1 : decode cX0_restore 1 = .ok (.iconst 0, 1) := dk_3 (dk_at dksX0_restore_0 1 rfl rfl)
theorem dX0_restore_2 : decode cX0_restore 2 = .ok (.aload_n 0, 1) := dk_42 (dk_at dksX0_restore_0 2 rfl rfl)
theorem dX0_restore_3 : decode cX0_restore 3 = .ok (.invokevirtual 150, 3) := dk_182 0 150 (dk_at dksX0_restore_0 3 rfl rfl)
theorem dX0_restore_6 : decode cX0_restore 6 = .ok (.i2l, 1) := dk_133 (dk_at dksX0_restore_0 6 rfl rfl)
theorem dX0_restore_7 : decode cX0_restore 7 = .ok (.lastore, 1) := dk_80 (dk_at dksX0_restore_0 7 rfl rfl)
theorem dX0_restore_8 : decode cX0_restore 8 = .ok (.goto 6, 3) := dk_167 0 6 (dk_at dksX0_restore_0 8 rfl rfl)
theorem dX0_restore_11 : decode cX0_restore 11 = .ok (.astore_n 2, 1) := dk_77 (dk_at dksX0_restore_0 11 rfl rfl)
theorem dX0_restore_12 : decode cX0_restore 12 = .ok (.iconst 1, 1) := dk_4 (dk_at dksX0_restore_0 12 rfl rfl)
theorem dX0_restore_13 : decode cX0_restore 13 = .ok (.ireturn, 1) := dk_172 (dk_at dksX0_restore_0 13 rfl rfl)
theorem dX0_restore_14 : decode cX0_restore 14 = .ok (.iconst 0, 1) := dk_3 (dk_at dksX0_restore_0 14 rfl rfl)
theorem dX0_restore_15 : decode cX0_restore 15 = .ok (.ireturn, 1) := dk_172 (dk_at dksX0_restore_0 15 rfl rfl)
theorem q64 : (Jvm.Cond.initialized "IncidentKeeperLaw") ∈ lw_all := lw_g (lw_at lw_m1 0 rfl) rfl
theorem q104 : (Jvm.Cond.classLink "IncidentKeeperLaw" (8 : Nat) "IncidentKeeper") ∈ lw_all := lw_g (lw_at lw_m1 40 rfl) rfl
theorem q106 : (Jvm.Cond.methodLink "IncidentKeeperLaw" (153 : Nat) ({ cls := "IncidentKeeper", name := "<init>", desc := "()V" } : Jvm.MethodName)) ∈ lw_all := lw_g (lw_at lw_m1 42 rfl) rfl
theorem q232 : (Jvm.Cond.methodLink "IncidentKeeperLaw" (231 : Nat) ({ cls := "IncidentKeeper", name := "faultPosition", desc := "()I" } : Jvm.MethodName)) ∈ lw_all := lw_g (lw_at lw_m1 168 rfl) rfl
theorem q236 : (Jvm.Cond.methodLink "IncidentKeeperLaw" (294 : Nat) ({ cls := "IncidentKeeper", name := "save", desc := "()I" } : Jvm.MethodName)) ∈ lw_all := lw_g (lw_at lw_m1 172 rfl) rfl
theorem q478 : (Jvm.Cond.methodLink "IncidentKeeperLaw" (157 : Nat) ({ cls := "IncidentKeeperLaw", name := "duty", desc := "(LIncidentKeeper;IZ[J)I" } : Jvm.MethodName)) ∈ lw_all := lw_g (lw_at lw_m2 174 rfl) rfl
theorem q479 : (Jvm.Cond.static ({ cls := "IncidentKeeperLaw", name := "duty", desc := "(LIncidentKeeper;IZ[J)I" } : Jvm.MethodName)) ∈ lw_all := lw_g (lw_at lw_m2 175 rfl) rfl
theorem q480 : (Jvm.Cond.codeWith ({ cls := "IncidentKeeperLaw", name := "duty", desc := "(LIncidentKeeper;IZ[J)I" } : Jvm.MethodName) method_3_code (5 : Nat) (Option.some Jvm.ClassFile.FieldType.int) [((0 : Nat), (10 : Nat), (13 : Nat), (13 : Nat))]) ∈ lw_all := lw_g (lw_at lw_m2 176 rfl) rfl
theorem q481 : (Jvm.Cond.classLink "IncidentKeeperLaw" (13 : Nat) "java/lang/UnsupportedOperationException") ∈ lw_all := lw_g (lw_at lw_m2 177 rfl) rfl
theorem q482 : (Jvm.Cond.methodLink "IncidentKeeperLaw" (7 : Nat) ({ cls := "IncidentKeeper", name := "duty", desc := "(IZ)I" } : Jvm.MethodName)) ∈ lw_all := lw_g (lw_at lw_m2 178 rfl) rfl
theorem q983 : (Jvm.Cond.methodLink "IncidentKeeperLaw" (166 : Nat) ({ cls := "IncidentKeeperLaw", name := "target", desc := "(LIncidentKeeper;II[J)I" } : Jvm.MethodName)) ∈ lw_all := lw_g (lw_at lw_m4 199 rfl) rfl
theorem q984 : (Jvm.Cond.static ({ cls := "IncidentKeeperLaw", name := "target", desc := "(LIncidentKeeper;II[J)I" } : Jvm.MethodName)) ∈ lw_all := lw_g (lw_at lw_m4 200 rfl) rfl
theorem q985 : (Jvm.Cond.codeWith ({ cls := "IncidentKeeperLaw", name := "target", desc := "(LIncidentKeeper;II[J)I" } : Jvm.MethodName) method_4_code (5 : Nat) (Option.some Jvm.ClassFile.FieldType.int) [((0 : Nat), (10 : Nat), (13 : Nat), (13 : Nat))]) ∈ lw_all := lw_g (lw_at lw_m4 201 rfl) rfl
theorem q986 : (Jvm.Cond.methodLink "IncidentKeeperLaw" (15 : Nat) ({ cls := "IncidentKeeper", name := "target", desc := "(II)I" } : Jvm.MethodName)) ∈ lw_all := lw_g (lw_at lw_m4 202 rfl) rfl
theorem q1012 : (Jvm.Cond.methodLink "IncidentKeeperLaw" (170 : Nat) ({ cls := "IncidentKeeperLaw", name := "limit", desc := "(LIncidentKeeper;II[J)I" } : Jvm.MethodName)) ∈ lw_all := lw_g (lw_at lw_m4 228 rfl) rfl
theorem q1013 : (Jvm.Cond.static ({ cls := "IncidentKeeperLaw", name := "limit", desc := "(LIncidentKeeper;II[J)I" } : Jvm.MethodName)) ∈ lw_all := lw_g (lw_at lw_m4 229 rfl) rfl
theorem q1014 : (Jvm.Cond.codeWith ({ cls := "IncidentKeeperLaw", name := "limit", desc := "(LIncidentKeeper;II[J)I" } : Jvm.MethodName) method_5_code (5 : Nat) (Option.some Jvm.ClassFile.FieldType.int) [((0 : Nat), (10 : Nat), (13 : Nat), (13 : Nat))]) ∈ lw_all := lw_g (lw_at lw_m4 230 rfl) rfl
theorem q1015 : (Jvm.Cond.methodLink "IncidentKeeperLaw" (19 : Nat) ({ cls := "IncidentKeeper", name := "limit", desc := "(II)I" } : Jvm.MethodName)) ∈ lw_all := lw_g (lw_at lw_m4 231 rfl) rfl
theorem q1019 : (Jvm.Cond.methodLink "IncidentKeeperLaw" (173 : Nat) ({ cls := "IncidentKeeperLaw", name := "window", desc := "(LIncidentKeeper;I[J)I" } : Jvm.MethodName)) ∈ lw_all := lw_g (lw_at lw_m4 235 rfl) rfl
theorem q1020 : (Jvm.Cond.static ({ cls := "IncidentKeeperLaw", name := "window", desc := "(LIncidentKeeper;I[J)I" } : Jvm.MethodName)) ∈ lw_all := lw_g (lw_at lw_m4 236 rfl) rfl
theorem q1021 : (Jvm.Cond.codeWith ({ cls := "IncidentKeeperLaw", name := "window", desc := "(LIncidentKeeper;I[J)I" } : Jvm.MethodName) method_6_code (4 : Nat) (Option.some Jvm.ClassFile.FieldType.int) [((0 : Nat), (9 : Nat), (12 : Nat), (13 : Nat))]) ∈ lw_all := lw_g (lw_at lw_m4 237 rfl) rfl
theorem q1022 : (Jvm.Cond.methodLink "IncidentKeeperLaw" (22 : Nat) ({ cls := "IncidentKeeper", name := "window", desc := "(I)I" } : Jvm.MethodName)) ∈ lw_all := lw_g (lw_at lw_m4 238 rfl) rfl
theorem q1026 : (Jvm.Cond.methodLink "IncidentKeeperLaw" (177 : Nat) ({ cls := "IncidentKeeperLaw", name := "open", desc := "(LIncidentKeeper;II[J)I" } : Jvm.MethodName)) ∈ lw_all := lw_g (lw_at lw_m5 2 rfl) rfl
theorem q1027 : (Jvm.Cond.static ({ cls := "IncidentKeeperLaw", name := "open", desc := "(LIncidentKeeper;II[J)I" } : Jvm.MethodName)) ∈ lw_all := lw_g (lw_at lw_m5 3 rfl) rfl
theorem q1028 : (Jvm.Cond.codeWith ({ cls := "IncidentKeeperLaw", name := "open", desc := "(LIncidentKeeper;II[J)I" } : Jvm.MethodName) method_7_code (5 : Nat) (Option.some Jvm.ClassFile.FieldType.int) [((0 : Nat), (10 : Nat), (13 : Nat), (13 : Nat))]) ∈ lw_all := lw_g (lw_at lw_m5 4 rfl) rfl
theorem q1029 : (Jvm.Cond.methodLink "IncidentKeeperLaw" (26 : Nat) ({ cls := "IncidentKeeper", name := "open", desc := "(II)I" } : Jvm.MethodName)) ∈ lw_all := lw_g (lw_at lw_m5 5 rfl) rfl
theorem q1033 : (Jvm.Cond.methodLink "IncidentKeeperLaw" (180 : Nat) ({ cls := "IncidentKeeperLaw", name := "rate", desc := "(LIncidentKeeper;II[J)I" } : Jvm.MethodName)) ∈ lw_all := lw_g (lw_at lw_m5 9 rfl) rfl
theorem q1034 : (Jvm.Cond.static ({ cls := "IncidentKeeperLaw", name := "rate", desc := "(LIncidentKeeper;II[J)I" } : Jvm.MethodName)) ∈ lw_all := lw_g (lw_at lw_m5 10 rfl) rfl
theorem q1035 : (Jvm.Cond.codeWith ({ cls := "IncidentKeeperLaw", name := "rate", desc := "(LIncidentKeeper;II[J)I" } : Jvm.MethodName) method_8_code (5 : Nat) (Option.some Jvm.ClassFile.FieldType.int) [((0 : Nat), (10 : Nat), (13 : Nat), (13 : Nat))]) ∈ lw_all := lw_g (lw_at lw_m5 11 rfl) rfl
theorem q1036 : (Jvm.Cond.methodLink "IncidentKeeperLaw" (29 : Nat) ({ cls := "IncidentKeeper", name := "rate", desc := "(II)I" } : Jvm.MethodName)) ∈ lw_all := lw_g (lw_at lw_m5 12 rfl) rfl
theorem q1040 : (Jvm.Cond.methodLink "IncidentKeeperLaw" (183 : Nat) ({ cls := "IncidentKeeperLaw", name := "hand", desc := "(LIncidentKeeper;II[J)I" } : Jvm.MethodName)) ∈ lw_all := lw_g (lw_at lw_m5 16 rfl) rfl
theorem q1041 : (Jvm.Cond.static ({ cls := "IncidentKeeperLaw", name := "hand", desc := "(LIncidentKeeper;II[J)I" } : Jvm.MethodName)) ∈ lw_all := lw_g (lw_at lw_m5 17 rfl) rfl
theorem q1042 : (Jvm.Cond.codeWith ({ cls := "IncidentKeeperLaw", name := "hand", desc := "(LIncidentKeeper;II[J)I" } : Jvm.MethodName) method_9_code (5 : Nat) (Option.some Jvm.ClassFile.FieldType.int) [((0 : Nat), (10 : Nat), (13 : Nat), (13 : Nat))]) ∈ lw_all := lw_g (lw_at lw_m5 18 rfl) rfl
theorem q1043 : (Jvm.Cond.methodLink "IncidentKeeperLaw" (32 : Nat) ({ cls := "IncidentKeeper", name := "hand", desc := "(II)I" } : Jvm.MethodName)) ∈ lw_all := lw_g (lw_at lw_m5 19 rfl) rfl
theorem q1047 : (Jvm.Cond.methodLink "IncidentKeeperLaw" (186 : Nat) ({ cls := "IncidentKeeperLaw", name := "stop", desc := "(LIncidentKeeper;II[J)I" } : Jvm.MethodName)) ∈ lw_all := lw_g (lw_at lw_m5 23 rfl) rfl
theorem q1048 : (Jvm.Cond.static ({ cls := "IncidentKeeperLaw", name := "stop", desc := "(LIncidentKeeper;II[J)I" } : Jvm.MethodName)) ∈ lw_all := lw_g (lw_at lw_m5 24 rfl) rfl
theorem q1049 : (Jvm.Cond.codeWith ({ cls := "IncidentKeeperLaw", name := "stop", desc := "(LIncidentKeeper;II[J)I" } : Jvm.MethodName) method_10_code (5 : Nat) (Option.some Jvm.ClassFile.FieldType.int) [((0 : Nat), (10 : Nat), (13 : Nat), (13 : Nat))]) ∈ lw_all := lw_g (lw_at lw_m5 25 rfl) rfl
theorem q1050 : (Jvm.Cond.methodLink "IncidentKeeperLaw" (35 : Nat) ({ cls := "IncidentKeeper", name := "stop", desc := "(II)I" } : Jvm.MethodName)) ∈ lw_all := lw_g (lw_at lw_m5 26 rfl) rfl
theorem q1054 : (Jvm.Cond.methodLink "IncidentKeeperLaw" (189 : Nat) ({ cls := "IncidentKeeperLaw", name := "go", desc := "(LIncidentKeeper;II[J)I" } : Jvm.MethodName)) ∈ lw_all := lw_g (lw_at lw_m5 30 rfl) rfl
theorem q1055 : (Jvm.Cond.static ({ cls := "IncidentKeeperLaw", name := "go", desc := "(LIncidentKeeper;II[J)I" } : Jvm.MethodName)) ∈ lw_all := lw_g (lw_at lw_m5 31 rfl) rfl
theorem q1056 : (Jvm.Cond.codeWith ({ cls := "IncidentKeeperLaw", name := "go", desc := "(LIncidentKeeper;II[J)I" } : Jvm.MethodName) method_11_code (5 : Nat) (Option.some Jvm.ClassFile.FieldType.int) [((0 : Nat), (10 : Nat), (13 : Nat), (13 : Nat))]) ∈ lw_all := lw_g (lw_at lw_m5 32 rfl) rfl
theorem q1057 : (Jvm.Cond.methodLink "IncidentKeeperLaw" (38 : Nat) ({ cls := "IncidentKeeper", name := "go", desc := "(II)I" } : Jvm.MethodName)) ∈ lw_all := lw_g (lw_at lw_m5 33 rfl) rfl
theorem q1061 : (Jvm.Cond.methodLink "IncidentKeeperLaw" (192 : Nat) ({ cls := "IncidentKeeperLaw", name := "resolve", desc := "(LIncidentKeeper;I[J)I" } : Jvm.MethodName)) ∈ lw_all := lw_g (lw_at lw_m5 37 rfl) rfl
theorem q1062 : (Jvm.Cond.static ({ cls := "IncidentKeeperLaw", name := "resolve", desc := "(LIncidentKeeper;I[J)I" } : Jvm.MethodName)) ∈ lw_all := lw_g (lw_at lw_m5 38 rfl) rfl
theorem q1063 : (Jvm.Cond.codeWith ({ cls := "IncidentKeeperLaw", name := "resolve", desc := "(LIncidentKeeper;I[J)I" } : Jvm.MethodName) method_12_code (4 : Nat) (Option.some Jvm.ClassFile.FieldType.int) [((0 : Nat), (9 : Nat), (12 : Nat), (13 : Nat))]) ∈ lw_all := lw_g (lw_at lw_m5 39 rfl) rfl
theorem q1064 : (Jvm.Cond.methodLink "IncidentKeeperLaw" (41 : Nat) ({ cls := "IncidentKeeper", name := "resolve", desc := "(I)I" } : Jvm.MethodName)) ∈ lw_all := lw_g (lw_at lw_m5 40 rfl) rfl
theorem q1068 : (Jvm.Cond.methodLink "IncidentKeeperLaw" (195 : Nat) ({ cls := "IncidentKeeperLaw", name := "reopen", desc := "(LIncidentKeeper;I[J)I" } : Jvm.MethodName)) ∈ lw_all := lw_g (lw_at lw_m5 44 rfl) rfl
theorem q1069 : (Jvm.Cond.static ({ cls := "IncidentKeeperLaw", name := "reopen", desc := "(LIncidentKeeper;I[J)I" } : Jvm.MethodName)) ∈ lw_all := lw_g (lw_at lw_m5 45 rfl) rfl
theorem q1070 : (Jvm.Cond.codeWith ({ cls := "IncidentKeeperLaw", name := "reopen", desc := "(LIncidentKeeper;I[J)I" } : Jvm.MethodName) method_13_code (4 : Nat) (Option.some Jvm.ClassFile.FieldType.int) [((0 : Nat), (9 : Nat), (12 : Nat), (13 : Nat))]) ∈ lw_all := lw_g (lw_at lw_m5 46 rfl) rfl
theorem q1071 : (Jvm.Cond.methodLink "IncidentKeeperLaw" (44 : Nat) ({ cls := "IncidentKeeper", name := "reopen", desc := "(I)I" } : Jvm.MethodName)) ∈ lw_all := lw_g (lw_at lw_m5 47 rfl) rfl
theorem q1075 : (Jvm.Cond.methodLink "IncidentKeeperLaw" (198 : Nat) ({ cls := "IncidentKeeperLaw", name := "close", desc := "(LIncidentKeeper;I[J)I" } : Jvm.MethodName)) ∈ lw_all := lw_g (lw_at lw_m5 51 rfl) rfl
theorem q1076 : (Jvm.Cond.static ({ cls := "IncidentKeeperLaw", name := "close", desc := "(LIncidentKeeper;I[J)I" } : Jvm.MethodName)) ∈ lw_all := lw_g (lw_at lw_m5 52 rfl) rfl
theorem q1077 : (Jvm.Cond.codeWith ({ cls := "IncidentKeeperLaw", name := "close", desc := "(LIncidentKeeper;I[J)I" } : Jvm.MethodName) method_14_code (4 : Nat) (Option.some Jvm.ClassFile.FieldType.int) [((0 : Nat), (9 : Nat), (12 : Nat), (13 : Nat))]) ∈ lw_all := lw_g (lw_at lw_m5 53 rfl) rfl
theorem q1078 : (Jvm.Cond.methodLink "IncidentKeeperLaw" (47 : Nat) ({ cls := "IncidentKeeper", name := "close", desc := "(I)I" } : Jvm.MethodName)) ∈ lw_all := lw_g (lw_at lw_m5 54 rfl) rfl
theorem q1082 : (Jvm.Cond.methodLink "IncidentKeeperLaw" (201 : Nat) ({ cls := "IncidentKeeperLaw", name := "cause", desc := "(LIncidentKeeper;II[J)I" } : Jvm.MethodName)) ∈ lw_all := lw_g (lw_at lw_m5 58 rfl) rfl
theorem q1083 : (Jvm.Cond.static ({ cls := "IncidentKeeperLaw", name := "cause", desc := "(LIncidentKeeper;II[J)I" } : Jvm.MethodName)) ∈ lw_all := lw_g (lw_at lw_m5 59 rfl) rfl
theorem q1084 : (Jvm.Cond.codeWith ({ cls := "IncidentKeeperLaw", name := "cause", desc := "(LIncidentKeeper;II[J)I" } : Jvm.MethodName) method_15_code (5 : Nat) (Option.some Jvm.ClassFile.FieldType.int) [((0 : Nat), (10 : Nat), (13 : Nat), (13 : Nat))]) ∈ lw_all := lw_g (lw_at lw_m5 60 rfl) rfl
theorem q1085 : (Jvm.Cond.methodLink "IncidentKeeperLaw" (50 : Nat) ({ cls := "IncidentKeeper", name := "cause", desc := "(II)I" } : Jvm.MethodName)) ∈ lw_all := lw_g (lw_at lw_m5 61 rfl) rfl
theorem q1089 : (Jvm.Cond.methodLink "IncidentKeeperLaw" (204 : Nat) ({ cls := "IncidentKeeperLaw", name := "note", desc := "(LIncidentKeeper;III[J)I" } : Jvm.MethodName)) ∈ lw_all := lw_g (lw_at lw_m5 65 rfl) rfl
theorem q1090 : (Jvm.Cond.static ({ cls := "IncidentKeeperLaw", name := "note", desc := "(LIncidentKeeper;III[J)I" } : Jvm.MethodName)) ∈ lw_all := lw_g (lw_at lw_m5 66 rfl) rfl
theorem q1091 : (Jvm.Cond.codeWith ({ cls := "IncidentKeeperLaw", name := "note", desc := "(LIncidentKeeper;III[J)I" } : Jvm.MethodName) method_16_code (6 : Nat) (Option.some Jvm.ClassFile.FieldType.int) [((0 : Nat), (12 : Nat), (15 : Nat), (13 : Nat))]) ∈ lw_all := lw_g (lw_at lw_m5 67 rfl) rfl
theorem q1092 : (Jvm.Cond.methodLink "IncidentKeeperLaw" (53 : Nat) ({ cls := "IncidentKeeper", name := "note", desc := "(III)I" } : Jvm.MethodName)) ∈ lw_all := lw_g (lw_at lw_m5 68 rfl) rfl
theorem q1096 : (Jvm.Cond.methodLink "IncidentKeeperLaw" (208 : Nat) ({ cls := "IncidentKeeperLaw", name := "link", desc := "(LIncidentKeeper;II[J)I" } : Jvm.MethodName)) ∈ lw_all := lw_g (lw_at lw_m5 72 rfl) rfl
theorem q1097 : (Jvm.Cond.static ({ cls := "IncidentKeeperLaw", name := "link", desc := "(LIncidentKeeper;II[J)I" } : Jvm.MethodName)) ∈ lw_all := lw_g (lw_at lw_m5 73 rfl) rfl
theorem q1098 : (Jvm.Cond.codeWith ({ cls := "IncidentKeeperLaw", name := "link", desc := "(LIncidentKeeper;II[J)I" } : Jvm.MethodName) method_17_code (5 : Nat) (Option.some Jvm.ClassFile.FieldType.int) [((0 : Nat), (10 : Nat), (13 : Nat), (13 : Nat))]) ∈ lw_all := lw_g (lw_at lw_m5 74 rfl) rfl
theorem q1099 : (Jvm.Cond.methodLink "IncidentKeeperLaw" (57 : Nat) ({ cls := "IncidentKeeper", name := "link", desc := "(II)I" } : Jvm.MethodName)) ∈ lw_all := lw_g (lw_at lw_m5 75 rfl) rfl
theorem q1103 : (Jvm.Cond.methodLink "IncidentKeeperLaw" (211 : Nat) ({ cls := "IncidentKeeperLaw", name := "review", desc := "(LIncidentKeeper;I[J)I" } : Jvm.MethodName)) ∈ lw_all := lw_g (lw_at lw_m5 79 rfl) rfl
theorem q1104 : (Jvm.Cond.static ({ cls := "IncidentKeeperLaw", name := "review", desc := "(LIncidentKeeper;I[J)I" } : Jvm.MethodName)) ∈ lw_all := lw_g (lw_at lw_m5 80 rfl) rfl
theorem q1105 : (Jvm.Cond.codeWith ({ cls := "IncidentKeeperLaw", name := "review", desc := "(LIncidentKeeper;I[J)I" } : Jvm.MethodName) method_18_code (4 : Nat) (Option.some Jvm.ClassFile.FieldType.int) [((0 : Nat), (9 : Nat), (12 : Nat), (13 : Nat))]) ∈ lw_all := lw_g (lw_at lw_m5 81 rfl) rfl
theorem q1106 : (Jvm.Cond.methodLink "IncidentKeeperLaw" (60 : Nat) ({ cls := "IncidentKeeper", name := "review", desc := "(I)I" } : Jvm.MethodName)) ∈ lw_all := lw_g (lw_at lw_m5 82 rfl) rfl
theorem q1110 : (Jvm.Cond.methodLink "IncidentKeeperLaw" (214 : Nat) ({ cls := "IncidentKeeperLaw", name := "action", desc := "(LIncidentKeeper;III[J)I" } : Jvm.MethodName)) ∈ lw_all := lw_g (lw_at lw_m5 86 rfl) rfl
theorem q1111 : (Jvm.Cond.static ({ cls := "IncidentKeeperLaw", name := "action", desc := "(LIncidentKeeper;III[J)I" } : Jvm.MethodName)) ∈ lw_all := lw_g (lw_at lw_m5 87 rfl) rfl
theorem q1112 : (Jvm.Cond.codeWith ({ cls := "IncidentKeeperLaw", name := "action", desc := "(LIncidentKeeper;III[J)I" } : Jvm.MethodName) method_19_code (6 : Nat) (Option.some Jvm.ClassFile.FieldType.int) [((0 : Nat), (12 : Nat), (15 : Nat), (13 : Nat))]) ∈ lw_all := lw_g (lw_at lw_m5 88 rfl) rfl
theorem q1113 : (Jvm.Cond.methodLink "IncidentKeeperLaw" (63 : Nat) ({ cls := "IncidentKeeper", name := "action", desc := "(III)I" } : Jvm.MethodName)) ∈ lw_all := lw_g (lw_at lw_m5 89 rfl) rfl
theorem q1117 : (Jvm.Cond.methodLink "IncidentKeeperLaw" (217 : Nat) ({ cls := "IncidentKeeperLaw", name := "finish", desc := "(LIncidentKeeper;I[J)I" } : Jvm.MethodName)) ∈ lw_all := lw_g (lw_at lw_m5 93 rfl) rfl
theorem q1118 : (Jvm.Cond.static ({ cls := "IncidentKeeperLaw", name := "finish", desc := "(LIncidentKeeper;I[J)I" } : Jvm.MethodName)) ∈ lw_all := lw_g (lw_at lw_m5 94 rfl) rfl
theorem q1119 : (Jvm.Cond.codeWith ({ cls := "IncidentKeeperLaw", name := "finish", desc := "(LIncidentKeeper;I[J)I" } : Jvm.MethodName) method_20_code (4 : Nat) (Option.some Jvm.ClassFile.FieldType.int) [((0 : Nat), (9 : Nat), (12 : Nat), (13 : Nat))]) ∈ lw_all := lw_g (lw_at lw_m5 95 rfl) rfl
theorem q1120 : (Jvm.Cond.methodLink "IncidentKeeperLaw" (66 : Nat) ({ cls := "IncidentKeeper", name := "finish", desc := "(I)I" } : Jvm.MethodName)) ∈ lw_all := lw_g (lw_at lw_m5 96 rfl) rfl
theorem q1124 : (Jvm.Cond.methodLink "IncidentKeeperLaw" (220 : Nat) ({ cls := "IncidentKeeperLaw", name := "pass", desc := "(LIncidentKeeper;I[J)I" } : Jvm.MethodName)) ∈ lw_all := lw_g (lw_at lw_m5 100 rfl) rfl
theorem q1125 : (Jvm.Cond.static ({ cls := "IncidentKeeperLaw", name := "pass", desc := "(LIncidentKeeper;I[J)I" } : Jvm.MethodName)) ∈ lw_all := lw_g (lw_at lw_m5 101 rfl) rfl
theorem q1126 : (Jvm.Cond.codeWith ({ cls := "IncidentKeeperLaw", name := "pass", desc := "(LIncidentKeeper;I[J)I" } : Jvm.MethodName) method_21_code (4 : Nat) (Option.some Jvm.ClassFile.FieldType.int) [((0 : Nat), (9 : Nat), (12 : Nat), (13 : Nat))]) ∈ lw_all := lw_g (lw_at lw_m5 102 rfl) rfl
theorem q1127 : (Jvm.Cond.methodLink "IncidentKeeperLaw" (69 : Nat) ({ cls := "IncidentKeeper", name := "pass", desc := "(I)I" } : Jvm.MethodName)) ∈ lw_all := lw_g (lw_at lw_m5 103 rfl) rfl
theorem q1131 : (Jvm.Cond.methodLink "IncidentKeeperLaw" (223 : Nat) ({ cls := "IncidentKeeperLaw", name := "append", desc := "(LIncidentKeeper;C[J)I" } : Jvm.MethodName)) ∈ lw_all := lw_g (lw_at lw_m5 107 rfl) rfl
theorem q1132 : (Jvm.Cond.static ({ cls := "IncidentKeeperLaw", name := "append", desc := "(LIncidentKeeper;C[J)I" } : Jvm.MethodName)) ∈ lw_all := lw_g (lw_at lw_m5 108 rfl) rfl
theorem q1133 : (Jvm.Cond.codeWith ({ cls := "IncidentKeeperLaw", name := "append", desc := "(LIncidentKeeper;C[J)I" } : Jvm.MethodName) method_22_code (4 : Nat) (Option.some Jvm.ClassFile.FieldType.int) [((0 : Nat), (9 : Nat), (12 : Nat), (76 : Nat))]) ∈ lw_all := lw_g (lw_at lw_m5 109 rfl) rfl
theorem q1134 : (Jvm.Cond.classLink "IncidentKeeperLaw" (76 : Nat) "java/lang/IllegalStateException") ∈ lw_all := lw_g (lw_at lw_m5 110 rfl) rfl
theorem q1135 : (Jvm.Cond.methodLink "IncidentKeeperLaw" (72 : Nat) ({ cls := "IncidentKeeper", name := "append", desc := "(C)I" } : Jvm.MethodName)) ∈ lw_all := lw_g (lw_at lw_m5 111 rfl) rfl
theorem q1157 : (Jvm.Cond.methodLink "IncidentKeeperLaw" (227 : Nat) ({ cls := "IncidentKeeperLaw", name := "run", desc := "(LIncidentKeeper;[J)I" } : Jvm.MethodName)) ∈ lw_all := lw_g (lw_at lw_m5 133 rfl) rfl
theorem q1158 : (Jvm.Cond.static ({ cls := "IncidentKeeperLaw", name := "run", desc := "(LIncidentKeeper;[J)I" } : Jvm.MethodName)) ∈ lw_all := lw_g (lw_at lw_m5 134 rfl) rfl
theorem q1159 : (Jvm.Cond.codeWith ({ cls := "IncidentKeeperLaw", name := "run", desc := "(LIncidentKeeper;[J)I" } : Jvm.MethodName) method_23_code (3 : Nat) (Option.some Jvm.ClassFile.FieldType.int) [((0 : Nat), (8 : Nat), (11 : Nat), (82 : Nat)), ((0 : Nat), (8 : Nat), (14 : Nat), (13 : Nat))]) ∈ lw_all := lw_g (lw_at lw_m5 135 rfl) rfl
theorem q1160 : (Jvm.Cond.classLink "IncidentKeeperLaw" (82 : Nat) "java/lang/IllegalArgumentException") ∈ lw_all := lw_g (lw_at lw_m5 136 rfl) rfl
theorem q1161 : (Jvm.Cond.methodLink "IncidentKeeperLaw" (78 : Nat) ({ cls := "IncidentKeeper", name := "run", desc := "()I" } : Jvm.MethodName)) ∈ lw_all := lw_g (lw_at lw_m5 137 rfl) rfl
theorem q1337 : (Jvm.Cond.methodLink "IncidentKeeperLaw" (235 : Nat) ({ cls := "IncidentKeeperLaw", name := "reason", desc := "(LIncidentKeeper;I[J)I" } : Jvm.MethodName)) ∈ lw_all := lw_g (lw_at lw_m6 73 rfl) rfl
theorem q1338 : (Jvm.Cond.static ({ cls := "IncidentKeeperLaw", name := "reason", desc := "(LIncidentKeeper;I[J)I" } : Jvm.MethodName)) ∈ lw_all := lw_g (lw_at lw_m6 74 rfl) rfl
theorem q1339 : (Jvm.Cond.codeWith ({ cls := "IncidentKeeperLaw", name := "reason", desc := "(LIncidentKeeper;I[J)I" } : Jvm.MethodName) method_24_code (4 : Nat) (Option.some Jvm.ClassFile.FieldType.int) [((0 : Nat), (9 : Nat), (12 : Nat), (82 : Nat)), ((0 : Nat), (9 : Nat), (15 : Nat), (87 : Nat))]) ∈ lw_all := lw_g (lw_at lw_m6 75 rfl) rfl
theorem q1340 : (Jvm.Cond.classLink "IncidentKeeperLaw" (87 : Nat) "java/util/NoSuchElementException") ∈ lw_all := lw_g (lw_at lw_m6 76 rfl) rfl
theorem q1341 : (Jvm.Cond.methodLink "IncidentKeeperLaw" (84 : Nat) ({ cls := "IncidentKeeper", name := "reason", desc := "(I)I" } : Jvm.MethodName)) ∈ lw_all := lw_g (lw_at lw_m6 77 rfl) rfl
theorem q1366 : (Jvm.Cond.methodLink "IncidentKeeperLaw" (238 : Nat) ({ cls := "IncidentKeeperLaw", name := "incident", desc := "(LIncidentKeeper;II[J)I" } : Jvm.MethodName)) ∈ lw_all := lw_g (lw_at lw_m6 102 rfl) rfl
theorem q1367 : (Jvm.Cond.static ({ cls := "IncidentKeeperLaw", name := "incident", desc := "(LIncidentKeeper;II[J)I" } : Jvm.MethodName)) ∈ lw_all := lw_g (lw_at lw_m6 103 rfl) rfl
theorem q1368 : (Jvm.Cond.codeWith ({ cls := "IncidentKeeperLaw", name := "incident", desc := "(LIncidentKeeper;II[J)I" } : Jvm.MethodName) method_25_code (5 : Nat) (Option.some Jvm.ClassFile.FieldType.int) [((0 : Nat), (10 : Nat), (13 : Nat), (92 : Nat)), ((0 : Nat), (10 : Nat), (17 : Nat), (82 : Nat))]) ∈ lw_all := lw_g (lw_at lw_m6 104 rfl) rfl
theorem q1369 : (Jvm.Cond.classLink "IncidentKeeperLaw" (92 : Nat) "java/lang/IndexOutOfBoundsException") ∈ lw_all := lw_g (lw_at lw_m6 105 rfl) rfl
theorem q1401 : (Jvm.Cond.methodLink "IncidentKeeperLaw" (89 : Nat) ({ cls := "IncidentKeeper", name := "incident", desc := "(II)I" } : Jvm.MethodName)) ∈ lw_all := lw_g (lw_at lw_m6 137 rfl) rfl
theorem q1433 : (Jvm.Cond.methodLink "IncidentKeeperLaw" (241 : Nat) ({ cls := "IncidentKeeperLaw", name := "count", desc := "(LIncidentKeeper;II[J)I" } : Jvm.MethodName)) ∈ lw_all := lw_g (lw_at lw_m6 169 rfl) rfl
theorem q1434 : (Jvm.Cond.static ({ cls := "IncidentKeeperLaw", name := "count", desc := "(LIncidentKeeper;II[J)I" } : Jvm.MethodName)) ∈ lw_all := lw_g (lw_at lw_m6 170 rfl) rfl
theorem q1435 : (Jvm.Cond.codeWith ({ cls := "IncidentKeeperLaw", name := "count", desc := "(LIncidentKeeper;II[J)I" } : Jvm.MethodName) method_26_code (5 : Nat) (Option.some Jvm.ClassFile.FieldType.int) [((0 : Nat), (10 : Nat), (13 : Nat), (92 : Nat))]) ∈ lw_all := lw_g (lw_at lw_m6 171 rfl) rfl
theorem q1436 : (Jvm.Cond.methodLink "IncidentKeeperLaw" (94 : Nat) ({ cls := "IncidentKeeper", name := "count", desc := "(II)I" } : Jvm.MethodName)) ∈ lw_all := lw_g (lw_at lw_m6 172 rfl) rfl
theorem q1441 : (Jvm.Cond.methodLink "IncidentKeeperLaw" (244 : Nat) ({ cls := "IncidentKeeperLaw", name := "clockAgain", desc := "(LIncidentKeeper;I[J)I" } : Jvm.MethodName)) ∈ lw_all := lw_g (lw_at lw_m6 177 rfl) rfl
theorem q1442 : (Jvm.Cond.static ({ cls := "IncidentKeeperLaw", name := "clockAgain", desc := "(LIncidentKeeper;I[J)I" } : Jvm.MethodName)) ∈ lw_all := lw_g (lw_at lw_m6 178 rfl) rfl
theorem q1443 : (Jvm.Cond.codeWith ({ cls := "IncidentKeeperLaw", name := "clockAgain", desc := "(LIncidentKeeper;I[J)I" } : Jvm.MethodName) method_27_code (4 : Nat) (Option.some Jvm.ClassFile.FieldType.int) [((0 : Nat), (9 : Nat), (12 : Nat), (92 : Nat))]) ∈ lw_all := lw_g (lw_at lw_m6 179 rfl) rfl
theorem q1444 : (Jvm.Cond.methodLink "IncidentKeeperLaw" (97 : Nat) ({ cls := "IncidentKeeper", name := "clockAgain", desc := "(I)I" } : Jvm.MethodName)) ∈ lw_all := lw_g (lw_at lw_m6 180 rfl) rfl
theorem q1448 : (Jvm.Cond.methodLink "IncidentKeeperLaw" (247 : Nat) ({ cls := "IncidentKeeperLaw", name := "tree", desc := "(LIncidentKeeper;I[J)I" } : Jvm.MethodName)) ∈ lw_all := lw_g (lw_at lw_m6 184 rfl) rfl
theorem q1449 : (Jvm.Cond.static ({ cls := "IncidentKeeperLaw", name := "tree", desc := "(LIncidentKeeper;I[J)I" } : Jvm.MethodName)) ∈ lw_all := lw_g (lw_at lw_m6 185 rfl) rfl
theorem q1450 : (Jvm.Cond.codeWith ({ cls := "IncidentKeeperLaw", name := "tree", desc := "(LIncidentKeeper;I[J)I" } : Jvm.MethodName) method_28_code (4 : Nat) (Option.some Jvm.ClassFile.FieldType.int) [((0 : Nat), (9 : Nat), (12 : Nat), (92 : Nat))]) ∈ lw_all := lw_g (lw_at lw_m6 186 rfl) rfl
theorem q1451 : (Jvm.Cond.methodLink "IncidentKeeperLaw" (100 : Nat) ({ cls := "IncidentKeeper", name := "tree", desc := "(I)I" } : Jvm.MethodName)) ∈ lw_all := lw_g (lw_at lw_m6 187 rfl) rfl
theorem q1456 : (Jvm.Cond.methodLink "IncidentKeeperLaw" (250 : Nat) ({ cls := "IncidentKeeperLaw", name := "deepest", desc := "(LIncidentKeeper;I[J)I" } : Jvm.MethodName)) ∈ lw_all := lw_g (lw_at lw_m6 192 rfl) rfl
theorem q1457 : (Jvm.Cond.static ({ cls := "IncidentKeeperLaw", name := "deepest", desc := "(LIncidentKeeper;I[J)I" } : Jvm.MethodName)) ∈ lw_all := lw_g (lw_at lw_m6 193 rfl) rfl
theorem q1458 : (Jvm.Cond.codeWith ({ cls := "IncidentKeeperLaw", name := "deepest", desc := "(LIncidentKeeper;I[J)I" } : Jvm.MethodName) method_29_code (4 : Nat) (Option.some Jvm.ClassFile.FieldType.int) [((0 : Nat), (9 : Nat), (12 : Nat), (92 : Nat))]) ∈ lw_all := lw_g (lw_at lw_m6 194 rfl) rfl
theorem q1459 : (Jvm.Cond.methodLink "IncidentKeeperLaw" (103 : Nat) ({ cls := "IncidentKeeper", name := "deepest", desc := "(I)I" } : Jvm.MethodName)) ∈ lw_all := lw_g (lw_at lw_m6 195 rfl) rfl
theorem q1469 : (Jvm.Cond.methodLink "IncidentKeeperLaw" (253 : Nat) ({ cls := "IncidentKeeperLaw", name := "treeClock", desc := "(LIncidentKeeper;I[J)I" } : Jvm.MethodName)) ∈ lw_all := lw_g (lw_at lw_m6 205 rfl) rfl
theorem q1470 : (Jvm.Cond.static ({ cls := "IncidentKeeperLaw", name := "treeClock", desc := "(LIncidentKeeper;I[J)I" } : Jvm.MethodName)) ∈ lw_all := lw_g (lw_at lw_m6 206 rfl) rfl
theorem q1471 : (Jvm.Cond.codeWith ({ cls := "IncidentKeeperLaw", name := "treeClock", desc := "(LIncidentKeeper;I[J)I" } : Jvm.MethodName) method_30_code (4 : Nat) (Option.some Jvm.ClassFile.FieldType.int) [((0 : Nat), (9 : Nat), (12 : Nat), (92 : Nat))]) ∈ lw_all := lw_g (lw_at lw_m6 207 rfl) rfl
theorem q1472 : (Jvm.Cond.methodLink "IncidentKeeperLaw" (106 : Nat) ({ cls := "IncidentKeeper", name := "treeClock", desc := "(I)I" } : Jvm.MethodName)) ∈ lw_all := lw_g (lw_at lw_m6 208 rfl) rfl
theorem q1486 : (Jvm.Cond.methodLink "IncidentKeeperLaw" (256 : Nat) ({ cls := "IncidentKeeperLaw", name := "suspects", desc := "(LIncidentKeeper;I[J)I" } : Jvm.MethodName)) ∈ lw_all := lw_g (lw_at lw_m6 222 rfl) rfl
theorem q1487 : (Jvm.Cond.static ({ cls := "IncidentKeeperLaw", name := "suspects", desc := "(LIncidentKeeper;I[J)I" } : Jvm.MethodName)) ∈ lw_all := lw_g (lw_at lw_m6 223 rfl) rfl
theorem q1488 : (Jvm.Cond.codeWith ({ cls := "IncidentKeeperLaw", name := "suspects", desc := "(LIncidentKeeper;I[J)I" } : Jvm.MethodName) method_31_code (4 : Nat) (Option.some Jvm.ClassFile.FieldType.int) [((0 : Nat), (9 : Nat), (12 : Nat), (92 : Nat))]) ∈ lw_all := lw_g (lw_at lw_m6 224 rfl) rfl
theorem q1489 : (Jvm.Cond.methodLink "IncidentKeeperLaw" (109 : Nat) ({ cls := "IncidentKeeper", name := "suspects", desc := "(I)I" } : Jvm.MethodName)) ∈ lw_all := lw_g (lw_at lw_m6 225 rfl) rfl
theorem q1495 : (Jvm.Cond.methodLink "IncidentKeeperLaw" (259 : Nat) ({ cls := "IncidentKeeperLaw", name := "likeliest", desc := "(LIncidentKeeper;I[J)I" } : Jvm.MethodName)) ∈ lw_all := lw_g (lw_at lw_m6 231 rfl) rfl
theorem q1496 : (Jvm.Cond.static ({ cls := "IncidentKeeperLaw", name := "likeliest", desc := "(LIncidentKeeper;I[J)I" } : Jvm.MethodName)) ∈ lw_all := lw_g (lw_at lw_m6 232 rfl) rfl
theorem q1497 : (Jvm.Cond.codeWith ({ cls := "IncidentKeeperLaw", name := "likeliest", desc := "(LIncidentKeeper;I[J)I" } : Jvm.MethodName) method_32_code (4 : Nat) (Option.some Jvm.ClassFile.FieldType.int) [((0 : Nat), (9 : Nat), (12 : Nat), (92 : Nat)), ((0 : Nat), (9 : Nat), (15 : Nat), (87 : Nat))]) ∈ lw_all := lw_g (lw_at lw_m6 233 rfl) rfl
theorem q1498 : (Jvm.Cond.methodLink "IncidentKeeperLaw" (112 : Nat) ({ cls := "IncidentKeeper", name := "likeliest", desc := "(I)I" } : Jvm.MethodName)) ∈ lw_all := lw_g (lw_at lw_m6 234 rfl) rfl
theorem q1504 : (Jvm.Cond.methodLink "IncidentKeeperLaw" (262 : Nat) ({ cls := "IncidentKeeperLaw", name := "next", desc := "(LIncidentKeeper;[J)I" } : Jvm.MethodName)) ∈ lw_all := lw_g (lw_at lw_m7 0 rfl) rfl
theorem q1505 : (Jvm.Cond.static ({ cls := "IncidentKeeperLaw", name := "next", desc := "(LIncidentKeeper;[J)I" } : Jvm.MethodName)) ∈ lw_all := lw_g (lw_at lw_m7 1 rfl) rfl
theorem q1506 : (Jvm.Cond.codeWith ({ cls := "IncidentKeeperLaw", name := "next", desc := "(LIncidentKeeper;[J)I" } : Jvm.MethodName) method_33_code (3 : Nat) (Option.some Jvm.ClassFile.FieldType.int) [((0 : Nat), (8 : Nat), (11 : Nat), (87 : Nat))]) ∈ lw_all := lw_g (lw_at lw_m7 2 rfl) rfl
theorem q1507 : (Jvm.Cond.methodLink "IncidentKeeperLaw" (115 : Nat) ({ cls := "IncidentKeeper", name := "next", desc := "()I" } : Jvm.MethodName)) ∈ lw_all := lw_g (lw_at lw_m7 3 rfl) rfl
theorem q1515 : (Jvm.Cond.methodLink "IncidentKeeperLaw" (265 : Nat) ({ cls := "IncidentKeeperLaw", name := "risesIn", desc := "(LIncidentKeeper;I[J)I" } : Jvm.MethodName)) ∈ lw_all := lw_g (lw_at lw_m7 11 rfl) rfl
theorem q1516 : (Jvm.Cond.static ({ cls := "IncidentKeeperLaw", name := "risesIn", desc := "(LIncidentKeeper;I[J)I" } : Jvm.MethodName)) ∈ lw_all := lw_g (lw_at lw_m7 12 rfl) rfl
theorem q1517 : (Jvm.Cond.codeWith ({ cls := "IncidentKeeperLaw", name := "risesIn", desc := "(LIncidentKeeper;I[J)I" } : Jvm.MethodName) method_34_code (4 : Nat) (Option.some Jvm.ClassFile.FieldType.int) [((0 : Nat), (9 : Nat), (12 : Nat), (92 : Nat)), ((0 : Nat), (9 : Nat), (15 : Nat), (87 : Nat))]) ∈ lw_all := lw_g (lw_at lw_m7 13 rfl) rfl
theorem q1518 : (Jvm.Cond.methodLink "IncidentKeeperLaw" (118 : Nat) ({ cls := "IncidentKeeper", name := "risesIn", desc := "(I)I" } : Jvm.MethodName)) ∈ lw_all := lw_g (lw_at lw_m7 14 rfl) rfl
theorem q1530 : (Jvm.Cond.methodLink "IncidentKeeperLaw" (268 : Nat) ({ cls := "IncidentKeeperLaw", name := "person", desc := "(LIncidentKeeper;II[J)I" } : Jvm.MethodName)) ∈ lw_all := lw_g (lw_at lw_m7 26 rfl) rfl
theorem q1531 : (Jvm.Cond.static ({ cls := "IncidentKeeperLaw", name := "person", desc := "(LIncidentKeeper;II[J)I" } : Jvm.MethodName)) ∈ lw_all := lw_g (lw_at lw_m7 27 rfl) rfl
theorem q1532 : (Jvm.Cond.codeWith ({ cls := "IncidentKeeperLaw", name := "person", desc := "(LIncidentKeeper;II[J)I" } : Jvm.MethodName) method_35_code (5 : Nat) (Option.some Jvm.ClassFile.FieldType.int) [((0 : Nat), (10 : Nat), (13 : Nat), (92 : Nat)), ((0 : Nat), (10 : Nat), (17 : Nat), (82 : Nat))]) ∈ lw_all := lw_g (lw_at lw_m7 28 rfl) rfl
theorem q1533 : (Jvm.Cond.methodLink "IncidentKeeperLaw" (121 : Nat) ({ cls := "IncidentKeeper", name := "person", desc := "(II)I" } : Jvm.MethodName)) ∈ lw_all := lw_g (lw_at lw_m7 29 rfl) rfl
theorem q1544 : (Jvm.Cond.methodLink "IncidentKeeperLaw" (271 : Nat) ({ cls := "IncidentKeeperLaw", name := "reviewOf", desc := "(LIncidentKeeper;II[J)I" } : Jvm.MethodName)) ∈ lw_all := lw_g (lw_at lw_m7 40 rfl) rfl
theorem q1545 : (Jvm.Cond.static ({ cls := "IncidentKeeperLaw", name := "reviewOf", desc := "(LIncidentKeeper;II[J)I" } : Jvm.MethodName)) ∈ lw_all := lw_g (lw_at lw_m7 41 rfl) rfl
theorem q1546 : (Jvm.Cond.codeWith ({ cls := "IncidentKeeperLaw", name := "reviewOf", desc := "(LIncidentKeeper;II[J)I" } : Jvm.MethodName) method_36_code (5 : Nat) (Option.some Jvm.ClassFile.FieldType.int) [((0 : Nat), (10 : Nat), (13 : Nat), (92 : Nat)), ((0 : Nat), (10 : Nat), (17 : Nat), (82 : Nat))]) ∈ lw_all := lw_g (lw_at lw_m7 42 rfl) rfl
theorem q1547 : (Jvm.Cond.methodLink "IncidentKeeperLaw" (124 : Nat) ({ cls := "IncidentKeeper", name := "reviewOf", desc := "(II)I" } : Jvm.MethodName)) ∈ lw_all := lw_g (lw_at lw_m7 43 rfl) rfl
theorem q1552 : (Jvm.Cond.methodLink "IncidentKeeperLaw" (274 : Nat) ({ cls := "IncidentKeeperLaw", name := "event", desc := "(LIncidentKeeper;II[J)I" } : Jvm.MethodName)) ∈ lw_all := lw_g (lw_at lw_m7 48 rfl) rfl
theorem q1553 : (Jvm.Cond.static ({ cls := "IncidentKeeperLaw", name := "event", desc := "(LIncidentKeeper;II[J)I" } : Jvm.MethodName)) ∈ lw_all := lw_g (lw_at lw_m7 49 rfl) rfl
theorem q1554 : (Jvm.Cond.codeWith ({ cls := "IncidentKeeperLaw", name := "event", desc := "(LIncidentKeeper;II[J)I" } : Jvm.MethodName) method_37_code (5 : Nat) (Option.some Jvm.ClassFile.FieldType.int) [((0 : Nat), (10 : Nat), (13 : Nat), (87 : Nat)), ((0 : Nat), (10 : Nat), (17 : Nat), (82 : Nat))]) ∈ lw_all := lw_g (lw_at lw_m7 50 rfl) rfl
theorem q1555 : (Jvm.Cond.methodLink "IncidentKeeperLaw" (127 : Nat) ({ cls := "IncidentKeeper", name := "event", desc := "(II)I" } : Jvm.MethodName)) ∈ lw_all := lw_g (lw_at lw_m7 51 rfl) rfl
theorem q1560 : (Jvm.Cond.methodLink "IncidentKeeperLaw" (277 : Nat) ({ cls := "IncidentKeeperLaw", name := "letter", desc := "(LIncidentKeeper;I[J)I" } : Jvm.MethodName)) ∈ lw_all := lw_g (lw_at lw_m7 56 rfl) rfl
theorem q1561 : (Jvm.Cond.static ({ cls := "IncidentKeeperLaw", name := "letter", desc := "(LIncidentKeeper;I[J)I" } : Jvm.MethodName)) ∈ lw_all := lw_g (lw_at lw_m7 57 rfl) rfl
theorem q1562 : (Jvm.Cond.codeWith ({ cls := "IncidentKeeperLaw", name := "letter", desc := "(LIncidentKeeper;I[J)I" } : Jvm.MethodName) method_38_code (4 : Nat) (Option.some Jvm.ClassFile.FieldType.int) [((0 : Nat), (9 : Nat), (12 : Nat), (92 : Nat))]) ∈ lw_all := lw_g (lw_at lw_m7 58 rfl) rfl
theorem q1563 : (Jvm.Cond.methodLink "IncidentKeeperLaw" (130 : Nat) ({ cls := "IncidentKeeper", name := "letter", desc := "(I)C" } : Jvm.MethodName)) ∈ lw_all := lw_g (lw_at lw_m7 59 rfl) rfl
theorem q1587 : (Jvm.Cond.methodLink "IncidentKeeperLaw" (280 : Nat) ({ cls := "IncidentKeeperLaw", name := "stoppedShare", desc := "(LIncidentKeeper;I[D)I" } : Jvm.MethodName)) ∈ lw_all := lw_g (lw_at lw_m7 83 rfl) rfl
theorem q1588 : (Jvm.Cond.static ({ cls := "IncidentKeeperLaw", name := "stoppedShare", desc := "(LIncidentKeeper;I[D)I" } : Jvm.MethodName)) ∈ lw_all := lw_g (lw_at lw_m7 84 rfl) rfl
theorem q1589 : (Jvm.Cond.codeWith ({ cls := "IncidentKeeperLaw", name := "stoppedShare", desc := "(LIncidentKeeper;I[D)I" } : Jvm.MethodName) method_39_code (4 : Nat) (Option.some Jvm.ClassFile.FieldType.int) [((0 : Nat), (9 : Nat), (12 : Nat), (92 : Nat)), ((0 : Nat), (9 : Nat), (15 : Nat), (138 : Nat))]) ∈ lw_all := lw_g (lw_at lw_m7 85 rfl) rfl
theorem q1590 : (Jvm.Cond.classLink "IncidentKeeperLaw" (138 : Nat) "java/lang/ArithmeticException") ∈ lw_all := lw_g (lw_at lw_m7 86 rfl) rfl
theorem q1604 : (Jvm.Cond.methodLink "IncidentKeeperLaw" (134 : Nat) ({ cls := "IncidentKeeper", name := "stoppedShare", desc := "(I)F" } : Jvm.MethodName)) ∈ lw_all := lw_g (lw_at lw_m7 100 rfl) rfl
theorem q1613 : (Jvm.Cond.methodLink "IncidentKeeperLaw" (284 : Nat) ({ cls := "IncidentKeeperLaw", name := "meanClock", desc := "(LIncidentKeeper;[D)I" } : Jvm.MethodName)) ∈ lw_all := lw_g (lw_at lw_m7 109 rfl) rfl
theorem q1614 : (Jvm.Cond.static ({ cls := "IncidentKeeperLaw", name := "meanClock", desc := "(LIncidentKeeper;[D)I" } : Jvm.MethodName)) ∈ lw_all := lw_g (lw_at lw_m7 110 rfl) rfl
theorem q1615 : (Jvm.Cond.codeWith ({ cls := "IncidentKeeperLaw", name := "meanClock", desc := "(LIncidentKeeper;[D)I" } : Jvm.MethodName) method_40_code (3 : Nat) (Option.some Jvm.ClassFile.FieldType.int) [((0 : Nat), (7 : Nat), (10 : Nat), (138 : Nat))]) ∈ lw_all := lw_g (lw_at lw_m7 111 rfl) rfl
theorem q1616 : (Jvm.Cond.methodLink "IncidentKeeperLaw" (140 : Nat) ({ cls := "IncidentKeeper", name := "meanClock", desc := "()D" } : Jvm.MethodName)) ∈ lw_all := lw_g (lw_at lw_m7 112 rfl) rfl
theorem q1620 : (Jvm.Cond.methodLink "IncidentKeeperLaw" (288 : Nat) ({ cls := "IncidentKeeperLaw", name := "account", desc := "(LIncidentKeeper;I[J)I" } : Jvm.MethodName)) ∈ lw_all := lw_g (lw_at lw_m7 116 rfl) rfl
theorem q1621 : (Jvm.Cond.static ({ cls := "IncidentKeeperLaw", name := "account", desc := "(LIncidentKeeper;I[J)I" } : Jvm.MethodName)) ∈ lw_all := lw_g (lw_at lw_m7 117 rfl) rfl
theorem q1622 : (Jvm.Cond.codeWith ({ cls := "IncidentKeeperLaw", name := "account", desc := "(LIncidentKeeper;I[J)I" } : Jvm.MethodName) method_41_code (4 : Nat) (Option.some Jvm.ClassFile.FieldType.int) [((0 : Nat), (9 : Nat), (12 : Nat), (82 : Nat))]) ∈ lw_all := lw_g (lw_at lw_m7 118 rfl) rfl
theorem q1623 : (Jvm.Cond.methodLink "IncidentKeeperLaw" (144 : Nat) ({ cls := "IncidentKeeper", name := "account", desc := "(I)I" } : Jvm.MethodName)) ∈ lw_all := lw_g (lw_at lw_m7 119 rfl) rfl
theorem q1636 : (Jvm.Cond.methodLink "IncidentKeeperLaw" (291 : Nat) ({ cls := "IncidentKeeperLaw", name := "undo", desc := "(LIncidentKeeper;[J)I" } : Jvm.MethodName)) ∈ lw_all := lw_g (lw_at lw_m7 132 rfl) rfl
theorem q1637 : (Jvm.Cond.static ({ cls := "IncidentKeeperLaw", name := "undo", desc := "(LIncidentKeeper;[J)I" } : Jvm.MethodName)) ∈ lw_all := lw_g (lw_at lw_m7 133 rfl) rfl
theorem q1638 : (Jvm.Cond.codeWith ({ cls := "IncidentKeeperLaw", name := "undo", desc := "(LIncidentKeeper;[J)I" } : Jvm.MethodName) method_42_code (3 : Nat) (Option.some Jvm.ClassFile.FieldType.int) [((0 : Nat), (8 : Nat), (11 : Nat), (76 : Nat))]) ∈ lw_all := lw_g (lw_at lw_m7 134 rfl) rfl
theorem q1639 : (Jvm.Cond.methodLink "IncidentKeeperLaw" (147 : Nat) ({ cls := "IncidentKeeper", name := "undo", desc := "()I" } : Jvm.MethodName)) ∈ lw_all := lw_g (lw_at lw_m7 135 rfl) rfl
theorem q1647 : (Jvm.Cond.methodLink "IncidentKeeperLaw" (298 : Nat) ({ cls := "IncidentKeeperLaw", name := "restore", desc := "(LIncidentKeeper;[J)I" } : Jvm.MethodName)) ∈ lw_all := lw_g (lw_at lw_m7 143 rfl) rfl
theorem q1648 : (Jvm.Cond.static ({ cls := "IncidentKeeperLaw", name := "restore", desc := "(LIncidentKeeper;[J)I" } : Jvm.MethodName)) ∈ lw_all := lw_g (lw_at lw_m7 144 rfl) rfl
theorem q1649 : (Jvm.Cond.codeWith ({ cls := "IncidentKeeperLaw", name := "restore", desc := "(LIncidentKeeper;[J)I" } : Jvm.MethodName) method_43_code (3 : Nat) (Option.some Jvm.ClassFile.FieldType.int) [((0 : Nat), (8 : Nat), (11 : Nat), (76 : Nat))]) ∈ lw_all := lw_g (lw_at lw_m7 145 rfl) rfl
theorem q1650 : (Jvm.Cond.methodLink "IncidentKeeperLaw" (150 : Nat) ({ cls := "IncidentKeeper", name := "restore", desc := "()I" } : Jvm.MethodName)) ∈ lw_all := lw_g (lw_at lw_m7 146 rfl) rfl
theorem q1658 : (Jvm.Cond.classLink "IncidentKeeperLaw" (154 : Nat) "IncidentKeeperModel") ∈ lw_all := lw_g (lw_at lw_m7 154 rfl) rfl
theorem q1660 : (Jvm.Cond.methodLink "IncidentKeeperLaw" (156 : Nat) ({ cls := "IncidentKeeperModel", name := "<init>", desc := "()V" } : Jvm.MethodName)) ∈ lw_all := lw_g (lw_at lw_m7 156 rfl) rfl
theorem q1722 : (Jvm.Cond.methodLink "IncidentKeeperLaw" (163 : Nat) ({ cls := "IncidentKeeperModel", name := "thrown", desc := "()I" } : Jvm.MethodName)) ∈ lw_all := lw_g (lw_at lw_m7 218 rfl) rfl
theorem q1726 : (Jvm.Cond.methodLink "IncidentKeeperLaw" (293 : Nat) ({ cls := "IncidentKeeperModel", name := "undo", desc := "()I" } : Jvm.MethodName)) ∈ lw_all := lw_g (lw_at lw_m7 222 rfl) rfl
theorem q1733 : (Jvm.Cond.methodLink "IncidentKeeperLaw" (297 : Nat) ({ cls := "IncidentKeeperModel", name := "save", desc := "()I" } : Jvm.MethodName)) ∈ lw_all := lw_g (lw_at lw_m7 229 rfl) rfl
theorem q1737 : (Jvm.Cond.methodLink "IncidentKeeperLaw" (300 : Nat) ({ cls := "IncidentKeeperModel", name := "restore", desc := "()I" } : Jvm.MethodName)) ∈ lw_all := lw_g (lw_at lw_m7 233 rfl) rfl
theorem q1741 : (Jvm.Cond.methodLink "IncidentKeeperLaw" (162 : Nat) ({ cls := "IncidentKeeperModel", name := "duty", desc := "(IZ)I" } : Jvm.MethodName)) ∈ lw_all := lw_g (lw_at lw_m7 237 rfl) rfl
theorem q1794 : (Jvm.Cond.methodLink "IncidentKeeperLaw" (169 : Nat) ({ cls := "IncidentKeeperModel", name := "target", desc := "(II)I" } : Jvm.MethodName)) ∈ lw_all := lw_g (lw_at lw_m8 50 rfl) rfl
theorem q1806 : (Jvm.Cond.methodLink "IncidentKeeperLaw" (172 : Nat) ({ cls := "IncidentKeeperModel", name := "limit", desc := "(II)I" } : Jvm.MethodName)) ∈ lw_all := lw_g (lw_at lw_m8 62 rfl) rfl
theorem q1810 : (Jvm.Cond.methodLink "IncidentKeeperLaw" (176 : Nat) ({ cls := "IncidentKeeperModel", name := "window", desc := "(I)I" } : Jvm.MethodName)) ∈ lw_all := lw_g (lw_at lw_m8 66 rfl) rfl
theorem q1814 : (Jvm.Cond.methodLink "IncidentKeeperLaw" (179 : Nat) ({ cls := "IncidentKeeperModel", name := "open", desc := "(II)I" } : Jvm.MethodName)) ∈ lw_all := lw_g (lw_at lw_m8 70 rfl) rfl
theorem q1818 : (Jvm.Cond.methodLink "IncidentKeeperLaw" (182 : Nat) ({ cls := "IncidentKeeperModel", name := "rate", desc := "(II)I" } : Jvm.MethodName)) ∈ lw_all := lw_g (lw_at lw_m8 74 rfl) rfl
theorem q1830 : (Jvm.Cond.methodLink "IncidentKeeperLaw" (185 : Nat) ({ cls := "IncidentKeeperModel", name := "hand", desc := "(II)I" } : Jvm.MethodName)) ∈ lw_all := lw_g (lw_at lw_m8 86 rfl) rfl
theorem q1834 : (Jvm.Cond.methodLink "IncidentKeeperLaw" (188 : Nat) ({ cls := "IncidentKeeperModel", name := "stop", desc := "(II)I" } : Jvm.MethodName)) ∈ lw_all := lw_g (lw_at lw_m8 90 rfl) rfl
theorem q1842 : (Jvm.Cond.methodLink "IncidentKeeperLaw" (191 : Nat) ({ cls := "IncidentKeeperModel", name := "go", desc := "(II)I" } : Jvm.MethodName)) ∈ lw_all := lw_g (lw_at lw_m8 98 rfl) rfl
theorem q1850 : (Jvm.Cond.methodLink "IncidentKeeperLaw" (194 : Nat) ({ cls := "IncidentKeeperModel", name := "resolve", desc := "(I)I" } : Jvm.MethodName)) ∈ lw_all := lw_g (lw_at lw_m8 106 rfl) rfl
theorem q1862 : (Jvm.Cond.methodLink "IncidentKeeperLaw" (197 : Nat) ({ cls := "IncidentKeeperModel", name := "reopen", desc := "(I)I" } : Jvm.MethodName)) ∈ lw_all := lw_g (lw_at lw_m8 118 rfl) rfl
theorem q1866 : (Jvm.Cond.methodLink "IncidentKeeperLaw" (200 : Nat) ({ cls := "IncidentKeeperModel", name := "close", desc := "(I)I" } : Jvm.MethodName)) ∈ lw_all := lw_g (lw_at lw_m8 122 rfl) rfl
theorem q1882 : (Jvm.Cond.methodLink "IncidentKeeperLaw" (203 : Nat) ({ cls := "IncidentKeeperModel", name := "cause", desc := "(II)I" } : Jvm.MethodName)) ∈ lw_all := lw_g (lw_at lw_m8 138 rfl) rfl
theorem q1889 : (Jvm.Cond.methodLink "IncidentKeeperLaw" (207 : Nat) ({ cls := "IncidentKeeperModel", name := "note", desc := "(III)I" } : Jvm.MethodName)) ∈ lw_all := lw_g (lw_at lw_m8 145 rfl) rfl
theorem q1893 : (Jvm.Cond.methodLink "IncidentKeeperLaw" (210 : Nat) ({ cls := "IncidentKeeperModel", name := "link", desc := "(II)I" } : Jvm.MethodName)) ∈ lw_all := lw_g (lw_at lw_m8 149 rfl) rfl
theorem q1901 : (Jvm.Cond.methodLink "IncidentKeeperLaw" (213 : Nat) ({ cls := "IncidentKeeperModel", name := "review", desc := "(I)I" } : Jvm.MethodName)) ∈ lw_all := lw_g (lw_at lw_m8 157 rfl) rfl
theorem q1905 : (Jvm.Cond.methodLink "IncidentKeeperLaw" (216 : Nat) ({ cls := "IncidentKeeperModel", name := "action", desc := "(III)I" } : Jvm.MethodName)) ∈ lw_all := lw_g (lw_at lw_m8 161 rfl) rfl
theorem q1909 : (Jvm.Cond.methodLink "IncidentKeeperLaw" (219 : Nat) ({ cls := "IncidentKeeperModel", name := "finish", desc := "(I)I" } : Jvm.MethodName)) ∈ lw_all := lw_g (lw_at lw_m8 165 rfl) rfl
theorem q1917 : (Jvm.Cond.methodLink "IncidentKeeperLaw" (222 : Nat) ({ cls := "IncidentKeeperModel", name := "pass", desc := "(I)I" } : Jvm.MethodName)) ∈ lw_all := lw_g (lw_at lw_m8 173 rfl) rfl
theorem q1925 : (Jvm.Cond.methodLink "IncidentKeeperLaw" (226 : Nat) ({ cls := "IncidentKeeperModel", name := "append", desc := "(C)I" } : Jvm.MethodName)) ∈ lw_all := lw_g (lw_at lw_m8 181 rfl) rfl
theorem q1929 : (Jvm.Cond.methodLink "IncidentKeeperLaw" (230 : Nat) ({ cls := "IncidentKeeperModel", name := "run", desc := "()I" } : Jvm.MethodName)) ∈ lw_all := lw_g (lw_at lw_m8 185 rfl) rfl
theorem q1966 : (Jvm.Cond.methodLink "IncidentKeeperLaw" (234 : Nat) ({ cls := "IncidentKeeperModel", name := "faultPosition", desc := "()I" } : Jvm.MethodName)) ∈ lw_all := lw_g (lw_at lw_m8 222 rfl) rfl
theorem q1970 : (Jvm.Cond.methodLink "IncidentKeeperLaw" (237 : Nat) ({ cls := "IncidentKeeperModel", name := "reason", desc := "(I)I" } : Jvm.MethodName)) ∈ lw_all := lw_g (lw_at lw_m8 226 rfl) rfl
theorem q1974 : (Jvm.Cond.methodLink "IncidentKeeperLaw" (240 : Nat) ({ cls := "IncidentKeeperModel", name := "incident", desc := "(II)I" } : Jvm.MethodName)) ∈ lw_all := lw_g (lw_at lw_m8 230 rfl) rfl
theorem q1982 : (Jvm.Cond.methodLink "IncidentKeeperLaw" (243 : Nat) ({ cls := "IncidentKeeperModel", name := "count", desc := "(II)I" } : Jvm.MethodName)) ∈ lw_all := lw_g (lw_at lw_m8 238 rfl) rfl
theorem q1986 : (Jvm.Cond.methodLink "IncidentKeeperLaw" (246 : Nat) ({ cls := "IncidentKeeperModel", name := "clockAgain", desc := "(I)I" } : Jvm.MethodName)) ∈ lw_all := lw_g (lw_at lw_m9 2 rfl) rfl
theorem q1990 : (Jvm.Cond.methodLink "IncidentKeeperLaw" (249 : Nat) ({ cls := "IncidentKeeperModel", name := "tree", desc := "(I)I" } : Jvm.MethodName)) ∈ lw_all := lw_g (lw_at lw_m9 6 rfl) rfl
theorem q1994 : (Jvm.Cond.methodLink "IncidentKeeperLaw" (252 : Nat) ({ cls := "IncidentKeeperModel", name := "deepest", desc := "(I)I" } : Jvm.MethodName)) ∈ lw_all := lw_g (lw_at lw_m9 10 rfl) rfl
theorem q1998 : (Jvm.Cond.methodLink "IncidentKeeperLaw" (255 : Nat) ({ cls := "IncidentKeeperModel", name := "treeClock", desc := "(I)I" } : Jvm.MethodName)) ∈ lw_all := lw_g (lw_at lw_m9 14 rfl) rfl
theorem q2002 : (Jvm.Cond.methodLink "IncidentKeeperLaw" (258 : Nat) ({ cls := "IncidentKeeperModel", name := "suspects", desc := "(I)I" } : Jvm.MethodName)) ∈ lw_all := lw_g (lw_at lw_m9 18 rfl) rfl
theorem q2010 : (Jvm.Cond.methodLink "IncidentKeeperLaw" (261 : Nat) ({ cls := "IncidentKeeperModel", name := "likeliest", desc := "(I)I" } : Jvm.MethodName)) ∈ lw_all := lw_g (lw_at lw_m9 26 rfl) rfl
theorem q2014 : (Jvm.Cond.methodLink "IncidentKeeperLaw" (264 : Nat) ({ cls := "IncidentKeeperModel", name := "next", desc := "()I" } : Jvm.MethodName)) ∈ lw_all := lw_g (lw_at lw_m9 30 rfl) rfl
theorem q2018 : (Jvm.Cond.methodLink "IncidentKeeperLaw" (267 : Nat) ({ cls := "IncidentKeeperModel", name := "risesIn", desc := "(I)I" } : Jvm.MethodName)) ∈ lw_all := lw_g (lw_at lw_m9 34 rfl) rfl
theorem q2025 : (Jvm.Cond.methodLink "IncidentKeeperLaw" (270 : Nat) ({ cls := "IncidentKeeperModel", name := "person", desc := "(II)I" } : Jvm.MethodName)) ∈ lw_all := lw_g (lw_at lw_m9 41 rfl) rfl
theorem q2029 : (Jvm.Cond.methodLink "IncidentKeeperLaw" (273 : Nat) ({ cls := "IncidentKeeperModel", name := "reviewOf", desc := "(II)I" } : Jvm.MethodName)) ∈ lw_all := lw_g (lw_at lw_m9 45 rfl) rfl
theorem q2033 : (Jvm.Cond.methodLink "IncidentKeeperLaw" (276 : Nat) ({ cls := "IncidentKeeperModel", name := "event", desc := "(II)I" } : Jvm.MethodName)) ∈ lw_all := lw_g (lw_at lw_m9 49 rfl) rfl
theorem q2037 : (Jvm.Cond.methodLink "IncidentKeeperLaw" (279 : Nat) ({ cls := "IncidentKeeperModel", name := "letter", desc := "(I)C" } : Jvm.MethodName)) ∈ lw_all := lw_g (lw_at lw_m9 53 rfl) rfl
theorem q2041 : (Jvm.Cond.methodLink "IncidentKeeperLaw" (283 : Nat) ({ cls := "IncidentKeeperModel", name := "stoppedShare", desc := "(I)F" } : Jvm.MethodName)) ∈ lw_all := lw_g (lw_at lw_m9 57 rfl) rfl
theorem q2045 : (Jvm.Cond.methodLink "IncidentKeeperLaw" (287 : Nat) ({ cls := "IncidentKeeperModel", name := "meanClock", desc := "()D" } : Jvm.MethodName)) ∈ lw_all := lw_g (lw_at lw_m9 61 rfl) rfl
theorem q2049 : (Jvm.Cond.methodLink "IncidentKeeperLaw" (290 : Nat) ({ cls := "IncidentKeeperModel", name := "account", desc := "(I)I" } : Jvm.MethodName)) ∈ lw_all := lw_g (lw_at lw_m9 65 rfl) rfl
/-! the law's own entry -/
set_option maxRecDepth 100000
abbrev cL_law : ByteArray := code
def dkwL_law_112 : List UInt8 := [153, 0, 5, 3, 172, 167, 0, 3, 132, 5, 4, 167, 245, 58, 4, 172]
abbrev dktL_law_112 : List UInt8 := dkwL_law_112 ++ []
def dkwL_law_111 : List UInt8 := [182, 0, 163, 21, 6, 159, 0, 5, 3, 172, 21, 6, 154, 0, 15, 45, 3, 47, 21, 7, 133, 148]
abbrev dktL_law_111 : List UInt8 := dkwL_law_111 ++ dktL_law_112
def dkwL_law_110 : List UInt8 := [182, 1, 41, 159, 0, 49, 3, 172, 43, 45, 184, 1, 42, 54, 6, 44, 182, 1, 44, 54, 7, 44]
abbrev dktL_law_110 : List UInt8 := dkwL_law_110 ++ dktL_law_111
def dkwL_law_109 : List UInt8 := [154, 0, 15, 45, 3, 47, 21, 7, 133, 148, 153, 0, 5, 3, 172, 167, 0, 60, 43, 182, 1, 38, 44]
abbrev dktL_law_109 : List UInt8 := dkwL_law_109 ++ dktL_law_110
def dkwL_law_108 : List UInt8 := [184, 1, 35, 54, 6, 44, 182, 1, 37, 54, 7, 44, 182, 0, 163, 21, 6, 159, 0, 5, 3, 172, 21, 6]
abbrev dktL_law_108 : List UInt8 := dkwL_law_108 ++ dktL_law_109
def dkwL_law_107 : List UInt8 := [21, 6, 154, 0, 15, 45, 3, 47, 21, 7, 133, 148, 153, 0, 5, 3, 172, 167, 0, 104, 43, 45]
abbrev dktL_law_107 : List UInt8 := dkwL_law_107 ++ dktL_law_108
def dkwL_law_106 : List UInt8 := [44, 42, 21, 5, 4, 96, 46, 182, 1, 34, 54, 7, 44, 182, 0, 163, 21, 6, 159, 0, 5, 3, 172]
abbrev dktL_law_106 : List UInt8 := dkwL_law_106 ++ dktL_law_107
def dkwL_law_105 : List UInt8 := [24, 7, 151, 154, 0, 5, 3, 172, 167, 0, 160, 43, 42, 21, 5, 4, 96, 46, 45, 184, 1, 32, 54, 6]
abbrev dktL_law_105 : List UInt8 := dkwL_law_105 ++ dktL_law_106
def dkwL_law_104 : List UInt8 := [25, 4, 3, 49, 24, 7, 151, 153, 0, 25, 25, 4, 3, 49, 25, 4, 3, 49, 151, 153, 0, 11, 24, 7]
abbrev dktL_law_104 : List UInt8 := dkwL_law_104 ++ dktL_law_105
def dkwL_law_103 : List UInt8 := [54, 6, 44, 182, 1, 31, 57, 7, 44, 182, 0, 163, 21, 6, 159, 0, 5, 3, 172, 21, 6, 154, 0, 35]
abbrev dktL_law_103 : List UInt8 := dkwL_law_103 ++ dktL_law_104
def dkwL_law_102 : List UInt8 := [49, 151, 153, 0, 11, 23, 7, 23, 7, 149, 154, 0, 5, 3, 172, 167, 0, 225, 43, 25, 4, 184, 1, 28]
abbrev dktL_law_102 : List UInt8 := dkwL_law_102 ++ dktL_law_103
def dkwL_law_101 : List UInt8 := [172, 21, 6, 154, 0, 36, 25, 4, 3, 49, 23, 7, 141, 151, 153, 0, 25, 25, 4, 3, 49, 25, 4, 3]
abbrev dktL_law_101 : List UInt8 := dkwL_law_101 ++ dktL_law_102
def dkwL_law_100 : List UInt8 := [54, 6, 44, 42, 21, 5, 4, 96, 46, 182, 1, 27, 56, 7, 44, 182, 0, 163, 21, 6, 159, 0, 5, 3]
abbrev dktL_law_100 : List UInt8 := dkwL_law_100 ++ dktL_law_101
def dkwL_law_99 : List UInt8 := [21, 7, 133, 148, 153, 0, 5, 3, 172, 167, 1, 47, 43, 42, 21, 5, 4, 96, 46, 25, 4, 184, 1, 24]
abbrev dktL_law_99 : List UInt8 := dkwL_law_99 ++ dktL_law_100
def dkwL_law_98 : List UInt8 := [182, 1, 23, 54, 7, 44, 182, 0, 163, 21, 6, 159, 0, 5, 3, 172, 21, 6, 154, 0, 15, 45, 3, 47]
abbrev dktL_law_98 : List UInt8 := dkwL_law_98 ++ dktL_law_99
def dkwL_law_97 : List UInt8 := [167, 1, 103, 43, 42, 21, 5, 4, 96, 46, 45, 184, 1, 21, 54, 6, 44, 42, 21, 5, 4, 96, 46]
abbrev dktL_law_97 : List UInt8 := dkwL_law_97 ++ dktL_law_98
def dkwL_law_96 : List UInt8 := [159, 0, 5, 3, 172, 21, 6, 154, 0, 15, 45, 3, 47, 21, 7, 133, 148, 153, 0, 5, 3, 172]
abbrev dktL_law_96 : List UInt8 := dkwL_law_96 ++ dktL_law_97
def dkwL_law_95 : List UInt8 := [21, 5, 4, 96, 46, 42, 21, 5, 5, 96, 46, 182, 1, 20, 54, 7, 44, 182, 0, 163, 21, 6]
abbrev dktL_law_95 : List UInt8 := dkwL_law_95 ++ dktL_law_96
def dkwL_law_94 : List UInt8 := [167, 1, 171, 43, 42, 21, 5, 4, 96, 46, 42, 21, 5, 5, 96, 46, 45, 184, 1, 18, 54, 6, 44, 42]
abbrev dktL_law_94 : List UInt8 := dkwL_law_94 ++ dktL_law_95
def dkwL_law_93 : List UInt8 := [159, 0, 5, 3, 172, 21, 6, 154, 0, 15, 45, 3, 47, 21, 7, 133, 148, 153, 0, 5, 3, 172]
abbrev dktL_law_93 : List UInt8 := dkwL_law_93 ++ dktL_law_94
def dkwL_law_92 : List UInt8 := [21, 5, 4, 96, 46, 42, 21, 5, 5, 96, 46, 182, 1, 17, 54, 7, 44, 182, 0, 163, 21, 6]
abbrev dktL_law_92 : List UInt8 := dkwL_law_92 ++ dktL_law_93
def dkwL_law_91 : List UInt8 := [167, 1, 239, 43, 42, 21, 5, 4, 96, 46, 42, 21, 5, 5, 96, 46, 45, 184, 1, 15, 54, 6, 44, 42]
abbrev dktL_law_91 : List UInt8 := dkwL_law_91 ++ dktL_law_92
def dkwL_law_90 : List UInt8 := [159, 0, 5, 3, 172, 21, 6, 154, 0, 15, 45, 3, 47, 21, 7, 133, 148, 153, 0, 5, 3, 172]
abbrev dktL_law_90 : List UInt8 := dkwL_law_90 ++ dktL_law_91
def dkwL_law_89 : List UInt8 := [21, 5, 4, 96, 46, 42, 21, 5, 5, 96, 46, 182, 1, 14, 54, 7, 44, 182, 0, 163, 21, 6]
abbrev dktL_law_89 : List UInt8 := dkwL_law_89 ++ dktL_law_90
def dkwL_law_88 : List UInt8 := [167, 2, 51, 43, 42, 21, 5, 4, 96, 46, 42, 21, 5, 5, 96, 46, 45, 184, 1, 12, 54, 6, 44, 42]
abbrev dktL_law_88 : List UInt8 := dkwL_law_88 ++ dktL_law_89
def dkwL_law_87 : List UInt8 := [159, 0, 5, 3, 172, 21, 6, 154, 0, 15, 45, 3, 47, 21, 7, 133, 148, 153, 0, 5, 3, 172]
abbrev dktL_law_87 : List UInt8 := dkwL_law_87 ++ dktL_law_88
def dkwL_law_86 : List UInt8 := [184, 1, 9, 54, 6, 44, 42, 21, 5, 4, 96, 46, 182, 1, 11, 54, 7, 44, 182, 0, 163, 21, 6]
abbrev dktL_law_86 : List UInt8 := dkwL_law_86 ++ dktL_law_87
def dkwL_law_85 : List UInt8 := [45, 3, 47, 21, 7, 133, 148, 153, 0, 5, 3, 172, 167, 2, 107, 43, 42, 21, 5, 4, 96, 46, 45]
abbrev dktL_law_85 : List UInt8 := dkwL_law_85 ++ dktL_law_86
def dkwL_law_84 : List UInt8 := [54, 6, 44, 182, 1, 8, 54, 7, 44, 182, 0, 163, 21, 6, 159, 0, 5, 3, 172, 21, 6, 154, 0, 15]
abbrev dktL_law_84 : List UInt8 := dkwL_law_84 ++ dktL_law_85
def dkwL_law_83 : List UInt8 := [154, 0, 15, 45, 3, 47, 21, 7, 133, 148, 153, 0, 5, 3, 172, 167, 2, 151, 43, 45, 184, 1, 6]
abbrev dktL_law_83 : List UInt8 := dkwL_law_83 ++ dktL_law_84
def dkwL_law_82 : List UInt8 := [21, 5, 4, 96, 46, 182, 1, 5, 54, 7, 44, 182, 0, 163, 21, 6, 159, 0, 5, 3, 172, 21, 6]
abbrev dktL_law_82 : List UInt8 := dkwL_law_82 ++ dktL_law_83
def dkwL_law_81 : List UInt8 := [153, 0, 5, 3, 172, 167, 2, 207, 43, 42, 21, 5, 4, 96, 46, 45, 184, 1, 3, 54, 6, 44, 42]
abbrev dktL_law_81 : List UInt8 := dkwL_law_81 ++ dktL_law_82
def dkwL_law_80 : List UInt8 := [182, 0, 163, 21, 6, 159, 0, 5, 3, 172, 21, 6, 154, 0, 15, 45, 3, 47, 21, 7, 133, 148]
abbrev dktL_law_80 : List UInt8 := dkwL_law_80 ++ dktL_law_81
def dkwL_law_79 : List UInt8 := [21, 5, 4, 96, 46, 45, 184, 1, 0, 54, 6, 44, 42, 21, 5, 4, 96, 46, 182, 1, 2, 54, 7, 44]
abbrev dktL_law_79 : List UInt8 := dkwL_law_79 ++ dktL_law_80
def dkwL_law_78 : List UInt8 := [172, 21, 6, 154, 0, 15, 45, 3, 47, 21, 7, 133, 148, 153, 0, 5, 3, 172, 167, 3, 7, 43, 42]
abbrev dktL_law_78 : List UInt8 := dkwL_law_78 ++ dktL_law_79
def dkwL_law_77 : List UInt8 := [54, 6, 44, 42, 21, 5, 4, 96, 46, 182, 0, 255, 54, 7, 44, 182, 0, 163, 21, 6, 159, 0, 5, 3]
abbrev dktL_law_77 : List UInt8 := dkwL_law_77 ++ dktL_law_78
def dkwL_law_76 : List UInt8 := [21, 7, 133, 148, 153, 0, 5, 3, 172, 167, 3, 63, 43, 42, 21, 5, 4, 96, 46, 45, 184, 0, 253]
abbrev dktL_law_76 : List UInt8 := dkwL_law_76 ++ dktL_law_77
def dkwL_law_75 : List UInt8 := [182, 0, 252, 54, 7, 44, 182, 0, 163, 21, 6, 159, 0, 5, 3, 172, 21, 6, 154, 0, 15, 45, 3, 47]
abbrev dktL_law_75 : List UInt8 := dkwL_law_75 ++ dktL_law_76
def dkwL_law_74 : List UInt8 := [167, 3, 119, 43, 42, 21, 5, 4, 96, 46, 45, 184, 0, 250, 54, 6, 44, 42, 21, 5, 4, 96, 46]
abbrev dktL_law_74 : List UInt8 := dkwL_law_74 ++ dktL_law_75
def dkwL_law_73 : List UInt8 := [21, 6, 159, 0, 5, 3, 172, 21, 6, 154, 0, 15, 45, 3, 47, 21, 7, 133, 148, 153, 0, 5, 3, 172]
abbrev dktL_law_73 : List UInt8 := dkwL_law_73 ++ dktL_law_74
def dkwL_law_72 : List UInt8 := [46, 45, 184, 0, 247, 54, 6, 44, 42, 21, 5, 4, 96, 46, 182, 0, 249, 54, 7, 44, 182, 0, 163]
abbrev dktL_law_72 : List UInt8 := dkwL_law_72 ++ dktL_law_73
def dkwL_law_71 : List UInt8 := [154, 0, 15, 45, 3, 47, 21, 7, 133, 148, 153, 0, 5, 3, 172, 167, 3, 175, 43, 42, 21, 5, 4, 96]
abbrev dktL_law_71 : List UInt8 := dkwL_law_71 ++ dktL_law_72
def dkwL_law_70 : List UInt8 := [21, 5, 4, 96, 46, 182, 0, 246, 54, 7, 44, 182, 0, 163, 21, 6, 159, 0, 5, 3, 172, 21, 6]
abbrev dktL_law_70 : List UInt8 := dkwL_law_70 ++ dktL_law_71
def dkwL_law_69 : List UInt8 := [153, 0, 5, 3, 172, 167, 3, 231, 43, 42, 21, 5, 4, 96, 46, 45, 184, 0, 244, 54, 6, 44, 42]
abbrev dktL_law_69 : List UInt8 := dkwL_law_69 ++ dktL_law_70
def dkwL_law_68 : List UInt8 := [182, 0, 163, 21, 6, 159, 0, 5, 3, 172, 21, 6, 154, 0, 15, 45, 3, 47, 21, 7, 133, 148]
abbrev dktL_law_68 : List UInt8 := dkwL_law_68 ++ dktL_law_69
def dkwL_law_67 : List UInt8 := [184, 0, 241, 54, 6, 44, 42, 21, 5, 4, 96, 46, 42, 21, 5, 5, 96, 46, 182, 0, 243, 54, 7, 44]
abbrev dktL_law_67 : List UInt8 := dkwL_law_67 ++ dktL_law_68
def dkwL_law_66 : List UInt8 := [148, 153, 0, 5, 3, 172, 167, 4, 43, 43, 42, 21, 5, 4, 96, 46, 42, 21, 5, 5, 96, 46, 45]
abbrev dktL_law_66 : List UInt8 := dkwL_law_66 ++ dktL_law_67
def dkwL_law_65 : List UInt8 := [54, 7, 44, 182, 0, 163, 21, 6, 159, 0, 5, 3, 172, 21, 6, 154, 0, 15, 45, 3, 47, 21, 7, 133]
abbrev dktL_law_65 : List UInt8 := dkwL_law_65 ++ dktL_law_66
def dkwL_law_64 : List UInt8 := [96, 46, 45, 184, 0, 238, 54, 6, 44, 42, 21, 5, 4, 96, 46, 42, 21, 5, 5, 96, 46, 182, 0, 240]
abbrev dktL_law_64 : List UInt8 := dkwL_law_64 ++ dktL_law_65
def dkwL_law_63 : List UInt8 := [47, 21, 7, 133, 148, 153, 0, 5, 3, 172, 167, 4, 111, 43, 42, 21, 5, 4, 96, 46, 42, 21, 5, 5]
abbrev dktL_law_63 : List UInt8 := dkwL_law_63 ++ dktL_law_64
def dkwL_law_62 : List UInt8 := [46, 182, 0, 237, 54, 7, 44, 182, 0, 163, 21, 6, 159, 0, 5, 3, 172, 21, 6, 154, 0, 15, 45, 3]
abbrev dktL_law_62 : List UInt8 := dkwL_law_62 ++ dktL_law_63
def dkwL_law_61 : List UInt8 := [159, 4, 169, 3, 172, 43, 42, 21, 5, 4, 96, 46, 45, 184, 0, 235, 54, 6, 44, 42, 21, 5, 4, 96]
abbrev dktL_law_61 : List UInt8 := dkwL_law_61 ++ dktL_law_62
def dkwL_law_60 : List UInt8 := [45, 3, 47, 21, 7, 133, 148, 153, 0, 5, 3, 172, 167, 4, 180, 43, 182, 0, 231, 44, 182, 0, 234]
abbrev dktL_law_60 : List UInt8 := dkwL_law_60 ++ dktL_law_61
def dkwL_law_59 : List UInt8 := [54, 6, 44, 182, 0, 230, 54, 7, 44, 182, 0, 163, 21, 6, 159, 0, 5, 3, 172, 21, 6, 154, 0, 15]
abbrev dktL_law_59 : List UInt8 := dkwL_law_59 ++ dktL_law_60
def dkwL_law_58 : List UInt8 := [154, 0, 15, 45, 3, 47, 21, 7, 133, 148, 153, 0, 5, 3, 172, 167, 4, 224, 43, 45, 184, 0, 227]
abbrev dktL_law_58 : List UInt8 := dkwL_law_58 ++ dktL_law_59
def dkwL_law_57 : List UInt8 := [21, 5, 4, 96, 46, 146, 182, 0, 226, 54, 7, 44, 182, 0, 163, 21, 6, 159, 0, 5, 3, 172, 21, 6]
abbrev dktL_law_57 : List UInt8 := dkwL_law_57 ++ dktL_law_58
def dkwL_law_56 : List UInt8 := [153, 0, 5, 3, 172, 167, 5, 26, 43, 42, 21, 5, 4, 96, 46, 146, 45, 184, 0, 223, 54, 6, 44, 42]
abbrev dktL_law_56 : List UInt8 := dkwL_law_56 ++ dktL_law_57
def dkwL_law_55 : List UInt8 := [182, 0, 163, 21, 6, 159, 0, 5, 3, 172, 21, 6, 154, 0, 15, 45, 3, 47, 21, 7, 133, 148]
abbrev dktL_law_55 : List UInt8 := dkwL_law_55 ++ dktL_law_56
def dkwL_law_54 : List UInt8 := [21, 5, 4, 96, 46, 45, 184, 0, 220, 54, 6, 44, 42, 21, 5, 4, 96, 46, 182, 0, 222, 54, 7, 44]
abbrev dktL_law_54 : List UInt8 := dkwL_law_54 ++ dktL_law_55
def dkwL_law_53 : List UInt8 := [172, 21, 6, 154, 0, 15, 45, 3, 47, 21, 7, 133, 148, 153, 0, 5, 3, 172, 167, 5, 82, 43, 42]
abbrev dktL_law_53 : List UInt8 := dkwL_law_53 ++ dktL_law_54
def dkwL_law_52 : List UInt8 := [54, 6, 44, 42, 21, 5, 4, 96, 46, 182, 0, 219, 54, 7, 44, 182, 0, 163, 21, 6, 159, 0, 5, 3]
abbrev dktL_law_52 : List UInt8 := dkwL_law_52 ++ dktL_law_53
def dkwL_law_51 : List UInt8 := [21, 7, 133, 148, 153, 0, 5, 3, 172, 167, 5, 138, 43, 42, 21, 5, 4, 96, 46, 45, 184, 0, 217]
abbrev dktL_law_51 : List UInt8 := dkwL_law_51 ++ dktL_law_52
def dkwL_law_50 : List UInt8 := [182, 0, 216, 54, 7, 44, 182, 0, 163, 21, 6, 159, 0, 5, 3, 172, 21, 6, 154, 0, 15, 45, 3, 47]
abbrev dktL_law_50 : List UInt8 := dkwL_law_50 ++ dktL_law_51
def dkwL_law_49 : List UInt8 := [184, 0, 214, 54, 6, 44, 42, 21, 5, 4, 96, 46, 42, 21, 5, 5, 96, 46, 42, 21, 5, 6, 96, 46]
abbrev dktL_law_49 : List UInt8 := dkwL_law_49 ++ dktL_law_50
def dkwL_law_48 : List UInt8 := [167, 5, 218, 43, 42, 21, 5, 4, 96, 46, 42, 21, 5, 5, 96, 46, 42, 21, 5, 6, 96, 46, 45]
abbrev dktL_law_48 : List UInt8 := dkwL_law_48 ++ dktL_law_49
def dkwL_law_47 : List UInt8 := [159, 0, 5, 3, 172, 21, 6, 154, 0, 15, 45, 3, 47, 21, 7, 133, 148, 153, 0, 5, 3, 172]
abbrev dktL_law_47 : List UInt8 := dkwL_law_47 ++ dktL_law_48
def dkwL_law_46 : List UInt8 := [184, 0, 211, 54, 6, 44, 42, 21, 5, 4, 96, 46, 182, 0, 213, 54, 7, 44, 182, 0, 163, 21, 6]
abbrev dktL_law_46 : List UInt8 := dkwL_law_46 ++ dktL_law_47
def dkwL_law_45 : List UInt8 := [3, 47, 21, 7, 133, 148, 153, 0, 5, 3, 172, 167, 6, 18, 43, 42, 21, 5, 4, 96, 46, 45]
abbrev dktL_law_45 : List UInt8 := dkwL_law_45 ++ dktL_law_46
def dkwL_law_44 : List UInt8 := [96, 46, 182, 0, 210, 54, 7, 44, 182, 0, 163, 21, 6, 159, 0, 5, 3, 172, 21, 6, 154, 0, 15, 45]
abbrev dktL_law_44 : List UInt8 := dkwL_law_44 ++ dktL_law_45
def dkwL_law_43 : List UInt8 := [46, 42, 21, 5, 5, 96, 46, 45, 184, 0, 208, 54, 6, 44, 42, 21, 5, 4, 96, 46, 42, 21, 5, 5]
abbrev dktL_law_43 : List UInt8 := dkwL_law_43 ++ dktL_law_44
def dkwL_law_42 : List UInt8 := [154, 0, 15, 45, 3, 47, 21, 7, 133, 148, 153, 0, 5, 3, 172, 167, 6, 86, 43, 42, 21, 5, 4, 96]
abbrev dktL_law_42 : List UInt8 := dkwL_law_42 ++ dktL_law_43
def dkwL_law_41 : List UInt8 := [42, 21, 5, 6, 96, 46, 182, 0, 207, 54, 7, 44, 182, 0, 163, 21, 6, 159, 0, 5, 3, 172, 21, 6]
abbrev dktL_law_41 : List UInt8 := dkwL_law_41 ++ dktL_law_42
def dkwL_law_40 : List UInt8 := [21, 5, 6, 96, 46, 45, 184, 0, 204, 54, 6, 44, 42, 21, 5, 4, 96, 46, 42, 21, 5, 5, 96, 46]
abbrev dktL_law_40 : List UInt8 := dkwL_law_40 ++ dktL_law_41
def dkwL_law_39 : List UInt8 := [148, 153, 0, 5, 3, 172, 167, 6, 166, 43, 42, 21, 5, 4, 96, 46, 42, 21, 5, 5, 96, 46, 42]
abbrev dktL_law_39 : List UInt8 := dkwL_law_39 ++ dktL_law_40
def dkwL_law_38 : List UInt8 := [54, 7, 44, 182, 0, 163, 21, 6, 159, 0, 5, 3, 172, 21, 6, 154, 0, 15, 45, 3, 47, 21, 7, 133]
abbrev dktL_law_38 : List UInt8 := dkwL_law_38 ++ dktL_law_39
def dkwL_law_37 : List UInt8 := [46, 45, 184, 0, 201, 54, 6, 44, 42, 21, 5, 4, 96, 46, 42, 21, 5, 5, 96, 46, 182, 0, 203]
abbrev dktL_law_37 : List UInt8 := dkwL_law_37 ++ dktL_law_38
def dkwL_law_36 : List UInt8 := [21, 7, 133, 148, 153, 0, 5, 3, 172, 167, 6, 234, 43, 42, 21, 5, 4, 96, 46, 42, 21, 5, 5, 96]
abbrev dktL_law_36 : List UInt8 := dkwL_law_36 ++ dktL_law_37
def dkwL_law_35 : List UInt8 := [182, 0, 200, 54, 7, 44, 182, 0, 163, 21, 6, 159, 0, 5, 3, 172, 21, 6, 154, 0, 15, 45, 3, 47]
abbrev dktL_law_35 : List UInt8 := dkwL_law_35 ++ dktL_law_36
def dkwL_law_34 : List UInt8 := [167, 7, 34, 43, 42, 21, 5, 4, 96, 46, 45, 184, 0, 198, 54, 6, 44, 42, 21, 5, 4, 96, 46]
abbrev dktL_law_34 : List UInt8 := dkwL_law_34 ++ dktL_law_35
def dkwL_law_33 : List UInt8 := [21, 6, 159, 0, 5, 3, 172, 21, 6, 154, 0, 15, 45, 3, 47, 21, 7, 133, 148, 153, 0, 5, 3, 172]
abbrev dktL_law_33 : List UInt8 := dkwL_law_33 ++ dktL_law_34
def dkwL_law_32 : List UInt8 := [46, 45, 184, 0, 195, 54, 6, 44, 42, 21, 5, 4, 96, 46, 182, 0, 197, 54, 7, 44, 182, 0, 163]
abbrev dktL_law_32 : List UInt8 := dkwL_law_32 ++ dktL_law_33
def dkwL_law_31 : List UInt8 := [154, 0, 15, 45, 3, 47, 21, 7, 133, 148, 153, 0, 5, 3, 172, 167, 7, 90, 43, 42, 21, 5, 4, 96]
abbrev dktL_law_31 : List UInt8 := dkwL_law_31 ++ dktL_law_32
def dkwL_law_30 : List UInt8 := [21, 5, 4, 96, 46, 182, 0, 194, 54, 7, 44, 182, 0, 163, 21, 6, 159, 0, 5, 3, 172, 21, 6]
abbrev dktL_law_30 : List UInt8 := dkwL_law_30 ++ dktL_law_31
def dkwL_law_29 : List UInt8 := [153, 0, 5, 3, 172, 167, 7, 146, 43, 42, 21, 5, 4, 96, 46, 45, 184, 0, 192, 54, 6, 44, 42]
abbrev dktL_law_29 : List UInt8 := dkwL_law_29 ++ dktL_law_30
def dkwL_law_28 : List UInt8 := [182, 0, 163, 21, 6, 159, 0, 5, 3, 172, 21, 6, 154, 0, 15, 45, 3, 47, 21, 7, 133, 148]
abbrev dktL_law_28 : List UInt8 := dkwL_law_28 ++ dktL_law_29
def dkwL_law_27 : List UInt8 := [184, 0, 189, 54, 6, 44, 42, 21, 5, 4, 96, 46, 42, 21, 5, 5, 96, 46, 182, 0, 191, 54, 7, 44]
abbrev dktL_law_27 : List UInt8 := dkwL_law_27 ++ dktL_law_28
def dkwL_law_26 : List UInt8 := [148, 153, 0, 5, 3, 172, 167, 7, 214, 43, 42, 21, 5, 4, 96, 46, 42, 21, 5, 5, 96, 46, 45]
abbrev dktL_law_26 : List UInt8 := dkwL_law_26 ++ dktL_law_27
def dkwL_law_25 : List UInt8 := [54, 7, 44, 182, 0, 163, 21, 6, 159, 0, 5, 3, 172, 21, 6, 154, 0, 15, 45, 3, 47, 21, 7, 133]
abbrev dktL_law_25 : List UInt8 := dkwL_law_25 ++ dktL_law_26
def dkwL_law_24 : List UInt8 := [46, 45, 184, 0, 186, 54, 6, 44, 42, 21, 5, 4, 96, 46, 42, 21, 5, 5, 96, 46, 182, 0, 188]
abbrev dktL_law_24 : List UInt8 := dkwL_law_24 ++ dktL_law_25
def dkwL_law_23 : List UInt8 := [21, 7, 133, 148, 153, 0, 5, 3, 172, 167, 8, 26, 43, 42, 21, 5, 4, 96, 46, 42, 21, 5, 5, 96]
abbrev dktL_law_23 : List UInt8 := dkwL_law_23 ++ dktL_law_24
def dkwL_law_22 : List UInt8 := [182, 0, 185, 54, 7, 44, 182, 0, 163, 21, 6, 159, 0, 5, 3, 172, 21, 6, 154, 0, 15, 45, 3, 47]
abbrev dktL_law_22 : List UInt8 := dkwL_law_22 ++ dktL_law_23
def dkwL_law_21 : List UInt8 := [5, 96, 46, 45, 184, 0, 183, 54, 6, 44, 42, 21, 5, 4, 96, 46, 42, 21, 5, 5, 96, 46]
abbrev dktL_law_21 : List UInt8 := dkwL_law_21 ++ dktL_law_22
def dkwL_law_20 : List UInt8 := [3, 47, 21, 7, 133, 148, 153, 0, 5, 3, 172, 167, 8, 94, 43, 42, 21, 5, 4, 96, 46, 42, 21, 5]
abbrev dktL_law_20 : List UInt8 := dkwL_law_20 ++ dktL_law_21
def dkwL_law_19 : List UInt8 := [96, 46, 182, 0, 182, 54, 7, 44, 182, 0, 163, 21, 6, 159, 0, 5, 3, 172, 21, 6, 154, 0, 15, 45]
abbrev dktL_law_19 : List UInt8 := dkwL_law_19 ++ dktL_law_20
def dkwL_law_18 : List UInt8 := [46, 42, 21, 5, 5, 96, 46, 45, 184, 0, 180, 54, 6, 44, 42, 21, 5, 4, 96, 46, 42, 21, 5, 5]
abbrev dktL_law_18 : List UInt8 := dkwL_law_18 ++ dktL_law_19
def dkwL_law_17 : List UInt8 := [154, 0, 15, 45, 3, 47, 21, 7, 133, 148, 153, 0, 5, 3, 172, 167, 8, 162, 43, 42, 21, 5, 4, 96]
abbrev dktL_law_17 : List UInt8 := dkwL_law_17 ++ dktL_law_18
def dkwL_law_16 : List UInt8 := [42, 21, 5, 5, 96, 46, 182, 0, 179, 54, 7, 44, 182, 0, 163, 21, 6, 159, 0, 5, 3, 172, 21, 6]
abbrev dktL_law_16 : List UInt8 := dkwL_law_16 ++ dktL_law_17
def dkwL_law_15 : List UInt8 := [21, 5, 4, 96, 46, 42, 21, 5, 5, 96, 46, 45, 184, 0, 177, 54, 6, 44, 42, 21, 5, 4, 96, 46]
abbrev dktL_law_15 : List UInt8 := dkwL_law_15 ++ dktL_law_16
def dkwL_law_14 : List UInt8 := [172, 21, 6, 154, 0, 15, 45, 3, 47, 21, 7, 133, 148, 153, 0, 5, 3, 172, 167, 8, 230, 43, 42]
abbrev dktL_law_14 : List UInt8 := dkwL_law_14 ++ dktL_law_15
def dkwL_law_13 : List UInt8 := [54, 6, 44, 42, 21, 5, 4, 96, 46, 182, 0, 176, 54, 7, 44, 182, 0, 163, 21, 6, 159, 0, 5, 3]
abbrev dktL_law_13 : List UInt8 := dkwL_law_13 ++ dktL_law_14
def dkwL_law_12 : List UInt8 := [21, 7, 133, 148, 153, 0, 5, 3, 172, 167, 9, 30, 43, 42, 21, 5, 4, 96, 46, 45, 184, 0, 173]
abbrev dktL_law_12 : List UInt8 := dkwL_law_12 ++ dktL_law_13
def dkwL_law_11 : List UInt8 := [182, 0, 172, 54, 7, 44, 182, 0, 163, 21, 6, 159, 0, 5, 3, 172, 21, 6, 154, 0, 15, 45, 3, 47]
abbrev dktL_law_11 : List UInt8 := dkwL_law_11 ++ dktL_law_12
def dkwL_law_10 : List UInt8 := [5, 96, 46, 45, 184, 0, 170, 54, 6, 44, 42, 21, 5, 4, 96, 46, 42, 21, 5, 5, 96, 46]
abbrev dktL_law_10 : List UInt8 := dkwL_law_10 ++ dktL_law_11
def dkwL_law_9 : List UInt8 := [3, 47, 21, 7, 133, 148, 153, 0, 5, 3, 172, 167, 9, 98, 43, 42, 21, 5, 4, 96, 46, 42, 21, 5]
abbrev dktL_law_9 : List UInt8 := dkwL_law_9 ++ dktL_law_10
def dkwL_law_8 : List UInt8 := [96, 46, 182, 0, 169, 54, 7, 44, 182, 0, 163, 21, 6, 159, 0, 5, 3, 172, 21, 6, 154, 0, 15, 45]
abbrev dktL_law_8 : List UInt8 := dkwL_law_8 ++ dktL_law_9
def dkwL_law_7 : List UInt8 := [46, 42, 21, 5, 5, 96, 46, 45, 184, 0, 166, 54, 6, 44, 42, 21, 5, 4, 96, 46, 42, 21, 5, 5]
abbrev dktL_law_7 : List UInt8 := dkwL_law_7 ++ dktL_law_8
def dkwL_law_6 : List UInt8 := [154, 0, 15, 45, 3, 47, 21, 7, 133, 148, 153, 0, 5, 3, 172, 167, 9, 166, 43, 42, 21, 5, 4, 96]
abbrev dktL_law_6 : List UInt8 := dkwL_law_6 ++ dktL_law_7
def dkwL_law_5 : List UInt8 := [167, 0, 4, 3, 182, 0, 162, 54, 7, 44, 182, 0, 163, 21, 6, 159, 0, 5, 3, 172, 21, 6]
abbrev dktL_law_5 : List UInt8 := dkwL_law_5 ++ dktL_law_6
def dkwL_law_4 : List UInt8 := [184, 0, 157, 54, 6, 44, 42, 21, 5, 4, 96, 46, 42, 21, 5, 5, 96, 46, 153, 0, 7, 4]
abbrev dktL_law_4 : List UInt8 := dkwL_law_4 ++ dktL_law_5
def dkwL_law_3 : List UInt8 := [43, 42, 21, 5, 4, 96, 46, 42, 21, 5, 5, 96, 46, 153, 0, 7, 4, 167, 0, 4, 3, 45]
abbrev dktL_law_3 : List UInt8 := dkwL_law_3 ++ dktL_law_4
def dkwL_law_2 : List UInt8 := [170, 0, 0, 0, 0, 0, 10, 179, 0, 0, 0, 0, 0, 0, 0, 42, 0, 0, 0, 188, 0, 0, 1, 16, 0, 0, 1, 84, 0, 0, 1, 152, 0, 0, 1, 208, 0, 0, 2, 20, 0, 0, 2, 88, 0, 0, 2, 156, 0, 0, 2, 224, 0, 0, 3, 36, 0, 0, 3, 92, 0, 0, 3, 148, 0, 0, 3, 204, 0, 0, 4, 16, 0, 0, 4, 96, 0, 0, 4, 164, 0, 0, 4, 220, 0, 0, 5, 44, 0, 0, 5, 100, 0, 0, 5, 156, 0, 0, 5, 214, 0, 0, 6, 2, 0, 0, 6, 15, 0, 0, 6, 71, 0, 0, 6, 139, 0, 0, 6, 207, 0, 0, 7, 7, 0, 0, 7, 63, 0, 0, 7, 119, 0, 0, 7, 175, 0, 0, 7, 231, 0, 0, 8, 31, 0, 0, 8, 75, 0, 0, 8, 131, 0, 0, 8, 199, 0, 0, 9, 11, 0, 0, 9, 79, 0, 0, 9, 135, 0, 0, 9, 213, 0, 0, 10, 22, 0, 0, 10, 78, 0, 0, 10, 122, 0, 0, 10, 135]
abbrev dktL_law_2 : List UInt8 := dkwL_law_2 ++ dktL_law_3
def dkwL_law_1 : List UInt8 := [58, 4, 3, 54, 5, 21, 5, 42, 190, 7, 100, 163, 10, 195, 42, 21, 5, 46, 16, 63, 126]
abbrev dktL_law_1 : List UInt8 := dkwL_law_1 ++ dktL_law_2
def dkwL_law_0 : List UInt8 := [187, 0, 8, 89, 183, 0, 153, 76, 187, 0, 154, 89, 183, 0, 156, 77, 4, 188, 11, 78, 4, 188, 7]
abbrev dktL_law_0 : List UInt8 := dkwL_law_0 ++ dktL_law_1
theorem dksL_law_0 : cL_law.data.toList.drop 0 = dktL_law_0 := by decide +kernel
theorem dksL_law_1 : cL_law.data.toList.drop 23 = dktL_law_1 := dk_seg dksL_law_0 23 rfl rfl
theorem dksL_law_2 : cL_law.data.toList.drop 44 = dktL_law_2 := dk_seg dksL_law_1 21 rfl rfl
theorem dksL_law_3 : cL_law.data.toList.drop 232 = dktL_law_3 := dk_seg dksL_law_2 188 rfl rfl
theorem dksL_law_4 : cL_law.data.toList.drop 254 = dktL_law_4 := dk_seg dksL_law_3 22 rfl rfl
theorem dksL_law_5 : cL_law.data.toList.drop 276 = dktL_law_5 := dk_seg dksL_law_4 22 rfl rfl
theorem dksL_law_6 : cL_law.data.toList.drop 298 = dktL_law_6 := dk_seg dksL_law_5 22 rfl rfl
theorem dksL_law_7 : cL_law.data.toList.drop 322 = dktL_law_7 := dk_seg dksL_law_6 24 rfl rfl
theorem dksL_law_8 : cL_law.data.toList.drop 346 = dktL_law_8 := dk_seg dksL_law_7 24 rfl rfl
theorem dksL_law_9 : cL_law.data.toList.drop 370 = dktL_law_9 := dk_seg dksL_law_8 24 rfl rfl
theorem dksL_law_10 : cL_law.data.toList.drop 394 = dktL_law_10 := dk_seg dksL_law_9 24 rfl rfl
theorem dksL_law_11 : cL_law.data.toList.drop 416 = dktL_law_11 := dk_seg dksL_law_10 22 rfl rfl
theorem dksL_law_12 : cL_law.data.toList.drop 440 = dktL_law_12 := dk_seg dksL_law_11 24 rfl rfl
theorem dksL_law_13 : cL_law.data.toList.drop 463 = dktL_law_13 := dk_seg dksL_law_12 23 rfl rfl
theorem dksL_law_14 : cL_law.data.toList.drop 487 = dktL_law_14 := dk_seg dksL_law_13 24 rfl rfl
theorem dksL_law_15 : cL_law.data.toList.drop 510 = dktL_law_15 := dk_seg dksL_law_14 23 rfl rfl
theorem dksL_law_16 : cL_law.data.toList.drop 534 = dktL_law_16 := dk_seg dksL_law_15 24 rfl rfl
theorem dksL_law_17 : cL_law.data.toList.drop 558 = dktL_law_17 := dk_seg dksL_law_16 24 rfl rfl
theorem dksL_law_18 : cL_law.data.toList.drop 582 = dktL_law_18 := dk_seg dksL_law_17 24 rfl rfl
theorem dksL_law_19 : cL_law.data.toList.drop 606 = dktL_law_19 := dk_seg dksL_law_18 24 rfl rfl
theorem dksL_law_20 : cL_law.data.toList.drop 630 = dktL_law_20 := dk_seg dksL_law_19 24 rfl rfl
theorem dksL_law_21 : cL_law.data.toList.drop 654 = dktL_law_21 := dk_seg dksL_law_20 24 rfl rfl
theorem dksL_law_22 : cL_law.data.toList.drop 676 = dktL_law_22 := dk_seg dksL_law_21 22 rfl rfl
theorem dksL_law_23 : cL_law.data.toList.drop 700 = dktL_law_23 := dk_seg dksL_law_22 24 rfl rfl
theorem dksL_law_24 : cL_law.data.toList.drop 724 = dktL_law_24 := dk_seg dksL_law_23 24 rfl rfl
theorem dksL_law_25 : cL_law.data.toList.drop 747 = dktL_law_25 := dk_seg dksL_law_24 23 rfl rfl
theorem dksL_law_26 : cL_law.data.toList.drop 771 = dktL_law_26 := dk_seg dksL_law_25 24 rfl rfl
theorem dksL_law_27 : cL_law.data.toList.drop 794 = dktL_law_27 := dk_seg dksL_law_26 23 rfl rfl
theorem dksL_law_28 : cL_law.data.toList.drop 818 = dktL_law_28 := dk_seg dksL_law_27 24 rfl rfl
theorem dksL_law_29 : cL_law.data.toList.drop 840 = dktL_law_29 := dk_seg dksL_law_28 22 rfl rfl
theorem dksL_law_30 : cL_law.data.toList.drop 863 = dktL_law_30 := dk_seg dksL_law_29 23 rfl rfl
theorem dksL_law_31 : cL_law.data.toList.drop 886 = dktL_law_31 := dk_seg dksL_law_30 23 rfl rfl
theorem dksL_law_32 : cL_law.data.toList.drop 910 = dktL_law_32 := dk_seg dksL_law_31 24 rfl rfl
theorem dksL_law_33 : cL_law.data.toList.drop 933 = dktL_law_33 := dk_seg dksL_law_32 23 rfl rfl
theorem dksL_law_34 : cL_law.data.toList.drop 957 = dktL_law_34 := dk_seg dksL_law_33 24 rfl rfl
theorem dksL_law_35 : cL_law.data.toList.drop 980 = dktL_law_35 := dk_seg dksL_law_34 23 rfl rfl
theorem dksL_law_36 : cL_law.data.toList.drop 1004 = dktL_law_36 := dk_seg dksL_law_35 24 rfl rfl
theorem dksL_law_37 : cL_law.data.toList.drop 1028 = dktL_law_37 := dk_seg dksL_law_36 24 rfl rfl
theorem dksL_law_38 : cL_law.data.toList.drop 1051 = dktL_law_38 := dk_seg dksL_law_37 23 rfl rfl
theorem dksL_law_39 : cL_law.data.toList.drop 1075 = dktL_law_39 := dk_seg dksL_law_38 24 rfl rfl
theorem dksL_law_40 : cL_law.data.toList.drop 1098 = dktL_law_40 := dk_seg dksL_law_39 23 rfl rfl
theorem dksL_law_41 : cL_law.data.toList.drop 1122 = dktL_law_41 := dk_seg dksL_law_40 24 rfl rfl
theorem dksL_law_42 : cL_law.data.toList.drop 1146 = dktL_law_42 := dk_seg dksL_law_41 24 rfl rfl
theorem dksL_law_43 : cL_law.data.toList.drop 1170 = dktL_law_43 := dk_seg dksL_law_42 24 rfl rfl
theorem dksL_law_44 : cL_law.data.toList.drop 1194 = dktL_law_44 := dk_seg dksL_law_43 24 rfl rfl
theorem dksL_law_45 : cL_law.data.toList.drop 1218 = dktL_law_45 := dk_seg dksL_law_44 24 rfl rfl
theorem dksL_law_46 : cL_law.data.toList.drop 1240 = dktL_law_46 := dk_seg dksL_law_45 22 rfl rfl
theorem dksL_law_47 : cL_law.data.toList.drop 1263 = dktL_law_47 := dk_seg dksL_law_46 23 rfl rfl
theorem dksL_law_48 : cL_law.data.toList.drop 1285 = dktL_law_48 := dk_seg dksL_law_47 22 rfl rfl
theorem dksL_law_49 : cL_law.data.toList.drop 1308 = dktL_law_49 := dk_seg dksL_law_48 23 rfl rfl
theorem dksL_law_50 : cL_law.data.toList.drop 1332 = dktL_law_50 := dk_seg dksL_law_49 24 rfl rfl
theorem dksL_law_51 : cL_law.data.toList.drop 1356 = dktL_law_51 := dk_seg dksL_law_50 24 rfl rfl
theorem dksL_law_52 : cL_law.data.toList.drop 1379 = dktL_law_52 := dk_seg dksL_law_51 23 rfl rfl
theorem dksL_law_53 : cL_law.data.toList.drop 1403 = dktL_law_53 := dk_seg dksL_law_52 24 rfl rfl
theorem dksL_law_54 : cL_law.data.toList.drop 1426 = dktL_law_54 := dk_seg dksL_law_53 23 rfl rfl
theorem dksL_law_55 : cL_law.data.toList.drop 1450 = dktL_law_55 := dk_seg dksL_law_54 24 rfl rfl
theorem dksL_law_56 : cL_law.data.toList.drop 1472 = dktL_law_56 := dk_seg dksL_law_55 22 rfl rfl
theorem dksL_law_57 : cL_law.data.toList.drop 1496 = dktL_law_57 := dk_seg dksL_law_56 24 rfl rfl
theorem dksL_law_58 : cL_law.data.toList.drop 1520 = dktL_law_58 := dk_seg dksL_law_57 24 rfl rfl
theorem dksL_law_59 : cL_law.data.toList.drop 1543 = dktL_law_59 := dk_seg dksL_law_58 23 rfl rfl
theorem dksL_law_60 : cL_law.data.toList.drop 1567 = dktL_law_60 := dk_seg dksL_law_59 24 rfl rfl
theorem dksL_law_61 : cL_law.data.toList.drop 1590 = dktL_law_61 := dk_seg dksL_law_60 23 rfl rfl
theorem dksL_law_62 : cL_law.data.toList.drop 1614 = dktL_law_62 := dk_seg dksL_law_61 24 rfl rfl
theorem dksL_law_63 : cL_law.data.toList.drop 1638 = dktL_law_63 := dk_seg dksL_law_62 24 rfl rfl
theorem dksL_law_64 : cL_law.data.toList.drop 1662 = dktL_law_64 := dk_seg dksL_law_63 24 rfl rfl
theorem dksL_law_65 : cL_law.data.toList.drop 1686 = dktL_law_65 := dk_seg dksL_law_64 24 rfl rfl
theorem dksL_law_66 : cL_law.data.toList.drop 1710 = dktL_law_66 := dk_seg dksL_law_65 24 rfl rfl
theorem dksL_law_67 : cL_law.data.toList.drop 1733 = dktL_law_67 := dk_seg dksL_law_66 23 rfl rfl
theorem dksL_law_68 : cL_law.data.toList.drop 1757 = dktL_law_68 := dk_seg dksL_law_67 24 rfl rfl
theorem dksL_law_69 : cL_law.data.toList.drop 1779 = dktL_law_69 := dk_seg dksL_law_68 22 rfl rfl
theorem dksL_law_70 : cL_law.data.toList.drop 1802 = dktL_law_70 := dk_seg dksL_law_69 23 rfl rfl
theorem dksL_law_71 : cL_law.data.toList.drop 1825 = dktL_law_71 := dk_seg dksL_law_70 23 rfl rfl
theorem dksL_law_72 : cL_law.data.toList.drop 1849 = dktL_law_72 := dk_seg dksL_law_71 24 rfl rfl
theorem dksL_law_73 : cL_law.data.toList.drop 1872 = dktL_law_73 := dk_seg dksL_law_72 23 rfl rfl
theorem dksL_law_74 : cL_law.data.toList.drop 1896 = dktL_law_74 := dk_seg dksL_law_73 24 rfl rfl
theorem dksL_law_75 : cL_law.data.toList.drop 1919 = dktL_law_75 := dk_seg dksL_law_74 23 rfl rfl
theorem dksL_law_76 : cL_law.data.toList.drop 1943 = dktL_law_76 := dk_seg dksL_law_75 24 rfl rfl
theorem dksL_law_77 : cL_law.data.toList.drop 1966 = dktL_law_77 := dk_seg dksL_law_76 23 rfl rfl
theorem dksL_law_78 : cL_law.data.toList.drop 1990 = dktL_law_78 := dk_seg dksL_law_77 24 rfl rfl
theorem dksL_law_79 : cL_law.data.toList.drop 2013 = dktL_law_79 := dk_seg dksL_law_78 23 rfl rfl
theorem dksL_law_80 : cL_law.data.toList.drop 2037 = dktL_law_80 := dk_seg dksL_law_79 24 rfl rfl
theorem dksL_law_81 : cL_law.data.toList.drop 2059 = dktL_law_81 := dk_seg dksL_law_80 22 rfl rfl
theorem dksL_law_82 : cL_law.data.toList.drop 2082 = dktL_law_82 := dk_seg dksL_law_81 23 rfl rfl
theorem dksL_law_83 : cL_law.data.toList.drop 2105 = dktL_law_83 := dk_seg dksL_law_82 23 rfl rfl
theorem dksL_law_84 : cL_law.data.toList.drop 2128 = dktL_law_84 := dk_seg dksL_law_83 23 rfl rfl
theorem dksL_law_85 : cL_law.data.toList.drop 2152 = dktL_law_85 := dk_seg dksL_law_84 24 rfl rfl
theorem dksL_law_86 : cL_law.data.toList.drop 2175 = dktL_law_86 := dk_seg dksL_law_85 23 rfl rfl
theorem dksL_law_87 : cL_law.data.toList.drop 2198 = dktL_law_87 := dk_seg dksL_law_86 23 rfl rfl
theorem dksL_law_88 : cL_law.data.toList.drop 2220 = dktL_law_88 := dk_seg dksL_law_87 22 rfl rfl
theorem dksL_law_89 : cL_law.data.toList.drop 2244 = dktL_law_89 := dk_seg dksL_law_88 24 rfl rfl
theorem dksL_law_90 : cL_law.data.toList.drop 2266 = dktL_law_90 := dk_seg dksL_law_89 22 rfl rfl
theorem dksL_law_91 : cL_law.data.toList.drop 2288 = dktL_law_91 := dk_seg dksL_law_90 22 rfl rfl
theorem dksL_law_92 : cL_law.data.toList.drop 2312 = dktL_law_92 := dk_seg dksL_law_91 24 rfl rfl
theorem dksL_law_93 : cL_law.data.toList.drop 2334 = dktL_law_93 := dk_seg dksL_law_92 22 rfl rfl
theorem dksL_law_94 : cL_law.data.toList.drop 2356 = dktL_law_94 := dk_seg dksL_law_93 22 rfl rfl
theorem dksL_law_95 : cL_law.data.toList.drop 2380 = dktL_law_95 := dk_seg dksL_law_94 24 rfl rfl
theorem dksL_law_96 : cL_law.data.toList.drop 2402 = dktL_law_96 := dk_seg dksL_law_95 22 rfl rfl
theorem dksL_law_97 : cL_law.data.toList.drop 2424 = dktL_law_97 := dk_seg dksL_law_96 22 rfl rfl
theorem dksL_law_98 : cL_law.data.toList.drop 2447 = dktL_law_98 := dk_seg dksL_law_97 23 rfl rfl
theorem dksL_law_99 : cL_law.data.toList.drop 2471 = dktL_law_99 := dk_seg dksL_law_98 24 rfl rfl
theorem dksL_law_100 : cL_law.data.toList.drop 2495 = dktL_law_100 := dk_seg dksL_law_99 24 rfl rfl
theorem dksL_law_101 : cL_law.data.toList.drop 2519 = dktL_law_101 := dk_seg dksL_law_100 24 rfl rfl
theorem dksL_law_102 : cL_law.data.toList.drop 2543 = dktL_law_102 := dk_seg dksL_law_101 24 rfl rfl
theorem dksL_law_103 : cL_law.data.toList.drop 2567 = dktL_law_103 := dk_seg dksL_law_102 24 rfl rfl
theorem dksL_law_104 : cL_law.data.toList.drop 2591 = dktL_law_104 := dk_seg dksL_law_103 24 rfl rfl
theorem dksL_law_105 : cL_law.data.toList.drop 2615 = dktL_law_105 := dk_seg dksL_law_104 24 rfl rfl
theorem dksL_law_106 : cL_law.data.toList.drop 2639 = dktL_law_106 := dk_seg dksL_law_105 24 rfl rfl
theorem dksL_law_107 : cL_law.data.toList.drop 2662 = dktL_law_107 := dk_seg dksL_law_106 23 rfl rfl
theorem dksL_law_108 : cL_law.data.toList.drop 2684 = dktL_law_108 := dk_seg dksL_law_107 22 rfl rfl
theorem dksL_law_109 : cL_law.data.toList.drop 2708 = dktL_law_109 := dk_seg dksL_law_108 24 rfl rfl
theorem dksL_law_110 : cL_law.data.toList.drop 2731 = dktL_law_110 := dk_seg dksL_law_109 23 rfl rfl
theorem dksL_law_111 : cL_law.data.toList.drop 2753 = dktL_law_111 := dk_seg dksL_law_110 22 rfl rfl
theorem dksL_law_112 : cL_law.data.toList.drop 2775 = dktL_law_112 := dk_seg dksL_law_111 22 rfl rfl
theorem dL_law_0 : decode cL_law 0 = .ok (.new 8, 3) := dk_187 0 8 (dk_at dksL_law_0 0 rfl rfl)
theorem dL_law_3 : decode cL_law 3 = .ok (.dup, 1) := dk_89 (dk_at dksL_law_0 3 rfl rfl)
theorem dL_law_4 : decode cL_law 4 = .ok (.invokespecial 153, 3) := dk_183 0 153 (dk_at dksL_law_0 4 rfl rfl)
theorem dL_law_7 : decode cL_law 7 = .ok (.astore_n 1, 1) := dk_76 (dk_at dksL_law_0 7 rfl rfl)
theorem dL_law_8 : decode cL_law 8 = .ok (.new 154, 3) := dk_187 0 154 (dk_at dksL_law_0 8 rfl rfl)
theorem dL_law_11 : decode cL_law 11 = .ok (.dup, 1) := dk_89 (dk_at dksL_law_0 11 rfl rfl)
theorem dL_law_12 : decode cL_law 12 = .ok (.invokespecial 156, 3) := dk_183 0 156 (dk_at dksL_law_0 12 rfl rfl)
theorem dL_law_15 : decode cL_law 15 = .ok (.astore_n 2, 1) := dk_77 (dk_at dksL_law_0 15 rfl rfl)
theorem dL_law_16 : decode cL_law 16 = .ok (.iconst 1, 1) := dk_4 (dk_at dksL_law_0 16 rfl rfl)
theorem dL_law_17 : decode cL_law 17 = .ok (.newarray .long, 2) := dk_188_11 (dk_at dksL_law_0 17 rfl rfl)
theorem dL_law_19 : decode cL_law 19 = .ok (.astore_n 3, 1) := dk_78 (dk_at dksL_law_0 19 rfl rfl)
theorem dL_law_20 : decode cL_law 20 = .ok (.iconst 1, 1) := dk_4 (dk_at dksL_law_0 20 rfl rfl)
theorem dL_law_21 : decode cL_law 21 = .ok (.newarray .double, 2) := dk_188_7 (dk_at dksL_law_0 21 rfl rfl)
theorem dL_law_23 : decode cL_law 23 = .ok (.astore 4, 2) := dk_58 4 (dk_at dksL_law_1 0 rfl rfl)
theorem dL_law_25 : decode cL_law 25 = .ok (.iconst 0, 1) := dk_3 (dk_at dksL_law_1 2 rfl rfl)
theorem dL_law_26 : decode cL_law 26 = .ok (.istore 5, 2) := dk_54 5 (dk_at dksL_law_1 3 rfl rfl)
theorem dL_law_28 : decode cL_law 28 = .ok (.iload 5, 2) := dk_21 5 (dk_at dksL_law_1 5 rfl rfl)
theorem dL_law_30 : decode cL_law 30 = .ok (.aload_n 0, 1) := dk_42 (dk_at dksL_law_1 7 rfl rfl)
theorem dL_law_31 : decode cL_law 31 = .ok (.arraylength, 1) := dk_190 (dk_at dksL_law_1 8 rfl rfl)
theorem dL_law_32 : decode cL_law 32 = .ok (.iconst 4, 1) := dk_7 (dk_at dksL_law_1 9 rfl rfl)
theorem dL_law_33 : decode cL_law 33 = .ok (.isub, 1) := dk_100 (dk_at dksL_law_1 10 rfl rfl)
theorem dL_law_34 : decode cL_law 34 = .ok (.if_icmp .gt 2755, 3) := dk_163 10 195 (dk_at dksL_law_1 11 rfl rfl)
theorem dL_law_37 : decode cL_law 37 = .ok (.aload_n 0, 1) := dk_42 (dk_at dksL_law_1 14 rfl rfl)
theorem dL_law_38 : decode cL_law 38 = .ok (.iload 5, 2) := dk_21 5 (dk_at dksL_law_1 15 rfl rfl)
theorem dL_law_40 : decode cL_law 40 = .ok (.iaload, 1) := dk_46 (dk_at dksL_law_1 17 rfl rfl)
theorem dL_law_41 : decode cL_law 41 = .ok (.bipush 63, 2) := dk_16 63 (dk_at dksL_law_1 18 rfl rfl)
theorem dL_law_43 : decode cL_law 43 = .ok (.iand, 1) := dk_126 (dk_at dksL_law_1 20 rfl rfl)
theorem dL_law_44 : decode cL_law 44 = .ok (.tableswitch 2739 0 42 #[188, 272, 340, 408, 464, 532, 600, 668, 736, 804, 860, 916, 972, 1040, 1120, 1188, 1244, 1324, 1380, 1436, 1494, 1538, 1551, 1607, 1675, 1743, 1799, 1855, 1911, 1967, 2023, 2079, 2123, 2179, 2247, 2315, 2383, 2439, 2517, 2582, 2638, 2682, 2695], 188) := by decide +kernel
theorem dL_law_232 : decode cL_law 232 = .ok (.aload_n 1, 1) := dk_43 (dk_at dksL_law_3 0 rfl rfl)
theorem dL_law_233 : decode cL_law 233 = .ok (.aload_n 0, 1) := dk_42 (dk_at dksL_law_3 1 rfl rfl)
theorem dL_law_234 : decode cL_law 234 = .ok (.iload 5, 2) := dk_21 5 (dk_at dksL_law_3 2 rfl rfl)
theorem dL_law_236 : decode cL_law 236 = .ok (.iconst 1, 1) := dk_4 (dk_at dksL_law_3 4 rfl rfl)
theorem dL_law_237 : decode cL_law 237 = .ok (.iadd, 1) := dk_96 (dk_at dksL_law_3 5 rfl rfl)
theorem dL_law_238 : decode cL_law 238 = .ok (.iaload, 1) := dk_46 (dk_at dksL_law_3 6 rfl rfl)
theorem dL_law_239 : decode cL_law 239 = .ok (.aload_n 0, 1) := dk_42 (dk_at dksL_law_3 7 rfl rfl)
theorem dL_law_240 : decode cL_law 240 = .ok (.iload 5, 2) := dk_21 5 (dk_at dksL_law_3 8 rfl rfl)
theorem dL_law_242 : decode cL_law 242 = .ok (.iconst 2, 1) := dk_5 (dk_at dksL_law_3 10 rfl rfl)
theorem dL_law_243 : decode cL_law 243 = .ok (.iadd, 1) := dk_96 (dk_at dksL_law_3 11 rfl rfl)
theorem dL_law_244 : decode cL_law 244 = .ok (.iaload, 1) := dk_46 (dk_at dksL_law_3 12 rfl rfl)
theorem dL_law_245 : decode cL_law 245 = .ok (.ifCond .eq 7, 3) := dk_153 0 7 (dk_at dksL_law_3 13 rfl rfl)
theorem dL_law_248 : decode cL_law 248 = .ok (.iconst 1, 1) := dk_4 (dk_at dksL_law_3 16 rfl rfl)
theorem dL_law_249 : decode cL_law 249 = .ok (.goto 4, 3) := dk_167 0 4 (dk_at dksL_law_3 17 rfl rfl)
theorem dL_law_252 : decode cL_law 252 = .ok (.iconst 0, 1) := dk_3 (dk_at dksL_law_3 20 rfl rfl)
theorem dL_law_253 : decode cL_law 253 = .ok (.aload_n 3, 1) := dk_45 (dk_at dksL_law_3 21 rfl rfl)
theorem dL_law_254 : decode cL_law 254 = .ok (.invokestatic 157, 3) := dk_184 0 157 (dk_at dksL_law_4 0 rfl rfl)
theorem dL_law_257 : decode cL_law 257 = .ok (.istore 6, 2) := dk_54 6 (dk_at dksL_law_4 3 rfl rfl)
theorem dL_law_259 : decode cL_law 259 = .ok (.aload_n 2, 1) := dk_44 (dk_at dksL_law_4 5 rfl rfl)
theorem dL_law_260 : decode cL_law 260 = .ok (.aload_n 0, 1) := dk_42 (dk_at dksL_law_4 6 rfl rfl)
theorem dL_law_261 : decode cL_law 261 = .ok (.iload 5, 2) := dk_21 5 (dk_at dksL_law_4 7 rfl rfl)
theorem dL_law_263 : decode cL_law 263 = .ok (.iconst 1, 1) := dk_4 (dk_at dksL_law_4 9 rfl rfl)
theorem dL_law_264 : decode cL_law 264 = .ok (.iadd, 1) := dk_96 (dk_at dksL_law_4 10 rfl rfl)
theorem dL_law_265 : decode cL_law 265 = .ok (.iaload, 1) := dk_46 (dk_at dksL_law_4 11 rfl rfl)
theorem dL_law_266 : decode cL_law 266 = .ok (.aload_n 0, 1) := dk_42 (dk_at dksL_law_4 12 rfl rfl)
theorem dL_law_267 : decode cL_law 267 = .ok (.iload 5, 2) := dk_21 5 (dk_at dksL_law_4 13 rfl rfl)
theorem dL_law_269 : decode cL_law 269 = .ok (.iconst 2, 1) := dk_5 (dk_at dksL_law_4 15 rfl rfl)
theorem dL_law_270 : decode cL_law 270 = .ok (.iadd, 1) := dk_96 (dk_at dksL_law_4 16 rfl rfl)
theorem dL_law_271 : decode cL_law 271 = .ok (.iaload, 1) := dk_46 (dk_at dksL_law_4 17 rfl rfl)
theorem dL_law_272 : decode cL_law 272 = .ok (.ifCond .eq 7, 3) := dk_153 0 7 (dk_at dksL_law_4 18 rfl rfl)
theorem dL_law_275 : decode cL_law 275 = .ok (.iconst 1, 1) := dk_4 (dk_at dksL_law_4 21 rfl rfl)
theorem dL_law_276 : decode cL_law 276 = .ok (.goto 4, 3) := dk_167 0 4 (dk_at dksL_law_5 0 rfl rfl)
theorem dL_law_279 : decode cL_law 279 = .ok (.iconst 0, 1) := dk_3 (dk_at dksL_law_5 3 rfl rfl)
theorem dL_law_280 : decode cL_law 280 = .ok (.invokevirtual 162, 3) := dk_182 0 162 (dk_at dksL_law_5 4 rfl rfl)
theorem dL_law_283 : decode cL_law 283 = .ok (.istore 7, 2) := dk_54 7 (dk_at dksL_law_5 7 rfl rfl)
theorem dL_law_285 : decode cL_law 285 = .ok (.aload_n 2, 1) := dk_44 (dk_at dksL_law_5 9 rfl rfl)
theorem dL_law_286 : decode cL_law 286 = .ok (.invokevirtual 163, 3) := dk_182 0 163 (dk_at dksL_law_5 10 rfl rfl)
theorem dL_law_289 : decode cL_law 289 = .ok (.iload 6, 2) := dk_21 6 (dk_at dksL_law_5 13 rfl rfl)
theorem dL_law_291 : decode cL_law 291 = .ok (.if_icmp .eq 5, 3) := dk_159 0 5 (dk_at dksL_law_5 15 rfl rfl)
theorem dL_law_294 : decode cL_law 294 = .ok (.iconst 0, 1) := dk_3 (dk_at dksL_law_5 18 rfl rfl)
theorem dL_law_295 : decode cL_law 295 = .ok (.ireturn, 1) := dk_172 (dk_at dksL_law_5 19 rfl rfl)
theorem dL_law_296 : decode cL_law 296 = .ok (.iload 6, 2) := dk_21 6 (dk_at dksL_law_5 20 rfl rfl)
theorem dL_law_298 : decode cL_law 298 = .ok (.ifCond .ne 15, 3) := dk_154 0 15 (dk_at dksL_law_6 0 rfl rfl)
theorem dL_law_301 : decode cL_law 301 = .ok (.aload_n 3, 1) := dk_45 (dk_at dksL_law_6 3 rfl rfl)
theorem dL_law_302 : decode cL_law 302 = .ok (.iconst 0, 1) := dk_3 (dk_at dksL_law_6 4 rfl rfl)
theorem dL_law_303 : decode cL_law 303 = .ok (.laload, 1) := dk_47 (dk_at dksL_law_6 5 rfl rfl)
theorem dL_law_304 : decode cL_law 304 = .ok (.iload 7, 2) := dk_21 7 (dk_at dksL_law_6 6 rfl rfl)
theorem dL_law_306 : decode cL_law 306 = .ok (.i2l, 1) := dk_133 (dk_at dksL_law_6 8 rfl rfl)
theorem dL_law_307 : decode cL_law 307 = .ok (.lcmp, 1) := dk_148 (dk_at dksL_law_6 9 rfl rfl)
theorem dL_law_308 : decode cL_law 308 = .ok (.ifCond .eq 5, 3) := dk_153 0 5 (dk_at dksL_law_6 10 rfl rfl)
theorem dL_law_311 : decode cL_law 311 = .ok (.iconst 0, 1) := dk_3 (dk_at dksL_law_6 13 rfl rfl)
theorem dL_law_312 : decode cL_law 312 = .ok (.ireturn, 1) := dk_172 (dk_at dksL_law_6 14 rfl rfl)
theorem dL_law_313 : decode cL_law 313 = .ok (.goto 2470, 3) := dk_167 9 166 (dk_at dksL_law_6 15 rfl rfl)
theorem dL_law_316 : decode cL_law 316 = .ok (.aload_n 1, 1) := dk_43 (dk_at dksL_law_6 18 rfl rfl)
theorem dL_law_317 : decode cL_law 317 = .ok (.aload_n 0, 1) := dk_42 (dk_at dksL_law_6 19 rfl rfl)
theorem dL_law_318 : decode cL_law 318 = .ok (.iload 5, 2) := dk_21 5 (dk_at dksL_law_6 20 rfl rfl)
theorem dL_law_320 : decode cL_law 320 = .ok (.iconst 1, 1) := dk_4 (dk_at dksL_law_6 22 rfl rfl)
theorem dL_law_321 : decode cL_law 321 = .ok (.iadd, 1) := dk_96 (dk_at dksL_law_6 23 rfl rfl)
theorem dL_law_322 : decode cL_law 322 = .ok (.iaload, 1) := dk_46 (dk_at dksL_law_7 0 rfl rfl)
theorem dL_law_323 : decode cL_law 323 = .ok (.aload_n 0, 1) := dk_42 (dk_at dksL_law_7 1 rfl rfl)
theorem dL_law_324 : decode cL_law 324 = .ok (.iload 5, 2) := dk_21 5 (dk_at dksL_law_7 2 rfl rfl)
theorem dL_law_326 : decode cL_law 326 = .ok (.iconst 2, 1) := dk_5 (dk_at dksL_law_7 4 rfl rfl)
theorem dL_law_327 : decode cL_law 327 = .ok (.iadd, 1) := dk_96 (dk_at dksL_law_7 5 rfl rfl)
theorem dL_law_328 : decode cL_law 328 = .ok (.iaload, 1) := dk_46 (dk_at dksL_law_7 6 rfl rfl)
theorem dL_law_329 : decode cL_law 329 = .ok (.aload_n 3, 1) := dk_45 (dk_at dksL_law_7 7 rfl rfl)
theorem dL_law_330 : decode cL_law 330 = .ok (.invokestatic 166, 3) := dk_184 0 166 (dk_at dksL_law_7 8 rfl rfl)
theorem dL_law_333 : decode cL_law 333 = .ok (.istore 6, 2) := dk_54 6 (dk_at dksL_law_7 11 rfl rfl)
theorem dL_law_335 : decode cL_law 335 = .ok (.aload_n 2, 1) := dk_44 (dk_at dksL_law_7 13 rfl rfl)
theorem dL_law_336 : decode cL_law 336 = .ok (.aload_n 0, 1) := dk_42 (dk_at dksL_law_7 14 rfl rfl)
theorem dL_law_337 : decode cL_law 337 = .ok (.iload 5, 2) := dk_21 5 (dk_at dksL_law_7 15 rfl rfl)
theorem dL_law_339 : decode cL_law 339 = .ok (.iconst 1, 1) := dk_4 (dk_at dksL_law_7 17 rfl rfl)
theorem dL_law_340 : decode cL_law 340 = .ok (.iadd, 1) := dk_96 (dk_at dksL_law_7 18 rfl rfl)
theorem dL_law_341 : decode cL_law 341 = .ok (.iaload, 1) := dk_46 (dk_at dksL_law_7 19 rfl rfl)
theorem dL_law_342 : decode cL_law 342 = .ok (.aload_n 0, 1) := dk_42 (dk_at dksL_law_7 20 rfl rfl)
theorem dL_law_343 : decode cL_law 343 = .ok (.iload 5, 2) := dk_21 5 (dk_at dksL_law_7 21 rfl rfl)
theorem dL_law_345 : decode cL_law 345 = .ok (.iconst 2, 1) := dk_5 (dk_at dksL_law_7 23 rfl rfl)
theorem dL_law_346 : decode cL_law 346 = .ok (.iadd, 1) := dk_96 (dk_at dksL_law_8 0 rfl rfl)
theorem dL_law_347 : decode cL_law 347 = .ok (.iaload, 1) := dk_46 (dk_at dksL_law_8 1 rfl rfl)
theorem dL_law_348 : decode cL_law 348 = .ok (.invokevirtual 169, 3) := dk_182 0 169 (dk_at dksL_law_8 2 rfl rfl)
theorem dL_law_351 : decode cL_law 351 = .ok (.istore 7, 2) := dk_54 7 (dk_at dksL_law_8 5 rfl rfl)
theorem dL_law_353 : decode cL_law 353 = .ok (.aload_n 2, 1) := dk_44 (dk_at dksL_law_8 7 rfl rfl)
theorem dL_law_354 : decode cL_law 354 = .ok (.invokevirtual 163, 3) := dk_182 0 163 (dk_at dksL_law_8 8 rfl rfl)
theorem dL_law_357 : decode cL_law 357 = .ok (.iload 6, 2) := dk_21 6 (dk_at dksL_law_8 11 rfl rfl)
theorem dL_law_359 : decode cL_law 359 = .ok (.if_icmp .eq 5, 3) := dk_159 0 5 (dk_at dksL_law_8 13 rfl rfl)
theorem dL_law_362 : decode cL_law 362 = .ok (.iconst 0, 1) := dk_3 (dk_at dksL_law_8 16 rfl rfl)
theorem dL_law_363 : decode cL_law 363 = .ok (.ireturn, 1) := dk_172 (dk_at dksL_law_8 17 rfl rfl)
theorem dL_law_364 : decode cL_law 364 = .ok (.iload 6, 2) := dk_21 6 (dk_at dksL_law_8 18 rfl rfl)
theorem dL_law_366 : decode cL_law 366 = .ok (.ifCond .ne 15, 3) := dk_154 0 15 (dk_at dksL_law_8 20 rfl rfl)
theorem dL_law_369 : decode cL_law 369 = .ok (.aload_n 3, 1) := dk_45 (dk_at dksL_law_8 23 rfl rfl)
theorem dL_law_370 : decode cL_law 370 = .ok (.iconst 0, 1) := dk_3 (dk_at dksL_law_9 0 rfl rfl)
theorem dL_law_371 : decode cL_law 371 = .ok (.laload, 1) := dk_47 (dk_at dksL_law_9 1 rfl rfl)
theorem dL_law_372 : decode cL_law 372 = .ok (.iload 7, 2) := dk_21 7 (dk_at dksL_law_9 2 rfl rfl)
theorem dL_law_374 : decode cL_law 374 = .ok (.i2l, 1) := dk_133 (dk_at dksL_law_9 4 rfl rfl)
theorem dL_law_375 : decode cL_law 375 = .ok (.lcmp, 1) := dk_148 (dk_at dksL_law_9 5 rfl rfl)
theorem dL_law_376 : decode cL_law 376 = .ok (.ifCond .eq 5, 3) := dk_153 0 5 (dk_at dksL_law_9 6 rfl rfl)
theorem dL_law_379 : decode cL_law 379 = .ok (.iconst 0, 1) := dk_3 (dk_at dksL_law_9 9 rfl rfl)
theorem dL_law_380 : decode cL_law 380 = .ok (.ireturn, 1) := dk_172 (dk_at dksL_law_9 10 rfl rfl)
theorem dL_law_381 : decode cL_law 381 = .ok (.goto 2402, 3) := dk_167 9 98 (dk_at dksL_law_9 11 rfl rfl)
theorem dL_law_384 : decode cL_law 384 = .ok (.aload_n 1, 1) := dk_43 (dk_at dksL_law_9 14 rfl rfl)
theorem dL_law_385 : decode cL_law 385 = .ok (.aload_n 0, 1) := dk_42 (dk_at dksL_law_9 15 rfl rfl)
theorem dL_law_386 : decode cL_law 386 = .ok (.iload 5, 2) := dk_21 5 (dk_at dksL_law_9 16 rfl rfl)
theorem dL_law_388 : decode cL_law 388 = .ok (.iconst 1, 1) := dk_4 (dk_at dksL_law_9 18 rfl rfl)
theorem dL_law_389 : decode cL_law 389 = .ok (.iadd, 1) := dk_96 (dk_at dksL_law_9 19 rfl rfl)
theorem dL_law_390 : decode cL_law 390 = .ok (.iaload, 1) := dk_46 (dk_at dksL_law_9 20 rfl rfl)
theorem dL_law_391 : decode cL_law 391 = .ok (.aload_n 0, 1) := dk_42 (dk_at dksL_law_9 21 rfl rfl)
theorem dL_law_392 : decode cL_law 392 = .ok (.iload 5, 2) := dk_21 5 (dk_at dksL_law_9 22 rfl rfl)
theorem dL_law_394 : decode cL_law 394 = .ok (.iconst 2, 1) := dk_5 (dk_at dksL_law_10 0 rfl rfl)
theorem dL_law_395 : decode cL_law 395 = .ok (.iadd, 1) := dk_96 (dk_at dksL_law_10 1 rfl rfl)
theorem dL_law_396 : decode cL_law 396 = .ok (.iaload, 1) := dk_46 (dk_at dksL_law_10 2 rfl rfl)
theorem dL_law_397 : decode cL_law 397 = .ok (.aload_n 3, 1) := dk_45 (dk_at dksL_law_10 3 rfl rfl)
theorem dL_law_398 : decode cL_law 398 = .ok (.invokestatic 170, 3) := dk_184 0 170 (dk_at dksL_law_10 4 rfl rfl)
theorem dL_law_401 : decode cL_law 401 = .ok (.istore 6, 2) := dk_54 6 (dk_at dksL_law_10 7 rfl rfl)
theorem dL_law_403 : decode cL_law 403 = .ok (.aload_n 2, 1) := dk_44 (dk_at dksL_law_10 9 rfl rfl)
theorem dL_law_404 : decode cL_law 404 = .ok (.aload_n 0, 1) := dk_42 (dk_at dksL_law_10 10 rfl rfl)
theorem dL_law_405 : decode cL_law 405 = .ok (.iload 5, 2) := dk_21 5 (dk_at dksL_law_10 11 rfl rfl)
theorem dL_law_407 : decode cL_law 407 = .ok (.iconst 1, 1) := dk_4 (dk_at dksL_law_10 13 rfl rfl)
theorem dL_law_408 : decode cL_law 408 = .ok (.iadd, 1) := dk_96 (dk_at dksL_law_10 14 rfl rfl)
theorem dL_law_409 : decode cL_law 409 = .ok (.iaload, 1) := dk_46 (dk_at dksL_law_10 15 rfl rfl)
theorem dL_law_410 : decode cL_law 410 = .ok (.aload_n 0, 1) := dk_42 (dk_at dksL_law_10 16 rfl rfl)
theorem dL_law_411 : decode cL_law 411 = .ok (.iload 5, 2) := dk_21 5 (dk_at dksL_law_10 17 rfl rfl)
theorem dL_law_413 : decode cL_law 413 = .ok (.iconst 2, 1) := dk_5 (dk_at dksL_law_10 19 rfl rfl)
theorem dL_law_414 : decode cL_law 414 = .ok (.iadd, 1) := dk_96 (dk_at dksL_law_10 20 rfl rfl)
theorem dL_law_415 : decode cL_law 415 = .ok (.iaload, 1) := dk_46 (dk_at dksL_law_10 21 rfl rfl)
theorem dL_law_416 : decode cL_law 416 = .ok (.invokevirtual 172, 3) := dk_182 0 172 (dk_at dksL_law_11 0 rfl rfl)
theorem dL_law_419 : decode cL_law 419 = .ok (.istore 7, 2) := dk_54 7 (dk_at dksL_law_11 3 rfl rfl)
theorem dL_law_421 : decode cL_law 421 = .ok (.aload_n 2, 1) := dk_44 (dk_at dksL_law_11 5 rfl rfl)
theorem dL_law_422 : decode cL_law 422 = .ok (.invokevirtual 163, 3) := dk_182 0 163 (dk_at dksL_law_11 6 rfl rfl)
theorem dL_law_425 : decode cL_law 425 = .ok (.iload 6, 2) := dk_21 6 (dk_at dksL_law_11 9 rfl rfl)
theorem dL_law_427 : decode cL_law 427 = .ok (.if_icmp .eq 5, 3) := dk_159 0 5 (dk_at dksL_law_11 11 rfl rfl)
theorem dL_law_430 : decode cL_law 430 = .ok (.iconst 0, 1) := dk_3 (dk_at dksL_law_11 14 rfl rfl)
theorem dL_law_431 : decode cL_law 431 = .ok (.ireturn, 1) := dk_172 (dk_at dksL_law_11 15 rfl rfl)
theorem dL_law_432 : decode cL_law 432 = .ok (.iload 6, 2) := dk_21 6 (dk_at dksL_law_11 16 rfl rfl)
theorem dL_law_434 : decode cL_law 434 = .ok (.ifCond .ne 15, 3) := dk_154 0 15 (dk_at dksL_law_11 18 rfl rfl)
theorem dL_law_437 : decode cL_law 437 = .ok (.aload_n 3, 1) := dk_45 (dk_at dksL_law_11 21 rfl rfl)
theorem dL_law_438 : decode cL_law 438 = .ok (.iconst 0, 1) := dk_3 (dk_at dksL_law_11 22 rfl rfl)
theorem dL_law_439 : decode cL_law 439 = .ok (.laload, 1) := dk_47 (dk_at dksL_law_11 23 rfl rfl)
theorem dL_law_440 : decode cL_law 440 = .ok (.iload 7, 2) := dk_21 7 (dk_at dksL_law_12 0 rfl rfl)
theorem dL_law_442 : decode cL_law 442 = .ok (.i2l, 1) := dk_133 (dk_at dksL_law_12 2 rfl rfl)
theorem dL_law_443 : decode cL_law 443 = .ok (.lcmp, 1) := dk_148 (dk_at dksL_law_12 3 rfl rfl)
theorem dL_law_444 : decode cL_law 444 = .ok (.ifCond .eq 5, 3) := dk_153 0 5 (dk_at dksL_law_12 4 rfl rfl)
theorem dL_law_447 : decode cL_law 447 = .ok (.iconst 0, 1) := dk_3 (dk_at dksL_law_12 7 rfl rfl)
theorem dL_law_448 : decode cL_law 448 = .ok (.ireturn, 1) := dk_172 (dk_at dksL_law_12 8 rfl rfl)
theorem dL_law_449 : decode cL_law 449 = .ok (.goto 2334, 3) := dk_167 9 30 (dk_at dksL_law_12 9 rfl rfl)
theorem dL_law_452 : decode cL_law 452 = .ok (.aload_n 1, 1) := dk_43 (dk_at dksL_law_12 12 rfl rfl)
theorem dL_law_453 : decode cL_law 453 = .ok (.aload_n 0, 1) := dk_42 (dk_at dksL_law_12 13 rfl rfl)
theorem dL_law_454 : decode cL_law 454 = .ok (.iload 5, 2) := dk_21 5 (dk_at dksL_law_12 14 rfl rfl)
theorem dL_law_456 : decode cL_law 456 = .ok (.iconst 1, 1) := dk_4 (dk_at dksL_law_12 16 rfl rfl)
theorem dL_law_457 : decode cL_law 457 = .ok (.iadd, 1) := dk_96 (dk_at dksL_law_12 17 rfl rfl)
theorem dL_law_458 : decode cL_law 458 = .ok (.iaload, 1) := dk_46 (dk_at dksL_law_12 18 rfl rfl)
theorem dL_law_459 : decode cL_law 459 = .ok (.aload_n 3, 1) := dk_45 (dk_at dksL_law_12 19 rfl rfl)
theorem dL_law_460 : decode cL_law 460 = .ok (.invokestatic 173, 3) := dk_184 0 173 (dk_at dksL_law_12 20 rfl rfl)
theorem dL_law_463 : decode cL_law 463 = .ok (.istore 6, 2) := dk_54 6 (dk_at dksL_law_13 0 rfl rfl)
theorem dL_law_465 : decode cL_law 465 = .ok (.aload_n 2, 1) := dk_44 (dk_at dksL_law_13 2 rfl rfl)
theorem dL_law_466 : decode cL_law 466 = .ok (.aload_n 0, 1) := dk_42 (dk_at dksL_law_13 3 rfl rfl)
theorem dL_law_467 : decode cL_law 467 = .ok (.iload 5, 2) := dk_21 5 (dk_at dksL_law_13 4 rfl rfl)
theorem dL_law_469 : decode cL_law 469 = .ok (.iconst 1, 1) := dk_4 (dk_at dksL_law_13 6 rfl rfl)
theorem dL_law_470 : decode cL_law 470 = .ok (.iadd, 1) := dk_96 (dk_at dksL_law_13 7 rfl rfl)
theorem dL_law_471 : decode cL_law 471 = .ok (.iaload, 1) := dk_46 (dk_at dksL_law_13 8 rfl rfl)
theorem dL_law_472 : decode cL_law 472 = .ok (.invokevirtual 176, 3) := dk_182 0 176 (dk_at dksL_law_13 9 rfl rfl)
theorem dL_law_475 : decode cL_law 475 = .ok (.istore 7, 2) := dk_54 7 (dk_at dksL_law_13 12 rfl rfl)
theorem dL_law_477 : decode cL_law 477 = .ok (.aload_n 2, 1) := dk_44 (dk_at dksL_law_13 14 rfl rfl)
theorem dL_law_478 : decode cL_law 478 = .ok (.invokevirtual 163, 3) := dk_182 0 163 (dk_at dksL_law_13 15 rfl rfl)
theorem dL_law_481 : decode cL_law 481 = .ok (.iload 6, 2) := dk_21 6 (dk_at dksL_law_13 18 rfl rfl)
theorem dL_law_483 : decode cL_law 483 = .ok (.if_icmp .eq 5, 3) := dk_159 0 5 (dk_at dksL_law_13 20 rfl rfl)
theorem dL_law_486 : decode cL_law 486 = .ok (.iconst 0, 1) := dk_3 (dk_at dksL_law_13 23 rfl rfl)
theorem dL_law_487 : decode cL_law 487 = .ok (.ireturn, 1) := dk_172 (dk_at dksL_law_14 0 rfl rfl)
theorem dL_law_488 : decode cL_law 488 = .ok (.iload 6, 2) := dk_21 6 (dk_at dksL_law_14 1 rfl rfl)
theorem dL_law_490 : decode cL_law 490 = .ok (.ifCond .ne 15, 3) := dk_154 0 15 (dk_at dksL_law_14 3 rfl rfl)
theorem dL_law_493 : decode cL_law 493 = .ok (.aload_n 3, 1) := dk_45 (dk_at dksL_law_14 6 rfl rfl)
theorem dL_law_494 : decode cL_law 494 = .ok (.iconst 0, 1) := dk_3 (dk_at dksL_law_14 7 rfl rfl)
theorem dL_law_495 : decode cL_law 495 = .ok (.laload, 1) := dk_47 (dk_at dksL_law_14 8 rfl rfl)
theorem dL_law_496 : decode cL_law 496 = .ok (.iload 7, 2) := dk_21 7 (dk_at dksL_law_14 9 rfl rfl)
theorem dL_law_498 : decode cL_law 498 = .ok (.i2l, 1) := dk_133 (dk_at dksL_law_14 11 rfl rfl)
theorem dL_law_499 : decode cL_law 499 = .ok (.lcmp, 1) := dk_148 (dk_at dksL_law_14 12 rfl rfl)
theorem dL_law_500 : decode cL_law 500 = .ok (.ifCond .eq 5, 3) := dk_153 0 5 (dk_at dksL_law_14 13 rfl rfl)
theorem dL_law_503 : decode cL_law 503 = .ok (.iconst 0, 1) := dk_3 (dk_at dksL_law_14 16 rfl rfl)
theorem dL_law_504 : decode cL_law 504 = .ok (.ireturn, 1) := dk_172 (dk_at dksL_law_14 17 rfl rfl)
theorem dL_law_505 : decode cL_law 505 = .ok (.goto 2278, 3) := dk_167 8 230 (dk_at dksL_law_14 18 rfl rfl)
theorem dL_law_508 : decode cL_law 508 = .ok (.aload_n 1, 1) := dk_43 (dk_at dksL_law_14 21 rfl rfl)
theorem dL_law_509 : decode cL_law 509 = .ok (.aload_n 0, 1) := dk_42 (dk_at dksL_law_14 22 rfl rfl)
theorem dL_law_510 : decode cL_law 510 = .ok (.iload 5, 2) := dk_21 5 (dk_at dksL_law_15 0 rfl rfl)
theorem dL_law_512 : decode cL_law 512 = .ok (.iconst 1, 1) := dk_4 (dk_at dksL_law_15 2 rfl rfl)
theorem dL_law_513 : decode cL_law 513 = .ok (.iadd, 1) := dk_96 (dk_at dksL_law_15 3 rfl rfl)
theorem dL_law_514 : decode cL_law 514 = .ok (.iaload, 1) := dk_46 (dk_at dksL_law_15 4 rfl rfl)
theorem dL_law_515 : decode cL_law 515 = .ok (.aload_n 0, 1) := dk_42 (dk_at dksL_law_15 5 rfl rfl)
theorem dL_law_516 : decode cL_law 516 = .ok (.iload 5, 2) := dk_21 5 (dk_at dksL_law_15 6 rfl rfl)
theorem dL_law_518 : decode cL_law 518 = .ok (.iconst 2, 1) := dk_5 (dk_at dksL_law_15 8 rfl rfl)
theorem dL_law_519 : decode cL_law 519 = .ok (.iadd, 1) := dk_96 (dk_at dksL_law_15 9 rfl rfl)
theorem dL_law_520 : decode cL_law 520 = .ok (.iaload, 1) := dk_46 (dk_at dksL_law_15 10 rfl rfl)
theorem dL_law_521 : decode cL_law 521 = .ok (.aload_n 3, 1) := dk_45 (dk_at dksL_law_15 11 rfl rfl)
theorem dL_law_522 : decode cL_law 522 = .ok (.invokestatic 177, 3) := dk_184 0 177 (dk_at dksL_law_15 12 rfl rfl)
theorem dL_law_525 : decode cL_law 525 = .ok (.istore 6, 2) := dk_54 6 (dk_at dksL_law_15 15 rfl rfl)
theorem dL_law_527 : decode cL_law 527 = .ok (.aload_n 2, 1) := dk_44 (dk_at dksL_law_15 17 rfl rfl)
theorem dL_law_528 : decode cL_law 528 = .ok (.aload_n 0, 1) := dk_42 (dk_at dksL_law_15 18 rfl rfl)
theorem dL_law_529 : decode cL_law 529 = .ok (.iload 5, 2) := dk_21 5 (dk_at dksL_law_15 19 rfl rfl)
theorem dL_law_531 : decode cL_law 531 = .ok (.iconst 1, 1) := dk_4 (dk_at dksL_law_15 21 rfl rfl)
theorem dL_law_532 : decode cL_law 532 = .ok (.iadd, 1) := dk_96 (dk_at dksL_law_15 22 rfl rfl)
theorem dL_law_533 : decode cL_law 533 = .ok (.iaload, 1) := dk_46 (dk_at dksL_law_15 23 rfl rfl)
theorem dL_law_534 : decode cL_law 534 = .ok (.aload_n 0, 1) := dk_42 (dk_at dksL_law_16 0 rfl rfl)
theorem dL_law_535 : decode cL_law 535 = .ok (.iload 5, 2) := dk_21 5 (dk_at dksL_law_16 1 rfl rfl)
theorem dL_law_537 : decode cL_law 537 = .ok (.iconst 2, 1) := dk_5 (dk_at dksL_law_16 3 rfl rfl)
theorem dL_law_538 : decode cL_law 538 = .ok (.iadd, 1) := dk_96 (dk_at dksL_law_16 4 rfl rfl)
theorem dL_law_539 : decode cL_law 539 = .ok (.iaload, 1) := dk_46 (dk_at dksL_law_16 5 rfl rfl)
theorem dL_law_540 : decode cL_law 540 = .ok (.invokevirtual 179, 3) := dk_182 0 179 (dk_at dksL_law_16 6 rfl rfl)
theorem dL_law_543 : decode cL_law 543 = .ok (.istore 7, 2) := dk_54 7 (dk_at dksL_law_16 9 rfl rfl)
theorem dL_law_545 : decode cL_law 545 = .ok (.aload_n 2, 1) := dk_44 (dk_at dksL_law_16 11 rfl rfl)
theorem dL_law_546 : decode cL_law 546 = .ok (.invokevirtual 163, 3) := dk_182 0 163 (dk_at dksL_law_16 12 rfl rfl)
theorem dL_law_549 : decode cL_law 549 = .ok (.iload 6, 2) := dk_21 6 (dk_at dksL_law_16 15 rfl rfl)
theorem dL_law_551 : decode cL_law 551 = .ok (.if_icmp .eq 5, 3) := dk_159 0 5 (dk_at dksL_law_16 17 rfl rfl)
theorem dL_law_554 : decode cL_law 554 = .ok (.iconst 0, 1) := dk_3 (dk_at dksL_law_16 20 rfl rfl)
theorem dL_law_555 : decode cL_law 555 = .ok (.ireturn, 1) := dk_172 (dk_at dksL_law_16 21 rfl rfl)
theorem dL_law_556 : decode cL_law 556 = .ok (.iload 6, 2) := dk_21 6 (dk_at dksL_law_16 22 rfl rfl)
theorem dL_law_558 : decode cL_law 558 = .ok (.ifCond .ne 15, 3) := dk_154 0 15 (dk_at dksL_law_17 0 rfl rfl)
theorem dL_law_561 : decode cL_law 561 = .ok (.aload_n 3, 1) := dk_45 (dk_at dksL_law_17 3 rfl rfl)
theorem dL_law_562 : decode cL_law 562 = .ok (.iconst 0, 1) := dk_3 (dk_at dksL_law_17 4 rfl rfl)
theorem dL_law_563 : decode cL_law 563 = .ok (.laload, 1) := dk_47 (dk_at dksL_law_17 5 rfl rfl)
theorem dL_law_564 : decode cL_law 564 = .ok (.iload 7, 2) := dk_21 7 (dk_at dksL_law_17 6 rfl rfl)
theorem dL_law_566 : decode cL_law 566 = .ok (.i2l, 1) := dk_133 (dk_at dksL_law_17 8 rfl rfl)
theorem dL_law_567 : decode cL_law 567 = .ok (.lcmp, 1) := dk_148 (dk_at dksL_law_17 9 rfl rfl)
theorem dL_law_568 : decode cL_law 568 = .ok (.ifCond .eq 5, 3) := dk_153 0 5 (dk_at dksL_law_17 10 rfl rfl)
theorem dL_law_571 : decode cL_law 571 = .ok (.iconst 0, 1) := dk_3 (dk_at dksL_law_17 13 rfl rfl)
theorem dL_law_572 : decode cL_law 572 = .ok (.ireturn, 1) := dk_172 (dk_at dksL_law_17 14 rfl rfl)
theorem dL_law_573 : decode cL_law 573 = .ok (.goto 2210, 3) := dk_167 8 162 (dk_at dksL_law_17 15 rfl rfl)
theorem dL_law_576 : decode cL_law 576 = .ok (.aload_n 1, 1) := dk_43 (dk_at dksL_law_17 18 rfl rfl)
theorem dL_law_577 : decode cL_law 577 = .ok (.aload_n 0, 1) := dk_42 (dk_at dksL_law_17 19 rfl rfl)
theorem dL_law_578 : decode cL_law 578 = .ok (.iload 5, 2) := dk_21 5 (dk_at dksL_law_17 20 rfl rfl)
theorem dL_law_580 : decode cL_law 580 = .ok (.iconst 1, 1) := dk_4 (dk_at dksL_law_17 22 rfl rfl)
theorem dL_law_581 : decode cL_law 581 = .ok (.iadd, 1) := dk_96 (dk_at dksL_law_17 23 rfl rfl)
theorem dL_law_582 : decode cL_law 582 = .ok (.iaload, 1) := dk_46 (dk_at dksL_law_18 0 rfl rfl)
theorem dL_law_583 : decode cL_law 583 = .ok (.aload_n 0, 1) := dk_42 (dk_at dksL_law_18 1 rfl rfl)
theorem dL_law_584 : decode cL_law 584 = .ok (.iload 5, 2) := dk_21 5 (dk_at dksL_law_18 2 rfl rfl)
theorem dL_law_586 : decode cL_law 586 = .ok (.iconst 2, 1) := dk_5 (dk_at dksL_law_18 4 rfl rfl)
theorem dL_law_587 : decode cL_law 587 = .ok (.iadd, 1) := dk_96 (dk_at dksL_law_18 5 rfl rfl)
theorem dL_law_588 : decode cL_law 588 = .ok (.iaload, 1) := dk_46 (dk_at dksL_law_18 6 rfl rfl)
theorem dL_law_589 : decode cL_law 589 = .ok (.aload_n 3, 1) := dk_45 (dk_at dksL_law_18 7 rfl rfl)
theorem dL_law_590 : decode cL_law 590 = .ok (.invokestatic 180, 3) := dk_184 0 180 (dk_at dksL_law_18 8 rfl rfl)
theorem dL_law_593 : decode cL_law 593 = .ok (.istore 6, 2) := dk_54 6 (dk_at dksL_law_18 11 rfl rfl)
theorem dL_law_595 : decode cL_law 595 = .ok (.aload_n 2, 1) := dk_44 (dk_at dksL_law_18 13 rfl rfl)
theorem dL_law_596 : decode cL_law 596 = .ok (.aload_n 0, 1) := dk_42 (dk_at dksL_law_18 14 rfl rfl)
theorem dL_law_597 : decode cL_law 597 = .ok (.iload 5, 2) := dk_21 5 (dk_at dksL_law_18 15 rfl rfl)
theorem dL_law_599 : decode cL_law 599 = .ok (.iconst 1, 1) := dk_4 (dk_at dksL_law_18 17 rfl rfl)
theorem dL_law_600 : decode cL_law 600 = .ok (.iadd, 1) := dk_96 (dk_at dksL_law_18 18 rfl rfl)
theorem dL_law_601 : decode cL_law 601 = .ok (.iaload, 1) := dk_46 (dk_at dksL_law_18 19 rfl rfl)
theorem dL_law_602 : decode cL_law 602 = .ok (.aload_n 0, 1) := dk_42 (dk_at dksL_law_18 20 rfl rfl)
theorem dL_law_603 : decode cL_law 603 = .ok (.iload 5, 2) := dk_21 5 (dk_at dksL_law_18 21 rfl rfl)
theorem dL_law_605 : decode cL_law 605 = .ok (.iconst 2, 1) := dk_5 (dk_at dksL_law_18 23 rfl rfl)
theorem dL_law_606 : decode cL_law 606 = .ok (.iadd, 1) := dk_96 (dk_at dksL_law_19 0 rfl rfl)
theorem dL_law_607 : decode cL_law 607 = .ok (.iaload, 1) := dk_46 (dk_at dksL_law_19 1 rfl rfl)
theorem dL_law_608 : decode cL_law 608 = .ok (.invokevirtual 182, 3) := dk_182 0 182 (dk_at dksL_law_19 2 rfl rfl)
theorem dL_law_611 : decode cL_law 611 = .ok (.istore 7, 2) := dk_54 7 (dk_at dksL_law_19 5 rfl rfl)
theorem dL_law_613 : decode cL_law 613 = .ok (.aload_n 2, 1) := dk_44 (dk_at dksL_law_19 7 rfl rfl)
theorem dL_law_614 : decode cL_law 614 = .ok (.invokevirtual 163, 3) := dk_182 0 163 (dk_at dksL_law_19 8 rfl rfl)
theorem dL_law_617 : decode cL_law 617 = .ok (.iload 6, 2) := dk_21 6 (dk_at dksL_law_19 11 rfl rfl)
theorem dL_law_619 : decode cL_law 619 = .ok (.if_icmp .eq 5, 3) := dk_159 0 5 (dk_at dksL_law_19 13 rfl rfl)
theorem dL_law_622 : decode cL_law 622 = .ok (.iconst 0, 1) := dk_3 (dk_at dksL_law_19 16 rfl rfl)
theorem dL_law_623 : decode cL_law 623 = .ok (.ireturn, 1) := dk_172 (dk_at dksL_law_19 17 rfl rfl)
theorem dL_law_624 : decode cL_law 624 = .ok (.iload 6, 2) := dk_21 6 (dk_at dksL_law_19 18 rfl rfl)
theorem dL_law_626 : decode cL_law 626 = .ok (.ifCond .ne 15, 3) := dk_154 0 15 (dk_at dksL_law_19 20 rfl rfl)
theorem dL_law_629 : decode cL_law 629 = .ok (.aload_n 3, 1) := dk_45 (dk_at dksL_law_19 23 rfl rfl)
theorem dL_law_630 : decode cL_law 630 = .ok (.iconst 0, 1) := dk_3 (dk_at dksL_law_20 0 rfl rfl)
theorem dL_law_631 : decode cL_law 631 = .ok (.laload, 1) := dk_47 (dk_at dksL_law_20 1 rfl rfl)
theorem dL_law_632 : decode cL_law 632 = .ok (.iload 7, 2) := dk_21 7 (dk_at dksL_law_20 2 rfl rfl)
theorem dL_law_634 : decode cL_law 634 = .ok (.i2l, 1) := dk_133 (dk_at dksL_law_20 4 rfl rfl)
theorem dL_law_635 : decode cL_law 635 = .ok (.lcmp, 1) := dk_148 (dk_at dksL_law_20 5 rfl rfl)
theorem dL_law_636 : decode cL_law 636 = .ok (.ifCond .eq 5, 3) := dk_153 0 5 (dk_at dksL_law_20 6 rfl rfl)
theorem dL_law_639 : decode cL_law 639 = .ok (.iconst 0, 1) := dk_3 (dk_at dksL_law_20 9 rfl rfl)
theorem dL_law_640 : decode cL_law 640 = .ok (.ireturn, 1) := dk_172 (dk_at dksL_law_20 10 rfl rfl)
theorem dL_law_641 : decode cL_law 641 = .ok (.goto 2142, 3) := dk_167 8 94 (dk_at dksL_law_20 11 rfl rfl)
theorem dL_law_644 : decode cL_law 644 = .ok (.aload_n 1, 1) := dk_43 (dk_at dksL_law_20 14 rfl rfl)
theorem dL_law_645 : decode cL_law 645 = .ok (.aload_n 0, 1) := dk_42 (dk_at dksL_law_20 15 rfl rfl)
theorem dL_law_646 : decode cL_law 646 = .ok (.iload 5, 2) := dk_21 5 (dk_at dksL_law_20 16 rfl rfl)
theorem dL_law_648 : decode cL_law 648 = .ok (.iconst 1, 1) := dk_4 (dk_at dksL_law_20 18 rfl rfl)
theorem dL_law_649 : decode cL_law 649 = .ok (.iadd, 1) := dk_96 (dk_at dksL_law_20 19 rfl rfl)
theorem dL_law_650 : decode cL_law 650 = .ok (.iaload, 1) := dk_46 (dk_at dksL_law_20 20 rfl rfl)
theorem dL_law_651 : decode cL_law 651 = .ok (.aload_n 0, 1) := dk_42 (dk_at dksL_law_20 21 rfl rfl)
theorem dL_law_652 : decode cL_law 652 = .ok (.iload 5, 2) := dk_21 5 (dk_at dksL_law_20 22 rfl rfl)
theorem dL_law_654 : decode cL_law 654 = .ok (.iconst 2, 1) := dk_5 (dk_at dksL_law_21 0 rfl rfl)
theorem dL_law_655 : decode cL_law 655 = .ok (.iadd, 1) := dk_96 (dk_at dksL_law_21 1 rfl rfl)
theorem dL_law_656 : decode cL_law 656 = .ok (.iaload, 1) := dk_46 (dk_at dksL_law_21 2 rfl rfl)
theorem dL_law_657 : decode cL_law 657 = .ok (.aload_n 3, 1) := dk_45 (dk_at dksL_law_21 3 rfl rfl)
theorem dL_law_658 : decode cL_law 658 = .ok (.invokestatic 183, 3) := dk_184 0 183 (dk_at dksL_law_21 4 rfl rfl)
theorem dL_law_661 : decode cL_law 661 = .ok (.istore 6, 2) := dk_54 6 (dk_at dksL_law_21 7 rfl rfl)
theorem dL_law_663 : decode cL_law 663 = .ok (.aload_n 2, 1) := dk_44 (dk_at dksL_law_21 9 rfl rfl)
theorem dL_law_664 : decode cL_law 664 = .ok (.aload_n 0, 1) := dk_42 (dk_at dksL_law_21 10 rfl rfl)
theorem dL_law_665 : decode cL_law 665 = .ok (.iload 5, 2) := dk_21 5 (dk_at dksL_law_21 11 rfl rfl)
theorem dL_law_667 : decode cL_law 667 = .ok (.iconst 1, 1) := dk_4 (dk_at dksL_law_21 13 rfl rfl)
theorem dL_law_668 : decode cL_law 668 = .ok (.iadd, 1) := dk_96 (dk_at dksL_law_21 14 rfl rfl)
theorem dL_law_669 : decode cL_law 669 = .ok (.iaload, 1) := dk_46 (dk_at dksL_law_21 15 rfl rfl)
theorem dL_law_670 : decode cL_law 670 = .ok (.aload_n 0, 1) := dk_42 (dk_at dksL_law_21 16 rfl rfl)
theorem dL_law_671 : decode cL_law 671 = .ok (.iload 5, 2) := dk_21 5 (dk_at dksL_law_21 17 rfl rfl)
theorem dL_law_673 : decode cL_law 673 = .ok (.iconst 2, 1) := dk_5 (dk_at dksL_law_21 19 rfl rfl)
theorem dL_law_674 : decode cL_law 674 = .ok (.iadd, 1) := dk_96 (dk_at dksL_law_21 20 rfl rfl)
theorem dL_law_675 : decode cL_law 675 = .ok (.iaload, 1) := dk_46 (dk_at dksL_law_21 21 rfl rfl)
theorem dL_law_676 : decode cL_law 676 = .ok (.invokevirtual 185, 3) := dk_182 0 185 (dk_at dksL_law_22 0 rfl rfl)
theorem dL_law_679 : decode cL_law 679 = .ok (.istore 7, 2) := dk_54 7 (dk_at dksL_law_22 3 rfl rfl)
theorem dL_law_681 : decode cL_law 681 = .ok (.aload_n 2, 1) := dk_44 (dk_at dksL_law_22 5 rfl rfl)
theorem dL_law_682 : decode cL_law 682 = .ok (.invokevirtual 163, 3) := dk_182 0 163 (dk_at dksL_law_22 6 rfl rfl)
theorem dL_law_685 : decode cL_law 685 = .ok (.iload 6, 2) := dk_21 6 (dk_at dksL_law_22 9 rfl rfl)
theorem dL_law_687 : decode cL_law 687 = .ok (.if_icmp .eq 5, 3) := dk_159 0 5 (dk_at dksL_law_22 11 rfl rfl)
theorem dL_law_690 : decode cL_law 690 = .ok (.iconst 0, 1) := dk_3 (dk_at dksL_law_22 14 rfl rfl)
theorem dL_law_691 : decode cL_law 691 = .ok (.ireturn, 1) := dk_172 (dk_at dksL_law_22 15 rfl rfl)
theorem dL_law_692 : decode cL_law 692 = .ok (.iload 6, 2) := dk_21 6 (dk_at dksL_law_22 16 rfl rfl)
theorem dL_law_694 : decode cL_law 694 = .ok (.ifCond .ne 15, 3) := dk_154 0 15 (dk_at dksL_law_22 18 rfl rfl)
theorem dL_law_697 : decode cL_law 697 = .ok (.aload_n 3, 1) := dk_45 (dk_at dksL_law_22 21 rfl rfl)
theorem dL_law_698 : decode cL_law 698 = .ok (.iconst 0, 1) := dk_3 (dk_at dksL_law_22 22 rfl rfl)
theorem dL_law_699 : decode cL_law 699 = .ok (.laload, 1) := dk_47 (dk_at dksL_law_22 23 rfl rfl)
theorem dL_law_700 : decode cL_law 700 = .ok (.iload 7, 2) := dk_21 7 (dk_at dksL_law_23 0 rfl rfl)
theorem dL_law_702 : decode cL_law 702 = .ok (.i2l, 1) := dk_133 (dk_at dksL_law_23 2 rfl rfl)
theorem dL_law_703 : decode cL_law 703 = .ok (.lcmp, 1) := dk_148 (dk_at dksL_law_23 3 rfl rfl)
theorem dL_law_704 : decode cL_law 704 = .ok (.ifCond .eq 5, 3) := dk_153 0 5 (dk_at dksL_law_23 4 rfl rfl)
theorem dL_law_707 : decode cL_law 707 = .ok (.iconst 0, 1) := dk_3 (dk_at dksL_law_23 7 rfl rfl)
theorem dL_law_708 : decode cL_law 708 = .ok (.ireturn, 1) := dk_172 (dk_at dksL_law_23 8 rfl rfl)
theorem dL_law_709 : decode cL_law 709 = .ok (.goto 2074, 3) := dk_167 8 26 (dk_at dksL_law_23 9 rfl rfl)
theorem dL_law_712 : decode cL_law 712 = .ok (.aload_n 1, 1) := dk_43 (dk_at dksL_law_23 12 rfl rfl)
theorem dL_law_713 : decode cL_law 713 = .ok (.aload_n 0, 1) := dk_42 (dk_at dksL_law_23 13 rfl rfl)
theorem dL_law_714 : decode cL_law 714 = .ok (.iload 5, 2) := dk_21 5 (dk_at dksL_law_23 14 rfl rfl)
theorem dL_law_716 : decode cL_law 716 = .ok (.iconst 1, 1) := dk_4 (dk_at dksL_law_23 16 rfl rfl)
theorem dL_law_717 : decode cL_law 717 = .ok (.iadd, 1) := dk_96 (dk_at dksL_law_23 17 rfl rfl)
theorem dL_law_718 : decode cL_law 718 = .ok (.iaload, 1) := dk_46 (dk_at dksL_law_23 18 rfl rfl)
theorem dL_law_719 : decode cL_law 719 = .ok (.aload_n 0, 1) := dk_42 (dk_at dksL_law_23 19 rfl rfl)
theorem dL_law_720 : decode cL_law 720 = .ok (.iload 5, 2) := dk_21 5 (dk_at dksL_law_23 20 rfl rfl)
theorem dL_law_722 : decode cL_law 722 = .ok (.iconst 2, 1) := dk_5 (dk_at dksL_law_23 22 rfl rfl)
theorem dL_law_723 : decode cL_law 723 = .ok (.iadd, 1) := dk_96 (dk_at dksL_law_23 23 rfl rfl)
theorem dL_law_724 : decode cL_law 724 = .ok (.iaload, 1) := dk_46 (dk_at dksL_law_24 0 rfl rfl)
theorem dL_law_725 : decode cL_law 725 = .ok (.aload_n 3, 1) := dk_45 (dk_at dksL_law_24 1 rfl rfl)
theorem dL_law_726 : decode cL_law 726 = .ok (.invokestatic 186, 3) := dk_184 0 186 (dk_at dksL_law_24 2 rfl rfl)
theorem dL_law_729 : decode cL_law 729 = .ok (.istore 6, 2) := dk_54 6 (dk_at dksL_law_24 5 rfl rfl)
theorem dL_law_731 : decode cL_law 731 = .ok (.aload_n 2, 1) := dk_44 (dk_at dksL_law_24 7 rfl rfl)
theorem dL_law_732 : decode cL_law 732 = .ok (.aload_n 0, 1) := dk_42 (dk_at dksL_law_24 8 rfl rfl)
theorem dL_law_733 : decode cL_law 733 = .ok (.iload 5, 2) := dk_21 5 (dk_at dksL_law_24 9 rfl rfl)
theorem dL_law_735 : decode cL_law 735 = .ok (.iconst 1, 1) := dk_4 (dk_at dksL_law_24 11 rfl rfl)
theorem dL_law_736 : decode cL_law 736 = .ok (.iadd, 1) := dk_96 (dk_at dksL_law_24 12 rfl rfl)
theorem dL_law_737 : decode cL_law 737 = .ok (.iaload, 1) := dk_46 (dk_at dksL_law_24 13 rfl rfl)
theorem dL_law_738 : decode cL_law 738 = .ok (.aload_n 0, 1) := dk_42 (dk_at dksL_law_24 14 rfl rfl)
theorem dL_law_739 : decode cL_law 739 = .ok (.iload 5, 2) := dk_21 5 (dk_at dksL_law_24 15 rfl rfl)
theorem dL_law_741 : decode cL_law 741 = .ok (.iconst 2, 1) := dk_5 (dk_at dksL_law_24 17 rfl rfl)
theorem dL_law_742 : decode cL_law 742 = .ok (.iadd, 1) := dk_96 (dk_at dksL_law_24 18 rfl rfl)
theorem dL_law_743 : decode cL_law 743 = .ok (.iaload, 1) := dk_46 (dk_at dksL_law_24 19 rfl rfl)
theorem dL_law_744 : decode cL_law 744 = .ok (.invokevirtual 188, 3) := dk_182 0 188 (dk_at dksL_law_24 20 rfl rfl)
theorem dL_law_747 : decode cL_law 747 = .ok (.istore 7, 2) := dk_54 7 (dk_at dksL_law_25 0 rfl rfl)
theorem dL_law_749 : decode cL_law 749 = .ok (.aload_n 2, 1) := dk_44 (dk_at dksL_law_25 2 rfl rfl)
theorem dL_law_750 : decode cL_law 750 = .ok (.invokevirtual 163, 3) := dk_182 0 163 (dk_at dksL_law_25 3 rfl rfl)
theorem dL_law_753 : decode cL_law 753 = .ok (.iload 6, 2) := dk_21 6 (dk_at dksL_law_25 6 rfl rfl)
theorem dL_law_755 : decode cL_law 755 = .ok (.if_icmp .eq 5, 3) := dk_159 0 5 (dk_at dksL_law_25 8 rfl rfl)
theorem dL_law_758 : decode cL_law 758 = .ok (.iconst 0, 1) := dk_3 (dk_at dksL_law_25 11 rfl rfl)
theorem dL_law_759 : decode cL_law 759 = .ok (.ireturn, 1) := dk_172 (dk_at dksL_law_25 12 rfl rfl)
theorem dL_law_760 : decode cL_law 760 = .ok (.iload 6, 2) := dk_21 6 (dk_at dksL_law_25 13 rfl rfl)
theorem dL_law_762 : decode cL_law 762 = .ok (.ifCond .ne 15, 3) := dk_154 0 15 (dk_at dksL_law_25 15 rfl rfl)
theorem dL_law_765 : decode cL_law 765 = .ok (.aload_n 3, 1) := dk_45 (dk_at dksL_law_25 18 rfl rfl)
theorem dL_law_766 : decode cL_law 766 = .ok (.iconst 0, 1) := dk_3 (dk_at dksL_law_25 19 rfl rfl)
theorem dL_law_767 : decode cL_law 767 = .ok (.laload, 1) := dk_47 (dk_at dksL_law_25 20 rfl rfl)
theorem dL_law_768 : decode cL_law 768 = .ok (.iload 7, 2) := dk_21 7 (dk_at dksL_law_25 21 rfl rfl)
theorem dL_law_770 : decode cL_law 770 = .ok (.i2l, 1) := dk_133 (dk_at dksL_law_25 23 rfl rfl)
theorem dL_law_771 : decode cL_law 771 = .ok (.lcmp, 1) := dk_148 (dk_at dksL_law_26 0 rfl rfl)
theorem dL_law_772 : decode cL_law 772 = .ok (.ifCond .eq 5, 3) := dk_153 0 5 (dk_at dksL_law_26 1 rfl rfl)
theorem dL_law_775 : decode cL_law 775 = .ok (.iconst 0, 1) := dk_3 (dk_at dksL_law_26 4 rfl rfl)
theorem dL_law_776 : decode cL_law 776 = .ok (.ireturn, 1) := dk_172 (dk_at dksL_law_26 5 rfl rfl)
theorem dL_law_777 : decode cL_law 777 = .ok (.goto 2006, 3) := dk_167 7 214 (dk_at dksL_law_26 6 rfl rfl)
theorem dL_law_780 : decode cL_law 780 = .ok (.aload_n 1, 1) := dk_43 (dk_at dksL_law_26 9 rfl rfl)
theorem dL_law_781 : decode cL_law 781 = .ok (.aload_n 0, 1) := dk_42 (dk_at dksL_law_26 10 rfl rfl)
theorem dL_law_782 : decode cL_law 782 = .ok (.iload 5, 2) := dk_21 5 (dk_at dksL_law_26 11 rfl rfl)
theorem dL_law_784 : decode cL_law 784 = .ok (.iconst 1, 1) := dk_4 (dk_at dksL_law_26 13 rfl rfl)
theorem dL_law_785 : decode cL_law 785 = .ok (.iadd, 1) := dk_96 (dk_at dksL_law_26 14 rfl rfl)
theorem dL_law_786 : decode cL_law 786 = .ok (.iaload, 1) := dk_46 (dk_at dksL_law_26 15 rfl rfl)
theorem dL_law_787 : decode cL_law 787 = .ok (.aload_n 0, 1) := dk_42 (dk_at dksL_law_26 16 rfl rfl)
theorem dL_law_788 : decode cL_law 788 = .ok (.iload 5, 2) := dk_21 5 (dk_at dksL_law_26 17 rfl rfl)
theorem dL_law_790 : decode cL_law 790 = .ok (.iconst 2, 1) := dk_5 (dk_at dksL_law_26 19 rfl rfl)
theorem dL_law_791 : decode cL_law 791 = .ok (.iadd, 1) := dk_96 (dk_at dksL_law_26 20 rfl rfl)
theorem dL_law_792 : decode cL_law 792 = .ok (.iaload, 1) := dk_46 (dk_at dksL_law_26 21 rfl rfl)
theorem dL_law_793 : decode cL_law 793 = .ok (.aload_n 3, 1) := dk_45 (dk_at dksL_law_26 22 rfl rfl)
theorem dL_law_794 : decode cL_law 794 = .ok (.invokestatic 189, 3) := dk_184 0 189 (dk_at dksL_law_27 0 rfl rfl)
theorem dL_law_797 : decode cL_law 797 = .ok (.istore 6, 2) := dk_54 6 (dk_at dksL_law_27 3 rfl rfl)
theorem dL_law_799 : decode cL_law 799 = .ok (.aload_n 2, 1) := dk_44 (dk_at dksL_law_27 5 rfl rfl)
theorem dL_law_800 : decode cL_law 800 = .ok (.aload_n 0, 1) := dk_42 (dk_at dksL_law_27 6 rfl rfl)
theorem dL_law_801 : decode cL_law 801 = .ok (.iload 5, 2) := dk_21 5 (dk_at dksL_law_27 7 rfl rfl)
theorem dL_law_803 : decode cL_law 803 = .ok (.iconst 1, 1) := dk_4 (dk_at dksL_law_27 9 rfl rfl)
theorem dL_law_804 : decode cL_law 804 = .ok (.iadd, 1) := dk_96 (dk_at dksL_law_27 10 rfl rfl)
theorem dL_law_805 : decode cL_law 805 = .ok (.iaload, 1) := dk_46 (dk_at dksL_law_27 11 rfl rfl)
theorem dL_law_806 : decode cL_law 806 = .ok (.aload_n 0, 1) := dk_42 (dk_at dksL_law_27 12 rfl rfl)
theorem dL_law_807 : decode cL_law 807 = .ok (.iload 5, 2) := dk_21 5 (dk_at dksL_law_27 13 rfl rfl)
theorem dL_law_809 : decode cL_law 809 = .ok (.iconst 2, 1) := dk_5 (dk_at dksL_law_27 15 rfl rfl)
theorem dL_law_810 : decode cL_law 810 = .ok (.iadd, 1) := dk_96 (dk_at dksL_law_27 16 rfl rfl)
theorem dL_law_811 : decode cL_law 811 = .ok (.iaload, 1) := dk_46 (dk_at dksL_law_27 17 rfl rfl)
theorem dL_law_812 : decode cL_law 812 = .ok (.invokevirtual 191, 3) := dk_182 0 191 (dk_at dksL_law_27 18 rfl rfl)
theorem dL_law_815 : decode cL_law 815 = .ok (.istore 7, 2) := dk_54 7 (dk_at dksL_law_27 21 rfl rfl)
theorem dL_law_817 : decode cL_law 817 = .ok (.aload_n 2, 1) := dk_44 (dk_at dksL_law_27 23 rfl rfl)
theorem dL_law_818 : decode cL_law 818 = .ok (.invokevirtual 163, 3) := dk_182 0 163 (dk_at dksL_law_28 0 rfl rfl)
theorem dL_law_821 : decode cL_law 821 = .ok (.iload 6, 2) := dk_21 6 (dk_at dksL_law_28 3 rfl rfl)
theorem dL_law_823 : decode cL_law 823 = .ok (.if_icmp .eq 5, 3) := dk_159 0 5 (dk_at dksL_law_28 5 rfl rfl)
theorem dL_law_826 : decode cL_law 826 = .ok (.iconst 0, 1) := dk_3 (dk_at dksL_law_28 8 rfl rfl)
theorem dL_law_827 : decode cL_law 827 = .ok (.ireturn, 1) := dk_172 (dk_at dksL_law_28 9 rfl rfl)
theorem dL_law_828 : decode cL_law 828 = .ok (.iload 6, 2) := dk_21 6 (dk_at dksL_law_28 10 rfl rfl)
theorem dL_law_830 : decode cL_law 830 = .ok (.ifCond .ne 15, 3) := dk_154 0 15 (dk_at dksL_law_28 12 rfl rfl)
theorem dL_law_833 : decode cL_law 833 = .ok (.aload_n 3, 1) := dk_45 (dk_at dksL_law_28 15 rfl rfl)
theorem dL_law_834 : decode cL_law 834 = .ok (.iconst 0, 1) := dk_3 (dk_at dksL_law_28 16 rfl rfl)
theorem dL_law_835 : decode cL_law 835 = .ok (.laload, 1) := dk_47 (dk_at dksL_law_28 17 rfl rfl)
theorem dL_law_836 : decode cL_law 836 = .ok (.iload 7, 2) := dk_21 7 (dk_at dksL_law_28 18 rfl rfl)
theorem dL_law_838 : decode cL_law 838 = .ok (.i2l, 1) := dk_133 (dk_at dksL_law_28 20 rfl rfl)
theorem dL_law_839 : decode cL_law 839 = .ok (.lcmp, 1) := dk_148 (dk_at dksL_law_28 21 rfl rfl)
theorem dL_law_840 : decode cL_law 840 = .ok (.ifCond .eq 5, 3) := dk_153 0 5 (dk_at dksL_law_29 0 rfl rfl)
theorem dL_law_843 : decode cL_law 843 = .ok (.iconst 0, 1) := dk_3 (dk_at dksL_law_29 3 rfl rfl)
theorem dL_law_844 : decode cL_law 844 = .ok (.ireturn, 1) := dk_172 (dk_at dksL_law_29 4 rfl rfl)
theorem dL_law_845 : decode cL_law 845 = .ok (.goto 1938, 3) := dk_167 7 146 (dk_at dksL_law_29 5 rfl rfl)
theorem dL_law_848 : decode cL_law 848 = .ok (.aload_n 1, 1) := dk_43 (dk_at dksL_law_29 8 rfl rfl)
theorem dL_law_849 : decode cL_law 849 = .ok (.aload_n 0, 1) := dk_42 (dk_at dksL_law_29 9 rfl rfl)
theorem dL_law_850 : decode cL_law 850 = .ok (.iload 5, 2) := dk_21 5 (dk_at dksL_law_29 10 rfl rfl)
theorem dL_law_852 : decode cL_law 852 = .ok (.iconst 1, 1) := dk_4 (dk_at dksL_law_29 12 rfl rfl)
theorem dL_law_853 : decode cL_law 853 = .ok (.iadd, 1) := dk_96 (dk_at dksL_law_29 13 rfl rfl)
theorem dL_law_854 : decode cL_law 854 = .ok (.iaload, 1) := dk_46 (dk_at dksL_law_29 14 rfl rfl)
theorem dL_law_855 : decode cL_law 855 = .ok (.aload_n 3, 1) := dk_45 (dk_at dksL_law_29 15 rfl rfl)
theorem dL_law_856 : decode cL_law 856 = .ok (.invokestatic 192, 3) := dk_184 0 192 (dk_at dksL_law_29 16 rfl rfl)
theorem dL_law_859 : decode cL_law 859 = .ok (.istore 6, 2) := dk_54 6 (dk_at dksL_law_29 19 rfl rfl)
theorem dL_law_861 : decode cL_law 861 = .ok (.aload_n 2, 1) := dk_44 (dk_at dksL_law_29 21 rfl rfl)
theorem dL_law_862 : decode cL_law 862 = .ok (.aload_n 0, 1) := dk_42 (dk_at dksL_law_29 22 rfl rfl)
theorem dL_law_863 : decode cL_law 863 = .ok (.iload 5, 2) := dk_21 5 (dk_at dksL_law_30 0 rfl rfl)
theorem dL_law_865 : decode cL_law 865 = .ok (.iconst 1, 1) := dk_4 (dk_at dksL_law_30 2 rfl rfl)
theorem dL_law_866 : decode cL_law 866 = .ok (.iadd, 1) := dk_96 (dk_at dksL_law_30 3 rfl rfl)
theorem dL_law_867 : decode cL_law 867 = .ok (.iaload, 1) := dk_46 (dk_at dksL_law_30 4 rfl rfl)
theorem dL_law_868 : decode cL_law 868 = .ok (.invokevirtual 194, 3) := dk_182 0 194 (dk_at dksL_law_30 5 rfl rfl)
theorem dL_law_871 : decode cL_law 871 = .ok (.istore 7, 2) := dk_54 7 (dk_at dksL_law_30 8 rfl rfl)
theorem dL_law_873 : decode cL_law 873 = .ok (.aload_n 2, 1) := dk_44 (dk_at dksL_law_30 10 rfl rfl)
theorem dL_law_874 : decode cL_law 874 = .ok (.invokevirtual 163, 3) := dk_182 0 163 (dk_at dksL_law_30 11 rfl rfl)
theorem dL_law_877 : decode cL_law 877 = .ok (.iload 6, 2) := dk_21 6 (dk_at dksL_law_30 14 rfl rfl)
theorem dL_law_879 : decode cL_law 879 = .ok (.if_icmp .eq 5, 3) := dk_159 0 5 (dk_at dksL_law_30 16 rfl rfl)
theorem dL_law_882 : decode cL_law 882 = .ok (.iconst 0, 1) := dk_3 (dk_at dksL_law_30 19 rfl rfl)
theorem dL_law_883 : decode cL_law 883 = .ok (.ireturn, 1) := dk_172 (dk_at dksL_law_30 20 rfl rfl)
theorem dL_law_884 : decode cL_law 884 = .ok (.iload 6, 2) := dk_21 6 (dk_at dksL_law_30 21 rfl rfl)
theorem dL_law_886 : decode cL_law 886 = .ok (.ifCond .ne 15, 3) := dk_154 0 15 (dk_at dksL_law_31 0 rfl rfl)
theorem dL_law_889 : decode cL_law 889 = .ok (.aload_n 3, 1) := dk_45 (dk_at dksL_law_31 3 rfl rfl)
theorem dL_law_890 : decode cL_law 890 = .ok (.iconst 0, 1) := dk_3 (dk_at dksL_law_31 4 rfl rfl)
theorem dL_law_891 : decode cL_law 891 = .ok (.laload, 1) := dk_47 (dk_at dksL_law_31 5 rfl rfl)
theorem dL_law_892 : decode cL_law 892 = .ok (.iload 7, 2) := dk_21 7 (dk_at dksL_law_31 6 rfl rfl)
theorem dL_law_894 : decode cL_law 894 = .ok (.i2l, 1) := dk_133 (dk_at dksL_law_31 8 rfl rfl)
theorem dL_law_895 : decode cL_law 895 = .ok (.lcmp, 1) := dk_148 (dk_at dksL_law_31 9 rfl rfl)
theorem dL_law_896 : decode cL_law 896 = .ok (.ifCond .eq 5, 3) := dk_153 0 5 (dk_at dksL_law_31 10 rfl rfl)
theorem dL_law_899 : decode cL_law 899 = .ok (.iconst 0, 1) := dk_3 (dk_at dksL_law_31 13 rfl rfl)
theorem dL_law_900 : decode cL_law 900 = .ok (.ireturn, 1) := dk_172 (dk_at dksL_law_31 14 rfl rfl)
theorem dL_law_901 : decode cL_law 901 = .ok (.goto 1882, 3) := dk_167 7 90 (dk_at dksL_law_31 15 rfl rfl)
theorem dL_law_904 : decode cL_law 904 = .ok (.aload_n 1, 1) := dk_43 (dk_at dksL_law_31 18 rfl rfl)
theorem dL_law_905 : decode cL_law 905 = .ok (.aload_n 0, 1) := dk_42 (dk_at dksL_law_31 19 rfl rfl)
theorem dL_law_906 : decode cL_law 906 = .ok (.iload 5, 2) := dk_21 5 (dk_at dksL_law_31 20 rfl rfl)
theorem dL_law_908 : decode cL_law 908 = .ok (.iconst 1, 1) := dk_4 (dk_at dksL_law_31 22 rfl rfl)
theorem dL_law_909 : decode cL_law 909 = .ok (.iadd, 1) := dk_96 (dk_at dksL_law_31 23 rfl rfl)
theorem dL_law_910 : decode cL_law 910 = .ok (.iaload, 1) := dk_46 (dk_at dksL_law_32 0 rfl rfl)
theorem dL_law_911 : decode cL_law 911 = .ok (.aload_n 3, 1) := dk_45 (dk_at dksL_law_32 1 rfl rfl)
theorem dL_law_912 : decode cL_law 912 = .ok (.invokestatic 195, 3) := dk_184 0 195 (dk_at dksL_law_32 2 rfl rfl)
theorem dL_law_915 : decode cL_law 915 = .ok (.istore 6, 2) := dk_54 6 (dk_at dksL_law_32 5 rfl rfl)
theorem dL_law_917 : decode cL_law 917 = .ok (.aload_n 2, 1) := dk_44 (dk_at dksL_law_32 7 rfl rfl)
theorem dL_law_918 : decode cL_law 918 = .ok (.aload_n 0, 1) := dk_42 (dk_at dksL_law_32 8 rfl rfl)
theorem dL_law_919 : decode cL_law 919 = .ok (.iload 5, 2) := dk_21 5 (dk_at dksL_law_32 9 rfl rfl)
theorem dL_law_921 : decode cL_law 921 = .ok (.iconst 1, 1) := dk_4 (dk_at dksL_law_32 11 rfl rfl)
theorem dL_law_922 : decode cL_law 922 = .ok (.iadd, 1) := dk_96 (dk_at dksL_law_32 12 rfl rfl)
theorem dL_law_923 : decode cL_law 923 = .ok (.iaload, 1) := dk_46 (dk_at dksL_law_32 13 rfl rfl)
theorem dL_law_924 : decode cL_law 924 = .ok (.invokevirtual 197, 3) := dk_182 0 197 (dk_at dksL_law_32 14 rfl rfl)
theorem dL_law_927 : decode cL_law 927 = .ok (.istore 7, 2) := dk_54 7 (dk_at dksL_law_32 17 rfl rfl)
theorem dL_law_929 : decode cL_law 929 = .ok (.aload_n 2, 1) := dk_44 (dk_at dksL_law_32 19 rfl rfl)
theorem dL_law_930 : decode cL_law 930 = .ok (.invokevirtual 163, 3) := dk_182 0 163 (dk_at dksL_law_32 20 rfl rfl)
theorem dL_law_933 : decode cL_law 933 = .ok (.iload 6, 2) := dk_21 6 (dk_at dksL_law_33 0 rfl rfl)
theorem dL_law_935 : decode cL_law 935 = .ok (.if_icmp .eq 5, 3) := dk_159 0 5 (dk_at dksL_law_33 2 rfl rfl)
theorem dL_law_938 : decode cL_law 938 = .ok (.iconst 0, 1) := dk_3 (dk_at dksL_law_33 5 rfl rfl)
theorem dL_law_939 : decode cL_law 939 = .ok (.ireturn, 1) := dk_172 (dk_at dksL_law_33 6 rfl rfl)
theorem dL_law_940 : decode cL_law 940 = .ok (.iload 6, 2) := dk_21 6 (dk_at dksL_law_33 7 rfl rfl)
theorem dL_law_942 : decode cL_law 942 = .ok (.ifCond .ne 15, 3) := dk_154 0 15 (dk_at dksL_law_33 9 rfl rfl)
theorem dL_law_945 : decode cL_law 945 = .ok (.aload_n 3, 1) := dk_45 (dk_at dksL_law_33 12 rfl rfl)
theorem dL_law_946 : decode cL_law 946 = .ok (.iconst 0, 1) := dk_3 (dk_at dksL_law_33 13 rfl rfl)
theorem dL_law_947 : decode cL_law 947 = .ok (.laload, 1) := dk_47 (dk_at dksL_law_33 14 rfl rfl)
theorem dL_law_948 : decode cL_law 948 = .ok (.iload 7, 2) := dk_21 7 (dk_at dksL_law_33 15 rfl rfl)
theorem dL_law_950 : decode cL_law 950 = .ok (.i2l, 1) := dk_133 (dk_at dksL_law_33 17 rfl rfl)
theorem dL_law_951 : decode cL_law 951 = .ok (.lcmp, 1) := dk_148 (dk_at dksL_law_33 18 rfl rfl)
theorem dL_law_952 : decode cL_law 952 = .ok (.ifCond .eq 5, 3) := dk_153 0 5 (dk_at dksL_law_33 19 rfl rfl)
theorem dL_law_955 : decode cL_law 955 = .ok (.iconst 0, 1) := dk_3 (dk_at dksL_law_33 22 rfl rfl)
theorem dL_law_956 : decode cL_law 956 = .ok (.ireturn, 1) := dk_172 (dk_at dksL_law_33 23 rfl rfl)
theorem dL_law_957 : decode cL_law 957 = .ok (.goto 1826, 3) := dk_167 7 34 (dk_at dksL_law_34 0 rfl rfl)
theorem dL_law_960 : decode cL_law 960 = .ok (.aload_n 1, 1) := dk_43 (dk_at dksL_law_34 3 rfl rfl)
theorem dL_law_961 : decode cL_law 961 = .ok (.aload_n 0, 1) := dk_42 (dk_at dksL_law_34 4 rfl rfl)
theorem dL_law_962 : decode cL_law 962 = .ok (.iload 5, 2) := dk_21 5 (dk_at dksL_law_34 5 rfl rfl)
theorem dL_law_964 : decode cL_law 964 = .ok (.iconst 1, 1) := dk_4 (dk_at dksL_law_34 7 rfl rfl)
theorem dL_law_965 : decode cL_law 965 = .ok (.iadd, 1) := dk_96 (dk_at dksL_law_34 8 rfl rfl)
theorem dL_law_966 : decode cL_law 966 = .ok (.iaload, 1) := dk_46 (dk_at dksL_law_34 9 rfl rfl)
theorem dL_law_967 : decode cL_law 967 = .ok (.aload_n 3, 1) := dk_45 (dk_at dksL_law_34 10 rfl rfl)
theorem dL_law_968 : decode cL_law 968 = .ok (.invokestatic 198, 3) := dk_184 0 198 (dk_at dksL_law_34 11 rfl rfl)
theorem dL_law_971 : decode cL_law 971 = .ok (.istore 6, 2) := dk_54 6 (dk_at dksL_law_34 14 rfl rfl)
theorem dL_law_973 : decode cL_law 973 = .ok (.aload_n 2, 1) := dk_44 (dk_at dksL_law_34 16 rfl rfl)
theorem dL_law_974 : decode cL_law 974 = .ok (.aload_n 0, 1) := dk_42 (dk_at dksL_law_34 17 rfl rfl)
theorem dL_law_975 : decode cL_law 975 = .ok (.iload 5, 2) := dk_21 5 (dk_at dksL_law_34 18 rfl rfl)
theorem dL_law_977 : decode cL_law 977 = .ok (.iconst 1, 1) := dk_4 (dk_at dksL_law_34 20 rfl rfl)
theorem dL_law_978 : decode cL_law 978 = .ok (.iadd, 1) := dk_96 (dk_at dksL_law_34 21 rfl rfl)
theorem dL_law_979 : decode cL_law 979 = .ok (.iaload, 1) := dk_46 (dk_at dksL_law_34 22 rfl rfl)
theorem dL_law_980 : decode cL_law 980 = .ok (.invokevirtual 200, 3) := dk_182 0 200 (dk_at dksL_law_35 0 rfl rfl)
theorem dL_law_983 : decode cL_law 983 = .ok (.istore 7, 2) := dk_54 7 (dk_at dksL_law_35 3 rfl rfl)
theorem dL_law_985 : decode cL_law 985 = .ok (.aload_n 2, 1) := dk_44 (dk_at dksL_law_35 5 rfl rfl)
theorem dL_law_986 : decode cL_law 986 = .ok (.invokevirtual 163, 3) := dk_182 0 163 (dk_at dksL_law_35 6 rfl rfl)
theorem dL_law_989 : decode cL_law 989 = .ok (.iload 6, 2) := dk_21 6 (dk_at dksL_law_35 9 rfl rfl)
theorem dL_law_991 : decode cL_law 991 = .ok (.if_icmp .eq 5, 3) := dk_159 0 5 (dk_at dksL_law_35 11 rfl rfl)
theorem dL_law_994 : decode cL_law 994 = .ok (.iconst 0, 1) := dk_3 (dk_at dksL_law_35 14 rfl rfl)
theorem dL_law_995 : decode cL_law 995 = .ok (.ireturn, 1) := dk_172 (dk_at dksL_law_35 15 rfl rfl)
theorem dL_law_996 : decode cL_law 996 = .ok (.iload 6, 2) := dk_21 6 (dk_at dksL_law_35 16 rfl rfl)
theorem dL_law_998 : decode cL_law 998 = .ok (.ifCond .ne 15, 3) := dk_154 0 15 (dk_at dksL_law_35 18 rfl rfl)
theorem dL_law_1001 : decode cL_law 1001 = .ok (.aload_n 3, 1) := dk_45 (dk_at dksL_law_35 21 rfl rfl)
theorem dL_law_1002 : decode cL_law 1002 = .ok (.iconst 0, 1) := dk_3 (dk_at dksL_law_35 22 rfl rfl)
theorem dL_law_1003 : decode cL_law 1003 = .ok (.laload, 1) := dk_47 (dk_at dksL_law_35 23 rfl rfl)
theorem dL_law_1004 : decode cL_law 1004 = .ok (.iload 7, 2) := dk_21 7 (dk_at dksL_law_36 0 rfl rfl)
theorem dL_law_1006 : decode cL_law 1006 = .ok (.i2l, 1) := dk_133 (dk_at dksL_law_36 2 rfl rfl)
theorem dL_law_1007 : decode cL_law 1007 = .ok (.lcmp, 1) := dk_148 (dk_at dksL_law_36 3 rfl rfl)
theorem dL_law_1008 : decode cL_law 1008 = .ok (.ifCond .eq 5, 3) := dk_153 0 5 (dk_at dksL_law_36 4 rfl rfl)
theorem dL_law_1011 : decode cL_law 1011 = .ok (.iconst 0, 1) := dk_3 (dk_at dksL_law_36 7 rfl rfl)
theorem dL_law_1012 : decode cL_law 1012 = .ok (.ireturn, 1) := dk_172 (dk_at dksL_law_36 8 rfl rfl)
theorem dL_law_1013 : decode cL_law 1013 = .ok (.goto 1770, 3) := dk_167 6 234 (dk_at dksL_law_36 9 rfl rfl)
theorem dL_law_1016 : decode cL_law 1016 = .ok (.aload_n 1, 1) := dk_43 (dk_at dksL_law_36 12 rfl rfl)
theorem dL_law_1017 : decode cL_law 1017 = .ok (.aload_n 0, 1) := dk_42 (dk_at dksL_law_36 13 rfl rfl)
theorem dL_law_1018 : decode cL_law 1018 = .ok (.iload 5, 2) := dk_21 5 (dk_at dksL_law_36 14 rfl rfl)
theorem dL_law_1020 : decode cL_law 1020 = .ok (.iconst 1, 1) := dk_4 (dk_at dksL_law_36 16 rfl rfl)
theorem dL_law_1021 : decode cL_law 1021 = .ok (.iadd, 1) := dk_96 (dk_at dksL_law_36 17 rfl rfl)
theorem dL_law_1022 : decode cL_law 1022 = .ok (.iaload, 1) := dk_46 (dk_at dksL_law_36 18 rfl rfl)
theorem dL_law_1023 : decode cL_law 1023 = .ok (.aload_n 0, 1) := dk_42 (dk_at dksL_law_36 19 rfl rfl)
theorem dL_law_1024 : decode cL_law 1024 = .ok (.iload 5, 2) := dk_21 5 (dk_at dksL_law_36 20 rfl rfl)
theorem dL_law_1026 : decode cL_law 1026 = .ok (.iconst 2, 1) := dk_5 (dk_at dksL_law_36 22 rfl rfl)
theorem dL_law_1027 : decode cL_law 1027 = .ok (.iadd, 1) := dk_96 (dk_at dksL_law_36 23 rfl rfl)
theorem dL_law_1028 : decode cL_law 1028 = .ok (.iaload, 1) := dk_46 (dk_at dksL_law_37 0 rfl rfl)
theorem dL_law_1029 : decode cL_law 1029 = .ok (.aload_n 3, 1) := dk_45 (dk_at dksL_law_37 1 rfl rfl)
theorem dL_law_1030 : decode cL_law 1030 = .ok (.invokestatic 201, 3) := dk_184 0 201 (dk_at dksL_law_37 2 rfl rfl)
theorem dL_law_1033 : decode cL_law 1033 = .ok (.istore 6, 2) := dk_54 6 (dk_at dksL_law_37 5 rfl rfl)
theorem dL_law_1035 : decode cL_law 1035 = .ok (.aload_n 2, 1) := dk_44 (dk_at dksL_law_37 7 rfl rfl)
theorem dL_law_1036 : decode cL_law 1036 = .ok (.aload_n 0, 1) := dk_42 (dk_at dksL_law_37 8 rfl rfl)
theorem dL_law_1037 : decode cL_law 1037 = .ok (.iload 5, 2) := dk_21 5 (dk_at dksL_law_37 9 rfl rfl)
theorem dL_law_1039 : decode cL_law 1039 = .ok (.iconst 1, 1) := dk_4 (dk_at dksL_law_37 11 rfl rfl)
theorem dL_law_1040 : decode cL_law 1040 = .ok (.iadd, 1) := dk_96 (dk_at dksL_law_37 12 rfl rfl)
theorem dL_law_1041 : decode cL_law 1041 = .ok (.iaload, 1) := dk_46 (dk_at dksL_law_37 13 rfl rfl)
theorem dL_law_1042 : decode cL_law 1042 = .ok (.aload_n 0, 1) := dk_42 (dk_at dksL_law_37 14 rfl rfl)
theorem dL_law_1043 : decode cL_law 1043 = .ok (.iload 5, 2) := dk_21 5 (dk_at dksL_law_37 15 rfl rfl)
theorem dL_law_1045 : decode cL_law 1045 = .ok (.iconst 2, 1) := dk_5 (dk_at dksL_law_37 17 rfl rfl)
theorem dL_law_1046 : decode cL_law 1046 = .ok (.iadd, 1) := dk_96 (dk_at dksL_law_37 18 rfl rfl)
theorem dL_law_1047 : decode cL_law 1047 = .ok (.iaload, 1) := dk_46 (dk_at dksL_law_37 19 rfl rfl)
theorem dL_law_1048 : decode cL_law 1048 = .ok (.invokevirtual 203, 3) := dk_182 0 203 (dk_at dksL_law_37 20 rfl rfl)
theorem dL_law_1051 : decode cL_law 1051 = .ok (.istore 7, 2) := dk_54 7 (dk_at dksL_law_38 0 rfl rfl)
theorem dL_law_1053 : decode cL_law 1053 = .ok (.aload_n 2, 1) := dk_44 (dk_at dksL_law_38 2 rfl rfl)
theorem dL_law_1054 : decode cL_law 1054 = .ok (.invokevirtual 163, 3) := dk_182 0 163 (dk_at dksL_law_38 3 rfl rfl)
theorem dL_law_1057 : decode cL_law 1057 = .ok (.iload 6, 2) := dk_21 6 (dk_at dksL_law_38 6 rfl rfl)
theorem dL_law_1059 : decode cL_law 1059 = .ok (.if_icmp .eq 5, 3) := dk_159 0 5 (dk_at dksL_law_38 8 rfl rfl)
theorem dL_law_1062 : decode cL_law 1062 = .ok (.iconst 0, 1) := dk_3 (dk_at dksL_law_38 11 rfl rfl)
theorem dL_law_1063 : decode cL_law 1063 = .ok (.ireturn, 1) := dk_172 (dk_at dksL_law_38 12 rfl rfl)
theorem dL_law_1064 : decode cL_law 1064 = .ok (.iload 6, 2) := dk_21 6 (dk_at dksL_law_38 13 rfl rfl)
theorem dL_law_1066 : decode cL_law 1066 = .ok (.ifCond .ne 15, 3) := dk_154 0 15 (dk_at dksL_law_38 15 rfl rfl)
theorem dL_law_1069 : decode cL_law 1069 = .ok (.aload_n 3, 1) := dk_45 (dk_at dksL_law_38 18 rfl rfl)
theorem dL_law_1070 : decode cL_law 1070 = .ok (.iconst 0, 1) := dk_3 (dk_at dksL_law_38 19 rfl rfl)
theorem dL_law_1071 : decode cL_law 1071 = .ok (.laload, 1) := dk_47 (dk_at dksL_law_38 20 rfl rfl)
theorem dL_law_1072 : decode cL_law 1072 = .ok (.iload 7, 2) := dk_21 7 (dk_at dksL_law_38 21 rfl rfl)
theorem dL_law_1074 : decode cL_law 1074 = .ok (.i2l, 1) := dk_133 (dk_at dksL_law_38 23 rfl rfl)
theorem dL_law_1075 : decode cL_law 1075 = .ok (.lcmp, 1) := dk_148 (dk_at dksL_law_39 0 rfl rfl)
theorem dL_law_1076 : decode cL_law 1076 = .ok (.ifCond .eq 5, 3) := dk_153 0 5 (dk_at dksL_law_39 1 rfl rfl)
theorem dL_law_1079 : decode cL_law 1079 = .ok (.iconst 0, 1) := dk_3 (dk_at dksL_law_39 4 rfl rfl)
theorem dL_law_1080 : decode cL_law 1080 = .ok (.ireturn, 1) := dk_172 (dk_at dksL_law_39 5 rfl rfl)
theorem dL_law_1081 : decode cL_law 1081 = .ok (.goto 1702, 3) := dk_167 6 166 (dk_at dksL_law_39 6 rfl rfl)
theorem dL_law_1084 : decode cL_law 1084 = .ok (.aload_n 1, 1) := dk_43 (dk_at dksL_law_39 9 rfl rfl)
theorem dL_law_1085 : decode cL_law 1085 = .ok (.aload_n 0, 1) := dk_42 (dk_at dksL_law_39 10 rfl rfl)
theorem dL_law_1086 : decode cL_law 1086 = .ok (.iload 5, 2) := dk_21 5 (dk_at dksL_law_39 11 rfl rfl)
theorem dL_law_1088 : decode cL_law 1088 = .ok (.iconst 1, 1) := dk_4 (dk_at dksL_law_39 13 rfl rfl)
theorem dL_law_1089 : decode cL_law 1089 = .ok (.iadd, 1) := dk_96 (dk_at dksL_law_39 14 rfl rfl)
theorem dL_law_1090 : decode cL_law 1090 = .ok (.iaload, 1) := dk_46 (dk_at dksL_law_39 15 rfl rfl)
theorem dL_law_1091 : decode cL_law 1091 = .ok (.aload_n 0, 1) := dk_42 (dk_at dksL_law_39 16 rfl rfl)
theorem dL_law_1092 : decode cL_law 1092 = .ok (.iload 5, 2) := dk_21 5 (dk_at dksL_law_39 17 rfl rfl)
theorem dL_law_1094 : decode cL_law 1094 = .ok (.iconst 2, 1) := dk_5 (dk_at dksL_law_39 19 rfl rfl)
theorem dL_law_1095 : decode cL_law 1095 = .ok (.iadd, 1) := dk_96 (dk_at dksL_law_39 20 rfl rfl)
theorem dL_law_1096 : decode cL_law 1096 = .ok (.iaload, 1) := dk_46 (dk_at dksL_law_39 21 rfl rfl)
theorem dL_law_1097 : decode cL_law 1097 = .ok (.aload_n 0, 1) := dk_42 (dk_at dksL_law_39 22 rfl rfl)
theorem dL_law_1098 : decode cL_law 1098 = .ok (.iload 5, 2) := dk_21 5 (dk_at dksL_law_40 0 rfl rfl)
theorem dL_law_1100 : decode cL_law 1100 = .ok (.iconst 3, 1) := dk_6 (dk_at dksL_law_40 2 rfl rfl)
theorem dL_law_1101 : decode cL_law 1101 = .ok (.iadd, 1) := dk_96 (dk_at dksL_law_40 3 rfl rfl)
theorem dL_law_1102 : decode cL_law 1102 = .ok (.iaload, 1) := dk_46 (dk_at dksL_law_40 4 rfl rfl)
theorem dL_law_1103 : decode cL_law 1103 = .ok (.aload_n 3, 1) := dk_45 (dk_at dksL_law_40 5 rfl rfl)
theorem dL_law_1104 : decode cL_law 1104 = .ok (.invokestatic 204, 3) := dk_184 0 204 (dk_at dksL_law_40 6 rfl rfl)
theorem dL_law_1107 : decode cL_law 1107 = .ok (.istore 6, 2) := dk_54 6 (dk_at dksL_law_40 9 rfl rfl)
theorem dL_law_1109 : decode cL_law 1109 = .ok (.aload_n 2, 1) := dk_44 (dk_at dksL_law_40 11 rfl rfl)
theorem dL_law_1110 : decode cL_law 1110 = .ok (.aload_n 0, 1) := dk_42 (dk_at dksL_law_40 12 rfl rfl)
theorem dL_law_1111 : decode cL_law 1111 = .ok (.iload 5, 2) := dk_21 5 (dk_at dksL_law_40 13 rfl rfl)
theorem dL_law_1113 : decode cL_law 1113 = .ok (.iconst 1, 1) := dk_4 (dk_at dksL_law_40 15 rfl rfl)
theorem dL_law_1114 : decode cL_law 1114 = .ok (.iadd, 1) := dk_96 (dk_at dksL_law_40 16 rfl rfl)
theorem dL_law_1115 : decode cL_law 1115 = .ok (.iaload, 1) := dk_46 (dk_at dksL_law_40 17 rfl rfl)
theorem dL_law_1116 : decode cL_law 1116 = .ok (.aload_n 0, 1) := dk_42 (dk_at dksL_law_40 18 rfl rfl)
theorem dL_law_1117 : decode cL_law 1117 = .ok (.iload 5, 2) := dk_21 5 (dk_at dksL_law_40 19 rfl rfl)
theorem dL_law_1119 : decode cL_law 1119 = .ok (.iconst 2, 1) := dk_5 (dk_at dksL_law_40 21 rfl rfl)
theorem dL_law_1120 : decode cL_law 1120 = .ok (.iadd, 1) := dk_96 (dk_at dksL_law_40 22 rfl rfl)
theorem dL_law_1121 : decode cL_law 1121 = .ok (.iaload, 1) := dk_46 (dk_at dksL_law_40 23 rfl rfl)
theorem dL_law_1122 : decode cL_law 1122 = .ok (.aload_n 0, 1) := dk_42 (dk_at dksL_law_41 0 rfl rfl)
theorem dL_law_1123 : decode cL_law 1123 = .ok (.iload 5, 2) := dk_21 5 (dk_at dksL_law_41 1 rfl rfl)
theorem dL_law_1125 : decode cL_law 1125 = .ok (.iconst 3, 1) := dk_6 (dk_at dksL_law_41 3 rfl rfl)
theorem dL_law_1126 : decode cL_law 1126 = .ok (.iadd, 1) := dk_96 (dk_at dksL_law_41 4 rfl rfl)
theorem dL_law_1127 : decode cL_law 1127 = .ok (.iaload, 1) := dk_46 (dk_at dksL_law_41 5 rfl rfl)
theorem dL_law_1128 : decode cL_law 1128 = .ok (.invokevirtual 207, 3) := dk_182 0 207 (dk_at dksL_law_41 6 rfl rfl)
theorem dL_law_1131 : decode cL_law 1131 = .ok (.istore 7, 2) := dk_54 7 (dk_at dksL_law_41 9 rfl rfl)
theorem dL_law_1133 : decode cL_law 1133 = .ok (.aload_n 2, 1) := dk_44 (dk_at dksL_law_41 11 rfl rfl)
theorem dL_law_1134 : decode cL_law 1134 = .ok (.invokevirtual 163, 3) := dk_182 0 163 (dk_at dksL_law_41 12 rfl rfl)
theorem dL_law_1137 : decode cL_law 1137 = .ok (.iload 6, 2) := dk_21 6 (dk_at dksL_law_41 15 rfl rfl)
theorem dL_law_1139 : decode cL_law 1139 = .ok (.if_icmp .eq 5, 3) := dk_159 0 5 (dk_at dksL_law_41 17 rfl rfl)
theorem dL_law_1142 : decode cL_law 1142 = .ok (.iconst 0, 1) := dk_3 (dk_at dksL_law_41 20 rfl rfl)
theorem dL_law_1143 : decode cL_law 1143 = .ok (.ireturn, 1) := dk_172 (dk_at dksL_law_41 21 rfl rfl)
theorem dL_law_1144 : decode cL_law 1144 = .ok (.iload 6, 2) := dk_21 6 (dk_at dksL_law_41 22 rfl rfl)
theorem dL_law_1146 : decode cL_law 1146 = .ok (.ifCond .ne 15, 3) := dk_154 0 15 (dk_at dksL_law_42 0 rfl rfl)
theorem dL_law_1149 : decode cL_law 1149 = .ok (.aload_n 3, 1) := dk_45 (dk_at dksL_law_42 3 rfl rfl)
theorem dL_law_1150 : decode cL_law 1150 = .ok (.iconst 0, 1) := dk_3 (dk_at dksL_law_42 4 rfl rfl)
theorem dL_law_1151 : decode cL_law 1151 = .ok (.laload, 1) := dk_47 (dk_at dksL_law_42 5 rfl rfl)
theorem dL_law_1152 : decode cL_law 1152 = .ok (.iload 7, 2) := dk_21 7 (dk_at dksL_law_42 6 rfl rfl)
theorem dL_law_1154 : decode cL_law 1154 = .ok (.i2l, 1) := dk_133 (dk_at dksL_law_42 8 rfl rfl)
theorem dL_law_1155 : decode cL_law 1155 = .ok (.lcmp, 1) := dk_148 (dk_at dksL_law_42 9 rfl rfl)
theorem dL_law_1156 : decode cL_law 1156 = .ok (.ifCond .eq 5, 3) := dk_153 0 5 (dk_at dksL_law_42 10 rfl rfl)
theorem dL_law_1159 : decode cL_law 1159 = .ok (.iconst 0, 1) := dk_3 (dk_at dksL_law_42 13 rfl rfl)
theorem dL_law_1160 : decode cL_law 1160 = .ok (.ireturn, 1) := dk_172 (dk_at dksL_law_42 14 rfl rfl)
theorem dL_law_1161 : decode cL_law 1161 = .ok (.goto 1622, 3) := dk_167 6 86 (dk_at dksL_law_42 15 rfl rfl)
theorem dL_law_1164 : decode cL_law 1164 = .ok (.aload_n 1, 1) := dk_43 (dk_at dksL_law_42 18 rfl rfl)
theorem dL_law_1165 : decode cL_law 1165 = .ok (.aload_n 0, 1) := dk_42 (dk_at dksL_law_42 19 rfl rfl)
theorem dL_law_1166 : decode cL_law 1166 = .ok (.iload 5, 2) := dk_21 5 (dk_at dksL_law_42 20 rfl rfl)
theorem dL_law_1168 : decode cL_law 1168 = .ok (.iconst 1, 1) := dk_4 (dk_at dksL_law_42 22 rfl rfl)
theorem dL_law_1169 : decode cL_law 1169 = .ok (.iadd, 1) := dk_96 (dk_at dksL_law_42 23 rfl rfl)
theorem dL_law_1170 : decode cL_law 1170 = .ok (.iaload, 1) := dk_46 (dk_at dksL_law_43 0 rfl rfl)
theorem dL_law_1171 : decode cL_law 1171 = .ok (.aload_n 0, 1) := dk_42 (dk_at dksL_law_43 1 rfl rfl)
theorem dL_law_1172 : decode cL_law 1172 = .ok (.iload 5, 2) := dk_21 5 (dk_at dksL_law_43 2 rfl rfl)
theorem dL_law_1174 : decode cL_law 1174 = .ok (.iconst 2, 1) := dk_5 (dk_at dksL_law_43 4 rfl rfl)
theorem dL_law_1175 : decode cL_law 1175 = .ok (.iadd, 1) := dk_96 (dk_at dksL_law_43 5 rfl rfl)
theorem dL_law_1176 : decode cL_law 1176 = .ok (.iaload, 1) := dk_46 (dk_at dksL_law_43 6 rfl rfl)
theorem dL_law_1177 : decode cL_law 1177 = .ok (.aload_n 3, 1) := dk_45 (dk_at dksL_law_43 7 rfl rfl)
theorem dL_law_1178 : decode cL_law 1178 = .ok (.invokestatic 208, 3) := dk_184 0 208 (dk_at dksL_law_43 8 rfl rfl)
theorem dL_law_1181 : decode cL_law 1181 = .ok (.istore 6, 2) := dk_54 6 (dk_at dksL_law_43 11 rfl rfl)
theorem dL_law_1183 : decode cL_law 1183 = .ok (.aload_n 2, 1) := dk_44 (dk_at dksL_law_43 13 rfl rfl)
theorem dL_law_1184 : decode cL_law 1184 = .ok (.aload_n 0, 1) := dk_42 (dk_at dksL_law_43 14 rfl rfl)
theorem dL_law_1185 : decode cL_law 1185 = .ok (.iload 5, 2) := dk_21 5 (dk_at dksL_law_43 15 rfl rfl)
theorem dL_law_1187 : decode cL_law 1187 = .ok (.iconst 1, 1) := dk_4 (dk_at dksL_law_43 17 rfl rfl)
theorem dL_law_1188 : decode cL_law 1188 = .ok (.iadd, 1) := dk_96 (dk_at dksL_law_43 18 rfl rfl)
theorem dL_law_1189 : decode cL_law 1189 = .ok (.iaload, 1) := dk_46 (dk_at dksL_law_43 19 rfl rfl)
theorem dL_law_1190 : decode cL_law 1190 = .ok (.aload_n 0, 1) := dk_42 (dk_at dksL_law_43 20 rfl rfl)
theorem dL_law_1191 : decode cL_law 1191 = .ok (.iload 5, 2) := dk_21 5 (dk_at dksL_law_43 21 rfl rfl)
theorem dL_law_1193 : decode cL_law 1193 = .ok (.iconst 2, 1) := dk_5 (dk_at dksL_law_43 23 rfl rfl)
theorem dL_law_1194 : decode cL_law 1194 = .ok (.iadd, 1) := dk_96 (dk_at dksL_law_44 0 rfl rfl)
theorem dL_law_1195 : decode cL_law 1195 = .ok (.iaload, 1) := dk_46 (dk_at dksL_law_44 1 rfl rfl)
theorem dL_law_1196 : decode cL_law 1196 = .ok (.invokevirtual 210, 3) := dk_182 0 210 (dk_at dksL_law_44 2 rfl rfl)
theorem dL_law_1199 : decode cL_law 1199 = .ok (.istore 7, 2) := dk_54 7 (dk_at dksL_law_44 5 rfl rfl)
theorem dL_law_1201 : decode cL_law 1201 = .ok (.aload_n 2, 1) := dk_44 (dk_at dksL_law_44 7 rfl rfl)
theorem dL_law_1202 : decode cL_law 1202 = .ok (.invokevirtual 163, 3) := dk_182 0 163 (dk_at dksL_law_44 8 rfl rfl)
theorem dL_law_1205 : decode cL_law 1205 = .ok (.iload 6, 2) := dk_21 6 (dk_at dksL_law_44 11 rfl rfl)
theorem dL_law_1207 : decode cL_law 1207 = .ok (.if_icmp .eq 5, 3) := dk_159 0 5 (dk_at dksL_law_44 13 rfl rfl)
theorem dL_law_1210 : decode cL_law 1210 = .ok (.iconst 0, 1) := dk_3 (dk_at dksL_law_44 16 rfl rfl)
theorem dL_law_1211 : decode cL_law 1211 = .ok (.ireturn, 1) := dk_172 (dk_at dksL_law_44 17 rfl rfl)
theorem dL_law_1212 : decode cL_law 1212 = .ok (.iload 6, 2) := dk_21 6 (dk_at dksL_law_44 18 rfl rfl)
theorem dL_law_1214 : decode cL_law 1214 = .ok (.ifCond .ne 15, 3) := dk_154 0 15 (dk_at dksL_law_44 20 rfl rfl)
theorem dL_law_1217 : decode cL_law 1217 = .ok (.aload_n 3, 1) := dk_45 (dk_at dksL_law_44 23 rfl rfl)
theorem dL_law_1218 : decode cL_law 1218 = .ok (.iconst 0, 1) := dk_3 (dk_at dksL_law_45 0 rfl rfl)
theorem dL_law_1219 : decode cL_law 1219 = .ok (.laload, 1) := dk_47 (dk_at dksL_law_45 1 rfl rfl)
theorem dL_law_1220 : decode cL_law 1220 = .ok (.iload 7, 2) := dk_21 7 (dk_at dksL_law_45 2 rfl rfl)
theorem dL_law_1222 : decode cL_law 1222 = .ok (.i2l, 1) := dk_133 (dk_at dksL_law_45 4 rfl rfl)
theorem dL_law_1223 : decode cL_law 1223 = .ok (.lcmp, 1) := dk_148 (dk_at dksL_law_45 5 rfl rfl)
theorem dL_law_1224 : decode cL_law 1224 = .ok (.ifCond .eq 5, 3) := dk_153 0 5 (dk_at dksL_law_45 6 rfl rfl)
theorem dL_law_1227 : decode cL_law 1227 = .ok (.iconst 0, 1) := dk_3 (dk_at dksL_law_45 9 rfl rfl)
theorem dL_law_1228 : decode cL_law 1228 = .ok (.ireturn, 1) := dk_172 (dk_at dksL_law_45 10 rfl rfl)
theorem dL_law_1229 : decode cL_law 1229 = .ok (.goto 1554, 3) := dk_167 6 18 (dk_at dksL_law_45 11 rfl rfl)
theorem dL_law_1232 : decode cL_law 1232 = .ok (.aload_n 1, 1) := dk_43 (dk_at dksL_law_45 14 rfl rfl)
theorem dL_law_1233 : decode cL_law 1233 = .ok (.aload_n 0, 1) := dk_42 (dk_at dksL_law_45 15 rfl rfl)
theorem dL_law_1234 : decode cL_law 1234 = .ok (.iload 5, 2) := dk_21 5 (dk_at dksL_law_45 16 rfl rfl)
theorem dL_law_1236 : decode cL_law 1236 = .ok (.iconst 1, 1) := dk_4 (dk_at dksL_law_45 18 rfl rfl)
theorem dL_law_1237 : decode cL_law 1237 = .ok (.iadd, 1) := dk_96 (dk_at dksL_law_45 19 rfl rfl)
theorem dL_law_1238 : decode cL_law 1238 = .ok (.iaload, 1) := dk_46 (dk_at dksL_law_45 20 rfl rfl)
theorem dL_law_1239 : decode cL_law 1239 = .ok (.aload_n 3, 1) := dk_45 (dk_at dksL_law_45 21 rfl rfl)
theorem dL_law_1240 : decode cL_law 1240 = .ok (.invokestatic 211, 3) := dk_184 0 211 (dk_at dksL_law_46 0 rfl rfl)
theorem dL_law_1243 : decode cL_law 1243 = .ok (.istore 6, 2) := dk_54 6 (dk_at dksL_law_46 3 rfl rfl)
theorem dL_law_1245 : decode cL_law 1245 = .ok (.aload_n 2, 1) := dk_44 (dk_at dksL_law_46 5 rfl rfl)
theorem dL_law_1246 : decode cL_law 1246 = .ok (.aload_n 0, 1) := dk_42 (dk_at dksL_law_46 6 rfl rfl)
theorem dL_law_1247 : decode cL_law 1247 = .ok (.iload 5, 2) := dk_21 5 (dk_at dksL_law_46 7 rfl rfl)
theorem dL_law_1249 : decode cL_law 1249 = .ok (.iconst 1, 1) := dk_4 (dk_at dksL_law_46 9 rfl rfl)
theorem dL_law_1250 : decode cL_law 1250 = .ok (.iadd, 1) := dk_96 (dk_at dksL_law_46 10 rfl rfl)
theorem dL_law_1251 : decode cL_law 1251 = .ok (.iaload, 1) := dk_46 (dk_at dksL_law_46 11 rfl rfl)
theorem dL_law_1252 : decode cL_law 1252 = .ok (.invokevirtual 213, 3) := dk_182 0 213 (dk_at dksL_law_46 12 rfl rfl)
theorem dL_law_1255 : decode cL_law 1255 = .ok (.istore 7, 2) := dk_54 7 (dk_at dksL_law_46 15 rfl rfl)
theorem dL_law_1257 : decode cL_law 1257 = .ok (.aload_n 2, 1) := dk_44 (dk_at dksL_law_46 17 rfl rfl)
theorem dL_law_1258 : decode cL_law 1258 = .ok (.invokevirtual 163, 3) := dk_182 0 163 (dk_at dksL_law_46 18 rfl rfl)
theorem dL_law_1261 : decode cL_law 1261 = .ok (.iload 6, 2) := dk_21 6 (dk_at dksL_law_46 21 rfl rfl)
theorem dL_law_1263 : decode cL_law 1263 = .ok (.if_icmp .eq 5, 3) := dk_159 0 5 (dk_at dksL_law_47 0 rfl rfl)
theorem dL_law_1266 : decode cL_law 1266 = .ok (.iconst 0, 1) := dk_3 (dk_at dksL_law_47 3 rfl rfl)
theorem dL_law_1267 : decode cL_law 1267 = .ok (.ireturn, 1) := dk_172 (dk_at dksL_law_47 4 rfl rfl)
theorem dL_law_1268 : decode cL_law 1268 = .ok (.iload 6, 2) := dk_21 6 (dk_at dksL_law_47 5 rfl rfl)
theorem dL_law_1270 : decode cL_law 1270 = .ok (.ifCond .ne 15, 3) := dk_154 0 15 (dk_at dksL_law_47 7 rfl rfl)
theorem dL_law_1273 : decode cL_law 1273 = .ok (.aload_n 3, 1) := dk_45 (dk_at dksL_law_47 10 rfl rfl)
theorem dL_law_1274 : decode cL_law 1274 = .ok (.iconst 0, 1) := dk_3 (dk_at dksL_law_47 11 rfl rfl)
theorem dL_law_1275 : decode cL_law 1275 = .ok (.laload, 1) := dk_47 (dk_at dksL_law_47 12 rfl rfl)
theorem dL_law_1276 : decode cL_law 1276 = .ok (.iload 7, 2) := dk_21 7 (dk_at dksL_law_47 13 rfl rfl)
theorem dL_law_1278 : decode cL_law 1278 = .ok (.i2l, 1) := dk_133 (dk_at dksL_law_47 15 rfl rfl)
theorem dL_law_1279 : decode cL_law 1279 = .ok (.lcmp, 1) := dk_148 (dk_at dksL_law_47 16 rfl rfl)
theorem dL_law_1280 : decode cL_law 1280 = .ok (.ifCond .eq 5, 3) := dk_153 0 5 (dk_at dksL_law_47 17 rfl rfl)
theorem dL_law_1283 : decode cL_law 1283 = .ok (.iconst 0, 1) := dk_3 (dk_at dksL_law_47 20 rfl rfl)
theorem dL_law_1284 : decode cL_law 1284 = .ok (.ireturn, 1) := dk_172 (dk_at dksL_law_47 21 rfl rfl)
theorem dL_law_1285 : decode cL_law 1285 = .ok (.goto 1498, 3) := dk_167 5 218 (dk_at dksL_law_48 0 rfl rfl)
theorem dL_law_1288 : decode cL_law 1288 = .ok (.aload_n 1, 1) := dk_43 (dk_at dksL_law_48 3 rfl rfl)
theorem dL_law_1289 : decode cL_law 1289 = .ok (.aload_n 0, 1) := dk_42 (dk_at dksL_law_48 4 rfl rfl)
theorem dL_law_1290 : decode cL_law 1290 = .ok (.iload 5, 2) := dk_21 5 (dk_at dksL_law_48 5 rfl rfl)
theorem dL_law_1292 : decode cL_law 1292 = .ok (.iconst 1, 1) := dk_4 (dk_at dksL_law_48 7 rfl rfl)
theorem dL_law_1293 : decode cL_law 1293 = .ok (.iadd, 1) := dk_96 (dk_at dksL_law_48 8 rfl rfl)
theorem dL_law_1294 : decode cL_law 1294 = .ok (.iaload, 1) := dk_46 (dk_at dksL_law_48 9 rfl rfl)
theorem dL_law_1295 : decode cL_law 1295 = .ok (.aload_n 0, 1) := dk_42 (dk_at dksL_law_48 10 rfl rfl)
theorem dL_law_1296 : decode cL_law 1296 = .ok (.iload 5, 2) := dk_21 5 (dk_at dksL_law_48 11 rfl rfl)
theorem dL_law_1298 : decode cL_law 1298 = .ok (.iconst 2, 1) := dk_5 (dk_at dksL_law_48 13 rfl rfl)
theorem dL_law_1299 : decode cL_law 1299 = .ok (.iadd, 1) := dk_96 (dk_at dksL_law_48 14 rfl rfl)
theorem dL_law_1300 : decode cL_law 1300 = .ok (.iaload, 1) := dk_46 (dk_at dksL_law_48 15 rfl rfl)
theorem dL_law_1301 : decode cL_law 1301 = .ok (.aload_n 0, 1) := dk_42 (dk_at dksL_law_48 16 rfl rfl)
theorem dL_law_1302 : decode cL_law 1302 = .ok (.iload 5, 2) := dk_21 5 (dk_at dksL_law_48 17 rfl rfl)
theorem dL_law_1304 : decode cL_law 1304 = .ok (.iconst 3, 1) := dk_6 (dk_at dksL_law_48 19 rfl rfl)
theorem dL_law_1305 : decode cL_law 1305 = .ok (.iadd, 1) := dk_96 (dk_at dksL_law_48 20 rfl rfl)
theorem dL_law_1306 : decode cL_law 1306 = .ok (.iaload, 1) := dk_46 (dk_at dksL_law_48 21 rfl rfl)
theorem dL_law_1307 : decode cL_law 1307 = .ok (.aload_n 3, 1) := dk_45 (dk_at dksL_law_48 22 rfl rfl)
theorem dL_law_1308 : decode cL_law 1308 = .ok (.invokestatic 214, 3) := dk_184 0 214 (dk_at dksL_law_49 0 rfl rfl)
theorem dL_law_1311 : decode cL_law 1311 = .ok (.istore 6, 2) := dk_54 6 (dk_at dksL_law_49 3 rfl rfl)
theorem dL_law_1313 : decode cL_law 1313 = .ok (.aload_n 2, 1) := dk_44 (dk_at dksL_law_49 5 rfl rfl)
theorem dL_law_1314 : decode cL_law 1314 = .ok (.aload_n 0, 1) := dk_42 (dk_at dksL_law_49 6 rfl rfl)
theorem dL_law_1315 : decode cL_law 1315 = .ok (.iload 5, 2) := dk_21 5 (dk_at dksL_law_49 7 rfl rfl)
theorem dL_law_1317 : decode cL_law 1317 = .ok (.iconst 1, 1) := dk_4 (dk_at dksL_law_49 9 rfl rfl)
theorem dL_law_1318 : decode cL_law 1318 = .ok (.iadd, 1) := dk_96 (dk_at dksL_law_49 10 rfl rfl)
theorem dL_law_1319 : decode cL_law 1319 = .ok (.iaload, 1) := dk_46 (dk_at dksL_law_49 11 rfl rfl)
theorem dL_law_1320 : decode cL_law 1320 = .ok (.aload_n 0, 1) := dk_42 (dk_at dksL_law_49 12 rfl rfl)
theorem dL_law_1321 : decode cL_law 1321 = .ok (.iload 5, 2) := dk_21 5 (dk_at dksL_law_49 13 rfl rfl)
theorem dL_law_1323 : decode cL_law 1323 = .ok (.iconst 2, 1) := dk_5 (dk_at dksL_law_49 15 rfl rfl)
theorem dL_law_1324 : decode cL_law 1324 = .ok (.iadd, 1) := dk_96 (dk_at dksL_law_49 16 rfl rfl)
theorem dL_law_1325 : decode cL_law 1325 = .ok (.iaload, 1) := dk_46 (dk_at dksL_law_49 17 rfl rfl)
theorem dL_law_1326 : decode cL_law 1326 = .ok (.aload_n 0, 1) := dk_42 (dk_at dksL_law_49 18 rfl rfl)
theorem dL_law_1327 : decode cL_law 1327 = .ok (.iload 5, 2) := dk_21 5 (dk_at dksL_law_49 19 rfl rfl)
theorem dL_law_1329 : decode cL_law 1329 = .ok (.iconst 3, 1) := dk_6 (dk_at dksL_law_49 21 rfl rfl)
theorem dL_law_1330 : decode cL_law 1330 = .ok (.iadd, 1) := dk_96 (dk_at dksL_law_49 22 rfl rfl)
theorem dL_law_1331 : decode cL_law 1331 = .ok (.iaload, 1) := dk_46 (dk_at dksL_law_49 23 rfl rfl)
theorem dL_law_1332 : decode cL_law 1332 = .ok (.invokevirtual 216, 3) := dk_182 0 216 (dk_at dksL_law_50 0 rfl rfl)
theorem dL_law_1335 : decode cL_law 1335 = .ok (.istore 7, 2) := dk_54 7 (dk_at dksL_law_50 3 rfl rfl)
theorem dL_law_1337 : decode cL_law 1337 = .ok (.aload_n 2, 1) := dk_44 (dk_at dksL_law_50 5 rfl rfl)
theorem dL_law_1338 : decode cL_law 1338 = .ok (.invokevirtual 163, 3) := dk_182 0 163 (dk_at dksL_law_50 6 rfl rfl)
theorem dL_law_1341 : decode cL_law 1341 = .ok (.iload 6, 2) := dk_21 6 (dk_at dksL_law_50 9 rfl rfl)
theorem dL_law_1343 : decode cL_law 1343 = .ok (.if_icmp .eq 5, 3) := dk_159 0 5 (dk_at dksL_law_50 11 rfl rfl)
theorem dL_law_1346 : decode cL_law 1346 = .ok (.iconst 0, 1) := dk_3 (dk_at dksL_law_50 14 rfl rfl)
theorem dL_law_1347 : decode cL_law 1347 = .ok (.ireturn, 1) := dk_172 (dk_at dksL_law_50 15 rfl rfl)
theorem dL_law_1348 : decode cL_law 1348 = .ok (.iload 6, 2) := dk_21 6 (dk_at dksL_law_50 16 rfl rfl)
theorem dL_law_1350 : decode cL_law 1350 = .ok (.ifCond .ne 15, 3) := dk_154 0 15 (dk_at dksL_law_50 18 rfl rfl)
theorem dL_law_1353 : decode cL_law 1353 = .ok (.aload_n 3, 1) := dk_45 (dk_at dksL_law_50 21 rfl rfl)
theorem dL_law_1354 : decode cL_law 1354 = .ok (.iconst 0, 1) := dk_3 (dk_at dksL_law_50 22 rfl rfl)
theorem dL_law_1355 : decode cL_law 1355 = .ok (.laload, 1) := dk_47 (dk_at dksL_law_50 23 rfl rfl)
theorem dL_law_1356 : decode cL_law 1356 = .ok (.iload 7, 2) := dk_21 7 (dk_at dksL_law_51 0 rfl rfl)
theorem dL_law_1358 : decode cL_law 1358 = .ok (.i2l, 1) := dk_133 (dk_at dksL_law_51 2 rfl rfl)
theorem dL_law_1359 : decode cL_law 1359 = .ok (.lcmp, 1) := dk_148 (dk_at dksL_law_51 3 rfl rfl)
theorem dL_law_1360 : decode cL_law 1360 = .ok (.ifCond .eq 5, 3) := dk_153 0 5 (dk_at dksL_law_51 4 rfl rfl)
theorem dL_law_1363 : decode cL_law 1363 = .ok (.iconst 0, 1) := dk_3 (dk_at dksL_law_51 7 rfl rfl)
theorem dL_law_1364 : decode cL_law 1364 = .ok (.ireturn, 1) := dk_172 (dk_at dksL_law_51 8 rfl rfl)
theorem dL_law_1365 : decode cL_law 1365 = .ok (.goto 1418, 3) := dk_167 5 138 (dk_at dksL_law_51 9 rfl rfl)
theorem dL_law_1368 : decode cL_law 1368 = .ok (.aload_n 1, 1) := dk_43 (dk_at dksL_law_51 12 rfl rfl)
theorem dL_law_1369 : decode cL_law 1369 = .ok (.aload_n 0, 1) := dk_42 (dk_at dksL_law_51 13 rfl rfl)
theorem dL_law_1370 : decode cL_law 1370 = .ok (.iload 5, 2) := dk_21 5 (dk_at dksL_law_51 14 rfl rfl)
theorem dL_law_1372 : decode cL_law 1372 = .ok (.iconst 1, 1) := dk_4 (dk_at dksL_law_51 16 rfl rfl)
theorem dL_law_1373 : decode cL_law 1373 = .ok (.iadd, 1) := dk_96 (dk_at dksL_law_51 17 rfl rfl)
theorem dL_law_1374 : decode cL_law 1374 = .ok (.iaload, 1) := dk_46 (dk_at dksL_law_51 18 rfl rfl)
theorem dL_law_1375 : decode cL_law 1375 = .ok (.aload_n 3, 1) := dk_45 (dk_at dksL_law_51 19 rfl rfl)
theorem dL_law_1376 : decode cL_law 1376 = .ok (.invokestatic 217, 3) := dk_184 0 217 (dk_at dksL_law_51 20 rfl rfl)
theorem dL_law_1379 : decode cL_law 1379 = .ok (.istore 6, 2) := dk_54 6 (dk_at dksL_law_52 0 rfl rfl)
theorem dL_law_1381 : decode cL_law 1381 = .ok (.aload_n 2, 1) := dk_44 (dk_at dksL_law_52 2 rfl rfl)
theorem dL_law_1382 : decode cL_law 1382 = .ok (.aload_n 0, 1) := dk_42 (dk_at dksL_law_52 3 rfl rfl)
theorem dL_law_1383 : decode cL_law 1383 = .ok (.iload 5, 2) := dk_21 5 (dk_at dksL_law_52 4 rfl rfl)
theorem dL_law_1385 : decode cL_law 1385 = .ok (.iconst 1, 1) := dk_4 (dk_at dksL_law_52 6 rfl rfl)
theorem dL_law_1386 : decode cL_law 1386 = .ok (.iadd, 1) := dk_96 (dk_at dksL_law_52 7 rfl rfl)
theorem dL_law_1387 : decode cL_law 1387 = .ok (.iaload, 1) := dk_46 (dk_at dksL_law_52 8 rfl rfl)
theorem dL_law_1388 : decode cL_law 1388 = .ok (.invokevirtual 219, 3) := dk_182 0 219 (dk_at dksL_law_52 9 rfl rfl)
theorem dL_law_1391 : decode cL_law 1391 = .ok (.istore 7, 2) := dk_54 7 (dk_at dksL_law_52 12 rfl rfl)
theorem dL_law_1393 : decode cL_law 1393 = .ok (.aload_n 2, 1) := dk_44 (dk_at dksL_law_52 14 rfl rfl)
theorem dL_law_1394 : decode cL_law 1394 = .ok (.invokevirtual 163, 3) := dk_182 0 163 (dk_at dksL_law_52 15 rfl rfl)
theorem dL_law_1397 : decode cL_law 1397 = .ok (.iload 6, 2) := dk_21 6 (dk_at dksL_law_52 18 rfl rfl)
theorem dL_law_1399 : decode cL_law 1399 = .ok (.if_icmp .eq 5, 3) := dk_159 0 5 (dk_at dksL_law_52 20 rfl rfl)
theorem dL_law_1402 : decode cL_law 1402 = .ok (.iconst 0, 1) := dk_3 (dk_at dksL_law_52 23 rfl rfl)
theorem dL_law_1403 : decode cL_law 1403 = .ok (.ireturn, 1) := dk_172 (dk_at dksL_law_53 0 rfl rfl)
theorem dL_law_1404 : decode cL_law 1404 = .ok (.iload 6, 2) := dk_21 6 (dk_at dksL_law_53 1 rfl rfl)
theorem dL_law_1406 : decode cL_law 1406 = .ok (.ifCond .ne 15, 3) := dk_154 0 15 (dk_at dksL_law_53 3 rfl rfl)
theorem dL_law_1409 : decode cL_law 1409 = .ok (.aload_n 3, 1) := dk_45 (dk_at dksL_law_53 6 rfl rfl)
theorem dL_law_1410 : decode cL_law 1410 = .ok (.iconst 0, 1) := dk_3 (dk_at dksL_law_53 7 rfl rfl)
theorem dL_law_1411 : decode cL_law 1411 = .ok (.laload, 1) := dk_47 (dk_at dksL_law_53 8 rfl rfl)
theorem dL_law_1412 : decode cL_law 1412 = .ok (.iload 7, 2) := dk_21 7 (dk_at dksL_law_53 9 rfl rfl)
theorem dL_law_1414 : decode cL_law 1414 = .ok (.i2l, 1) := dk_133 (dk_at dksL_law_53 11 rfl rfl)
theorem dL_law_1415 : decode cL_law 1415 = .ok (.lcmp, 1) := dk_148 (dk_at dksL_law_53 12 rfl rfl)
theorem dL_law_1416 : decode cL_law 1416 = .ok (.ifCond .eq 5, 3) := dk_153 0 5 (dk_at dksL_law_53 13 rfl rfl)
theorem dL_law_1419 : decode cL_law 1419 = .ok (.iconst 0, 1) := dk_3 (dk_at dksL_law_53 16 rfl rfl)
theorem dL_law_1420 : decode cL_law 1420 = .ok (.ireturn, 1) := dk_172 (dk_at dksL_law_53 17 rfl rfl)
theorem dL_law_1421 : decode cL_law 1421 = .ok (.goto 1362, 3) := dk_167 5 82 (dk_at dksL_law_53 18 rfl rfl)
theorem dL_law_1424 : decode cL_law 1424 = .ok (.aload_n 1, 1) := dk_43 (dk_at dksL_law_53 21 rfl rfl)
theorem dL_law_1425 : decode cL_law 1425 = .ok (.aload_n 0, 1) := dk_42 (dk_at dksL_law_53 22 rfl rfl)
theorem dL_law_1426 : decode cL_law 1426 = .ok (.iload 5, 2) := dk_21 5 (dk_at dksL_law_54 0 rfl rfl)
theorem dL_law_1428 : decode cL_law 1428 = .ok (.iconst 1, 1) := dk_4 (dk_at dksL_law_54 2 rfl rfl)
theorem dL_law_1429 : decode cL_law 1429 = .ok (.iadd, 1) := dk_96 (dk_at dksL_law_54 3 rfl rfl)
theorem dL_law_1430 : decode cL_law 1430 = .ok (.iaload, 1) := dk_46 (dk_at dksL_law_54 4 rfl rfl)
theorem dL_law_1431 : decode cL_law 1431 = .ok (.aload_n 3, 1) := dk_45 (dk_at dksL_law_54 5 rfl rfl)
theorem dL_law_1432 : decode cL_law 1432 = .ok (.invokestatic 220, 3) := dk_184 0 220 (dk_at dksL_law_54 6 rfl rfl)
theorem dL_law_1435 : decode cL_law 1435 = .ok (.istore 6, 2) := dk_54 6 (dk_at dksL_law_54 9 rfl rfl)
theorem dL_law_1437 : decode cL_law 1437 = .ok (.aload_n 2, 1) := dk_44 (dk_at dksL_law_54 11 rfl rfl)
theorem dL_law_1438 : decode cL_law 1438 = .ok (.aload_n 0, 1) := dk_42 (dk_at dksL_law_54 12 rfl rfl)
theorem dL_law_1439 : decode cL_law 1439 = .ok (.iload 5, 2) := dk_21 5 (dk_at dksL_law_54 13 rfl rfl)
theorem dL_law_1441 : decode cL_law 1441 = .ok (.iconst 1, 1) := dk_4 (dk_at dksL_law_54 15 rfl rfl)
theorem dL_law_1442 : decode cL_law 1442 = .ok (.iadd, 1) := dk_96 (dk_at dksL_law_54 16 rfl rfl)
theorem dL_law_1443 : decode cL_law 1443 = .ok (.iaload, 1) := dk_46 (dk_at dksL_law_54 17 rfl rfl)
theorem dL_law_1444 : decode cL_law 1444 = .ok (.invokevirtual 222, 3) := dk_182 0 222 (dk_at dksL_law_54 18 rfl rfl)
theorem dL_law_1447 : decode cL_law 1447 = .ok (.istore 7, 2) := dk_54 7 (dk_at dksL_law_54 21 rfl rfl)
theorem dL_law_1449 : decode cL_law 1449 = .ok (.aload_n 2, 1) := dk_44 (dk_at dksL_law_54 23 rfl rfl)
theorem dL_law_1450 : decode cL_law 1450 = .ok (.invokevirtual 163, 3) := dk_182 0 163 (dk_at dksL_law_55 0 rfl rfl)
theorem dL_law_1453 : decode cL_law 1453 = .ok (.iload 6, 2) := dk_21 6 (dk_at dksL_law_55 3 rfl rfl)
theorem dL_law_1455 : decode cL_law 1455 = .ok (.if_icmp .eq 5, 3) := dk_159 0 5 (dk_at dksL_law_55 5 rfl rfl)
theorem dL_law_1458 : decode cL_law 1458 = .ok (.iconst 0, 1) := dk_3 (dk_at dksL_law_55 8 rfl rfl)
theorem dL_law_1459 : decode cL_law 1459 = .ok (.ireturn, 1) := dk_172 (dk_at dksL_law_55 9 rfl rfl)
theorem dL_law_1460 : decode cL_law 1460 = .ok (.iload 6, 2) := dk_21 6 (dk_at dksL_law_55 10 rfl rfl)
theorem dL_law_1462 : decode cL_law 1462 = .ok (.ifCond .ne 15, 3) := dk_154 0 15 (dk_at dksL_law_55 12 rfl rfl)
theorem dL_law_1465 : decode cL_law 1465 = .ok (.aload_n 3, 1) := dk_45 (dk_at dksL_law_55 15 rfl rfl)
theorem dL_law_1466 : decode cL_law 1466 = .ok (.iconst 0, 1) := dk_3 (dk_at dksL_law_55 16 rfl rfl)
theorem dL_law_1467 : decode cL_law 1467 = .ok (.laload, 1) := dk_47 (dk_at dksL_law_55 17 rfl rfl)
theorem dL_law_1468 : decode cL_law 1468 = .ok (.iload 7, 2) := dk_21 7 (dk_at dksL_law_55 18 rfl rfl)
theorem dL_law_1470 : decode cL_law 1470 = .ok (.i2l, 1) := dk_133 (dk_at dksL_law_55 20 rfl rfl)
theorem dL_law_1471 : decode cL_law 1471 = .ok (.lcmp, 1) := dk_148 (dk_at dksL_law_55 21 rfl rfl)
theorem dL_law_1472 : decode cL_law 1472 = .ok (.ifCond .eq 5, 3) := dk_153 0 5 (dk_at dksL_law_56 0 rfl rfl)
theorem dL_law_1475 : decode cL_law 1475 = .ok (.iconst 0, 1) := dk_3 (dk_at dksL_law_56 3 rfl rfl)
theorem dL_law_1476 : decode cL_law 1476 = .ok (.ireturn, 1) := dk_172 (dk_at dksL_law_56 4 rfl rfl)
theorem dL_law_1477 : decode cL_law 1477 = .ok (.goto 1306, 3) := dk_167 5 26 (dk_at dksL_law_56 5 rfl rfl)
theorem dL_law_1480 : decode cL_law 1480 = .ok (.aload_n 1, 1) := dk_43 (dk_at dksL_law_56 8 rfl rfl)
theorem dL_law_1481 : decode cL_law 1481 = .ok (.aload_n 0, 1) := dk_42 (dk_at dksL_law_56 9 rfl rfl)
theorem dL_law_1482 : decode cL_law 1482 = .ok (.iload 5, 2) := dk_21 5 (dk_at dksL_law_56 10 rfl rfl)
theorem dL_law_1484 : decode cL_law 1484 = .ok (.iconst 1, 1) := dk_4 (dk_at dksL_law_56 12 rfl rfl)
theorem dL_law_1485 : decode cL_law 1485 = .ok (.iadd, 1) := dk_96 (dk_at dksL_law_56 13 rfl rfl)
theorem dL_law_1486 : decode cL_law 1486 = .ok (.iaload, 1) := dk_46 (dk_at dksL_law_56 14 rfl rfl)
theorem dL_law_1487 : decode cL_law 1487 = .ok (.i2c, 1) := dk_146 (dk_at dksL_law_56 15 rfl rfl)
theorem dL_law_1488 : decode cL_law 1488 = .ok (.aload_n 3, 1) := dk_45 (dk_at dksL_law_56 16 rfl rfl)
theorem dL_law_1489 : decode cL_law 1489 = .ok (.invokestatic 223, 3) := dk_184 0 223 (dk_at dksL_law_56 17 rfl rfl)
theorem dL_law_1492 : decode cL_law 1492 = .ok (.istore 6, 2) := dk_54 6 (dk_at dksL_law_56 20 rfl rfl)
theorem dL_law_1494 : decode cL_law 1494 = .ok (.aload_n 2, 1) := dk_44 (dk_at dksL_law_56 22 rfl rfl)
theorem dL_law_1495 : decode cL_law 1495 = .ok (.aload_n 0, 1) := dk_42 (dk_at dksL_law_56 23 rfl rfl)
theorem dL_law_1496 : decode cL_law 1496 = .ok (.iload 5, 2) := dk_21 5 (dk_at dksL_law_57 0 rfl rfl)
theorem dL_law_1498 : decode cL_law 1498 = .ok (.iconst 1, 1) := dk_4 (dk_at dksL_law_57 2 rfl rfl)
theorem dL_law_1499 : decode cL_law 1499 = .ok (.iadd, 1) := dk_96 (dk_at dksL_law_57 3 rfl rfl)
theorem dL_law_1500 : decode cL_law 1500 = .ok (.iaload, 1) := dk_46 (dk_at dksL_law_57 4 rfl rfl)
theorem dL_law_1501 : decode cL_law 1501 = .ok (.i2c, 1) := dk_146 (dk_at dksL_law_57 5 rfl rfl)
theorem dL_law_1502 : decode cL_law 1502 = .ok (.invokevirtual 226, 3) := dk_182 0 226 (dk_at dksL_law_57 6 rfl rfl)
theorem dL_law_1505 : decode cL_law 1505 = .ok (.istore 7, 2) := dk_54 7 (dk_at dksL_law_57 9 rfl rfl)
theorem dL_law_1507 : decode cL_law 1507 = .ok (.aload_n 2, 1) := dk_44 (dk_at dksL_law_57 11 rfl rfl)
theorem dL_law_1508 : decode cL_law 1508 = .ok (.invokevirtual 163, 3) := dk_182 0 163 (dk_at dksL_law_57 12 rfl rfl)
theorem dL_law_1511 : decode cL_law 1511 = .ok (.iload 6, 2) := dk_21 6 (dk_at dksL_law_57 15 rfl rfl)
theorem dL_law_1513 : decode cL_law 1513 = .ok (.if_icmp .eq 5, 3) := dk_159 0 5 (dk_at dksL_law_57 17 rfl rfl)
theorem dL_law_1516 : decode cL_law 1516 = .ok (.iconst 0, 1) := dk_3 (dk_at dksL_law_57 20 rfl rfl)
theorem dL_law_1517 : decode cL_law 1517 = .ok (.ireturn, 1) := dk_172 (dk_at dksL_law_57 21 rfl rfl)
theorem dL_law_1518 : decode cL_law 1518 = .ok (.iload 6, 2) := dk_21 6 (dk_at dksL_law_57 22 rfl rfl)
theorem dL_law_1520 : decode cL_law 1520 = .ok (.ifCond .ne 15, 3) := dk_154 0 15 (dk_at dksL_law_58 0 rfl rfl)
theorem dL_law_1523 : decode cL_law 1523 = .ok (.aload_n 3, 1) := dk_45 (dk_at dksL_law_58 3 rfl rfl)
theorem dL_law_1524 : decode cL_law 1524 = .ok (.iconst 0, 1) := dk_3 (dk_at dksL_law_58 4 rfl rfl)
theorem dL_law_1525 : decode cL_law 1525 = .ok (.laload, 1) := dk_47 (dk_at dksL_law_58 5 rfl rfl)
theorem dL_law_1526 : decode cL_law 1526 = .ok (.iload 7, 2) := dk_21 7 (dk_at dksL_law_58 6 rfl rfl)
theorem dL_law_1528 : decode cL_law 1528 = .ok (.i2l, 1) := dk_133 (dk_at dksL_law_58 8 rfl rfl)
theorem dL_law_1529 : decode cL_law 1529 = .ok (.lcmp, 1) := dk_148 (dk_at dksL_law_58 9 rfl rfl)
theorem dL_law_1530 : decode cL_law 1530 = .ok (.ifCond .eq 5, 3) := dk_153 0 5 (dk_at dksL_law_58 10 rfl rfl)
theorem dL_law_1533 : decode cL_law 1533 = .ok (.iconst 0, 1) := dk_3 (dk_at dksL_law_58 13 rfl rfl)
theorem dL_law_1534 : decode cL_law 1534 = .ok (.ireturn, 1) := dk_172 (dk_at dksL_law_58 14 rfl rfl)
theorem dL_law_1535 : decode cL_law 1535 = .ok (.goto 1248, 3) := dk_167 4 224 (dk_at dksL_law_58 15 rfl rfl)
theorem dL_law_1538 : decode cL_law 1538 = .ok (.aload_n 1, 1) := dk_43 (dk_at dksL_law_58 18 rfl rfl)
theorem dL_law_1539 : decode cL_law 1539 = .ok (.aload_n 3, 1) := dk_45 (dk_at dksL_law_58 19 rfl rfl)
theorem dL_law_1540 : decode cL_law 1540 = .ok (.invokestatic 227, 3) := dk_184 0 227 (dk_at dksL_law_58 20 rfl rfl)
theorem dL_law_1543 : decode cL_law 1543 = .ok (.istore 6, 2) := dk_54 6 (dk_at dksL_law_59 0 rfl rfl)
theorem dL_law_1545 : decode cL_law 1545 = .ok (.aload_n 2, 1) := dk_44 (dk_at dksL_law_59 2 rfl rfl)
theorem dL_law_1546 : decode cL_law 1546 = .ok (.invokevirtual 230, 3) := dk_182 0 230 (dk_at dksL_law_59 3 rfl rfl)
theorem dL_law_1549 : decode cL_law 1549 = .ok (.istore 7, 2) := dk_54 7 (dk_at dksL_law_59 6 rfl rfl)
theorem dL_law_1551 : decode cL_law 1551 = .ok (.aload_n 2, 1) := dk_44 (dk_at dksL_law_59 8 rfl rfl)
theorem dL_law_1552 : decode cL_law 1552 = .ok (.invokevirtual 163, 3) := dk_182 0 163 (dk_at dksL_law_59 9 rfl rfl)
theorem dL_law_1555 : decode cL_law 1555 = .ok (.iload 6, 2) := dk_21 6 (dk_at dksL_law_59 12 rfl rfl)
theorem dL_law_1557 : decode cL_law 1557 = .ok (.if_icmp .eq 5, 3) := dk_159 0 5 (dk_at dksL_law_59 14 rfl rfl)
theorem dL_law_1560 : decode cL_law 1560 = .ok (.iconst 0, 1) := dk_3 (dk_at dksL_law_59 17 rfl rfl)
theorem dL_law_1561 : decode cL_law 1561 = .ok (.ireturn, 1) := dk_172 (dk_at dksL_law_59 18 rfl rfl)
theorem dL_law_1562 : decode cL_law 1562 = .ok (.iload 6, 2) := dk_21 6 (dk_at dksL_law_59 19 rfl rfl)
theorem dL_law_1564 : decode cL_law 1564 = .ok (.ifCond .ne 15, 3) := dk_154 0 15 (dk_at dksL_law_59 21 rfl rfl)
theorem dL_law_1567 : decode cL_law 1567 = .ok (.aload_n 3, 1) := dk_45 (dk_at dksL_law_60 0 rfl rfl)
theorem dL_law_1568 : decode cL_law 1568 = .ok (.iconst 0, 1) := dk_3 (dk_at dksL_law_60 1 rfl rfl)
theorem dL_law_1569 : decode cL_law 1569 = .ok (.laload, 1) := dk_47 (dk_at dksL_law_60 2 rfl rfl)
theorem dL_law_1570 : decode cL_law 1570 = .ok (.iload 7, 2) := dk_21 7 (dk_at dksL_law_60 3 rfl rfl)
theorem dL_law_1572 : decode cL_law 1572 = .ok (.i2l, 1) := dk_133 (dk_at dksL_law_60 5 rfl rfl)
theorem dL_law_1573 : decode cL_law 1573 = .ok (.lcmp, 1) := dk_148 (dk_at dksL_law_60 6 rfl rfl)
theorem dL_law_1574 : decode cL_law 1574 = .ok (.ifCond .eq 5, 3) := dk_153 0 5 (dk_at dksL_law_60 7 rfl rfl)
theorem dL_law_1577 : decode cL_law 1577 = .ok (.iconst 0, 1) := dk_3 (dk_at dksL_law_60 10 rfl rfl)
theorem dL_law_1578 : decode cL_law 1578 = .ok (.ireturn, 1) := dk_172 (dk_at dksL_law_60 11 rfl rfl)
theorem dL_law_1579 : decode cL_law 1579 = .ok (.goto 1204, 3) := dk_167 4 180 (dk_at dksL_law_60 12 rfl rfl)
theorem dL_law_1582 : decode cL_law 1582 = .ok (.aload_n 1, 1) := dk_43 (dk_at dksL_law_60 15 rfl rfl)
theorem dL_law_1583 : decode cL_law 1583 = .ok (.invokevirtual 231, 3) := dk_182 0 231 (dk_at dksL_law_60 16 rfl rfl)
theorem dL_law_1586 : decode cL_law 1586 = .ok (.aload_n 2, 1) := dk_44 (dk_at dksL_law_60 19 rfl rfl)
theorem dL_law_1587 : decode cL_law 1587 = .ok (.invokevirtual 234, 3) := dk_182 0 234 (dk_at dksL_law_60 20 rfl rfl)
theorem dL_law_1590 : decode cL_law 1590 = .ok (.if_icmp .eq 1193, 3) := dk_159 4 169 (dk_at dksL_law_61 0 rfl rfl)
theorem dL_law_1593 : decode cL_law 1593 = .ok (.iconst 0, 1) := dk_3 (dk_at dksL_law_61 3 rfl rfl)
theorem dL_law_1594 : decode cL_law 1594 = .ok (.ireturn, 1) := dk_172 (dk_at dksL_law_61 4 rfl rfl)
theorem dL_law_1595 : decode cL_law 1595 = .ok (.aload_n 1, 1) := dk_43 (dk_at dksL_law_61 5 rfl rfl)
theorem dL_law_1596 : decode cL_law 1596 = .ok (.aload_n 0, 1) := dk_42 (dk_at dksL_law_61 6 rfl rfl)
theorem dL_law_1597 : decode cL_law 1597 = .ok (.iload 5, 2) := dk_21 5 (dk_at dksL_law_61 7 rfl rfl)
theorem dL_law_1599 : decode cL_law 1599 = .ok (.iconst 1, 1) := dk_4 (dk_at dksL_law_61 9 rfl rfl)
theorem dL_law_1600 : decode cL_law 1600 = .ok (.iadd, 1) := dk_96 (dk_at dksL_law_61 10 rfl rfl)
theorem dL_law_1601 : decode cL_law 1601 = .ok (.iaload, 1) := dk_46 (dk_at dksL_law_61 11 rfl rfl)
theorem dL_law_1602 : decode cL_law 1602 = .ok (.aload_n 3, 1) := dk_45 (dk_at dksL_law_61 12 rfl rfl)
theorem dL_law_1603 : decode cL_law 1603 = .ok (.invokestatic 235, 3) := dk_184 0 235 (dk_at dksL_law_61 13 rfl rfl)
theorem dL_law_1606 : decode cL_law 1606 = .ok (.istore 6, 2) := dk_54 6 (dk_at dksL_law_61 16 rfl rfl)
theorem dL_law_1608 : decode cL_law 1608 = .ok (.aload_n 2, 1) := dk_44 (dk_at dksL_law_61 18 rfl rfl)
theorem dL_law_1609 : decode cL_law 1609 = .ok (.aload_n 0, 1) := dk_42 (dk_at dksL_law_61 19 rfl rfl)
theorem dL_law_1610 : decode cL_law 1610 = .ok (.iload 5, 2) := dk_21 5 (dk_at dksL_law_61 20 rfl rfl)
theorem dL_law_1612 : decode cL_law 1612 = .ok (.iconst 1, 1) := dk_4 (dk_at dksL_law_61 22 rfl rfl)
theorem dL_law_1613 : decode cL_law 1613 = .ok (.iadd, 1) := dk_96 (dk_at dksL_law_61 23 rfl rfl)
theorem dL_law_1614 : decode cL_law 1614 = .ok (.iaload, 1) := dk_46 (dk_at dksL_law_62 0 rfl rfl)
theorem dL_law_1615 : decode cL_law 1615 = .ok (.invokevirtual 237, 3) := dk_182 0 237 (dk_at dksL_law_62 1 rfl rfl)
theorem dL_law_1618 : decode cL_law 1618 = .ok (.istore 7, 2) := dk_54 7 (dk_at dksL_law_62 4 rfl rfl)
theorem dL_law_1620 : decode cL_law 1620 = .ok (.aload_n 2, 1) := dk_44 (dk_at dksL_law_62 6 rfl rfl)
theorem dL_law_1621 : decode cL_law 1621 = .ok (.invokevirtual 163, 3) := dk_182 0 163 (dk_at dksL_law_62 7 rfl rfl)
theorem dL_law_1624 : decode cL_law 1624 = .ok (.iload 6, 2) := dk_21 6 (dk_at dksL_law_62 10 rfl rfl)
theorem dL_law_1626 : decode cL_law 1626 = .ok (.if_icmp .eq 5, 3) := dk_159 0 5 (dk_at dksL_law_62 12 rfl rfl)
theorem dL_law_1629 : decode cL_law 1629 = .ok (.iconst 0, 1) := dk_3 (dk_at dksL_law_62 15 rfl rfl)
theorem dL_law_1630 : decode cL_law 1630 = .ok (.ireturn, 1) := dk_172 (dk_at dksL_law_62 16 rfl rfl)
theorem dL_law_1631 : decode cL_law 1631 = .ok (.iload 6, 2) := dk_21 6 (dk_at dksL_law_62 17 rfl rfl)
theorem dL_law_1633 : decode cL_law 1633 = .ok (.ifCond .ne 15, 3) := dk_154 0 15 (dk_at dksL_law_62 19 rfl rfl)
theorem dL_law_1636 : decode cL_law 1636 = .ok (.aload_n 3, 1) := dk_45 (dk_at dksL_law_62 22 rfl rfl)
theorem dL_law_1637 : decode cL_law 1637 = .ok (.iconst 0, 1) := dk_3 (dk_at dksL_law_62 23 rfl rfl)
theorem dL_law_1638 : decode cL_law 1638 = .ok (.laload, 1) := dk_47 (dk_at dksL_law_63 0 rfl rfl)
theorem dL_law_1639 : decode cL_law 1639 = .ok (.iload 7, 2) := dk_21 7 (dk_at dksL_law_63 1 rfl rfl)
theorem dL_law_1641 : decode cL_law 1641 = .ok (.i2l, 1) := dk_133 (dk_at dksL_law_63 3 rfl rfl)
theorem dL_law_1642 : decode cL_law 1642 = .ok (.lcmp, 1) := dk_148 (dk_at dksL_law_63 4 rfl rfl)
theorem dL_law_1643 : decode cL_law 1643 = .ok (.ifCond .eq 5, 3) := dk_153 0 5 (dk_at dksL_law_63 5 rfl rfl)
theorem dL_law_1646 : decode cL_law 1646 = .ok (.iconst 0, 1) := dk_3 (dk_at dksL_law_63 8 rfl rfl)
theorem dL_law_1647 : decode cL_law 1647 = .ok (.ireturn, 1) := dk_172 (dk_at dksL_law_63 9 rfl rfl)
theorem dL_law_1648 : decode cL_law 1648 = .ok (.goto 1135, 3) := dk_167 4 111 (dk_at dksL_law_63 10 rfl rfl)
theorem dL_law_1651 : decode cL_law 1651 = .ok (.aload_n 1, 1) := dk_43 (dk_at dksL_law_63 13 rfl rfl)
theorem dL_law_1652 : decode cL_law 1652 = .ok (.aload_n 0, 1) := dk_42 (dk_at dksL_law_63 14 rfl rfl)
theorem dL_law_1653 : decode cL_law 1653 = .ok (.iload 5, 2) := dk_21 5 (dk_at dksL_law_63 15 rfl rfl)
theorem dL_law_1655 : decode cL_law 1655 = .ok (.iconst 1, 1) := dk_4 (dk_at dksL_law_63 17 rfl rfl)
theorem dL_law_1656 : decode cL_law 1656 = .ok (.iadd, 1) := dk_96 (dk_at dksL_law_63 18 rfl rfl)
theorem dL_law_1657 : decode cL_law 1657 = .ok (.iaload, 1) := dk_46 (dk_at dksL_law_63 19 rfl rfl)
theorem dL_law_1658 : decode cL_law 1658 = .ok (.aload_n 0, 1) := dk_42 (dk_at dksL_law_63 20 rfl rfl)
theorem dL_law_1659 : decode cL_law 1659 = .ok (.iload 5, 2) := dk_21 5 (dk_at dksL_law_63 21 rfl rfl)
theorem dL_law_1661 : decode cL_law 1661 = .ok (.iconst 2, 1) := dk_5 (dk_at dksL_law_63 23 rfl rfl)
theorem dL_law_1662 : decode cL_law 1662 = .ok (.iadd, 1) := dk_96 (dk_at dksL_law_64 0 rfl rfl)
theorem dL_law_1663 : decode cL_law 1663 = .ok (.iaload, 1) := dk_46 (dk_at dksL_law_64 1 rfl rfl)
theorem dL_law_1664 : decode cL_law 1664 = .ok (.aload_n 3, 1) := dk_45 (dk_at dksL_law_64 2 rfl rfl)
theorem dL_law_1665 : decode cL_law 1665 = .ok (.invokestatic 238, 3) := dk_184 0 238 (dk_at dksL_law_64 3 rfl rfl)
theorem dL_law_1668 : decode cL_law 1668 = .ok (.istore 6, 2) := dk_54 6 (dk_at dksL_law_64 6 rfl rfl)
theorem dL_law_1670 : decode cL_law 1670 = .ok (.aload_n 2, 1) := dk_44 (dk_at dksL_law_64 8 rfl rfl)
theorem dL_law_1671 : decode cL_law 1671 = .ok (.aload_n 0, 1) := dk_42 (dk_at dksL_law_64 9 rfl rfl)
theorem dL_law_1672 : decode cL_law 1672 = .ok (.iload 5, 2) := dk_21 5 (dk_at dksL_law_64 10 rfl rfl)
theorem dL_law_1674 : decode cL_law 1674 = .ok (.iconst 1, 1) := dk_4 (dk_at dksL_law_64 12 rfl rfl)
theorem dL_law_1675 : decode cL_law 1675 = .ok (.iadd, 1) := dk_96 (dk_at dksL_law_64 13 rfl rfl)
theorem dL_law_1676 : decode cL_law 1676 = .ok (.iaload, 1) := dk_46 (dk_at dksL_law_64 14 rfl rfl)
theorem dL_law_1677 : decode cL_law 1677 = .ok (.aload_n 0, 1) := dk_42 (dk_at dksL_law_64 15 rfl rfl)
theorem dL_law_1678 : decode cL_law 1678 = .ok (.iload 5, 2) := dk_21 5 (dk_at dksL_law_64 16 rfl rfl)
theorem dL_law_1680 : decode cL_law 1680 = .ok (.iconst 2, 1) := dk_5 (dk_at dksL_law_64 18 rfl rfl)
theorem dL_law_1681 : decode cL_law 1681 = .ok (.iadd, 1) := dk_96 (dk_at dksL_law_64 19 rfl rfl)
theorem dL_law_1682 : decode cL_law 1682 = .ok (.iaload, 1) := dk_46 (dk_at dksL_law_64 20 rfl rfl)
theorem dL_law_1683 : decode cL_law 1683 = .ok (.invokevirtual 240, 3) := dk_182 0 240 (dk_at dksL_law_64 21 rfl rfl)
theorem dL_law_1686 : decode cL_law 1686 = .ok (.istore 7, 2) := dk_54 7 (dk_at dksL_law_65 0 rfl rfl)
theorem dL_law_1688 : decode cL_law 1688 = .ok (.aload_n 2, 1) := dk_44 (dk_at dksL_law_65 2 rfl rfl)
theorem dL_law_1689 : decode cL_law 1689 = .ok (.invokevirtual 163, 3) := dk_182 0 163 (dk_at dksL_law_65 3 rfl rfl)
theorem dL_law_1692 : decode cL_law 1692 = .ok (.iload 6, 2) := dk_21 6 (dk_at dksL_law_65 6 rfl rfl)
theorem dL_law_1694 : decode cL_law 1694 = .ok (.if_icmp .eq 5, 3) := dk_159 0 5 (dk_at dksL_law_65 8 rfl rfl)
theorem dL_law_1697 : decode cL_law 1697 = .ok (.iconst 0, 1) := dk_3 (dk_at dksL_law_65 11 rfl rfl)
theorem dL_law_1698 : decode cL_law 1698 = .ok (.ireturn, 1) := dk_172 (dk_at dksL_law_65 12 rfl rfl)
theorem dL_law_1699 : decode cL_law 1699 = .ok (.iload 6, 2) := dk_21 6 (dk_at dksL_law_65 13 rfl rfl)
theorem dL_law_1701 : decode cL_law 1701 = .ok (.ifCond .ne 15, 3) := dk_154 0 15 (dk_at dksL_law_65 15 rfl rfl)
theorem dL_law_1704 : decode cL_law 1704 = .ok (.aload_n 3, 1) := dk_45 (dk_at dksL_law_65 18 rfl rfl)
theorem dL_law_1705 : decode cL_law 1705 = .ok (.iconst 0, 1) := dk_3 (dk_at dksL_law_65 19 rfl rfl)
theorem dL_law_1706 : decode cL_law 1706 = .ok (.laload, 1) := dk_47 (dk_at dksL_law_65 20 rfl rfl)
theorem dL_law_1707 : decode cL_law 1707 = .ok (.iload 7, 2) := dk_21 7 (dk_at dksL_law_65 21 rfl rfl)
theorem dL_law_1709 : decode cL_law 1709 = .ok (.i2l, 1) := dk_133 (dk_at dksL_law_65 23 rfl rfl)
theorem dL_law_1710 : decode cL_law 1710 = .ok (.lcmp, 1) := dk_148 (dk_at dksL_law_66 0 rfl rfl)
theorem dL_law_1711 : decode cL_law 1711 = .ok (.ifCond .eq 5, 3) := dk_153 0 5 (dk_at dksL_law_66 1 rfl rfl)
theorem dL_law_1714 : decode cL_law 1714 = .ok (.iconst 0, 1) := dk_3 (dk_at dksL_law_66 4 rfl rfl)
theorem dL_law_1715 : decode cL_law 1715 = .ok (.ireturn, 1) := dk_172 (dk_at dksL_law_66 5 rfl rfl)
theorem dL_law_1716 : decode cL_law 1716 = .ok (.goto 1067, 3) := dk_167 4 43 (dk_at dksL_law_66 6 rfl rfl)
theorem dL_law_1719 : decode cL_law 1719 = .ok (.aload_n 1, 1) := dk_43 (dk_at dksL_law_66 9 rfl rfl)
theorem dL_law_1720 : decode cL_law 1720 = .ok (.aload_n 0, 1) := dk_42 (dk_at dksL_law_66 10 rfl rfl)
theorem dL_law_1721 : decode cL_law 1721 = .ok (.iload 5, 2) := dk_21 5 (dk_at dksL_law_66 11 rfl rfl)
theorem dL_law_1723 : decode cL_law 1723 = .ok (.iconst 1, 1) := dk_4 (dk_at dksL_law_66 13 rfl rfl)
theorem dL_law_1724 : decode cL_law 1724 = .ok (.iadd, 1) := dk_96 (dk_at dksL_law_66 14 rfl rfl)
theorem dL_law_1725 : decode cL_law 1725 = .ok (.iaload, 1) := dk_46 (dk_at dksL_law_66 15 rfl rfl)
theorem dL_law_1726 : decode cL_law 1726 = .ok (.aload_n 0, 1) := dk_42 (dk_at dksL_law_66 16 rfl rfl)
theorem dL_law_1727 : decode cL_law 1727 = .ok (.iload 5, 2) := dk_21 5 (dk_at dksL_law_66 17 rfl rfl)
theorem dL_law_1729 : decode cL_law 1729 = .ok (.iconst 2, 1) := dk_5 (dk_at dksL_law_66 19 rfl rfl)
theorem dL_law_1730 : decode cL_law 1730 = .ok (.iadd, 1) := dk_96 (dk_at dksL_law_66 20 rfl rfl)
theorem dL_law_1731 : decode cL_law 1731 = .ok (.iaload, 1) := dk_46 (dk_at dksL_law_66 21 rfl rfl)
theorem dL_law_1732 : decode cL_law 1732 = .ok (.aload_n 3, 1) := dk_45 (dk_at dksL_law_66 22 rfl rfl)
theorem dL_law_1733 : decode cL_law 1733 = .ok (.invokestatic 241, 3) := dk_184 0 241 (dk_at dksL_law_67 0 rfl rfl)
theorem dL_law_1736 : decode cL_law 1736 = .ok (.istore 6, 2) := dk_54 6 (dk_at dksL_law_67 3 rfl rfl)
theorem dL_law_1738 : decode cL_law 1738 = .ok (.aload_n 2, 1) := dk_44 (dk_at dksL_law_67 5 rfl rfl)
theorem dL_law_1739 : decode cL_law 1739 = .ok (.aload_n 0, 1) := dk_42 (dk_at dksL_law_67 6 rfl rfl)
theorem dL_law_1740 : decode cL_law 1740 = .ok (.iload 5, 2) := dk_21 5 (dk_at dksL_law_67 7 rfl rfl)
theorem dL_law_1742 : decode cL_law 1742 = .ok (.iconst 1, 1) := dk_4 (dk_at dksL_law_67 9 rfl rfl)
theorem dL_law_1743 : decode cL_law 1743 = .ok (.iadd, 1) := dk_96 (dk_at dksL_law_67 10 rfl rfl)
theorem dL_law_1744 : decode cL_law 1744 = .ok (.iaload, 1) := dk_46 (dk_at dksL_law_67 11 rfl rfl)
theorem dL_law_1745 : decode cL_law 1745 = .ok (.aload_n 0, 1) := dk_42 (dk_at dksL_law_67 12 rfl rfl)
theorem dL_law_1746 : decode cL_law 1746 = .ok (.iload 5, 2) := dk_21 5 (dk_at dksL_law_67 13 rfl rfl)
theorem dL_law_1748 : decode cL_law 1748 = .ok (.iconst 2, 1) := dk_5 (dk_at dksL_law_67 15 rfl rfl)
theorem dL_law_1749 : decode cL_law 1749 = .ok (.iadd, 1) := dk_96 (dk_at dksL_law_67 16 rfl rfl)
theorem dL_law_1750 : decode cL_law 1750 = .ok (.iaload, 1) := dk_46 (dk_at dksL_law_67 17 rfl rfl)
theorem dL_law_1751 : decode cL_law 1751 = .ok (.invokevirtual 243, 3) := dk_182 0 243 (dk_at dksL_law_67 18 rfl rfl)
theorem dL_law_1754 : decode cL_law 1754 = .ok (.istore 7, 2) := dk_54 7 (dk_at dksL_law_67 21 rfl rfl)
theorem dL_law_1756 : decode cL_law 1756 = .ok (.aload_n 2, 1) := dk_44 (dk_at dksL_law_67 23 rfl rfl)
theorem dL_law_1757 : decode cL_law 1757 = .ok (.invokevirtual 163, 3) := dk_182 0 163 (dk_at dksL_law_68 0 rfl rfl)
theorem dL_law_1760 : decode cL_law 1760 = .ok (.iload 6, 2) := dk_21 6 (dk_at dksL_law_68 3 rfl rfl)
theorem dL_law_1762 : decode cL_law 1762 = .ok (.if_icmp .eq 5, 3) := dk_159 0 5 (dk_at dksL_law_68 5 rfl rfl)
theorem dL_law_1765 : decode cL_law 1765 = .ok (.iconst 0, 1) := dk_3 (dk_at dksL_law_68 8 rfl rfl)
theorem dL_law_1766 : decode cL_law 1766 = .ok (.ireturn, 1) := dk_172 (dk_at dksL_law_68 9 rfl rfl)
theorem dL_law_1767 : decode cL_law 1767 = .ok (.iload 6, 2) := dk_21 6 (dk_at dksL_law_68 10 rfl rfl)
theorem dL_law_1769 : decode cL_law 1769 = .ok (.ifCond .ne 15, 3) := dk_154 0 15 (dk_at dksL_law_68 12 rfl rfl)
theorem dL_law_1772 : decode cL_law 1772 = .ok (.aload_n 3, 1) := dk_45 (dk_at dksL_law_68 15 rfl rfl)
theorem dL_law_1773 : decode cL_law 1773 = .ok (.iconst 0, 1) := dk_3 (dk_at dksL_law_68 16 rfl rfl)
theorem dL_law_1774 : decode cL_law 1774 = .ok (.laload, 1) := dk_47 (dk_at dksL_law_68 17 rfl rfl)
theorem dL_law_1775 : decode cL_law 1775 = .ok (.iload 7, 2) := dk_21 7 (dk_at dksL_law_68 18 rfl rfl)
theorem dL_law_1777 : decode cL_law 1777 = .ok (.i2l, 1) := dk_133 (dk_at dksL_law_68 20 rfl rfl)
theorem dL_law_1778 : decode cL_law 1778 = .ok (.lcmp, 1) := dk_148 (dk_at dksL_law_68 21 rfl rfl)
theorem dL_law_1779 : decode cL_law 1779 = .ok (.ifCond .eq 5, 3) := dk_153 0 5 (dk_at dksL_law_69 0 rfl rfl)
theorem dL_law_1782 : decode cL_law 1782 = .ok (.iconst 0, 1) := dk_3 (dk_at dksL_law_69 3 rfl rfl)
theorem dL_law_1783 : decode cL_law 1783 = .ok (.ireturn, 1) := dk_172 (dk_at dksL_law_69 4 rfl rfl)
theorem dL_law_1784 : decode cL_law 1784 = .ok (.goto 999, 3) := dk_167 3 231 (dk_at dksL_law_69 5 rfl rfl)
theorem dL_law_1787 : decode cL_law 1787 = .ok (.aload_n 1, 1) := dk_43 (dk_at dksL_law_69 8 rfl rfl)
theorem dL_law_1788 : decode cL_law 1788 = .ok (.aload_n 0, 1) := dk_42 (dk_at dksL_law_69 9 rfl rfl)
theorem dL_law_1789 : decode cL_law 1789 = .ok (.iload 5, 2) := dk_21 5 (dk_at dksL_law_69 10 rfl rfl)
theorem dL_law_1791 : decode cL_law 1791 = .ok (.iconst 1, 1) := dk_4 (dk_at dksL_law_69 12 rfl rfl)
theorem dL_law_1792 : decode cL_law 1792 = .ok (.iadd, 1) := dk_96 (dk_at dksL_law_69 13 rfl rfl)
theorem dL_law_1793 : decode cL_law 1793 = .ok (.iaload, 1) := dk_46 (dk_at dksL_law_69 14 rfl rfl)
theorem dL_law_1794 : decode cL_law 1794 = .ok (.aload_n 3, 1) := dk_45 (dk_at dksL_law_69 15 rfl rfl)
theorem dL_law_1795 : decode cL_law 1795 = .ok (.invokestatic 244, 3) := dk_184 0 244 (dk_at dksL_law_69 16 rfl rfl)
theorem dL_law_1798 : decode cL_law 1798 = .ok (.istore 6, 2) := dk_54 6 (dk_at dksL_law_69 19 rfl rfl)
theorem dL_law_1800 : decode cL_law 1800 = .ok (.aload_n 2, 1) := dk_44 (dk_at dksL_law_69 21 rfl rfl)
theorem dL_law_1801 : decode cL_law 1801 = .ok (.aload_n 0, 1) := dk_42 (dk_at dksL_law_69 22 rfl rfl)
theorem dL_law_1802 : decode cL_law 1802 = .ok (.iload 5, 2) := dk_21 5 (dk_at dksL_law_70 0 rfl rfl)
theorem dL_law_1804 : decode cL_law 1804 = .ok (.iconst 1, 1) := dk_4 (dk_at dksL_law_70 2 rfl rfl)
theorem dL_law_1805 : decode cL_law 1805 = .ok (.iadd, 1) := dk_96 (dk_at dksL_law_70 3 rfl rfl)
theorem dL_law_1806 : decode cL_law 1806 = .ok (.iaload, 1) := dk_46 (dk_at dksL_law_70 4 rfl rfl)
theorem dL_law_1807 : decode cL_law 1807 = .ok (.invokevirtual 246, 3) := dk_182 0 246 (dk_at dksL_law_70 5 rfl rfl)
theorem dL_law_1810 : decode cL_law 1810 = .ok (.istore 7, 2) := dk_54 7 (dk_at dksL_law_70 8 rfl rfl)
theorem dL_law_1812 : decode cL_law 1812 = .ok (.aload_n 2, 1) := dk_44 (dk_at dksL_law_70 10 rfl rfl)
theorem dL_law_1813 : decode cL_law 1813 = .ok (.invokevirtual 163, 3) := dk_182 0 163 (dk_at dksL_law_70 11 rfl rfl)
theorem dL_law_1816 : decode cL_law 1816 = .ok (.iload 6, 2) := dk_21 6 (dk_at dksL_law_70 14 rfl rfl)
theorem dL_law_1818 : decode cL_law 1818 = .ok (.if_icmp .eq 5, 3) := dk_159 0 5 (dk_at dksL_law_70 16 rfl rfl)
theorem dL_law_1821 : decode cL_law 1821 = .ok (.iconst 0, 1) := dk_3 (dk_at dksL_law_70 19 rfl rfl)
theorem dL_law_1822 : decode cL_law 1822 = .ok (.ireturn, 1) := dk_172 (dk_at dksL_law_70 20 rfl rfl)
theorem dL_law_1823 : decode cL_law 1823 = .ok (.iload 6, 2) := dk_21 6 (dk_at dksL_law_70 21 rfl rfl)
theorem dL_law_1825 : decode cL_law 1825 = .ok (.ifCond .ne 15, 3) := dk_154 0 15 (dk_at dksL_law_71 0 rfl rfl)
theorem dL_law_1828 : decode cL_law 1828 = .ok (.aload_n 3, 1) := dk_45 (dk_at dksL_law_71 3 rfl rfl)
theorem dL_law_1829 : decode cL_law 1829 = .ok (.iconst 0, 1) := dk_3 (dk_at dksL_law_71 4 rfl rfl)
theorem dL_law_1830 : decode cL_law 1830 = .ok (.laload, 1) := dk_47 (dk_at dksL_law_71 5 rfl rfl)
theorem dL_law_1831 : decode cL_law 1831 = .ok (.iload 7, 2) := dk_21 7 (dk_at dksL_law_71 6 rfl rfl)
theorem dL_law_1833 : decode cL_law 1833 = .ok (.i2l, 1) := dk_133 (dk_at dksL_law_71 8 rfl rfl)
theorem dL_law_1834 : decode cL_law 1834 = .ok (.lcmp, 1) := dk_148 (dk_at dksL_law_71 9 rfl rfl)
theorem dL_law_1835 : decode cL_law 1835 = .ok (.ifCond .eq 5, 3) := dk_153 0 5 (dk_at dksL_law_71 10 rfl rfl)
theorem dL_law_1838 : decode cL_law 1838 = .ok (.iconst 0, 1) := dk_3 (dk_at dksL_law_71 13 rfl rfl)
theorem dL_law_1839 : decode cL_law 1839 = .ok (.ireturn, 1) := dk_172 (dk_at dksL_law_71 14 rfl rfl)
theorem dL_law_1840 : decode cL_law 1840 = .ok (.goto 943, 3) := dk_167 3 175 (dk_at dksL_law_71 15 rfl rfl)
theorem dL_law_1843 : decode cL_law 1843 = .ok (.aload_n 1, 1) := dk_43 (dk_at dksL_law_71 18 rfl rfl)
theorem dL_law_1844 : decode cL_law 1844 = .ok (.aload_n 0, 1) := dk_42 (dk_at dksL_law_71 19 rfl rfl)
theorem dL_law_1845 : decode cL_law 1845 = .ok (.iload 5, 2) := dk_21 5 (dk_at dksL_law_71 20 rfl rfl)
theorem dL_law_1847 : decode cL_law 1847 = .ok (.iconst 1, 1) := dk_4 (dk_at dksL_law_71 22 rfl rfl)
theorem dL_law_1848 : decode cL_law 1848 = .ok (.iadd, 1) := dk_96 (dk_at dksL_law_71 23 rfl rfl)
theorem dL_law_1849 : decode cL_law 1849 = .ok (.iaload, 1) := dk_46 (dk_at dksL_law_72 0 rfl rfl)
theorem dL_law_1850 : decode cL_law 1850 = .ok (.aload_n 3, 1) := dk_45 (dk_at dksL_law_72 1 rfl rfl)
theorem dL_law_1851 : decode cL_law 1851 = .ok (.invokestatic 247, 3) := dk_184 0 247 (dk_at dksL_law_72 2 rfl rfl)
theorem dL_law_1854 : decode cL_law 1854 = .ok (.istore 6, 2) := dk_54 6 (dk_at dksL_law_72 5 rfl rfl)
theorem dL_law_1856 : decode cL_law 1856 = .ok (.aload_n 2, 1) := dk_44 (dk_at dksL_law_72 7 rfl rfl)
theorem dL_law_1857 : decode cL_law 1857 = .ok (.aload_n 0, 1) := dk_42 (dk_at dksL_law_72 8 rfl rfl)
theorem dL_law_1858 : decode cL_law 1858 = .ok (.iload 5, 2) := dk_21 5 (dk_at dksL_law_72 9 rfl rfl)
theorem dL_law_1860 : decode cL_law 1860 = .ok (.iconst 1, 1) := dk_4 (dk_at dksL_law_72 11 rfl rfl)
theorem dL_law_1861 : decode cL_law 1861 = .ok (.iadd, 1) := dk_96 (dk_at dksL_law_72 12 rfl rfl)
theorem dL_law_1862 : decode cL_law 1862 = .ok (.iaload, 1) := dk_46 (dk_at dksL_law_72 13 rfl rfl)
theorem dL_law_1863 : decode cL_law 1863 = .ok (.invokevirtual 249, 3) := dk_182 0 249 (dk_at dksL_law_72 14 rfl rfl)
theorem dL_law_1866 : decode cL_law 1866 = .ok (.istore 7, 2) := dk_54 7 (dk_at dksL_law_72 17 rfl rfl)
theorem dL_law_1868 : decode cL_law 1868 = .ok (.aload_n 2, 1) := dk_44 (dk_at dksL_law_72 19 rfl rfl)
theorem dL_law_1869 : decode cL_law 1869 = .ok (.invokevirtual 163, 3) := dk_182 0 163 (dk_at dksL_law_72 20 rfl rfl)
theorem dL_law_1872 : decode cL_law 1872 = .ok (.iload 6, 2) := dk_21 6 (dk_at dksL_law_73 0 rfl rfl)
theorem dL_law_1874 : decode cL_law 1874 = .ok (.if_icmp .eq 5, 3) := dk_159 0 5 (dk_at dksL_law_73 2 rfl rfl)
theorem dL_law_1877 : decode cL_law 1877 = .ok (.iconst 0, 1) := dk_3 (dk_at dksL_law_73 5 rfl rfl)
theorem dL_law_1878 : decode cL_law 1878 = .ok (.ireturn, 1) := dk_172 (dk_at dksL_law_73 6 rfl rfl)
theorem dL_law_1879 : decode cL_law 1879 = .ok (.iload 6, 2) := dk_21 6 (dk_at dksL_law_73 7 rfl rfl)
theorem dL_law_1881 : decode cL_law 1881 = .ok (.ifCond .ne 15, 3) := dk_154 0 15 (dk_at dksL_law_73 9 rfl rfl)
theorem dL_law_1884 : decode cL_law 1884 = .ok (.aload_n 3, 1) := dk_45 (dk_at dksL_law_73 12 rfl rfl)
theorem dL_law_1885 : decode cL_law 1885 = .ok (.iconst 0, 1) := dk_3 (dk_at dksL_law_73 13 rfl rfl)
theorem dL_law_1886 : decode cL_law 1886 = .ok (.laload, 1) := dk_47 (dk_at dksL_law_73 14 rfl rfl)
theorem dL_law_1887 : decode cL_law 1887 = .ok (.iload 7, 2) := dk_21 7 (dk_at dksL_law_73 15 rfl rfl)
theorem dL_law_1889 : decode cL_law 1889 = .ok (.i2l, 1) := dk_133 (dk_at dksL_law_73 17 rfl rfl)
theorem dL_law_1890 : decode cL_law 1890 = .ok (.lcmp, 1) := dk_148 (dk_at dksL_law_73 18 rfl rfl)
theorem dL_law_1891 : decode cL_law 1891 = .ok (.ifCond .eq 5, 3) := dk_153 0 5 (dk_at dksL_law_73 19 rfl rfl)
theorem dL_law_1894 : decode cL_law 1894 = .ok (.iconst 0, 1) := dk_3 (dk_at dksL_law_73 22 rfl rfl)
theorem dL_law_1895 : decode cL_law 1895 = .ok (.ireturn, 1) := dk_172 (dk_at dksL_law_73 23 rfl rfl)
theorem dL_law_1896 : decode cL_law 1896 = .ok (.goto 887, 3) := dk_167 3 119 (dk_at dksL_law_74 0 rfl rfl)
theorem dL_law_1899 : decode cL_law 1899 = .ok (.aload_n 1, 1) := dk_43 (dk_at dksL_law_74 3 rfl rfl)
theorem dL_law_1900 : decode cL_law 1900 = .ok (.aload_n 0, 1) := dk_42 (dk_at dksL_law_74 4 rfl rfl)
theorem dL_law_1901 : decode cL_law 1901 = .ok (.iload 5, 2) := dk_21 5 (dk_at dksL_law_74 5 rfl rfl)
theorem dL_law_1903 : decode cL_law 1903 = .ok (.iconst 1, 1) := dk_4 (dk_at dksL_law_74 7 rfl rfl)
theorem dL_law_1904 : decode cL_law 1904 = .ok (.iadd, 1) := dk_96 (dk_at dksL_law_74 8 rfl rfl)
theorem dL_law_1905 : decode cL_law 1905 = .ok (.iaload, 1) := dk_46 (dk_at dksL_law_74 9 rfl rfl)
theorem dL_law_1906 : decode cL_law 1906 = .ok (.aload_n 3, 1) := dk_45 (dk_at dksL_law_74 10 rfl rfl)
theorem dL_law_1907 : decode cL_law 1907 = .ok (.invokestatic 250, 3) := dk_184 0 250 (dk_at dksL_law_74 11 rfl rfl)
theorem dL_law_1910 : decode cL_law 1910 = .ok (.istore 6, 2) := dk_54 6 (dk_at dksL_law_74 14 rfl rfl)
theorem dL_law_1912 : decode cL_law 1912 = .ok (.aload_n 2, 1) := dk_44 (dk_at dksL_law_74 16 rfl rfl)
theorem dL_law_1913 : decode cL_law 1913 = .ok (.aload_n 0, 1) := dk_42 (dk_at dksL_law_74 17 rfl rfl)
theorem dL_law_1914 : decode cL_law 1914 = .ok (.iload 5, 2) := dk_21 5 (dk_at dksL_law_74 18 rfl rfl)
theorem dL_law_1916 : decode cL_law 1916 = .ok (.iconst 1, 1) := dk_4 (dk_at dksL_law_74 20 rfl rfl)
theorem dL_law_1917 : decode cL_law 1917 = .ok (.iadd, 1) := dk_96 (dk_at dksL_law_74 21 rfl rfl)
theorem dL_law_1918 : decode cL_law 1918 = .ok (.iaload, 1) := dk_46 (dk_at dksL_law_74 22 rfl rfl)
theorem dL_law_1919 : decode cL_law 1919 = .ok (.invokevirtual 252, 3) := dk_182 0 252 (dk_at dksL_law_75 0 rfl rfl)
theorem dL_law_1922 : decode cL_law 1922 = .ok (.istore 7, 2) := dk_54 7 (dk_at dksL_law_75 3 rfl rfl)
theorem dL_law_1924 : decode cL_law 1924 = .ok (.aload_n 2, 1) := dk_44 (dk_at dksL_law_75 5 rfl rfl)
theorem dL_law_1925 : decode cL_law 1925 = .ok (.invokevirtual 163, 3) := dk_182 0 163 (dk_at dksL_law_75 6 rfl rfl)
theorem dL_law_1928 : decode cL_law 1928 = .ok (.iload 6, 2) := dk_21 6 (dk_at dksL_law_75 9 rfl rfl)
theorem dL_law_1930 : decode cL_law 1930 = .ok (.if_icmp .eq 5, 3) := dk_159 0 5 (dk_at dksL_law_75 11 rfl rfl)
theorem dL_law_1933 : decode cL_law 1933 = .ok (.iconst 0, 1) := dk_3 (dk_at dksL_law_75 14 rfl rfl)
theorem dL_law_1934 : decode cL_law 1934 = .ok (.ireturn, 1) := dk_172 (dk_at dksL_law_75 15 rfl rfl)
theorem dL_law_1935 : decode cL_law 1935 = .ok (.iload 6, 2) := dk_21 6 (dk_at dksL_law_75 16 rfl rfl)
theorem dL_law_1937 : decode cL_law 1937 = .ok (.ifCond .ne 15, 3) := dk_154 0 15 (dk_at dksL_law_75 18 rfl rfl)
theorem dL_law_1940 : decode cL_law 1940 = .ok (.aload_n 3, 1) := dk_45 (dk_at dksL_law_75 21 rfl rfl)
theorem dL_law_1941 : decode cL_law 1941 = .ok (.iconst 0, 1) := dk_3 (dk_at dksL_law_75 22 rfl rfl)
theorem dL_law_1942 : decode cL_law 1942 = .ok (.laload, 1) := dk_47 (dk_at dksL_law_75 23 rfl rfl)
theorem dL_law_1943 : decode cL_law 1943 = .ok (.iload 7, 2) := dk_21 7 (dk_at dksL_law_76 0 rfl rfl)
theorem dL_law_1945 : decode cL_law 1945 = .ok (.i2l, 1) := dk_133 (dk_at dksL_law_76 2 rfl rfl)
theorem dL_law_1946 : decode cL_law 1946 = .ok (.lcmp, 1) := dk_148 (dk_at dksL_law_76 3 rfl rfl)
theorem dL_law_1947 : decode cL_law 1947 = .ok (.ifCond .eq 5, 3) := dk_153 0 5 (dk_at dksL_law_76 4 rfl rfl)
theorem dL_law_1950 : decode cL_law 1950 = .ok (.iconst 0, 1) := dk_3 (dk_at dksL_law_76 7 rfl rfl)
theorem dL_law_1951 : decode cL_law 1951 = .ok (.ireturn, 1) := dk_172 (dk_at dksL_law_76 8 rfl rfl)
theorem dL_law_1952 : decode cL_law 1952 = .ok (.goto 831, 3) := dk_167 3 63 (dk_at dksL_law_76 9 rfl rfl)
theorem dL_law_1955 : decode cL_law 1955 = .ok (.aload_n 1, 1) := dk_43 (dk_at dksL_law_76 12 rfl rfl)
theorem dL_law_1956 : decode cL_law 1956 = .ok (.aload_n 0, 1) := dk_42 (dk_at dksL_law_76 13 rfl rfl)
theorem dL_law_1957 : decode cL_law 1957 = .ok (.iload 5, 2) := dk_21 5 (dk_at dksL_law_76 14 rfl rfl)
theorem dL_law_1959 : decode cL_law 1959 = .ok (.iconst 1, 1) := dk_4 (dk_at dksL_law_76 16 rfl rfl)
theorem dL_law_1960 : decode cL_law 1960 = .ok (.iadd, 1) := dk_96 (dk_at dksL_law_76 17 rfl rfl)
theorem dL_law_1961 : decode cL_law 1961 = .ok (.iaload, 1) := dk_46 (dk_at dksL_law_76 18 rfl rfl)
theorem dL_law_1962 : decode cL_law 1962 = .ok (.aload_n 3, 1) := dk_45 (dk_at dksL_law_76 19 rfl rfl)
theorem dL_law_1963 : decode cL_law 1963 = .ok (.invokestatic 253, 3) := dk_184 0 253 (dk_at dksL_law_76 20 rfl rfl)
theorem dL_law_1966 : decode cL_law 1966 = .ok (.istore 6, 2) := dk_54 6 (dk_at dksL_law_77 0 rfl rfl)
theorem dL_law_1968 : decode cL_law 1968 = .ok (.aload_n 2, 1) := dk_44 (dk_at dksL_law_77 2 rfl rfl)
theorem dL_law_1969 : decode cL_law 1969 = .ok (.aload_n 0, 1) := dk_42 (dk_at dksL_law_77 3 rfl rfl)
theorem dL_law_1970 : decode cL_law 1970 = .ok (.iload 5, 2) := dk_21 5 (dk_at dksL_law_77 4 rfl rfl)
theorem dL_law_1972 : decode cL_law 1972 = .ok (.iconst 1, 1) := dk_4 (dk_at dksL_law_77 6 rfl rfl)
theorem dL_law_1973 : decode cL_law 1973 = .ok (.iadd, 1) := dk_96 (dk_at dksL_law_77 7 rfl rfl)
theorem dL_law_1974 : decode cL_law 1974 = .ok (.iaload, 1) := dk_46 (dk_at dksL_law_77 8 rfl rfl)
theorem dL_law_1975 : decode cL_law 1975 = .ok (.invokevirtual 255, 3) := dk_182 0 255 (dk_at dksL_law_77 9 rfl rfl)
theorem dL_law_1978 : decode cL_law 1978 = .ok (.istore 7, 2) := dk_54 7 (dk_at dksL_law_77 12 rfl rfl)
theorem dL_law_1980 : decode cL_law 1980 = .ok (.aload_n 2, 1) := dk_44 (dk_at dksL_law_77 14 rfl rfl)
theorem dL_law_1981 : decode cL_law 1981 = .ok (.invokevirtual 163, 3) := dk_182 0 163 (dk_at dksL_law_77 15 rfl rfl)
theorem dL_law_1984 : decode cL_law 1984 = .ok (.iload 6, 2) := dk_21 6 (dk_at dksL_law_77 18 rfl rfl)
theorem dL_law_1986 : decode cL_law 1986 = .ok (.if_icmp .eq 5, 3) := dk_159 0 5 (dk_at dksL_law_77 20 rfl rfl)
theorem dL_law_1989 : decode cL_law 1989 = .ok (.iconst 0, 1) := dk_3 (dk_at dksL_law_77 23 rfl rfl)
theorem dL_law_1990 : decode cL_law 1990 = .ok (.ireturn, 1) := dk_172 (dk_at dksL_law_78 0 rfl rfl)
theorem dL_law_1991 : decode cL_law 1991 = .ok (.iload 6, 2) := dk_21 6 (dk_at dksL_law_78 1 rfl rfl)
theorem dL_law_1993 : decode cL_law 1993 = .ok (.ifCond .ne 15, 3) := dk_154 0 15 (dk_at dksL_law_78 3 rfl rfl)
theorem dL_law_1996 : decode cL_law 1996 = .ok (.aload_n 3, 1) := dk_45 (dk_at dksL_law_78 6 rfl rfl)
theorem dL_law_1997 : decode cL_law 1997 = .ok (.iconst 0, 1) := dk_3 (dk_at dksL_law_78 7 rfl rfl)
theorem dL_law_1998 : decode cL_law 1998 = .ok (.laload, 1) := dk_47 (dk_at dksL_law_78 8 rfl rfl)
theorem dL_law_1999 : decode cL_law 1999 = .ok (.iload 7, 2) := dk_21 7 (dk_at dksL_law_78 9 rfl rfl)
theorem dL_law_2001 : decode cL_law 2001 = .ok (.i2l, 1) := dk_133 (dk_at dksL_law_78 11 rfl rfl)
theorem dL_law_2002 : decode cL_law 2002 = .ok (.lcmp, 1) := dk_148 (dk_at dksL_law_78 12 rfl rfl)
theorem dL_law_2003 : decode cL_law 2003 = .ok (.ifCond .eq 5, 3) := dk_153 0 5 (dk_at dksL_law_78 13 rfl rfl)
theorem dL_law_2006 : decode cL_law 2006 = .ok (.iconst 0, 1) := dk_3 (dk_at dksL_law_78 16 rfl rfl)
theorem dL_law_2007 : decode cL_law 2007 = .ok (.ireturn, 1) := dk_172 (dk_at dksL_law_78 17 rfl rfl)
theorem dL_law_2008 : decode cL_law 2008 = .ok (.goto 775, 3) := dk_167 3 7 (dk_at dksL_law_78 18 rfl rfl)
theorem dL_law_2011 : decode cL_law 2011 = .ok (.aload_n 1, 1) := dk_43 (dk_at dksL_law_78 21 rfl rfl)
theorem dL_law_2012 : decode cL_law 2012 = .ok (.aload_n 0, 1) := dk_42 (dk_at dksL_law_78 22 rfl rfl)
theorem dL_law_2013 : decode cL_law 2013 = .ok (.iload 5, 2) := dk_21 5 (dk_at dksL_law_79 0 rfl rfl)
theorem dL_law_2015 : decode cL_law 2015 = .ok (.iconst 1, 1) := dk_4 (dk_at dksL_law_79 2 rfl rfl)
theorem dL_law_2016 : decode cL_law 2016 = .ok (.iadd, 1) := dk_96 (dk_at dksL_law_79 3 rfl rfl)
theorem dL_law_2017 : decode cL_law 2017 = .ok (.iaload, 1) := dk_46 (dk_at dksL_law_79 4 rfl rfl)
theorem dL_law_2018 : decode cL_law 2018 = .ok (.aload_n 3, 1) := dk_45 (dk_at dksL_law_79 5 rfl rfl)
theorem dL_law_2019 : decode cL_law 2019 = .ok (.invokestatic 256, 3) := dk_184 1 0 (dk_at dksL_law_79 6 rfl rfl)
theorem dL_law_2022 : decode cL_law 2022 = .ok (.istore 6, 2) := dk_54 6 (dk_at dksL_law_79 9 rfl rfl)
theorem dL_law_2024 : decode cL_law 2024 = .ok (.aload_n 2, 1) := dk_44 (dk_at dksL_law_79 11 rfl rfl)
theorem dL_law_2025 : decode cL_law 2025 = .ok (.aload_n 0, 1) := dk_42 (dk_at dksL_law_79 12 rfl rfl)
theorem dL_law_2026 : decode cL_law 2026 = .ok (.iload 5, 2) := dk_21 5 (dk_at dksL_law_79 13 rfl rfl)
theorem dL_law_2028 : decode cL_law 2028 = .ok (.iconst 1, 1) := dk_4 (dk_at dksL_law_79 15 rfl rfl)
theorem dL_law_2029 : decode cL_law 2029 = .ok (.iadd, 1) := dk_96 (dk_at dksL_law_79 16 rfl rfl)
theorem dL_law_2030 : decode cL_law 2030 = .ok (.iaload, 1) := dk_46 (dk_at dksL_law_79 17 rfl rfl)
theorem dL_law_2031 : decode cL_law 2031 = .ok (.invokevirtual 258, 3) := dk_182 1 2 (dk_at dksL_law_79 18 rfl rfl)
theorem dL_law_2034 : decode cL_law 2034 = .ok (.istore 7, 2) := dk_54 7 (dk_at dksL_law_79 21 rfl rfl)
theorem dL_law_2036 : decode cL_law 2036 = .ok (.aload_n 2, 1) := dk_44 (dk_at dksL_law_79 23 rfl rfl)
theorem dL_law_2037 : decode cL_law 2037 = .ok (.invokevirtual 163, 3) := dk_182 0 163 (dk_at dksL_law_80 0 rfl rfl)
theorem dL_law_2040 : decode cL_law 2040 = .ok (.iload 6, 2) := dk_21 6 (dk_at dksL_law_80 3 rfl rfl)
theorem dL_law_2042 : decode cL_law 2042 = .ok (.if_icmp .eq 5, 3) := dk_159 0 5 (dk_at dksL_law_80 5 rfl rfl)
theorem dL_law_2045 : decode cL_law 2045 = .ok (.iconst 0, 1) := dk_3 (dk_at dksL_law_80 8 rfl rfl)
theorem dL_law_2046 : decode cL_law 2046 = .ok (.ireturn, 1) := dk_172 (dk_at dksL_law_80 9 rfl rfl)
theorem dL_law_2047 : decode cL_law 2047 = .ok (.iload 6, 2) := dk_21 6 (dk_at dksL_law_80 10 rfl rfl)
theorem dL_law_2049 : decode cL_law 2049 = .ok (.ifCond .ne 15, 3) := dk_154 0 15 (dk_at dksL_law_80 12 rfl rfl)
theorem dL_law_2052 : decode cL_law 2052 = .ok (.aload_n 3, 1) := dk_45 (dk_at dksL_law_80 15 rfl rfl)
theorem dL_law_2053 : decode cL_law 2053 = .ok (.iconst 0, 1) := dk_3 (dk_at dksL_law_80 16 rfl rfl)
theorem dL_law_2054 : decode cL_law 2054 = .ok (.laload, 1) := dk_47 (dk_at dksL_law_80 17 rfl rfl)
theorem dL_law_2055 : decode cL_law 2055 = .ok (.iload 7, 2) := dk_21 7 (dk_at dksL_law_80 18 rfl rfl)
theorem dL_law_2057 : decode cL_law 2057 = .ok (.i2l, 1) := dk_133 (dk_at dksL_law_80 20 rfl rfl)
theorem dL_law_2058 : decode cL_law 2058 = .ok (.lcmp, 1) := dk_148 (dk_at dksL_law_80 21 rfl rfl)
theorem dL_law_2059 : decode cL_law 2059 = .ok (.ifCond .eq 5, 3) := dk_153 0 5 (dk_at dksL_law_81 0 rfl rfl)
theorem dL_law_2062 : decode cL_law 2062 = .ok (.iconst 0, 1) := dk_3 (dk_at dksL_law_81 3 rfl rfl)
theorem dL_law_2063 : decode cL_law 2063 = .ok (.ireturn, 1) := dk_172 (dk_at dksL_law_81 4 rfl rfl)
theorem dL_law_2064 : decode cL_law 2064 = .ok (.goto 719, 3) := dk_167 2 207 (dk_at dksL_law_81 5 rfl rfl)
theorem dL_law_2067 : decode cL_law 2067 = .ok (.aload_n 1, 1) := dk_43 (dk_at dksL_law_81 8 rfl rfl)
theorem dL_law_2068 : decode cL_law 2068 = .ok (.aload_n 0, 1) := dk_42 (dk_at dksL_law_81 9 rfl rfl)
theorem dL_law_2069 : decode cL_law 2069 = .ok (.iload 5, 2) := dk_21 5 (dk_at dksL_law_81 10 rfl rfl)
theorem dL_law_2071 : decode cL_law 2071 = .ok (.iconst 1, 1) := dk_4 (dk_at dksL_law_81 12 rfl rfl)
theorem dL_law_2072 : decode cL_law 2072 = .ok (.iadd, 1) := dk_96 (dk_at dksL_law_81 13 rfl rfl)
theorem dL_law_2073 : decode cL_law 2073 = .ok (.iaload, 1) := dk_46 (dk_at dksL_law_81 14 rfl rfl)
theorem dL_law_2074 : decode cL_law 2074 = .ok (.aload_n 3, 1) := dk_45 (dk_at dksL_law_81 15 rfl rfl)
theorem dL_law_2075 : decode cL_law 2075 = .ok (.invokestatic 259, 3) := dk_184 1 3 (dk_at dksL_law_81 16 rfl rfl)
theorem dL_law_2078 : decode cL_law 2078 = .ok (.istore 6, 2) := dk_54 6 (dk_at dksL_law_81 19 rfl rfl)
theorem dL_law_2080 : decode cL_law 2080 = .ok (.aload_n 2, 1) := dk_44 (dk_at dksL_law_81 21 rfl rfl)
theorem dL_law_2081 : decode cL_law 2081 = .ok (.aload_n 0, 1) := dk_42 (dk_at dksL_law_81 22 rfl rfl)
theorem dL_law_2082 : decode cL_law 2082 = .ok (.iload 5, 2) := dk_21 5 (dk_at dksL_law_82 0 rfl rfl)
theorem dL_law_2084 : decode cL_law 2084 = .ok (.iconst 1, 1) := dk_4 (dk_at dksL_law_82 2 rfl rfl)
theorem dL_law_2085 : decode cL_law 2085 = .ok (.iadd, 1) := dk_96 (dk_at dksL_law_82 3 rfl rfl)
theorem dL_law_2086 : decode cL_law 2086 = .ok (.iaload, 1) := dk_46 (dk_at dksL_law_82 4 rfl rfl)
theorem dL_law_2087 : decode cL_law 2087 = .ok (.invokevirtual 261, 3) := dk_182 1 5 (dk_at dksL_law_82 5 rfl rfl)
theorem dL_law_2090 : decode cL_law 2090 = .ok (.istore 7, 2) := dk_54 7 (dk_at dksL_law_82 8 rfl rfl)
theorem dL_law_2092 : decode cL_law 2092 = .ok (.aload_n 2, 1) := dk_44 (dk_at dksL_law_82 10 rfl rfl)
theorem dL_law_2093 : decode cL_law 2093 = .ok (.invokevirtual 163, 3) := dk_182 0 163 (dk_at dksL_law_82 11 rfl rfl)
theorem dL_law_2096 : decode cL_law 2096 = .ok (.iload 6, 2) := dk_21 6 (dk_at dksL_law_82 14 rfl rfl)
theorem dL_law_2098 : decode cL_law 2098 = .ok (.if_icmp .eq 5, 3) := dk_159 0 5 (dk_at dksL_law_82 16 rfl rfl)
theorem dL_law_2101 : decode cL_law 2101 = .ok (.iconst 0, 1) := dk_3 (dk_at dksL_law_82 19 rfl rfl)
theorem dL_law_2102 : decode cL_law 2102 = .ok (.ireturn, 1) := dk_172 (dk_at dksL_law_82 20 rfl rfl)
theorem dL_law_2103 : decode cL_law 2103 = .ok (.iload 6, 2) := dk_21 6 (dk_at dksL_law_82 21 rfl rfl)
theorem dL_law_2105 : decode cL_law 2105 = .ok (.ifCond .ne 15, 3) := dk_154 0 15 (dk_at dksL_law_83 0 rfl rfl)
theorem dL_law_2108 : decode cL_law 2108 = .ok (.aload_n 3, 1) := dk_45 (dk_at dksL_law_83 3 rfl rfl)
theorem dL_law_2109 : decode cL_law 2109 = .ok (.iconst 0, 1) := dk_3 (dk_at dksL_law_83 4 rfl rfl)
theorem dL_law_2110 : decode cL_law 2110 = .ok (.laload, 1) := dk_47 (dk_at dksL_law_83 5 rfl rfl)
theorem dL_law_2111 : decode cL_law 2111 = .ok (.iload 7, 2) := dk_21 7 (dk_at dksL_law_83 6 rfl rfl)
theorem dL_law_2113 : decode cL_law 2113 = .ok (.i2l, 1) := dk_133 (dk_at dksL_law_83 8 rfl rfl)
theorem dL_law_2114 : decode cL_law 2114 = .ok (.lcmp, 1) := dk_148 (dk_at dksL_law_83 9 rfl rfl)
theorem dL_law_2115 : decode cL_law 2115 = .ok (.ifCond .eq 5, 3) := dk_153 0 5 (dk_at dksL_law_83 10 rfl rfl)
theorem dL_law_2118 : decode cL_law 2118 = .ok (.iconst 0, 1) := dk_3 (dk_at dksL_law_83 13 rfl rfl)
theorem dL_law_2119 : decode cL_law 2119 = .ok (.ireturn, 1) := dk_172 (dk_at dksL_law_83 14 rfl rfl)
theorem dL_law_2120 : decode cL_law 2120 = .ok (.goto 663, 3) := dk_167 2 151 (dk_at dksL_law_83 15 rfl rfl)
theorem dL_law_2123 : decode cL_law 2123 = .ok (.aload_n 1, 1) := dk_43 (dk_at dksL_law_83 18 rfl rfl)
theorem dL_law_2124 : decode cL_law 2124 = .ok (.aload_n 3, 1) := dk_45 (dk_at dksL_law_83 19 rfl rfl)
theorem dL_law_2125 : decode cL_law 2125 = .ok (.invokestatic 262, 3) := dk_184 1 6 (dk_at dksL_law_83 20 rfl rfl)
theorem dL_law_2128 : decode cL_law 2128 = .ok (.istore 6, 2) := dk_54 6 (dk_at dksL_law_84 0 rfl rfl)
theorem dL_law_2130 : decode cL_law 2130 = .ok (.aload_n 2, 1) := dk_44 (dk_at dksL_law_84 2 rfl rfl)
theorem dL_law_2131 : decode cL_law 2131 = .ok (.invokevirtual 264, 3) := dk_182 1 8 (dk_at dksL_law_84 3 rfl rfl)
theorem dL_law_2134 : decode cL_law 2134 = .ok (.istore 7, 2) := dk_54 7 (dk_at dksL_law_84 6 rfl rfl)
theorem dL_law_2136 : decode cL_law 2136 = .ok (.aload_n 2, 1) := dk_44 (dk_at dksL_law_84 8 rfl rfl)
theorem dL_law_2137 : decode cL_law 2137 = .ok (.invokevirtual 163, 3) := dk_182 0 163 (dk_at dksL_law_84 9 rfl rfl)
theorem dL_law_2140 : decode cL_law 2140 = .ok (.iload 6, 2) := dk_21 6 (dk_at dksL_law_84 12 rfl rfl)
theorem dL_law_2142 : decode cL_law 2142 = .ok (.if_icmp .eq 5, 3) := dk_159 0 5 (dk_at dksL_law_84 14 rfl rfl)
theorem dL_law_2145 : decode cL_law 2145 = .ok (.iconst 0, 1) := dk_3 (dk_at dksL_law_84 17 rfl rfl)
theorem dL_law_2146 : decode cL_law 2146 = .ok (.ireturn, 1) := dk_172 (dk_at dksL_law_84 18 rfl rfl)
theorem dL_law_2147 : decode cL_law 2147 = .ok (.iload 6, 2) := dk_21 6 (dk_at dksL_law_84 19 rfl rfl)
theorem dL_law_2149 : decode cL_law 2149 = .ok (.ifCond .ne 15, 3) := dk_154 0 15 (dk_at dksL_law_84 21 rfl rfl)
theorem dL_law_2152 : decode cL_law 2152 = .ok (.aload_n 3, 1) := dk_45 (dk_at dksL_law_85 0 rfl rfl)
theorem dL_law_2153 : decode cL_law 2153 = .ok (.iconst 0, 1) := dk_3 (dk_at dksL_law_85 1 rfl rfl)
theorem dL_law_2154 : decode cL_law 2154 = .ok (.laload, 1) := dk_47 (dk_at dksL_law_85 2 rfl rfl)
theorem dL_law_2155 : decode cL_law 2155 = .ok (.iload 7, 2) := dk_21 7 (dk_at dksL_law_85 3 rfl rfl)
theorem dL_law_2157 : decode cL_law 2157 = .ok (.i2l, 1) := dk_133 (dk_at dksL_law_85 5 rfl rfl)
theorem dL_law_2158 : decode cL_law 2158 = .ok (.lcmp, 1) := dk_148 (dk_at dksL_law_85 6 rfl rfl)
theorem dL_law_2159 : decode cL_law 2159 = .ok (.ifCond .eq 5, 3) := dk_153 0 5 (dk_at dksL_law_85 7 rfl rfl)
theorem dL_law_2162 : decode cL_law 2162 = .ok (.iconst 0, 1) := dk_3 (dk_at dksL_law_85 10 rfl rfl)
theorem dL_law_2163 : decode cL_law 2163 = .ok (.ireturn, 1) := dk_172 (dk_at dksL_law_85 11 rfl rfl)
theorem dL_law_2164 : decode cL_law 2164 = .ok (.goto 619, 3) := dk_167 2 107 (dk_at dksL_law_85 12 rfl rfl)
theorem dL_law_2167 : decode cL_law 2167 = .ok (.aload_n 1, 1) := dk_43 (dk_at dksL_law_85 15 rfl rfl)
theorem dL_law_2168 : decode cL_law 2168 = .ok (.aload_n 0, 1) := dk_42 (dk_at dksL_law_85 16 rfl rfl)
theorem dL_law_2169 : decode cL_law 2169 = .ok (.iload 5, 2) := dk_21 5 (dk_at dksL_law_85 17 rfl rfl)
theorem dL_law_2171 : decode cL_law 2171 = .ok (.iconst 1, 1) := dk_4 (dk_at dksL_law_85 19 rfl rfl)
theorem dL_law_2172 : decode cL_law 2172 = .ok (.iadd, 1) := dk_96 (dk_at dksL_law_85 20 rfl rfl)
theorem dL_law_2173 : decode cL_law 2173 = .ok (.iaload, 1) := dk_46 (dk_at dksL_law_85 21 rfl rfl)
theorem dL_law_2174 : decode cL_law 2174 = .ok (.aload_n 3, 1) := dk_45 (dk_at dksL_law_85 22 rfl rfl)
theorem dL_law_2175 : decode cL_law 2175 = .ok (.invokestatic 265, 3) := dk_184 1 9 (dk_at dksL_law_86 0 rfl rfl)
theorem dL_law_2178 : decode cL_law 2178 = .ok (.istore 6, 2) := dk_54 6 (dk_at dksL_law_86 3 rfl rfl)
theorem dL_law_2180 : decode cL_law 2180 = .ok (.aload_n 2, 1) := dk_44 (dk_at dksL_law_86 5 rfl rfl)
theorem dL_law_2181 : decode cL_law 2181 = .ok (.aload_n 0, 1) := dk_42 (dk_at dksL_law_86 6 rfl rfl)
theorem dL_law_2182 : decode cL_law 2182 = .ok (.iload 5, 2) := dk_21 5 (dk_at dksL_law_86 7 rfl rfl)
theorem dL_law_2184 : decode cL_law 2184 = .ok (.iconst 1, 1) := dk_4 (dk_at dksL_law_86 9 rfl rfl)
theorem dL_law_2185 : decode cL_law 2185 = .ok (.iadd, 1) := dk_96 (dk_at dksL_law_86 10 rfl rfl)
theorem dL_law_2186 : decode cL_law 2186 = .ok (.iaload, 1) := dk_46 (dk_at dksL_law_86 11 rfl rfl)
theorem dL_law_2187 : decode cL_law 2187 = .ok (.invokevirtual 267, 3) := dk_182 1 11 (dk_at dksL_law_86 12 rfl rfl)
theorem dL_law_2190 : decode cL_law 2190 = .ok (.istore 7, 2) := dk_54 7 (dk_at dksL_law_86 15 rfl rfl)
theorem dL_law_2192 : decode cL_law 2192 = .ok (.aload_n 2, 1) := dk_44 (dk_at dksL_law_86 17 rfl rfl)
theorem dL_law_2193 : decode cL_law 2193 = .ok (.invokevirtual 163, 3) := dk_182 0 163 (dk_at dksL_law_86 18 rfl rfl)
theorem dL_law_2196 : decode cL_law 2196 = .ok (.iload 6, 2) := dk_21 6 (dk_at dksL_law_86 21 rfl rfl)
theorem dL_law_2198 : decode cL_law 2198 = .ok (.if_icmp .eq 5, 3) := dk_159 0 5 (dk_at dksL_law_87 0 rfl rfl)
theorem dL_law_2201 : decode cL_law 2201 = .ok (.iconst 0, 1) := dk_3 (dk_at dksL_law_87 3 rfl rfl)
theorem dL_law_2202 : decode cL_law 2202 = .ok (.ireturn, 1) := dk_172 (dk_at dksL_law_87 4 rfl rfl)
theorem dL_law_2203 : decode cL_law 2203 = .ok (.iload 6, 2) := dk_21 6 (dk_at dksL_law_87 5 rfl rfl)
theorem dL_law_2205 : decode cL_law 2205 = .ok (.ifCond .ne 15, 3) := dk_154 0 15 (dk_at dksL_law_87 7 rfl rfl)
theorem dL_law_2208 : decode cL_law 2208 = .ok (.aload_n 3, 1) := dk_45 (dk_at dksL_law_87 10 rfl rfl)
theorem dL_law_2209 : decode cL_law 2209 = .ok (.iconst 0, 1) := dk_3 (dk_at dksL_law_87 11 rfl rfl)
theorem dL_law_2210 : decode cL_law 2210 = .ok (.laload, 1) := dk_47 (dk_at dksL_law_87 12 rfl rfl)
theorem dL_law_2211 : decode cL_law 2211 = .ok (.iload 7, 2) := dk_21 7 (dk_at dksL_law_87 13 rfl rfl)
theorem dL_law_2213 : decode cL_law 2213 = .ok (.i2l, 1) := dk_133 (dk_at dksL_law_87 15 rfl rfl)
theorem dL_law_2214 : decode cL_law 2214 = .ok (.lcmp, 1) := dk_148 (dk_at dksL_law_87 16 rfl rfl)
theorem dL_law_2215 : decode cL_law 2215 = .ok (.ifCond .eq 5, 3) := dk_153 0 5 (dk_at dksL_law_87 17 rfl rfl)
theorem dL_law_2218 : decode cL_law 2218 = .ok (.iconst 0, 1) := dk_3 (dk_at dksL_law_87 20 rfl rfl)
theorem dL_law_2219 : decode cL_law 2219 = .ok (.ireturn, 1) := dk_172 (dk_at dksL_law_87 21 rfl rfl)
theorem dL_law_2220 : decode cL_law 2220 = .ok (.goto 563, 3) := dk_167 2 51 (dk_at dksL_law_88 0 rfl rfl)
theorem dL_law_2223 : decode cL_law 2223 = .ok (.aload_n 1, 1) := dk_43 (dk_at dksL_law_88 3 rfl rfl)
theorem dL_law_2224 : decode cL_law 2224 = .ok (.aload_n 0, 1) := dk_42 (dk_at dksL_law_88 4 rfl rfl)
theorem dL_law_2225 : decode cL_law 2225 = .ok (.iload 5, 2) := dk_21 5 (dk_at dksL_law_88 5 rfl rfl)
theorem dL_law_2227 : decode cL_law 2227 = .ok (.iconst 1, 1) := dk_4 (dk_at dksL_law_88 7 rfl rfl)
theorem dL_law_2228 : decode cL_law 2228 = .ok (.iadd, 1) := dk_96 (dk_at dksL_law_88 8 rfl rfl)
theorem dL_law_2229 : decode cL_law 2229 = .ok (.iaload, 1) := dk_46 (dk_at dksL_law_88 9 rfl rfl)
theorem dL_law_2230 : decode cL_law 2230 = .ok (.aload_n 0, 1) := dk_42 (dk_at dksL_law_88 10 rfl rfl)
theorem dL_law_2231 : decode cL_law 2231 = .ok (.iload 5, 2) := dk_21 5 (dk_at dksL_law_88 11 rfl rfl)
theorem dL_law_2233 : decode cL_law 2233 = .ok (.iconst 2, 1) := dk_5 (dk_at dksL_law_88 13 rfl rfl)
theorem dL_law_2234 : decode cL_law 2234 = .ok (.iadd, 1) := dk_96 (dk_at dksL_law_88 14 rfl rfl)
theorem dL_law_2235 : decode cL_law 2235 = .ok (.iaload, 1) := dk_46 (dk_at dksL_law_88 15 rfl rfl)
theorem dL_law_2236 : decode cL_law 2236 = .ok (.aload_n 3, 1) := dk_45 (dk_at dksL_law_88 16 rfl rfl)
theorem dL_law_2237 : decode cL_law 2237 = .ok (.invokestatic 268, 3) := dk_184 1 12 (dk_at dksL_law_88 17 rfl rfl)
theorem dL_law_2240 : decode cL_law 2240 = .ok (.istore 6, 2) := dk_54 6 (dk_at dksL_law_88 20 rfl rfl)
theorem dL_law_2242 : decode cL_law 2242 = .ok (.aload_n 2, 1) := dk_44 (dk_at dksL_law_88 22 rfl rfl)
theorem dL_law_2243 : decode cL_law 2243 = .ok (.aload_n 0, 1) := dk_42 (dk_at dksL_law_88 23 rfl rfl)
theorem dL_law_2244 : decode cL_law 2244 = .ok (.iload 5, 2) := dk_21 5 (dk_at dksL_law_89 0 rfl rfl)
theorem dL_law_2246 : decode cL_law 2246 = .ok (.iconst 1, 1) := dk_4 (dk_at dksL_law_89 2 rfl rfl)
theorem dL_law_2247 : decode cL_law 2247 = .ok (.iadd, 1) := dk_96 (dk_at dksL_law_89 3 rfl rfl)
theorem dL_law_2248 : decode cL_law 2248 = .ok (.iaload, 1) := dk_46 (dk_at dksL_law_89 4 rfl rfl)
theorem dL_law_2249 : decode cL_law 2249 = .ok (.aload_n 0, 1) := dk_42 (dk_at dksL_law_89 5 rfl rfl)
theorem dL_law_2250 : decode cL_law 2250 = .ok (.iload 5, 2) := dk_21 5 (dk_at dksL_law_89 6 rfl rfl)
theorem dL_law_2252 : decode cL_law 2252 = .ok (.iconst 2, 1) := dk_5 (dk_at dksL_law_89 8 rfl rfl)
theorem dL_law_2253 : decode cL_law 2253 = .ok (.iadd, 1) := dk_96 (dk_at dksL_law_89 9 rfl rfl)
theorem dL_law_2254 : decode cL_law 2254 = .ok (.iaload, 1) := dk_46 (dk_at dksL_law_89 10 rfl rfl)
theorem dL_law_2255 : decode cL_law 2255 = .ok (.invokevirtual 270, 3) := dk_182 1 14 (dk_at dksL_law_89 11 rfl rfl)
theorem dL_law_2258 : decode cL_law 2258 = .ok (.istore 7, 2) := dk_54 7 (dk_at dksL_law_89 14 rfl rfl)
theorem dL_law_2260 : decode cL_law 2260 = .ok (.aload_n 2, 1) := dk_44 (dk_at dksL_law_89 16 rfl rfl)
theorem dL_law_2261 : decode cL_law 2261 = .ok (.invokevirtual 163, 3) := dk_182 0 163 (dk_at dksL_law_89 17 rfl rfl)
theorem dL_law_2264 : decode cL_law 2264 = .ok (.iload 6, 2) := dk_21 6 (dk_at dksL_law_89 20 rfl rfl)
theorem dL_law_2266 : decode cL_law 2266 = .ok (.if_icmp .eq 5, 3) := dk_159 0 5 (dk_at dksL_law_90 0 rfl rfl)
theorem dL_law_2269 : decode cL_law 2269 = .ok (.iconst 0, 1) := dk_3 (dk_at dksL_law_90 3 rfl rfl)
theorem dL_law_2270 : decode cL_law 2270 = .ok (.ireturn, 1) := dk_172 (dk_at dksL_law_90 4 rfl rfl)
theorem dL_law_2271 : decode cL_law 2271 = .ok (.iload 6, 2) := dk_21 6 (dk_at dksL_law_90 5 rfl rfl)
theorem dL_law_2273 : decode cL_law 2273 = .ok (.ifCond .ne 15, 3) := dk_154 0 15 (dk_at dksL_law_90 7 rfl rfl)
theorem dL_law_2276 : decode cL_law 2276 = .ok (.aload_n 3, 1) := dk_45 (dk_at dksL_law_90 10 rfl rfl)
theorem dL_law_2277 : decode cL_law 2277 = .ok (.iconst 0, 1) := dk_3 (dk_at dksL_law_90 11 rfl rfl)
theorem dL_law_2278 : decode cL_law 2278 = .ok (.laload, 1) := dk_47 (dk_at dksL_law_90 12 rfl rfl)
theorem dL_law_2279 : decode cL_law 2279 = .ok (.iload 7, 2) := dk_21 7 (dk_at dksL_law_90 13 rfl rfl)
theorem dL_law_2281 : decode cL_law 2281 = .ok (.i2l, 1) := dk_133 (dk_at dksL_law_90 15 rfl rfl)
theorem dL_law_2282 : decode cL_law 2282 = .ok (.lcmp, 1) := dk_148 (dk_at dksL_law_90 16 rfl rfl)
theorem dL_law_2283 : decode cL_law 2283 = .ok (.ifCond .eq 5, 3) := dk_153 0 5 (dk_at dksL_law_90 17 rfl rfl)
theorem dL_law_2286 : decode cL_law 2286 = .ok (.iconst 0, 1) := dk_3 (dk_at dksL_law_90 20 rfl rfl)
theorem dL_law_2287 : decode cL_law 2287 = .ok (.ireturn, 1) := dk_172 (dk_at dksL_law_90 21 rfl rfl)
theorem dL_law_2288 : decode cL_law 2288 = .ok (.goto 495, 3) := dk_167 1 239 (dk_at dksL_law_91 0 rfl rfl)
theorem dL_law_2291 : decode cL_law 2291 = .ok (.aload_n 1, 1) := dk_43 (dk_at dksL_law_91 3 rfl rfl)
theorem dL_law_2292 : decode cL_law 2292 = .ok (.aload_n 0, 1) := dk_42 (dk_at dksL_law_91 4 rfl rfl)
theorem dL_law_2293 : decode cL_law 2293 = .ok (.iload 5, 2) := dk_21 5 (dk_at dksL_law_91 5 rfl rfl)
theorem dL_law_2295 : decode cL_law 2295 = .ok (.iconst 1, 1) := dk_4 (dk_at dksL_law_91 7 rfl rfl)
theorem dL_law_2296 : decode cL_law 2296 = .ok (.iadd, 1) := dk_96 (dk_at dksL_law_91 8 rfl rfl)
theorem dL_law_2297 : decode cL_law 2297 = .ok (.iaload, 1) := dk_46 (dk_at dksL_law_91 9 rfl rfl)
theorem dL_law_2298 : decode cL_law 2298 = .ok (.aload_n 0, 1) := dk_42 (dk_at dksL_law_91 10 rfl rfl)
theorem dL_law_2299 : decode cL_law 2299 = .ok (.iload 5, 2) := dk_21 5 (dk_at dksL_law_91 11 rfl rfl)
theorem dL_law_2301 : decode cL_law 2301 = .ok (.iconst 2, 1) := dk_5 (dk_at dksL_law_91 13 rfl rfl)
theorem dL_law_2302 : decode cL_law 2302 = .ok (.iadd, 1) := dk_96 (dk_at dksL_law_91 14 rfl rfl)
theorem dL_law_2303 : decode cL_law 2303 = .ok (.iaload, 1) := dk_46 (dk_at dksL_law_91 15 rfl rfl)
theorem dL_law_2304 : decode cL_law 2304 = .ok (.aload_n 3, 1) := dk_45 (dk_at dksL_law_91 16 rfl rfl)
theorem dL_law_2305 : decode cL_law 2305 = .ok (.invokestatic 271, 3) := dk_184 1 15 (dk_at dksL_law_91 17 rfl rfl)
theorem dL_law_2308 : decode cL_law 2308 = .ok (.istore 6, 2) := dk_54 6 (dk_at dksL_law_91 20 rfl rfl)
theorem dL_law_2310 : decode cL_law 2310 = .ok (.aload_n 2, 1) := dk_44 (dk_at dksL_law_91 22 rfl rfl)
theorem dL_law_2311 : decode cL_law 2311 = .ok (.aload_n 0, 1) := dk_42 (dk_at dksL_law_91 23 rfl rfl)
theorem dL_law_2312 : decode cL_law 2312 = .ok (.iload 5, 2) := dk_21 5 (dk_at dksL_law_92 0 rfl rfl)
theorem dL_law_2314 : decode cL_law 2314 = .ok (.iconst 1, 1) := dk_4 (dk_at dksL_law_92 2 rfl rfl)
theorem dL_law_2315 : decode cL_law 2315 = .ok (.iadd, 1) := dk_96 (dk_at dksL_law_92 3 rfl rfl)
theorem dL_law_2316 : decode cL_law 2316 = .ok (.iaload, 1) := dk_46 (dk_at dksL_law_92 4 rfl rfl)
theorem dL_law_2317 : decode cL_law 2317 = .ok (.aload_n 0, 1) := dk_42 (dk_at dksL_law_92 5 rfl rfl)
theorem dL_law_2318 : decode cL_law 2318 = .ok (.iload 5, 2) := dk_21 5 (dk_at dksL_law_92 6 rfl rfl)
theorem dL_law_2320 : decode cL_law 2320 = .ok (.iconst 2, 1) := dk_5 (dk_at dksL_law_92 8 rfl rfl)
theorem dL_law_2321 : decode cL_law 2321 = .ok (.iadd, 1) := dk_96 (dk_at dksL_law_92 9 rfl rfl)
theorem dL_law_2322 : decode cL_law 2322 = .ok (.iaload, 1) := dk_46 (dk_at dksL_law_92 10 rfl rfl)
theorem dL_law_2323 : decode cL_law 2323 = .ok (.invokevirtual 273, 3) := dk_182 1 17 (dk_at dksL_law_92 11 rfl rfl)
theorem dL_law_2326 : decode cL_law 2326 = .ok (.istore 7, 2) := dk_54 7 (dk_at dksL_law_92 14 rfl rfl)
theorem dL_law_2328 : decode cL_law 2328 = .ok (.aload_n 2, 1) := dk_44 (dk_at dksL_law_92 16 rfl rfl)
theorem dL_law_2329 : decode cL_law 2329 = .ok (.invokevirtual 163, 3) := dk_182 0 163 (dk_at dksL_law_92 17 rfl rfl)
theorem dL_law_2332 : decode cL_law 2332 = .ok (.iload 6, 2) := dk_21 6 (dk_at dksL_law_92 20 rfl rfl)
theorem dL_law_2334 : decode cL_law 2334 = .ok (.if_icmp .eq 5, 3) := dk_159 0 5 (dk_at dksL_law_93 0 rfl rfl)
theorem dL_law_2337 : decode cL_law 2337 = .ok (.iconst 0, 1) := dk_3 (dk_at dksL_law_93 3 rfl rfl)
theorem dL_law_2338 : decode cL_law 2338 = .ok (.ireturn, 1) := dk_172 (dk_at dksL_law_93 4 rfl rfl)
theorem dL_law_2339 : decode cL_law 2339 = .ok (.iload 6, 2) := dk_21 6 (dk_at dksL_law_93 5 rfl rfl)
theorem dL_law_2341 : decode cL_law 2341 = .ok (.ifCond .ne 15, 3) := dk_154 0 15 (dk_at dksL_law_93 7 rfl rfl)
theorem dL_law_2344 : decode cL_law 2344 = .ok (.aload_n 3, 1) := dk_45 (dk_at dksL_law_93 10 rfl rfl)
theorem dL_law_2345 : decode cL_law 2345 = .ok (.iconst 0, 1) := dk_3 (dk_at dksL_law_93 11 rfl rfl)
theorem dL_law_2346 : decode cL_law 2346 = .ok (.laload, 1) := dk_47 (dk_at dksL_law_93 12 rfl rfl)
theorem dL_law_2347 : decode cL_law 2347 = .ok (.iload 7, 2) := dk_21 7 (dk_at dksL_law_93 13 rfl rfl)
theorem dL_law_2349 : decode cL_law 2349 = .ok (.i2l, 1) := dk_133 (dk_at dksL_law_93 15 rfl rfl)
theorem dL_law_2350 : decode cL_law 2350 = .ok (.lcmp, 1) := dk_148 (dk_at dksL_law_93 16 rfl rfl)
theorem dL_law_2351 : decode cL_law 2351 = .ok (.ifCond .eq 5, 3) := dk_153 0 5 (dk_at dksL_law_93 17 rfl rfl)
theorem dL_law_2354 : decode cL_law 2354 = .ok (.iconst 0, 1) := dk_3 (dk_at dksL_law_93 20 rfl rfl)
theorem dL_law_2355 : decode cL_law 2355 = .ok (.ireturn, 1) := dk_172 (dk_at dksL_law_93 21 rfl rfl)
theorem dL_law_2356 : decode cL_law 2356 = .ok (.goto 427, 3) := dk_167 1 171 (dk_at dksL_law_94 0 rfl rfl)
theorem dL_law_2359 : decode cL_law 2359 = .ok (.aload_n 1, 1) := dk_43 (dk_at dksL_law_94 3 rfl rfl)
theorem dL_law_2360 : decode cL_law 2360 = .ok (.aload_n 0, 1) := dk_42 (dk_at dksL_law_94 4 rfl rfl)
theorem dL_law_2361 : decode cL_law 2361 = .ok (.iload 5, 2) := dk_21 5 (dk_at dksL_law_94 5 rfl rfl)
theorem dL_law_2363 : decode cL_law 2363 = .ok (.iconst 1, 1) := dk_4 (dk_at dksL_law_94 7 rfl rfl)
theorem dL_law_2364 : decode cL_law 2364 = .ok (.iadd, 1) := dk_96 (dk_at dksL_law_94 8 rfl rfl)
theorem dL_law_2365 : decode cL_law 2365 = .ok (.iaload, 1) := dk_46 (dk_at dksL_law_94 9 rfl rfl)
theorem dL_law_2366 : decode cL_law 2366 = .ok (.aload_n 0, 1) := dk_42 (dk_at dksL_law_94 10 rfl rfl)
theorem dL_law_2367 : decode cL_law 2367 = .ok (.iload 5, 2) := dk_21 5 (dk_at dksL_law_94 11 rfl rfl)
theorem dL_law_2369 : decode cL_law 2369 = .ok (.iconst 2, 1) := dk_5 (dk_at dksL_law_94 13 rfl rfl)
theorem dL_law_2370 : decode cL_law 2370 = .ok (.iadd, 1) := dk_96 (dk_at dksL_law_94 14 rfl rfl)
theorem dL_law_2371 : decode cL_law 2371 = .ok (.iaload, 1) := dk_46 (dk_at dksL_law_94 15 rfl rfl)
theorem dL_law_2372 : decode cL_law 2372 = .ok (.aload_n 3, 1) := dk_45 (dk_at dksL_law_94 16 rfl rfl)
theorem dL_law_2373 : decode cL_law 2373 = .ok (.invokestatic 274, 3) := dk_184 1 18 (dk_at dksL_law_94 17 rfl rfl)
theorem dL_law_2376 : decode cL_law 2376 = .ok (.istore 6, 2) := dk_54 6 (dk_at dksL_law_94 20 rfl rfl)
theorem dL_law_2378 : decode cL_law 2378 = .ok (.aload_n 2, 1) := dk_44 (dk_at dksL_law_94 22 rfl rfl)
theorem dL_law_2379 : decode cL_law 2379 = .ok (.aload_n 0, 1) := dk_42 (dk_at dksL_law_94 23 rfl rfl)
theorem dL_law_2380 : decode cL_law 2380 = .ok (.iload 5, 2) := dk_21 5 (dk_at dksL_law_95 0 rfl rfl)
theorem dL_law_2382 : decode cL_law 2382 = .ok (.iconst 1, 1) := dk_4 (dk_at dksL_law_95 2 rfl rfl)
theorem dL_law_2383 : decode cL_law 2383 = .ok (.iadd, 1) := dk_96 (dk_at dksL_law_95 3 rfl rfl)
theorem dL_law_2384 : decode cL_law 2384 = .ok (.iaload, 1) := dk_46 (dk_at dksL_law_95 4 rfl rfl)
theorem dL_law_2385 : decode cL_law 2385 = .ok (.aload_n 0, 1) := dk_42 (dk_at dksL_law_95 5 rfl rfl)
theorem dL_law_2386 : decode cL_law 2386 = .ok (.iload 5, 2) := dk_21 5 (dk_at dksL_law_95 6 rfl rfl)
theorem dL_law_2388 : decode cL_law 2388 = .ok (.iconst 2, 1) := dk_5 (dk_at dksL_law_95 8 rfl rfl)
theorem dL_law_2389 : decode cL_law 2389 = .ok (.iadd, 1) := dk_96 (dk_at dksL_law_95 9 rfl rfl)
theorem dL_law_2390 : decode cL_law 2390 = .ok (.iaload, 1) := dk_46 (dk_at dksL_law_95 10 rfl rfl)
theorem dL_law_2391 : decode cL_law 2391 = .ok (.invokevirtual 276, 3) := dk_182 1 20 (dk_at dksL_law_95 11 rfl rfl)
theorem dL_law_2394 : decode cL_law 2394 = .ok (.istore 7, 2) := dk_54 7 (dk_at dksL_law_95 14 rfl rfl)
theorem dL_law_2396 : decode cL_law 2396 = .ok (.aload_n 2, 1) := dk_44 (dk_at dksL_law_95 16 rfl rfl)
theorem dL_law_2397 : decode cL_law 2397 = .ok (.invokevirtual 163, 3) := dk_182 0 163 (dk_at dksL_law_95 17 rfl rfl)
theorem dL_law_2400 : decode cL_law 2400 = .ok (.iload 6, 2) := dk_21 6 (dk_at dksL_law_95 20 rfl rfl)
theorem dL_law_2402 : decode cL_law 2402 = .ok (.if_icmp .eq 5, 3) := dk_159 0 5 (dk_at dksL_law_96 0 rfl rfl)
theorem dL_law_2405 : decode cL_law 2405 = .ok (.iconst 0, 1) := dk_3 (dk_at dksL_law_96 3 rfl rfl)
theorem dL_law_2406 : decode cL_law 2406 = .ok (.ireturn, 1) := dk_172 (dk_at dksL_law_96 4 rfl rfl)
theorem dL_law_2407 : decode cL_law 2407 = .ok (.iload 6, 2) := dk_21 6 (dk_at dksL_law_96 5 rfl rfl)
theorem dL_law_2409 : decode cL_law 2409 = .ok (.ifCond .ne 15, 3) := dk_154 0 15 (dk_at dksL_law_96 7 rfl rfl)
theorem dL_law_2412 : decode cL_law 2412 = .ok (.aload_n 3, 1) := dk_45 (dk_at dksL_law_96 10 rfl rfl)
theorem dL_law_2413 : decode cL_law 2413 = .ok (.iconst 0, 1) := dk_3 (dk_at dksL_law_96 11 rfl rfl)
theorem dL_law_2414 : decode cL_law 2414 = .ok (.laload, 1) := dk_47 (dk_at dksL_law_96 12 rfl rfl)
theorem dL_law_2415 : decode cL_law 2415 = .ok (.iload 7, 2) := dk_21 7 (dk_at dksL_law_96 13 rfl rfl)
theorem dL_law_2417 : decode cL_law 2417 = .ok (.i2l, 1) := dk_133 (dk_at dksL_law_96 15 rfl rfl)
theorem dL_law_2418 : decode cL_law 2418 = .ok (.lcmp, 1) := dk_148 (dk_at dksL_law_96 16 rfl rfl)
theorem dL_law_2419 : decode cL_law 2419 = .ok (.ifCond .eq 5, 3) := dk_153 0 5 (dk_at dksL_law_96 17 rfl rfl)
theorem dL_law_2422 : decode cL_law 2422 = .ok (.iconst 0, 1) := dk_3 (dk_at dksL_law_96 20 rfl rfl)
theorem dL_law_2423 : decode cL_law 2423 = .ok (.ireturn, 1) := dk_172 (dk_at dksL_law_96 21 rfl rfl)
theorem dL_law_2424 : decode cL_law 2424 = .ok (.goto 359, 3) := dk_167 1 103 (dk_at dksL_law_97 0 rfl rfl)
theorem dL_law_2427 : decode cL_law 2427 = .ok (.aload_n 1, 1) := dk_43 (dk_at dksL_law_97 3 rfl rfl)
theorem dL_law_2428 : decode cL_law 2428 = .ok (.aload_n 0, 1) := dk_42 (dk_at dksL_law_97 4 rfl rfl)
theorem dL_law_2429 : decode cL_law 2429 = .ok (.iload 5, 2) := dk_21 5 (dk_at dksL_law_97 5 rfl rfl)
theorem dL_law_2431 : decode cL_law 2431 = .ok (.iconst 1, 1) := dk_4 (dk_at dksL_law_97 7 rfl rfl)
theorem dL_law_2432 : decode cL_law 2432 = .ok (.iadd, 1) := dk_96 (dk_at dksL_law_97 8 rfl rfl)
theorem dL_law_2433 : decode cL_law 2433 = .ok (.iaload, 1) := dk_46 (dk_at dksL_law_97 9 rfl rfl)
theorem dL_law_2434 : decode cL_law 2434 = .ok (.aload_n 3, 1) := dk_45 (dk_at dksL_law_97 10 rfl rfl)
theorem dL_law_2435 : decode cL_law 2435 = .ok (.invokestatic 277, 3) := dk_184 1 21 (dk_at dksL_law_97 11 rfl rfl)
theorem dL_law_2438 : decode cL_law 2438 = .ok (.istore 6, 2) := dk_54 6 (dk_at dksL_law_97 14 rfl rfl)
theorem dL_law_2440 : decode cL_law 2440 = .ok (.aload_n 2, 1) := dk_44 (dk_at dksL_law_97 16 rfl rfl)
theorem dL_law_2441 : decode cL_law 2441 = .ok (.aload_n 0, 1) := dk_42 (dk_at dksL_law_97 17 rfl rfl)
theorem dL_law_2442 : decode cL_law 2442 = .ok (.iload 5, 2) := dk_21 5 (dk_at dksL_law_97 18 rfl rfl)
theorem dL_law_2444 : decode cL_law 2444 = .ok (.iconst 1, 1) := dk_4 (dk_at dksL_law_97 20 rfl rfl)
theorem dL_law_2445 : decode cL_law 2445 = .ok (.iadd, 1) := dk_96 (dk_at dksL_law_97 21 rfl rfl)
theorem dL_law_2446 : decode cL_law 2446 = .ok (.iaload, 1) := dk_46 (dk_at dksL_law_97 22 rfl rfl)
theorem dL_law_2447 : decode cL_law 2447 = .ok (.invokevirtual 279, 3) := dk_182 1 23 (dk_at dksL_law_98 0 rfl rfl)
theorem dL_law_2450 : decode cL_law 2450 = .ok (.istore 7, 2) := dk_54 7 (dk_at dksL_law_98 3 rfl rfl)
theorem dL_law_2452 : decode cL_law 2452 = .ok (.aload_n 2, 1) := dk_44 (dk_at dksL_law_98 5 rfl rfl)
theorem dL_law_2453 : decode cL_law 2453 = .ok (.invokevirtual 163, 3) := dk_182 0 163 (dk_at dksL_law_98 6 rfl rfl)
theorem dL_law_2456 : decode cL_law 2456 = .ok (.iload 6, 2) := dk_21 6 (dk_at dksL_law_98 9 rfl rfl)
theorem dL_law_2458 : decode cL_law 2458 = .ok (.if_icmp .eq 5, 3) := dk_159 0 5 (dk_at dksL_law_98 11 rfl rfl)
theorem dL_law_2461 : decode cL_law 2461 = .ok (.iconst 0, 1) := dk_3 (dk_at dksL_law_98 14 rfl rfl)
theorem dL_law_2462 : decode cL_law 2462 = .ok (.ireturn, 1) := dk_172 (dk_at dksL_law_98 15 rfl rfl)
theorem dL_law_2463 : decode cL_law 2463 = .ok (.iload 6, 2) := dk_21 6 (dk_at dksL_law_98 16 rfl rfl)
theorem dL_law_2465 : decode cL_law 2465 = .ok (.ifCond .ne 15, 3) := dk_154 0 15 (dk_at dksL_law_98 18 rfl rfl)
theorem dL_law_2468 : decode cL_law 2468 = .ok (.aload_n 3, 1) := dk_45 (dk_at dksL_law_98 21 rfl rfl)
theorem dL_law_2469 : decode cL_law 2469 = .ok (.iconst 0, 1) := dk_3 (dk_at dksL_law_98 22 rfl rfl)
theorem dL_law_2470 : decode cL_law 2470 = .ok (.laload, 1) := dk_47 (dk_at dksL_law_98 23 rfl rfl)
theorem dL_law_2471 : decode cL_law 2471 = .ok (.iload 7, 2) := dk_21 7 (dk_at dksL_law_99 0 rfl rfl)
theorem dL_law_2473 : decode cL_law 2473 = .ok (.i2l, 1) := dk_133 (dk_at dksL_law_99 2 rfl rfl)
theorem dL_law_2474 : decode cL_law 2474 = .ok (.lcmp, 1) := dk_148 (dk_at dksL_law_99 3 rfl rfl)
theorem dL_law_2475 : decode cL_law 2475 = .ok (.ifCond .eq 5, 3) := dk_153 0 5 (dk_at dksL_law_99 4 rfl rfl)
theorem dL_law_2478 : decode cL_law 2478 = .ok (.iconst 0, 1) := dk_3 (dk_at dksL_law_99 7 rfl rfl)
theorem dL_law_2479 : decode cL_law 2479 = .ok (.ireturn, 1) := dk_172 (dk_at dksL_law_99 8 rfl rfl)
theorem dL_law_2480 : decode cL_law 2480 = .ok (.goto 303, 3) := dk_167 1 47 (dk_at dksL_law_99 9 rfl rfl)
theorem dL_law_2483 : decode cL_law 2483 = .ok (.aload_n 1, 1) := dk_43 (dk_at dksL_law_99 12 rfl rfl)
theorem dL_law_2484 : decode cL_law 2484 = .ok (.aload_n 0, 1) := dk_42 (dk_at dksL_law_99 13 rfl rfl)
theorem dL_law_2485 : decode cL_law 2485 = .ok (.iload 5, 2) := dk_21 5 (dk_at dksL_law_99 14 rfl rfl)
theorem dL_law_2487 : decode cL_law 2487 = .ok (.iconst 1, 1) := dk_4 (dk_at dksL_law_99 16 rfl rfl)
theorem dL_law_2488 : decode cL_law 2488 = .ok (.iadd, 1) := dk_96 (dk_at dksL_law_99 17 rfl rfl)
theorem dL_law_2489 : decode cL_law 2489 = .ok (.iaload, 1) := dk_46 (dk_at dksL_law_99 18 rfl rfl)
theorem dL_law_2490 : decode cL_law 2490 = .ok (.aload 4, 2) := dk_25 4 (dk_at dksL_law_99 19 rfl rfl)
theorem dL_law_2492 : decode cL_law 2492 = .ok (.invokestatic 280, 3) := dk_184 1 24 (dk_at dksL_law_99 21 rfl rfl)
theorem dL_law_2495 : decode cL_law 2495 = .ok (.istore 6, 2) := dk_54 6 (dk_at dksL_law_100 0 rfl rfl)
theorem dL_law_2497 : decode cL_law 2497 = .ok (.aload_n 2, 1) := dk_44 (dk_at dksL_law_100 2 rfl rfl)
theorem dL_law_2498 : decode cL_law 2498 = .ok (.aload_n 0, 1) := dk_42 (dk_at dksL_law_100 3 rfl rfl)
theorem dL_law_2499 : decode cL_law 2499 = .ok (.iload 5, 2) := dk_21 5 (dk_at dksL_law_100 4 rfl rfl)
theorem dL_law_2501 : decode cL_law 2501 = .ok (.iconst 1, 1) := dk_4 (dk_at dksL_law_100 6 rfl rfl)
theorem dL_law_2502 : decode cL_law 2502 = .ok (.iadd, 1) := dk_96 (dk_at dksL_law_100 7 rfl rfl)
theorem dL_law_2503 : decode cL_law 2503 = .ok (.iaload, 1) := dk_46 (dk_at dksL_law_100 8 rfl rfl)
theorem dL_law_2504 : decode cL_law 2504 = .ok (.invokevirtual 283, 3) := dk_182 1 27 (dk_at dksL_law_100 9 rfl rfl)
theorem dL_law_2507 : decode cL_law 2507 = .ok (.fstore 7, 2) := dk_56 7 (dk_at dksL_law_100 12 rfl rfl)
theorem dL_law_2509 : decode cL_law 2509 = .ok (.aload_n 2, 1) := dk_44 (dk_at dksL_law_100 14 rfl rfl)
theorem dL_law_2510 : decode cL_law 2510 = .ok (.invokevirtual 163, 3) := dk_182 0 163 (dk_at dksL_law_100 15 rfl rfl)
theorem dL_law_2513 : decode cL_law 2513 = .ok (.iload 6, 2) := dk_21 6 (dk_at dksL_law_100 18 rfl rfl)
theorem dL_law_2515 : decode cL_law 2515 = .ok (.if_icmp .eq 5, 3) := dk_159 0 5 (dk_at dksL_law_100 20 rfl rfl)
theorem dL_law_2518 : decode cL_law 2518 = .ok (.iconst 0, 1) := dk_3 (dk_at dksL_law_100 23 rfl rfl)
theorem dL_law_2519 : decode cL_law 2519 = .ok (.ireturn, 1) := dk_172 (dk_at dksL_law_101 0 rfl rfl)
theorem dL_law_2520 : decode cL_law 2520 = .ok (.iload 6, 2) := dk_21 6 (dk_at dksL_law_101 1 rfl rfl)
theorem dL_law_2522 : decode cL_law 2522 = .ok (.ifCond .ne 36, 3) := dk_154 0 36 (dk_at dksL_law_101 3 rfl rfl)
theorem dL_law_2525 : decode cL_law 2525 = .ok (.aload 4, 2) := dk_25 4 (dk_at dksL_law_101 6 rfl rfl)
theorem dL_law_2527 : decode cL_law 2527 = .ok (.iconst 0, 1) := dk_3 (dk_at dksL_law_101 8 rfl rfl)
theorem dL_law_2528 : decode cL_law 2528 = .ok (.daload, 1) := dk_49 (dk_at dksL_law_101 9 rfl rfl)
theorem dL_law_2529 : decode cL_law 2529 = .ok (.fload 7, 2) := dk_23 7 (dk_at dksL_law_101 10 rfl rfl)
theorem dL_law_2531 : decode cL_law 2531 = .ok (.f2d, 1) := dk_141 (dk_at dksL_law_101 12 rfl rfl)
theorem dL_law_2532 : decode cL_law 2532 = .ok (.dcmp .l, 1) := dk_151 (dk_at dksL_law_101 13 rfl rfl)
theorem dL_law_2533 : decode cL_law 2533 = .ok (.ifCond .eq 25, 3) := dk_153 0 25 (dk_at dksL_law_101 14 rfl rfl)
theorem dL_law_2536 : decode cL_law 2536 = .ok (.aload 4, 2) := dk_25 4 (dk_at dksL_law_101 17 rfl rfl)
theorem dL_law_2538 : decode cL_law 2538 = .ok (.iconst 0, 1) := dk_3 (dk_at dksL_law_101 19 rfl rfl)
theorem dL_law_2539 : decode cL_law 2539 = .ok (.daload, 1) := dk_49 (dk_at dksL_law_101 20 rfl rfl)
theorem dL_law_2540 : decode cL_law 2540 = .ok (.aload 4, 2) := dk_25 4 (dk_at dksL_law_101 21 rfl rfl)
theorem dL_law_2542 : decode cL_law 2542 = .ok (.iconst 0, 1) := dk_3 (dk_at dksL_law_101 23 rfl rfl)
theorem dL_law_2543 : decode cL_law 2543 = .ok (.daload, 1) := dk_49 (dk_at dksL_law_102 0 rfl rfl)
theorem dL_law_2544 : decode cL_law 2544 = .ok (.dcmp .l, 1) := dk_151 (dk_at dksL_law_102 1 rfl rfl)
theorem dL_law_2545 : decode cL_law 2545 = .ok (.ifCond .eq 11, 3) := dk_153 0 11 (dk_at dksL_law_102 2 rfl rfl)
theorem dL_law_2548 : decode cL_law 2548 = .ok (.fload 7, 2) := dk_23 7 (dk_at dksL_law_102 5 rfl rfl)
theorem dL_law_2550 : decode cL_law 2550 = .ok (.fload 7, 2) := dk_23 7 (dk_at dksL_law_102 7 rfl rfl)
theorem dL_law_2552 : decode cL_law 2552 = .ok (.fcmp .l, 1) := dk_149 (dk_at dksL_law_102 9 rfl rfl)
theorem dL_law_2553 : decode cL_law 2553 = .ok (.ifCond .ne 5, 3) := dk_154 0 5 (dk_at dksL_law_102 10 rfl rfl)
theorem dL_law_2556 : decode cL_law 2556 = .ok (.iconst 0, 1) := dk_3 (dk_at dksL_law_102 13 rfl rfl)
theorem dL_law_2557 : decode cL_law 2557 = .ok (.ireturn, 1) := dk_172 (dk_at dksL_law_102 14 rfl rfl)
theorem dL_law_2558 : decode cL_law 2558 = .ok (.goto 225, 3) := dk_167 0 225 (dk_at dksL_law_102 15 rfl rfl)
theorem dL_law_2561 : decode cL_law 2561 = .ok (.aload_n 1, 1) := dk_43 (dk_at dksL_law_102 18 rfl rfl)
theorem dL_law_2562 : decode cL_law 2562 = .ok (.aload 4, 2) := dk_25 4 (dk_at dksL_law_102 19 rfl rfl)
theorem dL_law_2564 : decode cL_law 2564 = .ok (.invokestatic 284, 3) := dk_184 1 28 (dk_at dksL_law_102 21 rfl rfl)
theorem dL_law_2567 : decode cL_law 2567 = .ok (.istore 6, 2) := dk_54 6 (dk_at dksL_law_103 0 rfl rfl)
theorem dL_law_2569 : decode cL_law 2569 = .ok (.aload_n 2, 1) := dk_44 (dk_at dksL_law_103 2 rfl rfl)
theorem dL_law_2570 : decode cL_law 2570 = .ok (.invokevirtual 287, 3) := dk_182 1 31 (dk_at dksL_law_103 3 rfl rfl)
theorem dL_law_2573 : decode cL_law 2573 = .ok (.dstore 7, 2) := dk_57 7 (dk_at dksL_law_103 6 rfl rfl)
theorem dL_law_2575 : decode cL_law 2575 = .ok (.aload_n 2, 1) := dk_44 (dk_at dksL_law_103 8 rfl rfl)
theorem dL_law_2576 : decode cL_law 2576 = .ok (.invokevirtual 163, 3) := dk_182 0 163 (dk_at dksL_law_103 9 rfl rfl)
theorem dL_law_2579 : decode cL_law 2579 = .ok (.iload 6, 2) := dk_21 6 (dk_at dksL_law_103 12 rfl rfl)
theorem dL_law_2581 : decode cL_law 2581 = .ok (.if_icmp .eq 5, 3) := dk_159 0 5 (dk_at dksL_law_103 14 rfl rfl)
theorem dL_law_2584 : decode cL_law 2584 = .ok (.iconst 0, 1) := dk_3 (dk_at dksL_law_103 17 rfl rfl)
theorem dL_law_2585 : decode cL_law 2585 = .ok (.ireturn, 1) := dk_172 (dk_at dksL_law_103 18 rfl rfl)
theorem dL_law_2586 : decode cL_law 2586 = .ok (.iload 6, 2) := dk_21 6 (dk_at dksL_law_103 19 rfl rfl)
theorem dL_law_2588 : decode cL_law 2588 = .ok (.ifCond .ne 35, 3) := dk_154 0 35 (dk_at dksL_law_103 21 rfl rfl)
theorem dL_law_2591 : decode cL_law 2591 = .ok (.aload 4, 2) := dk_25 4 (dk_at dksL_law_104 0 rfl rfl)
theorem dL_law_2593 : decode cL_law 2593 = .ok (.iconst 0, 1) := dk_3 (dk_at dksL_law_104 2 rfl rfl)
theorem dL_law_2594 : decode cL_law 2594 = .ok (.daload, 1) := dk_49 (dk_at dksL_law_104 3 rfl rfl)
theorem dL_law_2595 : decode cL_law 2595 = .ok (.dload 7, 2) := dk_24 7 (dk_at dksL_law_104 4 rfl rfl)
theorem dL_law_2597 : decode cL_law 2597 = .ok (.dcmp .l, 1) := dk_151 (dk_at dksL_law_104 6 rfl rfl)
theorem dL_law_2598 : decode cL_law 2598 = .ok (.ifCond .eq 25, 3) := dk_153 0 25 (dk_at dksL_law_104 7 rfl rfl)
theorem dL_law_2601 : decode cL_law 2601 = .ok (.aload 4, 2) := dk_25 4 (dk_at dksL_law_104 10 rfl rfl)
theorem dL_law_2603 : decode cL_law 2603 = .ok (.iconst 0, 1) := dk_3 (dk_at dksL_law_104 12 rfl rfl)
theorem dL_law_2604 : decode cL_law 2604 = .ok (.daload, 1) := dk_49 (dk_at dksL_law_104 13 rfl rfl)
theorem dL_law_2605 : decode cL_law 2605 = .ok (.aload 4, 2) := dk_25 4 (dk_at dksL_law_104 14 rfl rfl)
theorem dL_law_2607 : decode cL_law 2607 = .ok (.iconst 0, 1) := dk_3 (dk_at dksL_law_104 16 rfl rfl)
theorem dL_law_2608 : decode cL_law 2608 = .ok (.daload, 1) := dk_49 (dk_at dksL_law_104 17 rfl rfl)
theorem dL_law_2609 : decode cL_law 2609 = .ok (.dcmp .l, 1) := dk_151 (dk_at dksL_law_104 18 rfl rfl)
theorem dL_law_2610 : decode cL_law 2610 = .ok (.ifCond .eq 11, 3) := dk_153 0 11 (dk_at dksL_law_104 19 rfl rfl)
theorem dL_law_2613 : decode cL_law 2613 = .ok (.dload 7, 2) := dk_24 7 (dk_at dksL_law_104 22 rfl rfl)
theorem dL_law_2615 : decode cL_law 2615 = .ok (.dload 7, 2) := dk_24 7 (dk_at dksL_law_105 0 rfl rfl)
theorem dL_law_2617 : decode cL_law 2617 = .ok (.dcmp .l, 1) := dk_151 (dk_at dksL_law_105 2 rfl rfl)
theorem dL_law_2618 : decode cL_law 2618 = .ok (.ifCond .ne 5, 3) := dk_154 0 5 (dk_at dksL_law_105 3 rfl rfl)
theorem dL_law_2621 : decode cL_law 2621 = .ok (.iconst 0, 1) := dk_3 (dk_at dksL_law_105 6 rfl rfl)
theorem dL_law_2622 : decode cL_law 2622 = .ok (.ireturn, 1) := dk_172 (dk_at dksL_law_105 7 rfl rfl)
theorem dL_law_2623 : decode cL_law 2623 = .ok (.goto 160, 3) := dk_167 0 160 (dk_at dksL_law_105 8 rfl rfl)
theorem dL_law_2626 : decode cL_law 2626 = .ok (.aload_n 1, 1) := dk_43 (dk_at dksL_law_105 11 rfl rfl)
theorem dL_law_2627 : decode cL_law 2627 = .ok (.aload_n 0, 1) := dk_42 (dk_at dksL_law_105 12 rfl rfl)
theorem dL_law_2628 : decode cL_law 2628 = .ok (.iload 5, 2) := dk_21 5 (dk_at dksL_law_105 13 rfl rfl)
theorem dL_law_2630 : decode cL_law 2630 = .ok (.iconst 1, 1) := dk_4 (dk_at dksL_law_105 15 rfl rfl)
theorem dL_law_2631 : decode cL_law 2631 = .ok (.iadd, 1) := dk_96 (dk_at dksL_law_105 16 rfl rfl)
theorem dL_law_2632 : decode cL_law 2632 = .ok (.iaload, 1) := dk_46 (dk_at dksL_law_105 17 rfl rfl)
theorem dL_law_2633 : decode cL_law 2633 = .ok (.aload_n 3, 1) := dk_45 (dk_at dksL_law_105 18 rfl rfl)
theorem dL_law_2634 : decode cL_law 2634 = .ok (.invokestatic 288, 3) := dk_184 1 32 (dk_at dksL_law_105 19 rfl rfl)
theorem dL_law_2637 : decode cL_law 2637 = .ok (.istore 6, 2) := dk_54 6 (dk_at dksL_law_105 22 rfl rfl)
theorem dL_law_2639 : decode cL_law 2639 = .ok (.aload_n 2, 1) := dk_44 (dk_at dksL_law_106 0 rfl rfl)
theorem dL_law_2640 : decode cL_law 2640 = .ok (.aload_n 0, 1) := dk_42 (dk_at dksL_law_106 1 rfl rfl)
theorem dL_law_2641 : decode cL_law 2641 = .ok (.iload 5, 2) := dk_21 5 (dk_at dksL_law_106 2 rfl rfl)
theorem dL_law_2643 : decode cL_law 2643 = .ok (.iconst 1, 1) := dk_4 (dk_at dksL_law_106 4 rfl rfl)
theorem dL_law_2644 : decode cL_law 2644 = .ok (.iadd, 1) := dk_96 (dk_at dksL_law_106 5 rfl rfl)
theorem dL_law_2645 : decode cL_law 2645 = .ok (.iaload, 1) := dk_46 (dk_at dksL_law_106 6 rfl rfl)
theorem dL_law_2646 : decode cL_law 2646 = .ok (.invokevirtual 290, 3) := dk_182 1 34 (dk_at dksL_law_106 7 rfl rfl)
theorem dL_law_2649 : decode cL_law 2649 = .ok (.istore 7, 2) := dk_54 7 (dk_at dksL_law_106 10 rfl rfl)
theorem dL_law_2651 : decode cL_law 2651 = .ok (.aload_n 2, 1) := dk_44 (dk_at dksL_law_106 12 rfl rfl)
theorem dL_law_2652 : decode cL_law 2652 = .ok (.invokevirtual 163, 3) := dk_182 0 163 (dk_at dksL_law_106 13 rfl rfl)
theorem dL_law_2655 : decode cL_law 2655 = .ok (.iload 6, 2) := dk_21 6 (dk_at dksL_law_106 16 rfl rfl)
theorem dL_law_2657 : decode cL_law 2657 = .ok (.if_icmp .eq 5, 3) := dk_159 0 5 (dk_at dksL_law_106 18 rfl rfl)
theorem dL_law_2660 : decode cL_law 2660 = .ok (.iconst 0, 1) := dk_3 (dk_at dksL_law_106 21 rfl rfl)
theorem dL_law_2661 : decode cL_law 2661 = .ok (.ireturn, 1) := dk_172 (dk_at dksL_law_106 22 rfl rfl)
theorem dL_law_2662 : decode cL_law 2662 = .ok (.iload 6, 2) := dk_21 6 (dk_at dksL_law_107 0 rfl rfl)
theorem dL_law_2664 : decode cL_law 2664 = .ok (.ifCond .ne 15, 3) := dk_154 0 15 (dk_at dksL_law_107 2 rfl rfl)
theorem dL_law_2667 : decode cL_law 2667 = .ok (.aload_n 3, 1) := dk_45 (dk_at dksL_law_107 5 rfl rfl)
theorem dL_law_2668 : decode cL_law 2668 = .ok (.iconst 0, 1) := dk_3 (dk_at dksL_law_107 6 rfl rfl)
theorem dL_law_2669 : decode cL_law 2669 = .ok (.laload, 1) := dk_47 (dk_at dksL_law_107 7 rfl rfl)
theorem dL_law_2670 : decode cL_law 2670 = .ok (.iload 7, 2) := dk_21 7 (dk_at dksL_law_107 8 rfl rfl)
theorem dL_law_2672 : decode cL_law 2672 = .ok (.i2l, 1) := dk_133 (dk_at dksL_law_107 10 rfl rfl)
theorem dL_law_2673 : decode cL_law 2673 = .ok (.lcmp, 1) := dk_148 (dk_at dksL_law_107 11 rfl rfl)
theorem dL_law_2674 : decode cL_law 2674 = .ok (.ifCond .eq 5, 3) := dk_153 0 5 (dk_at dksL_law_107 12 rfl rfl)
theorem dL_law_2677 : decode cL_law 2677 = .ok (.iconst 0, 1) := dk_3 (dk_at dksL_law_107 15 rfl rfl)
theorem dL_law_2678 : decode cL_law 2678 = .ok (.ireturn, 1) := dk_172 (dk_at dksL_law_107 16 rfl rfl)
theorem dL_law_2679 : decode cL_law 2679 = .ok (.goto 104, 3) := dk_167 0 104 (dk_at dksL_law_107 17 rfl rfl)
theorem dL_law_2682 : decode cL_law 2682 = .ok (.aload_n 1, 1) := dk_43 (dk_at dksL_law_107 20 rfl rfl)
theorem dL_law_2683 : decode cL_law 2683 = .ok (.aload_n 3, 1) := dk_45 (dk_at dksL_law_107 21 rfl rfl)
theorem dL_law_2684 : decode cL_law 2684 = .ok (.invokestatic 291, 3) := dk_184 1 35 (dk_at dksL_law_108 0 rfl rfl)
theorem dL_law_2687 : decode cL_law 2687 = .ok (.istore 6, 2) := dk_54 6 (dk_at dksL_law_108 3 rfl rfl)
theorem dL_law_2689 : decode cL_law 2689 = .ok (.aload_n 2, 1) := dk_44 (dk_at dksL_law_108 5 rfl rfl)
theorem dL_law_2690 : decode cL_law 2690 = .ok (.invokevirtual 293, 3) := dk_182 1 37 (dk_at dksL_law_108 6 rfl rfl)
theorem dL_law_2693 : decode cL_law 2693 = .ok (.istore 7, 2) := dk_54 7 (dk_at dksL_law_108 9 rfl rfl)
theorem dL_law_2695 : decode cL_law 2695 = .ok (.aload_n 2, 1) := dk_44 (dk_at dksL_law_108 11 rfl rfl)
theorem dL_law_2696 : decode cL_law 2696 = .ok (.invokevirtual 163, 3) := dk_182 0 163 (dk_at dksL_law_108 12 rfl rfl)
theorem dL_law_2699 : decode cL_law 2699 = .ok (.iload 6, 2) := dk_21 6 (dk_at dksL_law_108 15 rfl rfl)
theorem dL_law_2701 : decode cL_law 2701 = .ok (.if_icmp .eq 5, 3) := dk_159 0 5 (dk_at dksL_law_108 17 rfl rfl)
theorem dL_law_2704 : decode cL_law 2704 = .ok (.iconst 0, 1) := dk_3 (dk_at dksL_law_108 20 rfl rfl)
theorem dL_law_2705 : decode cL_law 2705 = .ok (.ireturn, 1) := dk_172 (dk_at dksL_law_108 21 rfl rfl)
theorem dL_law_2706 : decode cL_law 2706 = .ok (.iload 6, 2) := dk_21 6 (dk_at dksL_law_108 22 rfl rfl)
theorem dL_law_2708 : decode cL_law 2708 = .ok (.ifCond .ne 15, 3) := dk_154 0 15 (dk_at dksL_law_109 0 rfl rfl)
theorem dL_law_2711 : decode cL_law 2711 = .ok (.aload_n 3, 1) := dk_45 (dk_at dksL_law_109 3 rfl rfl)
theorem dL_law_2712 : decode cL_law 2712 = .ok (.iconst 0, 1) := dk_3 (dk_at dksL_law_109 4 rfl rfl)
theorem dL_law_2713 : decode cL_law 2713 = .ok (.laload, 1) := dk_47 (dk_at dksL_law_109 5 rfl rfl)
theorem dL_law_2714 : decode cL_law 2714 = .ok (.iload 7, 2) := dk_21 7 (dk_at dksL_law_109 6 rfl rfl)
theorem dL_law_2716 : decode cL_law 2716 = .ok (.i2l, 1) := dk_133 (dk_at dksL_law_109 8 rfl rfl)
theorem dL_law_2717 : decode cL_law 2717 = .ok (.lcmp, 1) := dk_148 (dk_at dksL_law_109 9 rfl rfl)
theorem dL_law_2718 : decode cL_law 2718 = .ok (.ifCond .eq 5, 3) := dk_153 0 5 (dk_at dksL_law_109 10 rfl rfl)
theorem dL_law_2721 : decode cL_law 2721 = .ok (.iconst 0, 1) := dk_3 (dk_at dksL_law_109 13 rfl rfl)
theorem dL_law_2722 : decode cL_law 2722 = .ok (.ireturn, 1) := dk_172 (dk_at dksL_law_109 14 rfl rfl)
theorem dL_law_2723 : decode cL_law 2723 = .ok (.goto 60, 3) := dk_167 0 60 (dk_at dksL_law_109 15 rfl rfl)
theorem dL_law_2726 : decode cL_law 2726 = .ok (.aload_n 1, 1) := dk_43 (dk_at dksL_law_109 18 rfl rfl)
theorem dL_law_2727 : decode cL_law 2727 = .ok (.invokevirtual 294, 3) := dk_182 1 38 (dk_at dksL_law_109 19 rfl rfl)
theorem dL_law_2730 : decode cL_law 2730 = .ok (.aload_n 2, 1) := dk_44 (dk_at dksL_law_109 22 rfl rfl)
theorem dL_law_2731 : decode cL_law 2731 = .ok (.invokevirtual 297, 3) := dk_182 1 41 (dk_at dksL_law_110 0 rfl rfl)
theorem dL_law_2734 : decode cL_law 2734 = .ok (.if_icmp .eq 49, 3) := dk_159 0 49 (dk_at dksL_law_110 3 rfl rfl)
theorem dL_law_2737 : decode cL_law 2737 = .ok (.iconst 0, 1) := dk_3 (dk_at dksL_law_110 6 rfl rfl)
theorem dL_law_2738 : decode cL_law 2738 = .ok (.ireturn, 1) := dk_172 (dk_at dksL_law_110 7 rfl rfl)
theorem dL_law_2739 : decode cL_law 2739 = .ok (.aload_n 1, 1) := dk_43 (dk_at dksL_law_110 8 rfl rfl)
theorem dL_law_2740 : decode cL_law 2740 = .ok (.aload_n 3, 1) := dk_45 (dk_at dksL_law_110 9 rfl rfl)
theorem dL_law_2741 : decode cL_law 2741 = .ok (.invokestatic 298, 3) := dk_184 1 42 (dk_at dksL_law_110 10 rfl rfl)
theorem dL_law_2744 : decode cL_law 2744 = .ok (.istore 6, 2) := dk_54 6 (dk_at dksL_law_110 13 rfl rfl)
theorem dL_law_2746 : decode cL_law 2746 = .ok (.aload_n 2, 1) := dk_44 (dk_at dksL_law_110 15 rfl rfl)
theorem dL_law_2747 : decode cL_law 2747 = .ok (.invokevirtual 300, 3) := dk_182 1 44 (dk_at dksL_law_110 16 rfl rfl)
theorem dL_law_2750 : decode cL_law 2750 = .ok (.istore 7, 2) := dk_54 7 (dk_at dksL_law_110 19 rfl rfl)
theorem dL_law_2752 : decode cL_law 2752 = .ok (.aload_n 2, 1) := dk_44 (dk_at dksL_law_110 21 rfl rfl)
theorem dL_law_2753 : decode cL_law 2753 = .ok (.invokevirtual 163, 3) := dk_182 0 163 (dk_at dksL_law_111 0 rfl rfl)
theorem dL_law_2756 : decode cL_law 2756 = .ok (.iload 6, 2) := dk_21 6 (dk_at dksL_law_111 3 rfl rfl)
theorem dL_law_2758 : decode cL_law 2758 = .ok (.if_icmp .eq 5, 3) := dk_159 0 5 (dk_at dksL_law_111 5 rfl rfl)
theorem dL_law_2761 : decode cL_law 2761 = .ok (.iconst 0, 1) := dk_3 (dk_at dksL_law_111 8 rfl rfl)
theorem dL_law_2762 : decode cL_law 2762 = .ok (.ireturn, 1) := dk_172 (dk_at dksL_law_111 9 rfl rfl)
theorem dL_law_2763 : decode cL_law 2763 = .ok (.iload 6, 2) := dk_21 6 (dk_at dksL_law_111 10 rfl rfl)
theorem dL_law_2765 : decode cL_law 2765 = .ok (.ifCond .ne 15, 3) := dk_154 0 15 (dk_at dksL_law_111 12 rfl rfl)
theorem dL_law_2768 : decode cL_law 2768 = .ok (.aload_n 3, 1) := dk_45 (dk_at dksL_law_111 15 rfl rfl)
theorem dL_law_2769 : decode cL_law 2769 = .ok (.iconst 0, 1) := dk_3 (dk_at dksL_law_111 16 rfl rfl)
theorem dL_law_2770 : decode cL_law 2770 = .ok (.laload, 1) := dk_47 (dk_at dksL_law_111 17 rfl rfl)
theorem dL_law_2771 : decode cL_law 2771 = .ok (.iload 7, 2) := dk_21 7 (dk_at dksL_law_111 18 rfl rfl)
theorem dL_law_2773 : decode cL_law 2773 = .ok (.i2l, 1) := dk_133 (dk_at dksL_law_111 20 rfl rfl)
theorem dL_law_2774 : decode cL_law 2774 = .ok (.lcmp, 1) := dk_148 (dk_at dksL_law_111 21 rfl rfl)
theorem dL_law_2775 : decode cL_law 2775 = .ok (.ifCond .eq 5, 3) := dk_153 0 5 (dk_at dksL_law_112 0 rfl rfl)
theorem dL_law_2778 : decode cL_law 2778 = .ok (.iconst 0, 1) := dk_3 (dk_at dksL_law_112 3 rfl rfl)
theorem dL_law_2779 : decode cL_law 2779 = .ok (.ireturn, 1) := dk_172 (dk_at dksL_law_112 4 rfl rfl)
theorem dL_law_2780 : decode cL_law 2780 = .ok (.goto 3, 3) := dk_167 0 3 (dk_at dksL_law_112 5 rfl rfl)
theorem dL_law_2783 : decode cL_law 2783 = .ok (.iinc 5 4, 3) := dk_132 5 4 (dk_at dksL_law_112 8 rfl rfl)
theorem dL_law_2786 : decode cL_law 2786 = .ok (.goto (-2758), 3) := dk_167 245 58 (dk_at dksL_law_112 11 rfl rfl)
theorem dL_law_2789 : decode cL_law 2789 = .ok (.iconst 1, 1) := dk_4 (dk_at dksL_law_112 14 rfl rfl)
theorem dL_law_2790 : decode cL_law 2790 = .ok (.ireturn, 1) := dk_172 (dk_at dksL_law_112 15 rfl rfl)
