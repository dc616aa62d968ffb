/-! WheelWorksLaw -/
set_option maxRecDepth 100000
def RX0 : String := "WheelWorksLaw"
abbrev cX0_part : ByteArray := method_3_code
def yX0_part : MethodName := ⟨RX0, "part", "(LWheelWorks;III[J)I"⟩
def dkwX0_part_1 : List UInt8 := [172]
abbrev dktX0_part_1 : List UInt8 := dkwX0_part_1 ++ []
def dkwX0_part_0 : List UInt8 := [25, 4, 3, 42, 27, 28, 29, 182, 0, 7, 133, 80, 167, 0, 11, 58, 5, 4, 172, 58, 5, 5, 172, 3]
abbrev dktX0_part_0 : List UInt8 := dkwX0_part_0 ++ dktX0_part_1
theorem dksX0_part_0 : cX0_part.data.toList.drop 0 = dktX0_part_0 := by decide +kernel
theorem dksX0_part_1 : cX0_part.data.toList.drop 24 = dktX0_part_1 := dk_seg dksX0_part_0 24 rfl rfl
theorem dX0_part_0 : decode cX0_part 0 = .ok (.aload 4, 2) := dk_25 4 (dk_at dksX0_part_0 0 rfl rfl)
theorem dX0_part_2 : decode cX0_part 2 = .ok (.iconst 0, 1) := dk_3 (dk_at dksX0_part_0 2 rfl rfl)
theorem dX0_part_3 : decode cX0_part 3 = .ok (.aload_n 0, 1) := dk_42 (dk_at dksX0_part_0 3 rfl rfl)
theorem dX0_part_4 : decode cX0_part 4 = .ok (.iload_n 1, 1) := dk_27 (dk_at dksX0_part_0 4 rfl rfl)
theorem dX0_part_5 : decode cX0_part 5 = .ok (.iload_n 2, 1) := dk_28 (dk_at dksX0_part_0 5 rfl rfl)
theorem dX0_part_6 : decode cX0_part 6 = .ok (.iload_n 3, 1) := dk_29 (dk_at dksX0_part_0 6 rfl rfl)
theorem dX0_part_7 : decode cX0_part 7 = .ok (.invokevirtual 7, 3) := dk_182 0 7 (dk_at dksX0_part_0 7 rfl rfl)
theorem dX0_part_10 : decode cX0_part 10 = .ok (.i2l, 1) := dk_133 (dk_at dksX0_part_0 10 rfl rfl)
theorem dX0_part_11 : decode cX0_part 11 = .ok (.lastore, 1) := dk_80 (dk_at dksX0_part_0 11 rfl rfl)
theorem dX0_part_12 : decode cX0_part 12 = .ok (.goto 11, 3) := dk_167 0 11 (dk_at dksX0_part_0 12 rfl rfl)
theorem dX0_part_15 : decode cX0_part 15 = .ok (.astore 5, 2) := dk_58 5 (dk_at dksX0_part_0 15 rfl rfl)
theorem dX0_part_17 : decode cX0_part 17 = .ok (.iconst 1, 1) := dk_4 (dk_at dksX0_part_0 17 rfl rfl)
theorem dX0_part_18 : decode cX0_part 18 = .ok (.ireturn, 1) := dk_172 (dk_at dksX0_part_0 18 rfl rfl)
theorem dX0_part_19 : decode cX0_part 19 = .ok (.astore 5, 2) := dk_58 5 (dk_at dksX0_part_0 19 rfl rfl)
theorem dX0_part_21 : decode cX0_part 21 = .ok (.iconst 2, 1) := dk_5 (dk_at dksX0_part_0 21 rfl rfl)
theorem dX0_part_22 : decode cX0_part 22 = .ok (.ireturn, 1) := dk_172 (dk_at dksX0_part_0 22 rfl rfl)
theorem dX0_part_23 : decode cX0_part 23 = .ok (.iconst 0, 1) := dk_3 (dk_at dksX0_part_0 23 rfl rfl)
theorem dX0_part_24 : decode cX0_part 24 = .ok (.ireturn, 1) := dk_172 (dk_at dksX0_part_1 0 rfl rfl)
abbrev cX0_limits : ByteArray := method_4_code
def yX0_limits : MethodName := ⟨RX0, "limits", "(LWheelWorks;IIII[J)I"⟩
def dkwX0_limits_0 : List UInt8 := [25, 5, 3, 42, 27, 28, 29, 21, 4, 182, 0, 17, 133, 80, 167, 0, 7, 58, 6, 4, 172, 3, 172]
abbrev dktX0_limits_0 : List UInt8 := dkwX0_limits_0 ++ []
theorem dksX0_limits_0 : cX0_limits.data.toList.drop 0 = dktX0_limits_0 := by decide +kernel
theorem dX0_limits_0 : decode cX0_limits 0 = .ok (.aload 5, 2) := dk_25 5 (dk_at dksX0_limits_0 0 rfl rfl)
theorem dX0_limits_2 : decode cX0_limits 2 = .ok (.iconst 0, 1) := dk_3 (dk_at dksX0_limits_0 2 rfl rfl)
theorem dX0_limits_3 : decode cX0_limits 3 = .ok (.aload_n 0, 1) := dk_42 (dk_at dksX0_limits_0 3 rfl rfl)
theorem dX0_limits_4 : decode cX0_limits 4 = .ok (.iload_n 1, 1) := dk_27 (dk_at dksX0_limits_0 4 rfl rfl)
theorem dX0_limits_5 : decode cX0_limits 5 = .ok (.iload_n 2, 1) := dk_28 (dk_at dksX0_limits_0 5 rfl rfl)
theorem dX0_limits_6 : decode cX0_limits 6 = .ok (.iload_n 3, 1) := dk_29 (dk_at dksX0_limits_0 6 rfl rfl)
theorem dX0_limits_7 : decode cX0_limits 7 = .ok (.iload 4, 2) := dk_21 4 (dk_at dksX0_limits_0 7 rfl rfl)
theorem dX0_limits_9 : decode cX0_limits 9 = .ok (.invokevirtual 17, 3) := dk_182 0 17 (dk_at dksX0_limits_0 9 rfl rfl)
theorem dX0_limits_12 : decode cX0_limits 12 = .ok (.i2l, 1) := dk_133 (dk_at dksX0_limits_0 12 rfl rfl)
theorem dX0_limits_13 : decode cX0_limits 13 = .ok (.lastore, 1) := dk_80 (dk_at dksX0_limits_0 13 rfl rfl)
theorem dX0_limits_14 : decode cX0_limits 14 = .ok (.goto 7, 3) := dk_167 0 7 (dk_at dksX0_limits_0 14 rfl rfl)
theorem dX0_limits_17 : decode cX0_limits 17 = .ok (.astore 6, 2) := dk_58 6 (dk_at dksX0_limits_0 17 rfl rfl)
theorem dX0_limits_19 : decode cX0_limits 19 = .ok (.iconst 1, 1) := dk_4 (dk_at dksX0_limits_0 19 rfl rfl)
theorem dX0_limits_20 : decode cX0_limits 20 = .ok (.ireturn, 1) := dk_172 (dk_at dksX0_limits_0 20 rfl rfl)
theorem dX0_limits_21 : decode cX0_limits 21 = .ok (.iconst 0, 1) := dk_3 (dk_at dksX0_limits_0 21 rfl rfl)
theorem dX0_limits_22 : decode cX0_limits 22 = .ok (.ireturn, 1) := dk_172 (dk_at dksX0_limits_0 22 rfl rfl)
abbrev cX0_fit : ByteArray := method_5_code
def yX0_fit : MethodName := ⟨RX0, "fit", "(LWheelWorks;II[J)I"⟩
def dkwX0_fit_1 : List UInt8 := [172, 3, 172]
abbrev dktX0_fit_1 : List UInt8 := dkwX0_fit_1 ++ []
def dkwX0_fit_0 : List UInt8 := [45, 3, 42, 27, 28, 182, 0, 21, 133, 80, 167, 0, 15, 58, 4, 4, 172, 58, 4, 5, 172, 58, 4, 6]
abbrev dktX0_fit_0 : List UInt8 := dkwX0_fit_0 ++ dktX0_fit_1
theorem dksX0_fit_0 : cX0_fit.data.toList.drop 0 = dktX0_fit_0 := by decide +kernel
theorem dksX0_fit_1 : cX0_fit.data.toList.drop 24 = dktX0_fit_1 := dk_seg dksX0_fit_0 24 rfl rfl
theorem dX0_fit_0 : decode cX0_fit 0 = .ok (.aload_n 3, 1) := dk_45 (dk_at dksX0_fit_0 0 rfl rfl)
theorem dX0_fit_1 : decode cX0_fit 1 = .ok (.iconst 0, 1) := dk_3 (dk_at dksX0_fit_0 1 rfl rfl)
theorem dX0_fit_2 : decode cX0_fit 2 = .ok (.aload_n 0, 1) := dk_42 (dk_at dksX0_fit_0 2 rfl rfl)
theorem dX0_fit_3 : decode cX0_fit 3 = .ok (.iload_n 1, 1) := dk_27 (dk_at dksX0_fit_0 3 rfl rfl)
theorem dX0_fit_4 : decode cX0_fit 4 = .ok (.iload_n 2, 1) := dk_28 (dk_at dksX0_fit_0 4 rfl rfl)
theorem dX0_fit_5 : decode cX0_fit 5 = .ok (.invokevirtual 21, 3) := dk_182 0 21 (dk_at dksX0_fit_0 5 rfl rfl)
theorem dX0_fit_8 : decode cX0_fit 8 = .ok (.i2l, 1) := dk_133 (dk_at dksX0_fit_0 8 rfl rfl)
theorem dX0_fit_9 : decode cX0_fit 9 = .ok (.lastore, 1) := dk_80 (dk_at dksX0_fit_0 9 rfl rfl)
theorem dX0_fit_10 : decode cX0_fit 10 = .ok (.goto 15, 3) := dk_167 0 15 (dk_at dksX0_fit_0 10 rfl rfl)
theorem dX0_fit_13 : decode cX0_fit 13 = .ok (.astore 4, 2) := dk_58 4 (dk_at dksX0_fit_0 13 rfl rfl)
theorem dX0_fit_15 : decode cX0_fit 15 = .ok (.iconst 1, 1) := dk_4 (dk_at dksX0_fit_0 15 rfl rfl)
theorem dX0_fit_16 : decode cX0_fit 16 = .ok (.ireturn, 1) := dk_172 (dk_at dksX0_fit_0 16 rfl rfl)
theorem dX0_fit_17 : decode cX0_fit 17 = .ok (.astore 4, 2) := dk_58 4 (dk_at dksX0_fit_0 17 rfl rfl)
theorem dX0_fit_19 : decode cX0_fit 19 = .ok (.iconst 2, 1) := dk_5 (dk_at dksX0_fit_0 19 rfl rfl)
theorem dX0_fit_20 : decode cX0_fit 20 = .ok (.ireturn, 1) := dk_172 (dk_at dksX0_fit_0 20 rfl rfl)
theorem dX0_fit_21 : decode cX0_fit 21 = .ok (.astore 4, 2) := dk_58 4 (dk_at dksX0_fit_0 21 rfl rfl)
theorem dX0_fit_23 : decode cX0_fit 23 = .ok (.iconst 3, 1) := dk_6 (dk_at dksX0_fit_0 23 rfl rfl)
theorem dX0_fit_24 : decode cX0_fit 24 = .ok (.ireturn, 1) := dk_172 (dk_at dksX0_fit_1 0 rfl rfl)
theorem dX0_fit_25 : decode cX0_fit 25 = .ok (.iconst 0, 1) := dk_3 (dk_at dksX0_fit_1 1 rfl rfl)
theorem dX0_fit_26 : decode cX0_fit 26 = .ok (.ireturn, 1) := dk_172 (dk_at dksX0_fit_1 2 rfl rfl)
abbrev cX0_take : ByteArray := method_6_code
def yX0_take : MethodName := ⟨RX0, "take", "(LWheelWorks;I[J)I"⟩
def dkwX0_take_0 : List UInt8 := [44, 3, 42, 27, 182, 0, 27, 133, 80, 167, 0, 9, 78, 4, 172, 78, 5, 172, 3, 172]
abbrev dktX0_take_0 : List UInt8 := dkwX0_take_0 ++ []
theorem dksX0_take_0 : cX0_take.data.toList.drop 0 = dktX0_take_0 := by decide +kernel
theorem dX0_take_0 : decode cX0_take 0 = .ok (.aload_n 2, 1) := dk_44 (dk_at dksX0_take_0 0 rfl rfl)
theorem dX0_take_1 : decode cX0_take 1 = .ok (.iconst 0, 1) := dk_3 (dk_at dksX0_take_0 1 rfl rfl)
theorem dX0_take_2 : decode cX0_take 2 = .ok (.aload_n 0, 1) := dk_42 (dk_at dksX0_take_0 2 rfl rfl)
theorem dX0_take_3 : decode cX0_take 3 = .ok (.iload_n 1, 1) := dk_27 (dk_at dksX0_take_0 3 rfl rfl)
theorem dX0_take_4 : decode cX0_take 4 = .ok (.invokevirtual 27, 3) := dk_182 0 27 (dk_at dksX0_take_0 4 rfl rfl)
theorem dX0_take_7 : decode cX0_take 7 = .ok (.i2l, 1) := dk_133 (dk_at dksX0_take_0 7 rfl rfl)
theorem dX0_take_8 : decode cX0_take 8 = .ok (.lastore, 1) := dk_80 (dk_at dksX0_take_0 8 rfl rfl)
theorem dX0_take_9 : decode cX0_take 9 = .ok (.goto 9, 3) := dk_167 0 9 (dk_at dksX0_take_0 9 rfl rfl)
theorem dX0_take_12 : decode cX0_take 12 = .ok (.astore_n 3, 1) := dk_78 (dk_at dksX0_take_0 12 rfl rfl)
theorem dX0_take_13 : decode cX0_take 13 = .ok (.iconst 1, 1) := dk_4 (dk_at dksX0_take_0 13 rfl rfl)
theorem dX0_take_14 : decode cX0_take 14 = .ok (.ireturn, 1) := dk_172 (dk_at dksX0_take_0 14 rfl rfl)
theorem dX0_take_15 : decode cX0_take 15 = .ok (.astore_n 3, 1) := dk_78 (dk_at dksX0_take_0 15 rfl rfl)
theorem dX0_take_16 : decode cX0_take 16 = .ok (.iconst 2, 1) := dk_5 (dk_at dksX0_take_0 16 rfl rfl)
theorem dX0_take_17 : decode cX0_take 17 = .ok (.ireturn, 1) := dk_172 (dk_at dksX0_take_0 17 rfl rfl)
theorem dX0_take_18 : decode cX0_take 18 = .ok (.iconst 0, 1) := dk_3 (dk_at dksX0_take_0 18 rfl rfl)
theorem dX0_take_19 : decode cX0_take 19 = .ok (.ireturn, 1) := dk_172 (dk_at dksX0_take_0 19 rfl rfl)
abbrev cX0_scrap : ByteArray := method_7_code
def yX0_scrap : MethodName := ⟨RX0, "scrap", "(LWheelWorks;I)I"⟩
def dkwX0_scrap_0 : List UInt8 := [42, 27, 182, 0, 31, 167, 0, 9, 77, 4, 172, 77, 5, 172, 3, 172]
abbrev dktX0_scrap_0 : List UInt8 := dkwX0_scrap_0 ++ []
theorem dksX0_scrap_0 : cX0_scrap.data.toList.drop 0 = dktX0_scrap_0 := by decide +kernel
theorem dX0_scrap_0 : decode cX0_scrap 0 = .ok (.aload_n 0, 1) := dk_42 (dk_at dksX0_scrap_0 0 rfl rfl)
theorem dX0_scrap_1 : decode cX0_scrap 1 = .ok (.iload_n 1, 1) := dk_27 (dk_at dksX0_scrap_0 1 rfl rfl)
theorem dX0_scrap_2 : decode cX0_scrap 2 = .ok (.invokevirtual 31, 3) := dk_182 0 31 (dk_at dksX0_scrap_0 2 rfl rfl)
theorem dX0_scrap_5 : decode cX0_scrap 5 = .ok (.goto 9, 3) := dk_167 0 9 (dk_at dksX0_scrap_0 5 rfl rfl)
theorem dX0_scrap_8 : decode cX0_scrap 8 = .ok (.astore_n 2, 1) := dk_77 (dk_at dksX0_scrap_0 8 rfl rfl)
theorem dX0_scrap_9 : decode cX0_scrap 9 = .ok (.iconst 1, 1) := dk_4 (dk_at dksX0_scrap_0 9 rfl rfl)
theorem dX0_scrap_10 : decode cX0_scrap 10 = .ok (.ireturn, 1) := dk_172 (dk_at dksX0_scrap_0 10 rfl rfl)
theorem dX0_scrap_11 : decode cX0_scrap 11 = .ok (.astore_n 2, 1) := dk_77 (dk_at dksX0_scrap_0 11 rfl rfl)
theorem dX0_scrap_12 : decode cX0_scrap 12 = .ok (.iconst 2, 1) := dk_5 (dk_at dksX0_scrap_0 12 rfl rfl)
theorem dX0_scrap_13 : decode cX0_scrap 13 = .ok (.ireturn, 1) := dk_172 (dk_at dksX0_scrap_0 13 rfl rfl)
theorem dX0_scrap_14 : decode cX0_scrap 14 = .ok (.iconst 0, 1) := dk_3 (dk_at dksX0_scrap_0 14 rfl rfl)
theorem dX0_scrap_15 : decode cX0_scrap 15 = .ok (.ireturn, 1) := dk_172 (dk_at dksX0_scrap_0 15 rfl rfl)
abbrev cX0_run : ByteArray := method_8_code
def yX0_run : MethodName := ⟨RX0, "run", "(LWheelWorks;III[J)I"⟩
def dkwX0_run_1 : List UInt8 := [58, 5, 6, 172, 3, 172]
abbrev dktX0_run_1 : List UInt8 := dkwX0_run_1 ++ []
def dkwX0_run_0 : List UInt8 := [25, 4, 3, 42, 27, 28, 29, 182, 0, 35, 133, 80, 167, 0, 15, 58, 5, 4, 172, 58, 5, 5, 172]
abbrev dktX0_run_0 : List UInt8 := dkwX0_run_0 ++ dktX0_run_1
theorem dksX0_run_0 : cX0_run.data.toList.drop 0 = dktX0_run_0 := by decide +kernel
theorem dksX0_run_1 : cX0_run.data.toList.drop 23 = dktX0_run_1 := dk_seg dksX0_run_0 23 rfl rfl
theorem dX0_run_0 : decode cX0_run 0 = .ok (.aload 4, 2) := dk_25 4 (dk_at dksX0_run_0 0 rfl rfl)
theorem dX0_run_2 : decode cX0_run 2 = .ok (.iconst 0, 1) := dk_3 (dk_at dksX0_run_0 2 rfl rfl)
theorem dX0_run_3 : decode cX0_run 3 = .ok (.aload_n 0, 1) := dk_42 (dk_at dksX0_run_0 3 rfl rfl)
theorem dX0_run_4 : decode cX0_run 4 = .ok (.iload_n 1, 1) := dk_27 (dk_at dksX0_run_0 4 rfl rfl)
theorem dX0_run_5 : decode cX0_run 5 = .ok (.iload_n 2, 1) := dk_28 (dk_at dksX0_run_0 5 rfl rfl)
theorem dX0_run_6 : decode cX0_run 6 = .ok (.iload_n 3, 1) := dk_29 (dk_at dksX0_run_0 6 rfl rfl)
theorem dX0_run_7 : decode cX0_run 7 = .ok (.invokevirtual 35, 3) := dk_182 0 35 (dk_at dksX0_run_0 7 rfl rfl)
theorem dX0_run_10 : decode cX0_run 10 = .ok (.i2l, 1) := dk_133 (dk_at dksX0_run_0 10 rfl rfl)
theorem dX0_run_11 : decode cX0_run 11 = .ok (.lastore, 1) := dk_80 (dk_at dksX0_run_0 11 rfl rfl)
theorem dX0_run_12 : decode cX0_run 12 = .ok (.goto 15, 3) := dk_167 0 15 (dk_at dksX0_run_0 12 rfl rfl)
theorem dX0_run_15 : decode cX0_run 15 = .ok (.astore 5, 2) := dk_58 5 (dk_at dksX0_run_0 15 rfl rfl)
theorem dX0_run_17 : decode cX0_run 17 = .ok (.iconst 1, 1) := dk_4 (dk_at dksX0_run_0 17 rfl rfl)
theorem dX0_run_18 : decode cX0_run 18 = .ok (.ireturn, 1) := dk_172 (dk_at dksX0_run_0 18 rfl rfl)
theorem dX0_run_19 : decode cX0_run 19 = .ok (.astore 5, 2) := dk_58 5 (dk_at dksX0_run_0 19 rfl rfl)
theorem dX0_run_21 : decode cX0_run 21 = .ok (.iconst 2, 1) := dk_5 (dk_at dksX0_run_0 21 rfl rfl)
theorem dX0_run_22 : decode cX0_run 22 = .ok (.ireturn, 1) := dk_172 (dk_at dksX0_run_0 22 rfl rfl)
theorem dX0_run_23 : decode cX0_run 23 = .ok (.astore 5, 2) := dk_58 5 (dk_at dksX0_run_1 0 rfl rfl)
theorem dX0_run_25 : decode cX0_run 25 = .ok (.iconst 3, 1) := dk_6 (dk_at dksX0_run_1 2 rfl rfl)
theorem dX0_run_26 : decode cX0_run 26 = .ok (.ireturn, 1) := dk_172 (dk_at dksX0_run_1 3 rfl rfl)
theorem dX0_run_27 : decode cX0_run 27 = .ok (.iconst 0, 1) := dk_3 (dk_at dksX0_run_1 4 rfl rfl)
theorem dX0_run_28 : decode cX0_run 28 = .ok (.ireturn, 1) := dk_172 (dk_at dksX0_run_1 5 rfl rfl)
abbrev cX0_turn : ByteArray := method_9_code
def yX0_turn : MethodName := ⟨RX0, "turn", "(LWheelWorks;I[J)I"⟩
def dkwX0_turn_0 : List UInt8 := [44, 3, 42, 27, 182, 0, 38, 133, 80, 167, 0, 12, 78, 4, 172, 78, 5, 172, 78, 6, 172, 3, 172]
abbrev dktX0_turn_0 : List UInt8 := dkwX0_turn_0 ++ []
theorem dksX0_turn_0 : cX0_turn.data.toList.drop 0 = dktX0_turn_0 := by decide +kernel
theorem dX0_turn_0 : decode cX0_turn 0 = .ok (.aload_n 2, 1) := dk_44 (dk_at dksX0_turn_0 0 rfl rfl)
theorem dX0_turn_1 : decode cX0_turn 1 = .ok (.iconst 0, 1) := dk_3 (dk_at dksX0_turn_0 1 rfl rfl)
theorem dX0_turn_2 : decode cX0_turn 2 = .ok (.aload_n 0, 1) := dk_42 (dk_at dksX0_turn_0 2 rfl rfl)
theorem dX0_turn_3 : decode cX0_turn 3 = .ok (.iload_n 1, 1) := dk_27 (dk_at dksX0_turn_0 3 rfl rfl)
theorem dX0_turn_4 : decode cX0_turn 4 = .ok (.invokevirtual 38, 3) := dk_182 0 38 (dk_at dksX0_turn_0 4 rfl rfl)
theorem dX0_turn_7 : decode cX0_turn 7 = .ok (.i2l, 1) := dk_133 (dk_at dksX0_turn_0 7 rfl rfl)
theorem dX0_turn_8 : decode cX0_turn 8 = .ok (.lastore, 1) := dk_80 (dk_at dksX0_turn_0 8 rfl rfl)
theorem dX0_turn_9 : decode cX0_turn 9 = .ok (.goto 12, 3) := dk_167 0 12 (dk_at dksX0_turn_0 9 rfl rfl)
theorem dX0_turn_12 : decode cX0_turn 12 = .ok (.astore_n 3, 1) := dk_78 (dk_at dksX0_turn_0 12 rfl rfl)
theorem dX0_turn_13 : decode cX0_turn 13 = .ok (.iconst 1, 1) := dk_4 (dk_at dksX0_turn_0 13 rfl rfl)
theorem dX0_turn_14 : decode cX0_turn 14 = .ok (.ireturn, 1) := dk_172 (dk_at dksX0_turn_0 14 rfl rfl)
theorem dX0_turn_15 : decode cX0_turn 15 = .ok (.astore_n 3, 1) := dk_78 (dk_at dksX0_turn_0 15 rfl rfl)
theorem dX0_turn_16 : decode cX0_turn 16 = .ok (.iconst 2, 1) := dk_5 (dk_at dksX0_turn_0 16 rfl rfl)
theorem dX0_turn_17 : decode cX0_turn 17 = .ok (.ireturn, 1) := dk_172 (dk_at dksX0_turn_0 17 rfl rfl)
theorem dX0_turn_18 : decode cX0_turn 18 = .ok (.astore_n 3, 1) := dk_78 (dk_at dksX0_turn_0 18 rfl rfl)
theorem dX0_turn_19 : decode cX0_turn 19 = .ok (.iconst 3, 1) := dk_6 (dk_at dksX0_turn_0 19 rfl rfl)
theorem dX0_turn_20 : decode cX0_turn 20 = .ok (.ireturn, 1) := dk_172 (dk_at dksX0_turn_0 20 rfl rfl)
theorem dX0_turn_21 : decode cX0_turn 21 = .ok (.iconst 0, 1) := dk_3 (dk_at dksX0_turn_0 21 rfl rfl)
theorem dX0_turn_22 : decode cX0_turn 22 = .ok (.ireturn, 1) := dk_172 (dk_at dksX0_turn_0 22 rfl rfl)
abbrev cX0_gate : ByteArray := method_10_code
def yX0_gate : MethodName := ⟨RX0, "gate", "(LWheelWorks;II[J)I"⟩
def dkwX0_gate_0 : List UInt8 := [45, 3, 42, 27, 28, 182, 0, 41, 133, 80, 167, 0, 11, 58, 4, 4, 172, 58, 4, 5, 172, 3, 172]
abbrev dktX0_gate_0 : List UInt8 := dkwX0_gate_0 ++ []
theorem dksX0_gate_0 : cX0_gate.data.toList.drop 0 = dktX0_gate_0 := by decide +kernel
theorem dX0_gate_0 : decode cX0_gate 0 = .ok (.aload_n 3, 1) := dk_45 (dk_at dksX0_gate_0 0 rfl rfl)
theorem dX0_gate_1 : decode cX0_gate 1 = .ok (.iconst 0, 1) := dk_3 (dk_at dksX0_gate_0 1 rfl rfl)
theorem dX0_gate_2 : decode cX0_gate 2 = .ok (.aload_n 0, 1) := dk_42 (dk_at dksX0_gate_0 2 rfl rfl)
theorem dX0_gate_3 : decode cX0_gate 3 = .ok (.iload_n 1, 1) := dk_27 (dk_at dksX0_gate_0 3 rfl rfl)
theorem dX0_gate_4 : decode cX0_gate 4 = .ok (.iload_n 2, 1) := dk_28 (dk_at dksX0_gate_0 4 rfl rfl)
theorem dX0_gate_5 : decode cX0_gate 5 = .ok (.invokevirtual 41, 3) := dk_182 0 41 (dk_at dksX0_gate_0 5 rfl rfl)
theorem dX0_gate_8 : decode cX0_gate 8 = .ok (.i2l, 1) := dk_133 (dk_at dksX0_gate_0 8 rfl rfl)
theorem dX0_gate_9 : decode cX0_gate 9 = .ok (.lastore, 1) := dk_80 (dk_at dksX0_gate_0 9 rfl rfl)
theorem dX0_gate_10 : decode cX0_gate 10 = .ok (.goto 11, 3) := dk_167 0 11 (dk_at dksX0_gate_0 10 rfl rfl)
theorem dX0_gate_13 : decode cX0_gate 13 = .ok (.astore 4, 2) := dk_58 4 (dk_at dksX0_gate_0 13 rfl rfl)
theorem dX0_gate_15 : decode cX0_gate 15 = .ok (.iconst 1, 1) := dk_4 (dk_at dksX0_gate_0 15 rfl rfl)
theorem dX0_gate_16 : decode cX0_gate 16 = .ok (.ireturn, 1) := dk_172 (dk_at dksX0_gate_0 16 rfl rfl)
theorem dX0_gate_17 : decode cX0_gate 17 = .ok (.astore 4, 2) := dk_58 4 (dk_at dksX0_gate_0 17 rfl rfl)
theorem dX0_gate_19 : decode cX0_gate 19 = .ok (.iconst 2, 1) := dk_5 (dk_at dksX0_gate_0 19 rfl rfl)
theorem dX0_gate_20 : decode cX0_gate 20 = .ok (.ireturn, 1) := dk_172 (dk_at dksX0_gate_0 20 rfl rfl)
theorem dX0_gate_21 : decode cX0_gate 21 = .ok (.iconst 0, 1) := dk_3 (dk_at dksX0_gate_0 21 rfl rfl)
theorem dX0_gate_22 : decode cX0_gate 22 = .ok (.ireturn, 1) := dk_172 (dk_at dksX0_gate_0 22 rfl rfl)
abbrev cX0_examine : ByteArray := method_11_code
def yX0_examine : MethodName := ⟨RX0, "examine", "(LWheelWorks;I[J)I"⟩
def dkwX0_examine_0 : List UInt8 := [44, 3, 42, 27, 182, 0, 44, 133, 80, 167, 0, 9, 78, 4, 172, 78, 5, 172, 3, 172]
abbrev dktX0_examine_0 : List UInt8 := dkwX0_examine_0 ++ []
theorem dksX0_examine_0 : cX0_examine.data.toList.drop 0 = dktX0_examine_0 := by decide +kernel
theorem dX0_examine_0 : decode cX0_examine 0 = .ok (.aload_n 2, 1) := dk_44 (dk_at dksX0_examine_0 0 rfl rfl)
theorem dX0_examine_1 : decode cX0_examine 1 = .ok (.iconst 0, 1) := dk_3 (dk_at dksX0_examine_0 1 rfl rfl)
theorem dX0_examine_2 : decode cX0_examine 2 = .ok (.aload_n 0, 1) := dk_42 (dk_at dksX0_examine_0 2 rfl rfl)
theorem dX0_examine_3 : decode cX0_examine 3 = .ok (.iload_n 1, 1) := dk_27 (dk_at dksX0_examine_0 3 rfl rfl)
theorem dX0_examine_4 : decode cX0_examine 4 = .ok (.invokevirtual 44, 3) := dk_182 0 44 (dk_at dksX0_examine_0 4 rfl rfl)
theorem dX0_examine_7 : decode cX0_examine 7 = .ok (.i2l, 1) := dk_133 (dk_at dksX0_examine_0 7 rfl rfl)
theorem dX0_examine_8 : decode cX0_examine 8 = .ok (.lastore, 1) := dk_80 (dk_at dksX0_examine_0 8 rfl rfl)
theorem dX0_examine_9 : decode cX0_examine 9 = .ok (.goto 9, 3) := dk_167 0 9 (dk_at dksX0_examine_0 9 rfl rfl)
theorem dX0_examine_12 : decode cX0_examine 12 = .ok (.astore_n 3, 1) := dk_78 (dk_at dksX0_examine_0 12 rfl rfl)
theorem dX0_examine_13 : decode cX0_examine 13 = .ok (.iconst 1, 1) := dk_4 (dk_at dksX0_examine_0 13 rfl rfl)
theorem dX0_examine_14 : decode cX0_examine 14 = .ok (.ireturn, 1) := dk_172 (dk_at dksX0_examine_0 14 rfl rfl)
theorem dX0_examine_15 : decode cX0_examine 15 = .ok (.astore_n 3, 1) := dk_78 (dk_at dksX0_examine_0 15 rfl rfl)
theorem dX0_examine_16 : decode cX0_examine 16 = .ok (.iconst 2, 1) := dk_5 (dk_at dksX0_examine_0 16 rfl rfl)
theorem dX0_examine_17 : decode cX0_examine 17 = .ok (.ireturn, 1) := dk_172 (dk_at dksX0_examine_0 17 rfl rfl)
theorem dX0_examine_18 : decode cX0_examine 18 = .ok (.iconst 0, 1) := dk_3 (dk_at dksX0_examine_0 18 rfl rfl)
theorem dX0_examine_19 : decode cX0_examine 19 = .ok (.ireturn, 1) := dk_172 (dk_at dksX0_examine_0 19 rfl rfl)
abbrev cX0_waive : ByteArray := method_12_code
def yX0_waive : MethodName := ⟨RX0, "waive", "(LWheelWorks;II)I"⟩
def dkwX0_waive_0 : List UInt8 := [42, 27, 28, 182, 0, 47, 167, 0, 12, 78, 4, 172, 78, 5, 172, 78, 6, 172, 3, 172]
abbrev dktX0_waive_0 : List UInt8 := dkwX0_waive_0 ++ []
theorem dksX0_waive_0 : cX0_waive.data.toList.drop 0 = dktX0_waive_0 := by decide +kernel
theorem dX0_waive_0 : decode cX0_waive 0 = .ok (.aload_n 0, 1) := dk_42 (dk_at dksX0_waive_0 0 rfl rfl)
theorem dX0_waive_1 : decode cX0_waive 1 = .ok (.iload_n 1, 1) := dk_27 (dk_at dksX0_waive_0 1 rfl rfl)
theorem dX0_waive_2 : decode cX0_waive 2 = .ok (.iload_n 2, 1) := dk_28 (dk_at dksX0_waive_0 2 rfl rfl)
theorem dX0_waive_3 : decode cX0_waive 3 = .ok (.invokevirtual 47, 3) := dk_182 0 47 (dk_at dksX0_waive_0 3 rfl rfl)
theorem dX0_waive_6 : decode cX0_waive 6 = .ok (.goto 12, 3) := dk_167 0 12 (dk_at dksX0_waive_0 6 rfl rfl)
theorem dX0_waive_9 : decode cX0_waive 9 = .ok (.astore_n 3, 1) := dk_78 (dk_at dksX0_waive_0 9 rfl rfl)
theorem dX0_waive_10 : decode cX0_waive 10 = .ok (.iconst 1, 1) := dk_4 (dk_at dksX0_waive_0 10 rfl rfl)
theorem dX0_waive_11 : decode cX0_waive 11 = .ok (.ireturn, 1) := dk_172 (dk_at dksX0_waive_0 11 rfl rfl)
theorem dX0_waive_12 : decode cX0_waive 12 = .ok (.astore_n 3, 1) := dk_78 (dk_at dksX0_waive_0 12 rfl rfl)
theorem dX0_waive_13 : decode cX0_waive 13 = .ok (.iconst 2, 1) := dk_5 (dk_at dksX0_waive_0 13 rfl rfl)
theorem dX0_waive_14 : decode cX0_waive 14 = .ok (.ireturn, 1) := dk_172 (dk_at dksX0_waive_0 14 rfl rfl)
theorem dX0_waive_15 : decode cX0_waive 15 = .ok (.astore_n 3, 1) := dk_78 (dk_at dksX0_waive_0 15 rfl rfl)
theorem dX0_waive_16 : decode cX0_waive 16 = .ok (.iconst 3, 1) := dk_6 (dk_at dksX0_waive_0 16 rfl rfl)
theorem dX0_waive_17 : decode cX0_waive 17 = .ok (.ireturn, 1) := dk_172 (dk_at dksX0_waive_0 17 rfl rfl)
theorem dX0_waive_18 : decode cX0_waive 18 = .ok (.iconst 0, 1) := dk_3 (dk_at dksX0_waive_0 18 rfl rfl)
theorem dX0_waive_19 : decode cX0_waive 19 = .ok (.ireturn, 1) := dk_172 (dk_at dksX0_waive_0 19 rfl rfl)
abbrev cX0_flaw : ByteArray := method_13_code
def yX0_flaw : MethodName := ⟨RX0, "flaw", "(LWheelWorks;II[J)I"⟩
def dkwX0_flaw_0 : List UInt8 := [45, 3, 42, 27, 28, 182, 0, 51, 133, 80, 167, 0, 11, 58, 4, 4, 172, 58, 4, 5, 172, 3, 172]
abbrev dktX0_flaw_0 : List UInt8 := dkwX0_flaw_0 ++ []
theorem dksX0_flaw_0 : cX0_flaw.data.toList.drop 0 = dktX0_flaw_0 := by decide +kernel
theorem dX0_flaw_0 : decode cX0_flaw 0 = .ok (.aload_n 3, 1) := dk_45 (dk_at dksX0_flaw_0 0 rfl rfl)
theorem dX0_flaw_1 : decode cX0_flaw 1 = .ok (.iconst 0, 1) := dk_3 (dk_at dksX0_flaw_0 1 rfl rfl)
theorem dX0_flaw_2 : decode cX0_flaw 2 = .ok (.aload_n 0, 1) := dk_42 (dk_at dksX0_flaw_0 2 rfl rfl)
theorem dX0_flaw_3 : decode cX0_flaw 3 = .ok (.iload_n 1, 1) := dk_27 (dk_at dksX0_flaw_0 3 rfl rfl)
theorem dX0_flaw_4 : decode cX0_flaw 4 = .ok (.iload_n 2, 1) := dk_28 (dk_at dksX0_flaw_0 4 rfl rfl)
theorem dX0_flaw_5 : decode cX0_flaw 5 = .ok (.invokevirtual 51, 3) := dk_182 0 51 (dk_at dksX0_flaw_0 5 rfl rfl)
theorem dX0_flaw_8 : decode cX0_flaw 8 = .ok (.i2l, 1) := dk_133 (dk_at dksX0_flaw_0 8 rfl rfl)
theorem dX0_flaw_9 : decode cX0_flaw 9 = .ok (.lastore, 1) := dk_80 (dk_at dksX0_flaw_0 9 rfl rfl)
theorem dX0_flaw_10 : decode cX0_flaw 10 = .ok (.goto 11, 3) := dk_167 0 11 (dk_at dksX0_flaw_0 10 rfl rfl)
theorem dX0_flaw_13 : decode cX0_flaw 13 = .ok (.astore 4, 2) := dk_58 4 (dk_at dksX0_flaw_0 13 rfl rfl)
theorem dX0_flaw_15 : decode cX0_flaw 15 = .ok (.iconst 1, 1) := dk_4 (dk_at dksX0_flaw_0 15 rfl rfl)
theorem dX0_flaw_16 : decode cX0_flaw 16 = .ok (.ireturn, 1) := dk_172 (dk_at dksX0_flaw_0 16 rfl rfl)
theorem dX0_flaw_17 : decode cX0_flaw 17 = .ok (.astore 4, 2) := dk_58 4 (dk_at dksX0_flaw_0 17 rfl rfl)
theorem dX0_flaw_19 : decode cX0_flaw 19 = .ok (.iconst 2, 1) := dk_5 (dk_at dksX0_flaw_0 19 rfl rfl)
theorem dX0_flaw_20 : decode cX0_flaw 20 = .ok (.ireturn, 1) := dk_172 (dk_at dksX0_flaw_0 20 rfl rfl)
theorem dX0_flaw_21 : decode cX0_flaw 21 = .ok (.iconst 0, 1) := dk_3 (dk_at dksX0_flaw_0 21 rfl rfl)
theorem dX0_flaw_22 : decode cX0_flaw 22 = .ok (.ireturn, 1) := dk_172 (dk_at dksX0_flaw_0 22 rfl rfl)
abbrev cX0_look : ByteArray := method_14_code
def yX0_look : MethodName := ⟨RX0, "look", "(LWheelWorks;IZ[J)I"⟩
def dkwX0_look_0 : List UInt8 := [45, 3, 42, 27, 28, 182, 0, 54, 133, 80, 167, 0, 11, 58, 4, 4, 172, 58, 4, 5, 172, 3, 172]
abbrev dktX0_look_0 : List UInt8 := dkwX0_look_0 ++ []
theorem dksX0_look_0 : cX0_look.data.toList.drop 0 = dktX0_look_0 := by decide +kernel
theorem dX0_look_0 : decode cX0_look 0 = .ok (.aload_n 3, 1) := dk_45 (dk_at dksX0_look_0 0 rfl rfl)
theorem dX0_look_1 : decode cX0_look 1 = .ok (.iconst 0, 1) := dk_3 (dk_at dksX0_look_0 1 rfl rfl)
theorem dX0_look_2 : decode cX0_look 2 = .ok (.aload_n 0, 1) := dk_42 (dk_at dksX0_look_0 2 rfl rfl)
theorem dX0_look_3 : decode cX0_look 3 = .ok (.iload_n 1, 1) := dk_27 (dk_at dksX0_look_0 3 rfl rfl)
theorem dX0_look_4 : decode cX0_look 4 = .ok (.iload_n 2, 1) := dk_28 (dk_at dksX0_look_0 4 rfl rfl)
theorem dX0_look_5 : decode cX0_look 5 = .ok (.invokevirtual 54, 3) := dk_182 0 54 (dk_at dksX0_look_0 5 rfl rfl)
theorem dX0_look_8 : decode cX0_look 8 = .ok (.i2l, 1) := dk_133 (dk_at dksX0_look_0 8 rfl rfl)
theorem dX0_look_9 : decode cX0_look 9 = .ok (.lastore, 1) := dk_80 (dk_at dksX0_look_0 9 rfl rfl)
theorem dX0_look_10 : decode cX0_look 10 = .ok (.goto 11, 3) := dk_167 0 11 (dk_at dksX0_look_0 10 rfl rfl)
theorem dX0_look_13 : decode cX0_look 13 = .ok (.astore 4, 2) := dk_58 4 (dk_at dksX0_look_0 13 rfl rfl)
theorem dX0_look_15 : decode cX0_look 15 = .ok (.iconst 1, 1) := dk_4 (dk_at dksX0_look_0 15 rfl rfl)
theorem dX0_look_16 : decode cX0_look 16 = .ok (.ireturn, 1) := dk_172 (dk_at dksX0_look_0 16 rfl rfl)
theorem dX0_look_17 : decode cX0_look 17 = .ok (.astore 4, 2) := dk_58 4 (dk_at dksX0_look_0 17 rfl rfl)
theorem dX0_look_19 : decode cX0_look 19 = .ok (.iconst 2, 1) := dk_5 (dk_at dksX0_look_0 19 rfl rfl)
theorem dX0_look_20 : decode cX0_look 20 = .ok (.ireturn, 1) := dk_172 (dk_at dksX0_look_0 20 rfl rfl)
theorem dX0_look_21 : decode cX0_look 21 = .ok (.iconst 0, 1) := dk_3 (dk_at dksX0_look_0 21 rfl rfl)
theorem dX0_look_22 : decode cX0_look 22 = .ok (.ireturn, 1) := dk_172 (dk_at dksX0_look_0 22 rfl rfl)
abbrev cX0_clear : ByteArray := method_15_code
def yX0_clear : MethodName := ⟨RX0, "clear", "(LWheelWorks;I[J)I"⟩
def dkwX0_clear_0 : List UInt8 := [44, 3, 42, 27, 182, 0, 58, 133, 80, 167, 0, 9, 78, 4, 172, 78, 5, 172, 3, 172]
abbrev dktX0_clear_0 : List UInt8 := dkwX0_clear_0 ++ []
theorem dksX0_clear_0 : cX0_clear.data.toList.drop 0 = dktX0_clear_0 := by decide +kernel
theorem dX0_clear_0 : decode cX0_clear 0 = .ok (.aload_n 2, 1) := dk_44 (dk_at dksX0_clear_0 0 rfl rfl)
theorem dX0_clear_1 : decode cX0_clear 1 = .ok (.iconst 0, 1) := dk_3 (dk_at dksX0_clear_0 1 rfl rfl)
theorem dX0_clear_2 : decode cX0_clear 2 = .ok (.aload_n 0, 1) := dk_42 (dk_at dksX0_clear_0 2 rfl rfl)
theorem dX0_clear_3 : decode cX0_clear 3 = .ok (.iload_n 1, 1) := dk_27 (dk_at dksX0_clear_0 3 rfl rfl)
theorem dX0_clear_4 : decode cX0_clear 4 = .ok (.invokevirtual 58, 3) := dk_182 0 58 (dk_at dksX0_clear_0 4 rfl rfl)
theorem dX0_clear_7 : decode cX0_clear 7 = .ok (.i2l, 1) := dk_133 (dk_at dksX0_clear_0 7 rfl rfl)
theorem dX0_clear_8 : decode cX0_clear 8 = .ok (.lastore, 1) := dk_80 (dk_at dksX0_clear_0 8 rfl rfl)
theorem dX0_clear_9 : decode cX0_clear 9 = .ok (.goto 9, 3) := dk_167 0 9 (dk_at dksX0_clear_0 9 rfl rfl)
theorem dX0_clear_12 : decode cX0_clear 12 = .ok (.astore_n 3, 1) := dk_78 (dk_at dksX0_clear_0 12 rfl rfl)
theorem dX0_clear_13 : decode cX0_clear 13 = .ok (.iconst 1, 1) := dk_4 (dk_at dksX0_clear_0 13 rfl rfl)
theorem dX0_clear_14 : decode cX0_clear 14 = .ok (.ireturn, 1) := dk_172 (dk_at dksX0_clear_0 14 rfl rfl)
theorem dX0_clear_15 : decode cX0_clear 15 = .ok (.astore_n 3, 1) := dk_78 (dk_at dksX0_clear_0 15 rfl rfl)
theorem dX0_clear_16 : decode cX0_clear 16 = .ok (.iconst 2, 1) := dk_5 (dk_at dksX0_clear_0 16 rfl rfl)
theorem dX0_clear_17 : decode cX0_clear 17 = .ok (.ireturn, 1) := dk_172 (dk_at dksX0_clear_0 17 rfl rfl)
theorem dX0_clear_18 : decode cX0_clear 18 = .ok (.iconst 0, 1) := dk_3 (dk_at dksX0_clear_0 18 rfl rfl)
theorem dX0_clear_19 : decode cX0_clear 19 = .ok (.ireturn, 1) := dk_172 (dk_at dksX0_clear_0 19 rfl rfl)
abbrev cX0_recall : ByteArray := method_16_code
def yX0_recall : MethodName := ⟨RX0, "recall", "(LWheelWorks;I[J)I"⟩
def dkwX0_recall_0 : List UInt8 := [44, 3, 42, 27, 182, 0, 61, 133, 80, 167, 0, 6, 78, 4, 172, 3, 172]
abbrev dktX0_recall_0 : List UInt8 := dkwX0_recall_0 ++ []
theorem dksX0_recall_0 : cX0_recall.data.toList.drop 0 = dktX0_recall_0 := by decide +kernel
theorem dX0_recall_0 : decode cX0_recall 0 = .ok (.aload_n 2, 1) := dk_44 (dk_at dksX0_recall_0 0 rfl rfl)
theorem dX0_recall_1 : decode cX0_recall 1 = .ok (.iconst 0, 1) := dk_3 (dk_at dksX0_recall_0 1 rfl rfl)
theorem dX0_recall_2 : decode cX0_recall 2 = .ok (.aload_n 0, 1) := dk_42 (dk_at dksX0_recall_0 2 rfl rfl)
theorem dX0_recall_3 : decode cX0_recall 3 = .ok (.iload_n 1, 1) := dk_27 (dk_at dksX0_recall_0 3 rfl rfl)
theorem dX0_recall_4 : decode cX0_recall 4 = .ok (.invokevirtual 61, 3) := dk_182 0 61 (dk_at dksX0_recall_0 4 rfl rfl)
theorem dX0_recall_7 : decode cX0_recall 7 = .ok (.i2l, 1) := dk_133 (dk_at dksX0_recall_0 7 rfl rfl)
theorem dX0_recall_8 : decode cX0_recall 8 = .ok (.lastore, 1) := dk_80 (dk_at dksX0_recall_0 8 rfl rfl)
theorem dX0_recall_9 : decode cX0_recall 9 = .ok (.goto 6, 3) := dk_167 0 6 (dk_at dksX0_recall_0 9 rfl rfl)
theorem dX0_recall_12 : decode cX0_recall 12 = .ok (.astore_n 3, 1) := dk_78 (dk_at dksX0_recall_0 12 rfl rfl)
theorem dX0_recall_13 : decode cX0_recall 13 = .ok (.iconst 1, 1) := dk_4 (dk_at dksX0_recall_0 13 rfl rfl)
theorem dX0_recall_14 : decode cX0_recall 14 = .ok (.ireturn, 1) := dk_172 (dk_at dksX0_recall_0 14 rfl rfl)
theorem dX0_recall_15 : decode cX0_recall 15 = .ok (.iconst 0, 1) := dk_3 (dk_at dksX0_recall_0 15 rfl rfl)
theorem dX0_recall_16 : decode cX0_recall 16 = .ok (.ireturn, 1) := dk_172 (dk_at dksX0_recall_0 16 rfl rfl)
abbrev cX0_release : ByteArray := method_17_code
def yX0_release : MethodName := ⟨RX0, "release", "(LWheelWorks;I[J)I"⟩
def dkwX0_release_0 : List UInt8 := [44, 3, 42, 27, 182, 0, 64, 133, 80, 167, 0, 9, 78, 4, 172, 78, 5, 172, 3, 172]
abbrev dktX0_release_0 : List UInt8 := dkwX0_release_0 ++ []
theorem dksX0_release_0 : cX0_release.data.toList.drop 0 = dktX0_release_0 := by decide +kernel
theorem dX0_release_0 : decode cX0_release 0 = .ok (.aload_n 2, 1) := dk_44 (dk_at dksX0_release_0 0 rfl rfl)
theorem dX0_release_1 : decode cX0_release 1 = .ok (.iconst 0, 1) := dk_3 (dk_at dksX0_release_0 1 rfl rfl)
theorem dX0_release_2 : decode cX0_release 2 = .ok (.aload_n 0, 1) := dk_42 (dk_at dksX0_release_0 2 rfl rfl)
theorem dX0_release_3 : decode cX0_release 3 = .ok (.iload_n 1, 1) := dk_27 (dk_at dksX0_release_0 3 rfl rfl)
theorem dX0_release_4 : decode cX0_release 4 = .ok (.invokevirtual 64, 3) := dk_182 0 64 (dk_at dksX0_release_0 4 rfl rfl)
theorem dX0_release_7 : decode cX0_release 7 = .ok (.i2l, 1) := dk_133 (dk_at dksX0_release_0 7 rfl rfl)
theorem dX0_release_8 : decode cX0_release 8 = .ok (.lastore, 1) := dk_80 (dk_at dksX0_release_0 8 rfl rfl)
theorem dX0_release_9 : decode cX0_release 9 = .ok (.goto 9, 3) := dk_167 0 9 (dk_at dksX0_release_0 9 rfl rfl)
theorem dX0_release_12 : decode cX0_release 12 = .ok (.astore_n 3, 1) := dk_78 (dk_at dksX0_release_0 12 rfl rfl)
theorem dX0_release_13 : decode cX0_release 13 = .ok (.iconst 1, 1) := dk_4 (dk_at dksX0_release_0 13 rfl rfl)
theorem dX0_release_14 : decode cX0_release 14 = .ok (.ireturn, 1) := dk_172 (dk_at dksX0_release_0 14 rfl rfl)
theorem dX0_release_15 : decode cX0_release 15 = .ok (.astore_n 3, 1) := dk_78 (dk_at dksX0_release_0 15 rfl rfl)
theorem dX0_release_16 : decode cX0_release 16 = .ok (.iconst 2, 1) := dk_5 (dk_at dksX0_release_0 16 rfl rfl)
theorem dX0_release_17 : decode cX0_release 17 = .ok (.ireturn, 1) := dk_172 (dk_at dksX0_release_0 17 rfl rfl)
theorem dX0_release_18 : decode cX0_release 18 = .ok (.iconst 0, 1) := dk_3 (dk_at dksX0_release_0 18 rfl rfl)
theorem dX0_release_19 : decode cX0_release 19 = .ok (.ireturn, 1) := dk_172 (dk_at dksX0_release_0 19 rfl rfl)
abbrev cX0_comes : ByteArray := method_18_code
def yX0_comes : MethodName := ⟨RX0, "comes", "(LWheelWorks;II[J)I"⟩
def dkwX0_comes_1 : List UInt8 := [172, 3, 172]
abbrev dktX0_comes_1 : List UInt8 := dkwX0_comes_1 ++ []
def dkwX0_comes_0 : List UInt8 := [45, 3, 42, 27, 28, 182, 0, 67, 133, 80, 167, 0, 15, 58, 4, 4, 172, 58, 4, 5, 172, 58, 4, 6]
abbrev dktX0_comes_0 : List UInt8 := dkwX0_comes_0 ++ dktX0_comes_1
theorem dksX0_comes_0 : cX0_comes.data.toList.drop 0 = dktX0_comes_0 := by decide +kernel
theorem dksX0_comes_1 : cX0_comes.data.toList.drop 24 = dktX0_comes_1 := dk_seg dksX0_comes_0 24 rfl rfl
theorem dX0_comes_0 : decode cX0_comes 0 = .ok (.aload_n 3, 1) := dk_45 (dk_at dksX0_comes_0 0 rfl rfl)
theorem dX0_comes_1 : decode cX0_comes 1 = .ok (.iconst 0, 1) := dk_3 (dk_at dksX0_comes_0 1 rfl rfl)
theorem dX0_comes_2 : decode cX0_comes 2 = .ok (.aload_n 0, 1) := dk_42 (dk_at dksX0_comes_0 2 rfl rfl)
theorem dX0_comes_3 : decode cX0_comes 3 = .ok (.iload_n 1, 1) := dk_27 (dk_at dksX0_comes_0 3 rfl rfl)
theorem dX0_comes_4 : decode cX0_comes 4 = .ok (.iload_n 2, 1) := dk_28 (dk_at dksX0_comes_0 4 rfl rfl)
theorem dX0_comes_5 : decode cX0_comes 5 = .ok (.invokevirtual 67, 3) := dk_182 0 67 (dk_at dksX0_comes_0 5 rfl rfl)
theorem dX0_comes_8 : decode cX0_comes 8 = .ok (.i2l, 1) := dk_133 (dk_at dksX0_comes_0 8 rfl rfl)
theorem dX0_comes_9 : decode cX0_comes 9 = .ok (.lastore, 1) := dk_80 (dk_at dksX0_comes_0 9 rfl rfl)
theorem dX0_comes_10 : decode cX0_comes 10 = .ok (.goto 15, 3) := dk_167 0 15 (dk_at dksX0_comes_0 10 rfl rfl)
theorem dX0_comes_13 : decode cX0_comes 13 = .ok (.astore 4, 2) := dk_58 4 (dk_at dksX0_comes_0 13 rfl rfl)
theorem dX0_comes_15 : decode cX0_comes 15 = .ok (.iconst 1, 1) := dk_4 (dk_at dksX0_comes_0 15 rfl rfl)
theorem dX0_comes_16 : decode cX0_comes 16 = .ok (.ireturn, 1) := dk_172 (dk_at dksX0_comes_0 16 rfl rfl)
theorem dX0_comes_17 : decode cX0_comes 17 = .ok (.astore 4, 2) := dk_58 4 (dk_at dksX0_comes_0 17 rfl rfl)
theorem dX0_comes_19 : decode cX0_comes 19 = .ok (.iconst 2, 1) := dk_5 (dk_at dksX0_comes_0 19 rfl rfl)
theorem dX0_comes_20 : decode cX0_comes 20 = .ok (.ireturn, 1) := dk_172 (dk_at dksX0_comes_0 20 rfl rfl)
theorem dX0_comes_21 : decode cX0_comes 21 = .ok (.astore 4, 2) := dk_58 4 (dk_at dksX0_comes_0 21 rfl rfl)
theorem dX0_comes_23 : decode cX0_comes 23 = .ok (.iconst 3, 1) := dk_6 (dk_at dksX0_comes_0 23 rfl rfl)
theorem dX0_comes_24 : decode cX0_comes 24 = .ok (.ireturn, 1) := dk_172 (dk_at dksX0_comes_1 0 rfl rfl)
theorem dX0_comes_25 : decode cX0_comes 25 = .ok (.iconst 0, 1) := dk_3 (dk_at dksX0_comes_1 1 rfl rfl)
theorem dX0_comes_26 : decode cX0_comes 26 = .ok (.ireturn, 1) := dk_172 (dk_at dksX0_comes_1 2 rfl rfl)
abbrev cX0_night : ByteArray := method_19_code
def yX0_night : MethodName := ⟨RX0, "night", "(LWheelWorks;[J)I"⟩
def dkwX0_night_0 : List UInt8 := [43, 3, 42, 182, 0, 70, 133, 80, 167, 0, 6, 77, 4, 172, 3, 172]
abbrev dktX0_night_0 : List UInt8 := dkwX0_night_0 ++ []
theorem dksX0_night_0 : cX0_night.data.toList.drop 0 = dktX0_night_0 := by decide +kernel
theorem dX0_night_0 : decode cX0_night 0 = .ok (.aload_n 1, 1) := dk_43 (dk_at dksX0_night_0 0 rfl rfl)
theorem dX0_night_1 : decode cX0_night 1 = .ok (.iconst 0, 1) := dk_3 (dk_at dksX0_night_0 1 rfl rfl)
theorem dX0_night_2 : decode cX0_night 2 = .ok (.aload_n 0, 1) := dk_42 (dk_at dksX0_night_0 2 rfl rfl)
theorem dX0_night_3 : decode cX0_night 3 = .ok (.invokevirtual 70, 3) := dk_182 0 70 (dk_at dksX0_night_0 3 rfl rfl)
theorem dX0_night_6 : decode cX0_night 6 = .ok (.i2l, 1) := dk_133 (dk_at dksX0_night_0 6 rfl rfl)
theorem dX0_night_7 : decode cX0_night 7 = .ok (.lastore, 1) := dk_80 (dk_at dksX0_night_0 7 rfl rfl)
theorem dX0_night_8 : decode cX0_night 8 = .ok (.goto 6, 3) := dk_167 0 6 (dk_at dksX0_night_0 8 rfl rfl)
theorem dX0_night_11 : decode cX0_night 11 = .ok (.astore_n 2, 1) := dk_77 (dk_at dksX0_night_0 11 rfl rfl)
theorem dX0_night_12 : decode cX0_night 12 = .ok (.iconst 1, 1) := dk_4 (dk_at dksX0_night_0 12 rfl rfl)
theorem dX0_night_13 : decode cX0_night 13 = .ok (.ireturn, 1) := dk_172 (dk_at dksX0_night_0 13 rfl rfl)
theorem dX0_night_14 : decode cX0_night 14 = .ok (.iconst 0, 1) := dk_3 (dk_at dksX0_night_0 14 rfl rfl)
theorem dX0_night_15 : decode cX0_night 15 = .ok (.ireturn, 1) := dk_172 (dk_at dksX0_night_0 15 rfl rfl)
abbrev cX0_out : ByteArray := method_20_code
def yX0_out : MethodName := ⟨RX0, "out", "(LWheelWorks;[J)I"⟩
def dkwX0_out_0 : List UInt8 := [43, 3, 42, 182, 0, 74, 133, 80, 167, 0, 6, 77, 4, 172, 3, 172]
abbrev dktX0_out_0 : List UInt8 := dkwX0_out_0 ++ []
theorem dksX0_out_0 : cX0_out.data.toList.drop 0 = dktX0_out_0 := by decide +kernel
theorem dX0_out_0 : decode cX0_out 0 = .ok (.aload_n 1, 1) := dk_43 (dk_at dksX0_out_0 0 rfl rfl)
theorem dX0_out_1 : decode cX0_out 1 = .ok (.iconst 0, 1) := dk_3 (dk_at dksX0_out_0 1 rfl rfl)
theorem dX0_out_2 : decode cX0_out 2 = .ok (.aload_n 0, 1) := dk_42 (dk_at dksX0_out_0 2 rfl rfl)
theorem dX0_out_3 : decode cX0_out 3 = .ok (.invokevirtual 74, 3) := dk_182 0 74 (dk_at dksX0_out_0 3 rfl rfl)
theorem dX0_out_6 : decode cX0_out 6 = .ok (.i2l, 1) := dk_133 (dk_at dksX0_out_0 6 rfl rfl)
theorem dX0_out_7 : decode cX0_out 7 = .ok (.lastore, 1) := dk_80 (dk_at dksX0_out_0 7 rfl rfl)
theorem dX0_out_8 : decode cX0_out 8 = .ok (.goto 6, 3) := dk_167 0 6 (dk_at dksX0_out_0 8 rfl rfl)
theorem dX0_out_11 : decode cX0_out 11 = .ok (.astore_n 2, 1) := dk_77 (dk_at dksX0_out_0 11 rfl rfl)
theorem dX0_out_12 : decode cX0_out 12 = .ok (.iconst 1, 1) := dk_4 (dk_at dksX0_out_0 12 rfl rfl)
theorem dX0_out_13 : decode cX0_out 13 = .ok (.ireturn, 1) := dk_172 (dk_at dksX0_out_0 13 rfl rfl)
theorem dX0_out_14 : decode cX0_out 14 = .ok (.iconst 0, 1) := dk_3 (dk_at dksX0_out_0 14 rfl rfl)
theorem dX0_out_15 : decode cX0_out 15 = .ok (.ireturn, 1) := dk_172 (dk_at dksX0_out_0 15 rfl rfl)
abbrev cX0_host : ByteArray := method_21_code
def yX0_host : MethodName := ⟨RX0, "host", "(LWheelWorks;I[J)I"⟩
def dkwX0_host_0 : List UInt8 := [44, 3, 42, 27, 182, 0, 77, 133, 80, 167, 0, 6, 78, 4, 172, 3, 172]
abbrev dktX0_host_0 : List UInt8 := dkwX0_host_0 ++ []
theorem dksX0_host_0 : cX0_host.data.toList.drop 0 = dktX0_host_0 := by decide +kernel
theorem dX0_host_0 : decode cX0_host 0 = .ok (.aload_n 2, 1) := dk_44 (dk_at dksX0_host_0 0 rfl rfl)
theorem dX0_host_1 : decode cX0_host 1 = .ok (.iconst 0, 1) := dk_3 (dk_at dksX0_host_0 1 rfl rfl)
theorem dX0_host_2 : decode cX0_host 2 = .ok (.aload_n 0, 1) := dk_42 (dk_at dksX0_host_0 2 rfl rfl)
theorem dX0_host_3 : decode cX0_host 3 = .ok (.iload_n 1, 1) := dk_27 (dk_at dksX0_host_0 3 rfl rfl)
theorem dX0_host_4 : decode cX0_host 4 = .ok (.invokevirtual 77, 3) := dk_182 0 77 (dk_at dksX0_host_0 4 rfl rfl)
theorem dX0_host_7 : decode cX0_host 7 = .ok (.i2l, 1) := dk_133 (dk_at dksX0_host_0 7 rfl rfl)
theorem dX0_host_8 : decode cX0_host 8 = .ok (.lastore, 1) := dk_80 (dk_at dksX0_host_0 8 rfl rfl)
theorem dX0_host_9 : decode cX0_host 9 = .ok (.goto 6, 3) := dk_167 0 6 (dk_at dksX0_host_0 9 rfl rfl)
theorem dX0_host_12 : decode cX0_host 12 = .ok (.astore_n 3, 1) := dk_78 (dk_at dksX0_host_0 12 rfl rfl)
theorem dX0_host_13 : decode cX0_host 13 = .ok (.iconst 1, 1) := dk_4 (dk_at dksX0_host_0 13 rfl rfl)
theorem dX0_host_14 : decode cX0_host 14 = .ok (.ireturn, 1) := dk_172 (dk_at dksX0_host_0 14 rfl rfl)
theorem dX0_host_15 : decode cX0_host 15 = .ok (.iconst 0, 1) := dk_3 (dk_at dksX0_host_0 15 rfl rfl)
theorem dX0_host_16 : decode cX0_host 16 = .ok (.ireturn, 1) := dk_172 (dk_at dksX0_host_0 16 rfl rfl)
abbrev cX0_head : ByteArray := method_22_code
def yX0_head : MethodName := ⟨RX0, "head", "(LWheelWorks;I[J)I"⟩
def dkwX0_head_0 : List UInt8 := [44, 3, 42, 27, 182, 0, 80, 133, 80, 167, 0, 6, 78, 4, 172, 3, 172]
abbrev dktX0_head_0 : List UInt8 := dkwX0_head_0 ++ []
theorem dksX0_head_0 : cX0_head.data.toList.drop 0 = dktX0_head_0 := by decide +kernel
theorem dX0_head_0 : decode cX0_head 0 = .ok (.aload_n 2, 1) := dk_44 (dk_at dksX0_head_0 0 rfl rfl)
theorem dX0_head_1 : decode cX0_head 1 = .ok (.iconst 0, 1) := dk_3 (dk_at dksX0_head_0 1 rfl rfl)
theorem dX0_head_2 : decode cX0_head 2 = .ok (.aload_n 0, 1) := dk_42 (dk_at dksX0_head_0 2 rfl rfl)
theorem dX0_head_3 : decode cX0_head 3 = .ok (.iload_n 1, 1) := dk_27 (dk_at dksX0_head_0 3 rfl rfl)
theorem dX0_head_4 : decode cX0_head 4 = .ok (.invokevirtual 80, 3) := dk_182 0 80 (dk_at dksX0_head_0 4 rfl rfl)
theorem dX0_head_7 : decode cX0_head 7 = .ok (.i2l, 1) := dk_133 (dk_at dksX0_head_0 7 rfl rfl)
theorem dX0_head_8 : decode cX0_head 8 = .ok (.lastore, 1) := dk_80 (dk_at dksX0_head_0 8 rfl rfl)
theorem dX0_head_9 : decode cX0_head 9 = .ok (.goto 6, 3) := dk_167 0 6 (dk_at dksX0_head_0 9 rfl rfl)
theorem dX0_head_12 : decode cX0_head 12 = .ok (.astore_n 3, 1) := dk_78 (dk_at dksX0_head_0 12 rfl rfl)
theorem dX0_head_13 : decode cX0_head 13 = .ok (.iconst 1, 1) := dk_4 (dk_at dksX0_head_0 13 rfl rfl)
theorem dX0_head_14 : decode cX0_head 14 = .ok (.ireturn, 1) := dk_172 (dk_at dksX0_head_0 14 rfl rfl)
theorem dX0_head_15 : decode cX0_head 15 = .ok (.iconst 0, 1) := dk_3 (dk_at dksX0_head_0 15 rfl rfl)
theorem dX0_head_16 : decode cX0_head 16 = .ok (.ireturn, 1) := dk_172 (dk_at dksX0_head_0 16 rfl rfl)
abbrev cX0_ofPart : ByteArray := method_23_code
def yX0_ofPart : MethodName := ⟨RX0, "ofPart", "(LWheelWorks;II[J)I"⟩
def dkwX0_ofPart_0 : List UInt8 := [45, 3, 42, 27, 28, 182, 0, 83, 133, 80, 167, 0, 11, 58, 4, 4, 172, 58, 4, 5, 172, 3, 172]
abbrev dktX0_ofPart_0 : List UInt8 := dkwX0_ofPart_0 ++ []
theorem dksX0_ofPart_0 : cX0_ofPart.data.toList.drop 0 = dktX0_ofPart_0 := by decide +kernel
theorem dX0_ofPart_0 : decode cX0_ofPart 0 = .ok (.aload_n 3, 1) := dk_45 (dk_at dksX0_ofPart_0 0 rfl rfl)
theorem dX0_ofPart_1 : decode cX0_ofPart 1 = .ok (.iconst 0, 1) := dk_3 (dk_at dksX0_ofPart_0 1 rfl rfl)
theorem dX0_ofPart_2 : decode cX0_ofPart 2 = .ok (.aload_n 0, 1) := dk_42 (dk_at dksX0_ofPart_0 2 rfl rfl)
theorem dX0_ofPart_3 : decode cX0_ofPart 3 = .ok (.iload_n 1, 1) := dk_27 (dk_at dksX0_ofPart_0 3 rfl rfl)
theorem dX0_ofPart_4 : decode cX0_ofPart 4 = .ok (.iload_n 2, 1) := dk_28 (dk_at dksX0_ofPart_0 4 rfl rfl)
theorem dX0_ofPart_5 : decode cX0_ofPart 5 = .ok (.invokevirtual 83, 3) := dk_182 0 83 (dk_at dksX0_ofPart_0 5 rfl rfl)
theorem dX0_ofPart_8 : decode cX0_ofPart 8 = .ok (.i2l, 1) := dk_133 (dk_at dksX0_ofPart_0 8 rfl rfl)
theorem dX0_ofPart_9 : decode cX0_ofPart 9 = .ok (.lastore, 1) := dk_80 (dk_at dksX0_ofPart_0 9 rfl rfl)
theorem dX0_ofPart_10 : decode cX0_ofPart 10 = .ok (.goto 11, 3) := dk_167 0 11 (dk_at dksX0_ofPart_0 10 rfl rfl)
theorem dX0_ofPart_13 : decode cX0_ofPart 13 = .ok (.astore 4, 2) := dk_58 4 (dk_at dksX0_ofPart_0 13 rfl rfl)
theorem dX0_ofPart_15 : decode cX0_ofPart 15 = .ok (.iconst 1, 1) := dk_4 (dk_at dksX0_ofPart_0 15 rfl rfl)
theorem dX0_ofPart_16 : decode cX0_ofPart 16 = .ok (.ireturn, 1) := dk_172 (dk_at dksX0_ofPart_0 16 rfl rfl)
theorem dX0_ofPart_17 : decode cX0_ofPart 17 = .ok (.astore 4, 2) := dk_58 4 (dk_at dksX0_ofPart_0 17 rfl rfl)
theorem dX0_ofPart_19 : decode cX0_ofPart 19 = .ok (.iconst 2, 1) := dk_5 (dk_at dksX0_ofPart_0 19 rfl rfl)
theorem dX0_ofPart_20 : decode cX0_ofPart 20 = .ok (.ireturn, 1) := dk_172 (dk_at dksX0_ofPart_0 20 rfl rfl)
theorem dX0_ofPart_21 : decode cX0_ofPart 21 = .ok (.iconst 0, 1) := dk_3 (dk_at dksX0_ofPart_0 21 rfl rfl)
theorem dX0_ofPart_22 : decode cX0_ofPart 22 = .ok (.ireturn, 1) := dk_172 (dk_at dksX0_ofPart_0 22 rfl rfl)
abbrev cX0_trace : ByteArray := method_24_code
def yX0_trace : MethodName := ⟨RX0, "trace", "(LWheelWorks;II[J)I"⟩
def dkwX0_trace_0 : List UInt8 := [45, 3, 42, 27, 28, 182, 0, 86, 133, 80, 167, 0, 7, 58, 4, 4, 172, 3, 172]
abbrev dktX0_trace_0 : List UInt8 := dkwX0_trace_0 ++ []
theorem dksX0_trace_0 : cX0_trace.data.toList.drop 0 = dktX0_trace_0 := by decide +kernel
theorem dX0_trace_0 : decode cX0_trace 0 = .ok (.aload_n 3, 1) := dk_45 (dk_at dksX0_trace_0 0 rfl rfl)
theorem dX0_trace_1 : decode cX0_trace 1 = .ok (.iconst 0, 1) := dk_3 (dk_at dksX0_trace_0 1 rfl rfl)
theorem dX0_trace_2 : decode cX0_trace 2 = .ok (.aload_n 0, 1) := dk_42 (dk_at dksX0_trace_0 2 rfl rfl)
theorem dX0_trace_3 : decode cX0_trace 3 = .ok (.iload_n 1, 1) := dk_27 (dk_at dksX0_trace_0 3 rfl rfl)
theorem dX0_trace_4 : decode cX0_trace 4 = .ok (.iload_n 2, 1) := dk_28 (dk_at dksX0_trace_0 4 rfl rfl)
theorem dX0_trace_5 : decode cX0_trace 5 = .ok (.invokevirtual 86, 3) := dk_182 0 86 (dk_at dksX0_trace_0 5 rfl rfl)
theorem dX0_trace_8 : decode cX0_trace 8 = .ok (.i2l, 1) := dk_133 (dk_at dksX0_trace_0 8 rfl rfl)
theorem dX0_trace_9 : decode cX0_trace 9 = .ok (.lastore, 1) := dk_80 (dk_at dksX0_trace_0 9 rfl rfl)
theorem dX0_trace_10 : decode cX0_trace 10 = .ok (.goto 7, 3) := dk_167 0 7 (dk_at dksX0_trace_0 10 rfl rfl)
theorem dX0_trace_13 : decode cX0_trace 13 = .ok (.astore 4, 2) := dk_58 4 (dk_at dksX0_trace_0 13 rfl rfl)
theorem dX0_trace_15 : decode cX0_trace 15 = .ok (.iconst 1, 1) := dk_4 (dk_at dksX0_trace_0 15 rfl rfl)
theorem dX0_trace_16 : decode cX0_trace 16 = .ok (.ireturn, 1) := dk_172 (dk_at dksX0_trace_0 16 rfl rfl)
theorem dX0_trace_17 : decode cX0_trace 17 = .ok (.iconst 0, 1) := dk_3 (dk_at dksX0_trace_0 17 rfl rfl)
theorem dX0_trace_18 : decode cX0_trace 18 = .ok (.ireturn, 1) := dk_172 (dk_at dksX0_trace_0 18 rfl rfl)
abbrev cX0_lifeAnew : ByteArray := method_25_code
def yX0_lifeAnew : MethodName := ⟨RX0, "lifeAnew", "(LWheelWorks;I[J)I"⟩
def dkwX0_lifeAnew_0 : List UInt8 := [44, 3, 42, 27, 182, 0, 89, 133, 80, 167, 0, 6, 78, 4, 172, 3, 172]
abbrev dktX0_lifeAnew_0 : List UInt8 := dkwX0_lifeAnew_0 ++ []
theorem dksX0_lifeAnew_0 : cX0_lifeAnew.data.toList.drop 0 = dktX0_lifeAnew_0 := by decide +kernel
theorem dX0_lifeAnew_0 : decode cX0_lifeAnew 0 = .ok (.aload_n 2, 1) := dk_44 (dk_at dksX0_lifeAnew_0 0 rfl rfl)
theorem dX0_lifeAnew_1 : decode cX0_lifeAnew 1 = .ok (.iconst 0, 1) := dk_3 (dk_at dksX0_lifeAnew_0 1 rfl rfl)
theorem dX0_lifeAnew_2 : decode cX0_lifeAnew 2 = .ok (.aload_n 0, 1) := dk_42 (dk_at dksX0_lifeAnew_0 2 rfl rfl)
theorem dX0_lifeAnew_3 : decode cX0_lifeAnew 3 = .ok (.iload_n 1, 1) := dk_27 (dk_at dksX0_lifeAnew_0 3 rfl rfl)
theorem dX0_lifeAnew_4 : decode cX0_lifeAnew 4 = .ok (.invokevirtual 89, 3) := dk_182 0 89 (dk_at dksX0_lifeAnew_0 4 rfl rfl)
theorem dX0_lifeAnew_7 : decode cX0_lifeAnew 7 = .ok (.i2l, 1) := dk_133 (dk_at dksX0_lifeAnew_0 7 rfl rfl)
theorem dX0_lifeAnew_8 : decode cX0_lifeAnew 8 = .ok (.lastore, 1) := dk_80 (dk_at dksX0_lifeAnew_0 8 rfl rfl)
theorem dX0_lifeAnew_9 : decode cX0_lifeAnew 9 = .ok (.goto 6, 3) := dk_167 0 6 (dk_at dksX0_lifeAnew_0 9 rfl rfl)
theorem dX0_lifeAnew_12 : decode cX0_lifeAnew 12 = .ok (.astore_n 3, 1) := dk_78 (dk_at dksX0_lifeAnew_0 12 rfl rfl)
theorem dX0_lifeAnew_13 : decode cX0_lifeAnew 13 = .ok (.iconst 1, 1) := dk_4 (dk_at dksX0_lifeAnew_0 13 rfl rfl)
theorem dX0_lifeAnew_14 : decode cX0_lifeAnew 14 = .ok (.ireturn, 1) := dk_172 (dk_at dksX0_lifeAnew_0 14 rfl rfl)
theorem dX0_lifeAnew_15 : decode cX0_lifeAnew 15 = .ok (.iconst 0, 1) := dk_3 (dk_at dksX0_lifeAnew_0 15 rfl rfl)
theorem dX0_lifeAnew_16 : decode cX0_lifeAnew 16 = .ok (.ireturn, 1) := dk_172 (dk_at dksX0_lifeAnew_0 16 rfl rfl)
abbrev cX0_wheel : ByteArray := method_26_code
def yX0_wheel : MethodName := ⟨RX0, "wheel", "(LWheelWorks;II[J)I"⟩
def dkwX0_wheel_0 : List UInt8 := [45, 3, 42, 27, 28, 182, 0, 92, 133, 80, 167, 0, 11, 58, 4, 4, 172, 58, 4, 5, 172, 3, 172]
abbrev dktX0_wheel_0 : List UInt8 := dkwX0_wheel_0 ++ []
theorem dksX0_wheel_0 : cX0_wheel.data.toList.drop 0 = dktX0_wheel_0 := by decide +kernel
theorem dX0_wheel_0 : decode cX0_wheel 0 = .ok (.aload_n 3, 1) := dk_45 (dk_at dksX0_wheel_0 0 rfl rfl)
theorem dX0_wheel_1 : decode cX0_wheel 1 = .ok (.iconst 0, 1) := dk_3 (dk_at dksX0_wheel_0 1 rfl rfl)
theorem dX0_wheel_2 : decode cX0_wheel 2 = .ok (.aload_n 0, 1) := dk_42 (dk_at dksX0_wheel_0 2 rfl rfl)
theorem dX0_wheel_3 : decode cX0_wheel 3 = .ok (.iload_n 1, 1) := dk_27 (dk_at dksX0_wheel_0 3 rfl rfl)
theorem dX0_wheel_4 : decode cX0_wheel 4 = .ok (.iload_n 2, 1) := dk_28 (dk_at dksX0_wheel_0 4 rfl rfl)
theorem dX0_wheel_5 : decode cX0_wheel 5 = .ok (.invokevirtual 92, 3) := dk_182 0 92 (dk_at dksX0_wheel_0 5 rfl rfl)
theorem dX0_wheel_8 : decode cX0_wheel 8 = .ok (.i2l, 1) := dk_133 (dk_at dksX0_wheel_0 8 rfl rfl)
theorem dX0_wheel_9 : decode cX0_wheel 9 = .ok (.lastore, 1) := dk_80 (dk_at dksX0_wheel_0 9 rfl rfl)
theorem dX0_wheel_10 : decode cX0_wheel 10 = .ok (.goto 11, 3) := dk_167 0 11 (dk_at dksX0_wheel_0 10 rfl rfl)
theorem dX0_wheel_13 : decode cX0_wheel 13 = .ok (.astore 4, 2) := dk_58 4 (dk_at dksX0_wheel_0 13 rfl rfl)
theorem dX0_wheel_15 : decode cX0_wheel 15 = .ok (.iconst 1, 1) := dk_4 (dk_at dksX0_wheel_0 15 rfl rfl)
theorem dX0_wheel_16 : decode cX0_wheel 16 = .ok (.ireturn, 1) := dk_172 (dk_at dksX0_wheel_0 16 rfl rfl)
theorem dX0_wheel_17 : decode cX0_wheel 17 = .ok (.astore 4, 2) := dk_58 4 (dk_at dksX0_wheel_0 17 rfl rfl)
theorem dX0_wheel_19 : decode cX0_wheel 19 = .ok (.iconst 2, 1) := dk_5 (dk_at dksX0_wheel_0 19 rfl rfl)
theorem dX0_wheel_20 : decode cX0_wheel 20 = .ok (.ireturn, 1) := dk_172 (dk_at dksX0_wheel_0 20 rfl rfl)
theorem dX0_wheel_21 : decode cX0_wheel 21 = .ok (.iconst 0, 1) := dk_3 (dk_at dksX0_wheel_0 21 rfl rfl)
theorem dX0_wheel_22 : decode cX0_wheel 22 = .ok (.ireturn, 1) := dk_172 (dk_at dksX0_wheel_0 22 rfl rfl)
abbrev cX0_foretell : ByteArray := method_27_code
def yX0_foretell : MethodName := ⟨RX0, "foretell", "(LWheelWorks;III[J)I"⟩
def dkwX0_foretell_1 : List UInt8 := [172]
abbrev dktX0_foretell_1 : List UInt8 := dkwX0_foretell_1 ++ []
def dkwX0_foretell_0 : List UInt8 := [25, 4, 3, 42, 27, 28, 29, 182, 0, 95, 133, 80, 167, 0, 11, 58, 5, 4, 172, 58, 5, 5, 172, 3]
abbrev dktX0_foretell_0 : List UInt8 := dkwX0_foretell_0 ++ dktX0_foretell_1
theorem dksX0_foretell_0 : cX0_foretell.data.toList.drop 0 = dktX0_foretell_0 := by decide +kernel
theorem dksX0_foretell_1 : cX0_foretell.data.toList.drop 24 = dktX0_foretell_1 := dk_seg dksX0_foretell_0 24 rfl rfl
theorem dX0_foretell_0 : decode cX0_foretell 0 = .ok (.aload 4, 2) := dk_25 4 (dk_at dksX0_foretell_0 0 rfl rfl)
theorem dX0_foretell_2 : decode cX0_foretell 2 = .ok (.iconst 0, 1) := dk_3 (dk_at dksX0_foretell_0 2 rfl rfl)
theorem dX0_foretell_3 : decode cX0_foretell 3 = .ok (.aload_n 0, 1) := dk_42 (dk_at dksX0_foretell_0 3 rfl rfl)
theorem dX0_foretell_4 : decode cX0_foretell 4 = .ok (.iload_n 1, 1) := dk_27 (dk_at dksX0_foretell_0 4 rfl rfl)
theorem dX0_foretell_5 : decode cX0_foretell 5 = .ok (.iload_n 2, 1) := dk_28 (dk_at dksX0_foretell_0 5 rfl rfl)
theorem dX0_foretell_6 : decode cX0_foretell 6 = .ok (.iload_n 3, 1) := dk_29 (dk_at dksX0_foretell_0 6 rfl rfl)
theorem dX0_foretell_7 : decode cX0_foretell 7 = .ok (.invokevirtual 95, 3) := dk_182 0 95 (dk_at dksX0_foretell_0 7 rfl rfl)
theorem dX0_foretell_10 : decode cX0_foretell 10 = .ok (.i2l, 1) := dk_133 (dk_at dksX0_foretell_0 10 rfl rfl)
theorem dX0_foretell_11 : decode cX0_foretell 11 = .ok (.lastore, 1) := dk_80 (dk_at dksX0_foretell_0 11 rfl rfl)
theorem dX0_foretell_12 : decode cX0_foretell 12 = .ok (.goto 11, 3) := dk_167 0 11 (dk_at dksX0_foretell_0 12 rfl rfl)
theorem dX0_foretell_15 : decode cX0_foretell 15 = .ok (.astore 5, 2) := dk_58 5 (dk_at dksX0_foretell_0 15 rfl rfl)
theorem dX0_foretell_17 : decode cX0_foretell 17 = .ok (.iconst 1, 1) := dk_4 (dk_at dksX0_foretell_0 17 rfl rfl)
theorem dX0_foretell_18 : decode cX0_foretell 18 = .ok (.ireturn, 1) := dk_172 (dk_at dksX0_foretell_0 18 rfl rfl)
theorem dX0_foretell_19 : decode cX0_foretell 19 = .ok (.astore 5, 2) := dk_58 5 (dk_at dksX0_foretell_0 19 rfl rfl)
theorem dX0_foretell_21 : decode cX0_foretell 21 = .ok (.iconst 2, 1) := dk_5 (dk_at dksX0_foretell_0 21 rfl rfl)
theorem dX0_foretell_22 : decode cX0_foretell 22 = .ok (.ireturn, 1) := dk_172 (dk_at dksX0_foretell_0 22 rfl rfl)
theorem dX0_foretell_23 : decode cX0_foretell 23 = .ok (.iconst 0, 1) := dk_3 (dk_at dksX0_foretell_0 23 rfl rfl)
theorem dX0_foretell_24 : decode cX0_foretell 24 = .ok (.ireturn, 1) := dk_172 (dk_at dksX0_foretell_1 0 rfl rfl)
abbrev cX0_bars : ByteArray := method_28_code
def yX0_bars : MethodName := ⟨RX0, "bars", "(LWheelWorks;I[J)I"⟩
def dkwX0_bars_0 : List UInt8 := [44, 3, 42, 27, 182, 0, 98, 133, 80, 167, 0, 9, 78, 4, 172, 78, 5, 172, 3, 172]
abbrev dktX0_bars_0 : List UInt8 := dkwX0_bars_0 ++ []
theorem dksX0_bars_0 : cX0_bars.data.toList.drop 0 = dktX0_bars_0 := by decide +kernel
theorem dX0_bars_0 : decode cX0_bars 0 = .ok (.aload_n 2, 1) := dk_44 (dk_at dksX0_bars_0 0 rfl rfl)
theorem dX0_bars_1 : decode cX0_bars 1 = .ok (.iconst 0, 1) := dk_3 (dk_at dksX0_bars_0 1 rfl rfl)
theorem dX0_bars_2 : decode cX0_bars 2 = .ok (.aload_n 0, 1) := dk_42 (dk_at dksX0_bars_0 2 rfl rfl)
theorem dX0_bars_3 : decode cX0_bars 3 = .ok (.iload_n 1, 1) := dk_27 (dk_at dksX0_bars_0 3 rfl rfl)
theorem dX0_bars_4 : decode cX0_bars 4 = .ok (.invokevirtual 98, 3) := dk_182 0 98 (dk_at dksX0_bars_0 4 rfl rfl)
theorem dX0_bars_7 : decode cX0_bars 7 = .ok (.i2l, 1) := dk_133 (dk_at dksX0_bars_0 7 rfl rfl)
theorem dX0_bars_8 : decode cX0_bars 8 = .ok (.lastore, 1) := dk_80 (dk_at dksX0_bars_0 8 rfl rfl)
theorem dX0_bars_9 : decode cX0_bars 9 = .ok (.goto 9, 3) := dk_167 0 9 (dk_at dksX0_bars_0 9 rfl rfl)
theorem dX0_bars_12 : decode cX0_bars 12 = .ok (.astore_n 3, 1) := dk_78 (dk_at dksX0_bars_0 12 rfl rfl)
theorem dX0_bars_13 : decode cX0_bars 13 = .ok (.iconst 1, 1) := dk_4 (dk_at dksX0_bars_0 13 rfl rfl)
theorem dX0_bars_14 : decode cX0_bars 14 = .ok (.ireturn, 1) := dk_172 (dk_at dksX0_bars_0 14 rfl rfl)
theorem dX0_bars_15 : decode cX0_bars 15 = .ok (.astore_n 3, 1) := dk_78 (dk_at dksX0_bars_0 15 rfl rfl)
theorem dX0_bars_16 : decode cX0_bars 16 = .ok (.iconst 2, 1) := dk_5 (dk_at dksX0_bars_0 16 rfl rfl)
theorem dX0_bars_17 : decode cX0_bars 17 = .ok (.ireturn, 1) := dk_172 (dk_at dksX0_bars_0 17 rfl rfl)
theorem dX0_bars_18 : decode cX0_bars 18 = .ok (.iconst 0, 1) := dk_3 (dk_at dksX0_bars_0 18 rfl rfl)
theorem dX0_bars_19 : decode cX0_bars 19 = .ok (.ireturn, 1) := dk_172 (dk_at dksX0_bars_0 19 rfl rfl)
abbrev cX0_barredBy : ByteArray := method_29_code
def yX0_barredBy : MethodName := ⟨RX0, "barredBy", "(LWheelWorks;I[J)I"⟩
def dkwX0_barredBy_0 : List UInt8 := [44, 3, 42, 27, 182, 0, 101, 133, 80, 167, 0, 9, 78, 4, 172, 78, 5, 172, 3, 172]
abbrev dktX0_barredBy_0 : List UInt8 := dkwX0_barredBy_0 ++ []
theorem dksX0_barredBy_0 : cX0_barredBy.data.toList.drop 0 = dktX0_barredBy_0 := by decide +kernel
theorem dX0_barredBy_0 : decode cX0_barredBy 0 = .ok (.aload_n 2, 1) := dk_44 (dk_at dksX0_barredBy_0 0 rfl rfl)
theorem dX0_barredBy_1 : decode cX0_barredBy 1 = .ok (.iconst 0, 1) := dk_3 (dk_at dksX0_barredBy_0 1 rfl rfl)
theorem dX0_barredBy_2 : decode cX0_barredBy 2 = .ok (.aload_n 0, 1) := dk_42 (dk_at dksX0_barredBy_0 2 rfl rfl)
theorem dX0_barredBy_3 : decode cX0_barredBy 3 = .ok (.iload_n 1, 1) := dk_27 (dk_at dksX0_barredBy_0 3 rfl rfl)
theorem dX0_barredBy_4 : decode cX0_barredBy 4 = .ok (.invokevirtual 101, 3) := dk_182 0 101 (dk_at dksX0_barredBy_0 4 rfl rfl)
theorem dX0_barredBy_7 : decode cX0_barredBy 7 = .ok (.i2l, 1) := dk_133 (dk_at dksX0_barredBy_0 7 rfl rfl)
theorem dX0_barredBy_8 : decode cX0_barredBy 8 = .ok (.lastore, 1) := dk_80 (dk_at dksX0_barredBy_0 8 rfl rfl)
theorem dX0_barredBy_9 : decode cX0_barredBy 9 = .ok (.goto 9, 3) := dk_167 0 9 (dk_at dksX0_barredBy_0 9 rfl rfl)
theorem dX0_barredBy_12 : decode cX0_barredBy 12 = .ok (.astore_n 3, 1) := dk_78 (dk_at dksX0_barredBy_0 12 rfl rfl)
theorem dX0_barredBy_13 : decode cX0_barredBy 13 = .ok (.iconst 1, 1) := dk_4 (dk_at dksX0_barredBy_0 13 rfl rfl)
theorem dX0_barredBy_14 : decode cX0_barredBy 14 = .ok (.ireturn, 1) := dk_172 (dk_at dksX0_barredBy_0 14 rfl rfl)
theorem dX0_barredBy_15 : decode cX0_barredBy 15 = .ok (.astore_n 3, 1) := dk_78 (dk_at dksX0_barredBy_0 15 rfl rfl)
theorem dX0_barredBy_16 : decode cX0_barredBy 16 = .ok (.iconst 2, 1) := dk_5 (dk_at dksX0_barredBy_0 16 rfl rfl)
theorem dX0_barredBy_17 : decode cX0_barredBy 17 = .ok (.ireturn, 1) := dk_172 (dk_at dksX0_barredBy_0 17 rfl rfl)
theorem dX0_barredBy_18 : decode cX0_barredBy 18 = .ok (.iconst 0, 1) := dk_3 (dk_at dksX0_barredBy_0 18 rfl rfl)
theorem dX0_barredBy_19 : decode cX0_barredBy 19 = .ok (.ireturn, 1) := dk_172 (dk_at dksX0_barredBy_0 19 rfl rfl)
abbrev cX0_isReleased : ByteArray := method_30_code
def yX0_isReleased : MethodName := ⟨RX0, "isReleased", "(LWheelWorks;I[J)I"⟩
def dkwX0_isReleased_1 : List UInt8 := [172, 3, 172]
abbrev dktX0_isReleased_1 : List UInt8 := dkwX0_isReleased_1 ++ []
def dkwX0_isReleased_0 : List UInt8 := [44, 3, 42, 27, 182, 0, 104, 153, 0, 7, 10, 167, 0, 4, 9, 80, 167, 0, 9, 78, 4, 172, 78, 5]
abbrev dktX0_isReleased_0 : List UInt8 := dkwX0_isReleased_0 ++ dktX0_isReleased_1
theorem dksX0_isReleased_0 : cX0_isReleased.data.toList.drop 0 = dktX0_isReleased_0 := by decide +kernel
theorem dksX0_isReleased_1 : cX0_isReleased.data.toList.drop 24 = dktX0_isReleased_1 := dk_seg dksX0_isReleased_0 24 rfl rfl
theorem dX0_isReleased_0 : decode cX0_isReleased 0 = .ok (.aload_n 2, 1) := dk_44 (dk_at dksX0_isReleased_0 0 rfl rfl)
theorem dX0_isReleased_1 : decode cX0_isReleased 1 = .ok (.iconst 0, 1) := dk_3 (dk_at dksX0_isReleased_0 1 rfl rfl)
theorem dX0_isReleased_2 : decode cX0_isReleased 2 = .ok (.aload_n 0, 1) := dk_42 (dk_at dksX0_isReleased_0 2 rfl rfl)
theorem dX0_isReleased_3 : decode cX0_isReleased 3 = .ok (.iload_n 1, 1) := dk_27 (dk_at dksX0_isReleased_0 3 rfl rfl)
theorem dX0_isReleased_4 : decode cX0_isReleased 4 = .ok (.invokevirtual 104, 3) := dk_182 0 104 (dk_at dksX0_isReleased_0 4 rfl rfl)
theorem dX0_isReleased_7 : decode cX0_isReleased 7 = .ok (.ifCond .eq 7, 3) := dk_153 0 7 (dk_at dksX0_isReleased_0 7 rfl rfl)
theorem dX0_isReleased_10 : decode cX0_isReleased 10 = .ok (.lconst 1, 1) := dk_10 (dk_at dksX0_isReleased_0 10 rfl rfl)
theorem dX0_isReleased_11 : decode cX0_isReleased 11 = .ok (.goto 4, 3) := dk_167 0 4 (dk_at dksX0_isReleased_0 11 rfl rfl)
theorem dX0_isReleased_14 : decode cX0_isReleased 14 = .ok (.lconst 0, 1) := dk_9 (dk_at dksX0_isReleased_0 14 rfl rfl)
theorem dX0_isReleased_15 : decode cX0_isReleased 15 = .ok (.lastore, 1) := dk_80 (dk_at dksX0_isReleased_0 15 rfl rfl)
theorem dX0_isReleased_16 : decode cX0_isReleased 16 = .ok (.goto 9, 3) := dk_167 0 9 (dk_at dksX0_isReleased_0 16 rfl rfl)
theorem dX0_isReleased_19 : decode cX0_isReleased 19 = .ok (.astore_n 3, 1) := dk_78 (dk_at dksX0_isReleased_0 19 rfl rfl)
theorem dX0_isReleased_20 : decode cX0_isReleased 20 = .ok (.iconst 1, 1) := dk_4 (dk_at dksX0_isReleased_0 20 rfl rfl)
theorem dX0_isReleased_21 : decode cX0_isReleased 21 = .ok (.ireturn, 1) := dk_172 (dk_at dksX0_isReleased_0 21 rfl rfl)
theorem dX0_isReleased_22 : decode cX0_isReleased 22 = .ok (.astore_n 3, 1) := dk_78 (dk_at dksX0_isReleased_0 22 rfl rfl)
theorem dX0_isReleased_23 : decode cX0_isReleased 23 = .ok (.iconst 2, 1) := dk_5 (dk_at dksX0_isReleased_0 23 rfl rfl)
theorem dX0_isReleased_24 : decode cX0_isReleased 24 = .ok (.ireturn, 1) := dk_172 (dk_at dksX0_isReleased_1 0 rfl rfl)
theorem dX0_isReleased_25 : decode cX0_isReleased 25 = .ok (.iconst 0, 1) := dk_3 (dk_at dksX0_isReleased_1 1 rfl rfl)
theorem dX0_isReleased_26 : decode cX0_isReleased 26 = .ok (.ireturn, 1) := dk_172 (dk_at dksX0_isReleased_1 2 rfl rfl)
abbrev cX0_road : ByteArray := method_31_code
def yX0_road : MethodName := ⟨RX0, "road", "(LWheelWorks;II[J)I"⟩
def dkwX0_road_0 : List UInt8 := [45, 3, 42, 27, 28, 182, 0, 108, 133, 80, 167, 0, 7, 58, 4, 4, 172, 3, 172]
abbrev dktX0_road_0 : List UInt8 := dkwX0_road_0 ++ []
theorem dksX0_road_0 : cX0_road.data.toList.drop 0 = dktX0_road_0 := by decide +kernel
theorem dX0_road_0 : decode cX0_road 0 = .ok (.aload_n 3, 1) := dk_45 (dk_at dksX0_road_0 0 rfl rfl)
theorem dX0_road_1 : decode cX0_road 1 = .ok (.iconst 0, 1) := dk_3 (dk_at dksX0_road_0 1 rfl rfl)
theorem dX0_road_2 : decode cX0_road 2 = .ok (.aload_n 0, 1) := dk_42 (dk_at dksX0_road_0 2 rfl rfl)
theorem dX0_road_3 : decode cX0_road 3 = .ok (.iload_n 1, 1) := dk_27 (dk_at dksX0_road_0 3 rfl rfl)
theorem dX0_road_4 : decode cX0_road 4 = .ok (.iload_n 2, 1) := dk_28 (dk_at dksX0_road_0 4 rfl rfl)
theorem dX0_road_5 : decode cX0_road 5 = .ok (.invokevirtual 108, 3) := dk_182 0 108 (dk_at dksX0_road_0 5 rfl rfl)
theorem dX0_road_8 : decode cX0_road 8 = .ok (.i2l, 1) := dk_133 (dk_at dksX0_road_0 8 rfl rfl)
theorem dX0_road_9 : decode cX0_road 9 = .ok (.lastore, 1) := dk_80 (dk_at dksX0_road_0 9 rfl rfl)
theorem dX0_road_10 : decode cX0_road 10 = .ok (.goto 7, 3) := dk_167 0 7 (dk_at dksX0_road_0 10 rfl rfl)
theorem dX0_road_13 : decode cX0_road 13 = .ok (.astore 4, 2) := dk_58 4 (dk_at dksX0_road_0 13 rfl rfl)
theorem dX0_road_15 : decode cX0_road 15 = .ok (.iconst 1, 1) := dk_4 (dk_at dksX0_road_0 15 rfl rfl)
theorem dX0_road_16 : decode cX0_road 16 = .ok (.ireturn, 1) := dk_172 (dk_at dksX0_road_0 16 rfl rfl)
theorem dX0_road_17 : decode cX0_road 17 = .ok (.iconst 0, 1) := dk_3 (dk_at dksX0_road_0 17 rfl rfl)
theorem dX0_road_18 : decode cX0_road 18 = .ok (.ireturn, 1) := dk_172 (dk_at dksX0_road_0 18 rfl rfl)
theorem q38 : (Jvm.Cond.initialized "WheelWorksLaw") ∈ lw_all := lw_g (lw_at lw_m1 0 rfl) rfl
theorem q66 : (Jvm.Cond.classLink "WheelWorksLaw" (8 : Nat) "WheelWorks") ∈ lw_all := lw_g (lw_at lw_m1 28 rfl) rfl
theorem q68 : (Jvm.Cond.methodLink "WheelWorksLaw" (111 : Nat) ({ cls := "WheelWorks", name := "<init>", desc := "()V" } : Jvm.MethodName)) ∈ lw_all := lw_g (lw_at lw_m1 30 rfl) rfl
theorem q209 : (Jvm.Cond.methodLink "WheelWorksLaw" (212 : Nat) ({ cls := "WheelWorks", name := "plan", desc := "()I" } : Jvm.MethodName)) ∈ lw_all := lw_g (lw_at lw_m1 171 rfl) rfl
theorem q249 : (Jvm.Cond.methodLink "WheelWorksLaw" (216 : Nat) ({ cls := "WheelWorks", name := "planAnew", desc := "()I" } : Jvm.MethodName)) ∈ lw_all := lw_g (lw_at lw_m1 211 rfl) rfl
theorem q253 : (Jvm.Cond.methodLink "WheelWorksLaw" (115 : Nat) ({ cls := "WheelWorksLaw", name := "part", desc := "(LWheelWorks;III[J)I" } : Jvm.MethodName)) ∈ lw_all := lw_g (lw_at lw_m1 215 rfl) rfl
theorem q254 : (Jvm.Cond.static ({ cls := "WheelWorksLaw", name := "part", desc := "(LWheelWorks;III[J)I" } : Jvm.MethodName)) ∈ lw_all := lw_g (lw_at lw_m1 216 rfl) rfl
theorem q255 : (Jvm.Cond.codeWith ({ cls := "WheelWorksLaw", name := "part", desc := "(LWheelWorks;III[J)I" } : Jvm.MethodName) method_3_code (6 : Nat) (Option.some Jvm.ClassFile.FieldType.int) [((0 : Nat), (12 : Nat), (15 : Nat), (13 : Nat)), ((0 : Nat), (12 : Nat), (19 : Nat), (15 : Nat))]) ∈ lw_all := lw_g (lw_at lw_m1 217 rfl) rfl
theorem q256 : (Jvm.Cond.classLink "WheelWorksLaw" (13 : Nat) "java/lang/IllegalArgumentException") ∈ lw_all := lw_g (lw_at lw_m1 218 rfl) rfl
theorem q257 : (Jvm.Cond.classLink "WheelWorksLaw" (15 : Nat) "java/lang/IllegalStateException") ∈ lw_all := lw_g (lw_at lw_m1 219 rfl) rfl
theorem q258 : (Jvm.Cond.methodLink "WheelWorksLaw" (7 : Nat) ({ cls := "WheelWorks", name := "part", desc := "(III)I" } : Jvm.MethodName)) ∈ lw_all := lw_g (lw_at lw_m1 220 rfl) rfl
theorem q466 : (Jvm.Cond.methodLink "WheelWorksLaw" (124 : Nat) ({ cls := "WheelWorksLaw", name := "limits", desc := "(LWheelWorks;IIII[J)I" } : Jvm.MethodName)) ∈ lw_all := lw_g (lw_at lw_m2 188 rfl) rfl
theorem q467 : (Jvm.Cond.static ({ cls := "WheelWorksLaw", name := "limits", desc := "(LWheelWorks;IIII[J)I" } : Jvm.MethodName)) ∈ lw_all := lw_g (lw_at lw_m2 189 rfl) rfl
theorem q468 : (Jvm.Cond.codeWith ({ cls := "WheelWorksLaw", name := "limits", desc := "(LWheelWorks;IIII[J)I" } : Jvm.MethodName) method_4_code (7 : Nat) (Option.some Jvm.ClassFile.FieldType.int) [((0 : Nat), (14 : Nat), (17 : Nat), (13 : Nat))]) ∈ lw_all := lw_g (lw_at lw_m2 190 rfl) rfl
theorem q469 : (Jvm.Cond.methodLink "WheelWorksLaw" (17 : Nat) ({ cls := "WheelWorks", name := "limits", desc := "(IIII)I" } : Jvm.MethodName)) ∈ lw_all := lw_g (lw_at lw_m2 191 rfl) rfl
theorem q474 : (Jvm.Cond.methodLink "WheelWorksLaw" (128 : Nat) ({ cls := "WheelWorksLaw", name := "fit", desc := "(LWheelWorks;II[J)I" } : Jvm.MethodName)) ∈ lw_all := lw_g (lw_at lw_m2 196 rfl) rfl
theorem q475 : (Jvm.Cond.static ({ cls := "WheelWorksLaw", name := "fit", desc := "(LWheelWorks;II[J)I" } : Jvm.MethodName)) ∈ lw_all := lw_g (lw_at lw_m2 197 rfl) rfl
theorem q476 : (Jvm.Cond.codeWith ({ cls := "WheelWorksLaw", name := "fit", desc := "(LWheelWorks;II[J)I" } : Jvm.MethodName) method_5_code (5 : Nat) (Option.some Jvm.ClassFile.FieldType.int) [((0 : Nat), (10 : Nat), (13 : Nat), (25 : Nat)), ((0 : Nat), (10 : Nat), (17 : Nat), (13 : Nat)), ((0 : Nat), (10 : Nat), (21 : Nat), (15 : Nat))]) ∈ lw_all := lw_g (lw_at lw_m2 198 rfl) rfl
theorem q477 : (Jvm.Cond.classLink "WheelWorksLaw" (25 : Nat) "java/lang/IndexOutOfBoundsException") ∈ lw_all := lw_g (lw_at lw_m2 199 rfl) rfl
theorem q510 : (Jvm.Cond.methodLink "WheelWorksLaw" (21 : Nat) ({ cls := "WheelWorks", name := "fit", desc := "(II)I" } : Jvm.MethodName)) ∈ lw_all := lw_g (lw_at lw_m2 232 rfl) rfl
theorem q590 : (Jvm.Cond.methodLink "WheelWorksLaw" (132 : Nat) ({ cls := "WheelWorksLaw", name := "take", desc := "(LWheelWorks;I[J)I" } : Jvm.MethodName)) ∈ lw_all := lw_g (lw_at lw_m3 72 rfl) rfl
theorem q591 : (Jvm.Cond.static ({ cls := "WheelWorksLaw", name := "take", desc := "(LWheelWorks;I[J)I" } : Jvm.MethodName)) ∈ lw_all := lw_g (lw_at lw_m3 73 rfl) rfl
theorem q592 : (Jvm.Cond.codeWith ({ cls := "WheelWorksLaw", name := "take", desc := "(LWheelWorks;I[J)I" } : Jvm.MethodName) method_6_code (4 : Nat) (Option.some Jvm.ClassFile.FieldType.int) [((0 : Nat), (9 : Nat), (12 : Nat), (25 : Nat)), ((0 : Nat), (9 : Nat), (15 : Nat), (15 : Nat))]) ∈ lw_all := lw_g (lw_at lw_m3 74 rfl) rfl
theorem q593 : (Jvm.Cond.methodLink "WheelWorksLaw" (27 : Nat) ({ cls := "WheelWorks", name := "take", desc := "(I)I" } : Jvm.MethodName)) ∈ lw_all := lw_g (lw_at lw_m3 75 rfl) rfl
theorem q624 : (Jvm.Cond.methodLink "WheelWorksLaw" (136 : Nat) ({ cls := "WheelWorksLaw", name := "scrap", desc := "(LWheelWorks;I)I" } : Jvm.MethodName)) ∈ lw_all := lw_g (lw_at lw_m3 106 rfl) rfl
theorem q625 : (Jvm.Cond.static ({ cls := "WheelWorksLaw", name := "scrap", desc := "(LWheelWorks;I)I" } : Jvm.MethodName)) ∈ lw_all := lw_g (lw_at lw_m3 107 rfl) rfl
theorem q626 : (Jvm.Cond.codeWith ({ cls := "WheelWorksLaw", name := "scrap", desc := "(LWheelWorks;I)I" } : Jvm.MethodName) method_7_code (3 : Nat) (Option.some Jvm.ClassFile.FieldType.int) [((0 : Nat), (5 : Nat), (8 : Nat), (25 : Nat)), ((0 : Nat), (5 : Nat), (11 : Nat), (15 : Nat))]) ∈ lw_all := lw_g (lw_at lw_m3 108 rfl) rfl
theorem q627 : (Jvm.Cond.methodLink "WheelWorksLaw" (31 : Nat) ({ cls := "WheelWorks", name := "scrap", desc := "(I)V" } : Jvm.MethodName)) ∈ lw_all := lw_g (lw_at lw_m3 109 rfl) rfl
theorem q635 : (Jvm.Cond.methodLink "WheelWorksLaw" (140 : Nat) ({ cls := "WheelWorksLaw", name := "run", desc := "(LWheelWorks;III[J)I" } : Jvm.MethodName)) ∈ lw_all := lw_g (lw_at lw_m3 117 rfl) rfl
theorem q636 : (Jvm.Cond.static ({ cls := "WheelWorksLaw", name := "run", desc := "(LWheelWorks;III[J)I" } : Jvm.MethodName)) ∈ lw_all := lw_g (lw_at lw_m3 118 rfl) rfl
theorem q637 : (Jvm.Cond.codeWith ({ cls := "WheelWorksLaw", name := "run", desc := "(LWheelWorks;III[J)I" } : Jvm.MethodName) method_8_code (6 : Nat) (Option.some Jvm.ClassFile.FieldType.int) [((0 : Nat), (12 : Nat), (15 : Nat), (25 : Nat)), ((0 : Nat), (12 : Nat), (19 : Nat), (13 : Nat)), ((0 : Nat), (12 : Nat), (23 : Nat), (15 : Nat))]) ∈ lw_all := lw_g (lw_at lw_m3 119 rfl) rfl
theorem q638 : (Jvm.Cond.methodLink "WheelWorksLaw" (35 : Nat) ({ cls := "WheelWorks", name := "run", desc := "(III)I" } : Jvm.MethodName)) ∈ lw_all := lw_g (lw_at lw_m3 120 rfl) rfl
theorem q738 : (Jvm.Cond.methodLink "WheelWorksLaw" (143 : Nat) ({ cls := "WheelWorksLaw", name := "turn", desc := "(LWheelWorks;I[J)I" } : Jvm.MethodName)) ∈ lw_all := lw_g (lw_at lw_m3 220 rfl) rfl
theorem q739 : (Jvm.Cond.static ({ cls := "WheelWorksLaw", name := "turn", desc := "(LWheelWorks;I[J)I" } : Jvm.MethodName)) ∈ lw_all := lw_g (lw_at lw_m3 221 rfl) rfl
theorem q740 : (Jvm.Cond.codeWith ({ cls := "WheelWorksLaw", name := "turn", desc := "(LWheelWorks;I[J)I" } : Jvm.MethodName) method_9_code (4 : Nat) (Option.some Jvm.ClassFile.FieldType.int) [((0 : Nat), (9 : Nat), (12 : Nat), (25 : Nat)), ((0 : Nat), (9 : Nat), (15 : Nat), (13 : Nat)), ((0 : Nat), (9 : Nat), (18 : Nat), (15 : Nat))]) ∈ lw_all := lw_g (lw_at lw_m3 222 rfl) rfl
theorem q741 : (Jvm.Cond.methodLink "WheelWorksLaw" (38 : Nat) ({ cls := "WheelWorks", name := "turn", desc := "(I)I" } : Jvm.MethodName)) ∈ lw_all := lw_g (lw_at lw_m3 223 rfl) rfl
theorem q796 : (Jvm.Cond.methodLink "WheelWorksLaw" (146 : Nat) ({ cls := "WheelWorksLaw", name := "gate", desc := "(LWheelWorks;II[J)I" } : Jvm.MethodName)) ∈ lw_all := lw_g (lw_at lw_m4 38 rfl) rfl
theorem q797 : (Jvm.Cond.static ({ cls := "WheelWorksLaw", name := "gate", desc := "(LWheelWorks;II[J)I" } : Jvm.MethodName)) ∈ lw_all := lw_g (lw_at lw_m4 39 rfl) rfl
theorem q798 : (Jvm.Cond.codeWith ({ cls := "WheelWorksLaw", name := "gate", desc := "(LWheelWorks;II[J)I" } : Jvm.MethodName) method_10_code (5 : Nat) (Option.some Jvm.ClassFile.FieldType.int) [((0 : Nat), (10 : Nat), (13 : Nat), (25 : Nat)), ((0 : Nat), (10 : Nat), (17 : Nat), (13 : Nat))]) ∈ lw_all := lw_g (lw_at lw_m4 40 rfl) rfl
theorem q799 : (Jvm.Cond.methodLink "WheelWorksLaw" (41 : Nat) ({ cls := "WheelWorks", name := "gate", desc := "(II)I" } : Jvm.MethodName)) ∈ lw_all := lw_g (lw_at lw_m4 41 rfl) rfl
theorem q803 : (Jvm.Cond.methodLink "WheelWorksLaw" (149 : Nat) ({ cls := "WheelWorksLaw", name := "examine", desc := "(LWheelWorks;I[J)I" } : Jvm.MethodName)) ∈ lw_all := lw_g (lw_at lw_m4 45 rfl) rfl
theorem q804 : (Jvm.Cond.static ({ cls := "WheelWorksLaw", name := "examine", desc := "(LWheelWorks;I[J)I" } : Jvm.MethodName)) ∈ lw_all := lw_g (lw_at lw_m4 46 rfl) rfl
theorem q805 : (Jvm.Cond.codeWith ({ cls := "WheelWorksLaw", name := "examine", desc := "(LWheelWorks;I[J)I" } : Jvm.MethodName) method_11_code (4 : Nat) (Option.some Jvm.ClassFile.FieldType.int) [((0 : Nat), (9 : Nat), (12 : Nat), (25 : Nat)), ((0 : Nat), (9 : Nat), (15 : Nat), (15 : Nat))]) ∈ lw_all := lw_g (lw_at lw_m4 47 rfl) rfl
theorem q806 : (Jvm.Cond.methodLink "WheelWorksLaw" (44 : Nat) ({ cls := "WheelWorks", name := "examine", desc := "(I)I" } : Jvm.MethodName)) ∈ lw_all := lw_g (lw_at lw_m4 48 rfl) rfl
theorem q810 : (Jvm.Cond.methodLink "WheelWorksLaw" (152 : Nat) ({ cls := "WheelWorksLaw", name := "waive", desc := "(LWheelWorks;II)I" } : Jvm.MethodName)) ∈ lw_all := lw_g (lw_at lw_m4 52 rfl) rfl
theorem q811 : (Jvm.Cond.static ({ cls := "WheelWorksLaw", name := "waive", desc := "(LWheelWorks;II)I" } : Jvm.MethodName)) ∈ lw_all := lw_g (lw_at lw_m4 53 rfl) rfl
theorem q812 : (Jvm.Cond.codeWith ({ cls := "WheelWorksLaw", name := "waive", desc := "(LWheelWorks;II)I" } : Jvm.MethodName) method_12_code (4 : Nat) (Option.some Jvm.ClassFile.FieldType.int) [((0 : Nat), (6 : Nat), (9 : Nat), (25 : Nat)), ((0 : Nat), (6 : Nat), (12 : Nat), (13 : Nat)), ((0 : Nat), (6 : Nat), (15 : Nat), (15 : Nat))]) ∈ lw_all := lw_g (lw_at lw_m4 54 rfl) rfl
theorem q813 : (Jvm.Cond.methodLink "WheelWorksLaw" (47 : Nat) ({ cls := "WheelWorks", name := "waive", desc := "(II)V" } : Jvm.MethodName)) ∈ lw_all := lw_g (lw_at lw_m4 55 rfl) rfl
theorem q817 : (Jvm.Cond.methodLink "WheelWorksLaw" (156 : Nat) ({ cls := "WheelWorksLaw", name := "flaw", desc := "(LWheelWorks;II[J)I" } : Jvm.MethodName)) ∈ lw_all := lw_g (lw_at lw_m4 59 rfl) rfl
theorem q818 : (Jvm.Cond.static ({ cls := "WheelWorksLaw", name := "flaw", desc := "(LWheelWorks;II[J)I" } : Jvm.MethodName)) ∈ lw_all := lw_g (lw_at lw_m4 60 rfl) rfl
theorem q819 : (Jvm.Cond.codeWith ({ cls := "WheelWorksLaw", name := "flaw", desc := "(LWheelWorks;II[J)I" } : Jvm.MethodName) method_13_code (5 : Nat) (Option.some Jvm.ClassFile.FieldType.int) [((0 : Nat), (10 : Nat), (13 : Nat), (25 : Nat)), ((0 : Nat), (10 : Nat), (17 : Nat), (13 : Nat))]) ∈ lw_all := lw_g (lw_at lw_m4 61 rfl) rfl
theorem q820 : (Jvm.Cond.methodLink "WheelWorksLaw" (51 : Nat) ({ cls := "WheelWorks", name := "flaw", desc := "(II)I" } : Jvm.MethodName)) ∈ lw_all := lw_g (lw_at lw_m4 62 rfl) rfl
theorem q824 : (Jvm.Cond.methodLink "WheelWorksLaw" (159 : Nat) ({ cls := "WheelWorksLaw", name := "look", desc := "(LWheelWorks;IZ[J)I" } : Jvm.MethodName)) ∈ lw_all := lw_g (lw_at lw_m4 66 rfl) rfl
theorem q825 : (Jvm.Cond.static ({ cls := "WheelWorksLaw", name := "look", desc := "(LWheelWorks;IZ[J)I" } : Jvm.MethodName)) ∈ lw_all := lw_g (lw_at lw_m4 67 rfl) rfl
theorem q826 : (Jvm.Cond.codeWith ({ cls := "WheelWorksLaw", name := "look", desc := "(LWheelWorks;IZ[J)I" } : Jvm.MethodName) method_14_code (5 : Nat) (Option.some Jvm.ClassFile.FieldType.int) [((0 : Nat), (10 : Nat), (13 : Nat), (25 : Nat)), ((0 : Nat), (10 : Nat), (17 : Nat), (15 : Nat))]) ∈ lw_all := lw_g (lw_at lw_m4 68 rfl) rfl
theorem q827 : (Jvm.Cond.methodLink "WheelWorksLaw" (54 : Nat) ({ cls := "WheelWorks", name := "look", desc := "(IZ)I" } : Jvm.MethodName)) ∈ lw_all := lw_g (lw_at lw_m4 69 rfl) rfl
theorem q832 : (Jvm.Cond.methodLink "WheelWorksLaw" (163 : Nat) ({ cls := "WheelWorksLaw", name := "clear", desc := "(LWheelWorks;I[J)I" } : Jvm.MethodName)) ∈ lw_all := lw_g (lw_at lw_m4 74 rfl) rfl
theorem q833 : (Jvm.Cond.static ({ cls := "WheelWorksLaw", name := "clear", desc := "(LWheelWorks;I[J)I" } : Jvm.MethodName)) ∈ lw_all := lw_g (lw_at lw_m4 75 rfl) rfl
theorem q834 : (Jvm.Cond.codeWith ({ cls := "WheelWorksLaw", name := "clear", desc := "(LWheelWorks;I[J)I" } : Jvm.MethodName) method_15_code (4 : Nat) (Option.some Jvm.ClassFile.FieldType.int) [((0 : Nat), (9 : Nat), (12 : Nat), (25 : Nat)), ((0 : Nat), (9 : Nat), (15 : Nat), (15 : Nat))]) ∈ lw_all := lw_g (lw_at lw_m4 76 rfl) rfl
theorem q835 : (Jvm.Cond.methodLink "WheelWorksLaw" (58 : Nat) ({ cls := "WheelWorks", name := "clear", desc := "(I)I" } : Jvm.MethodName)) ∈ lw_all := lw_g (lw_at lw_m4 77 rfl) rfl
theorem q839 : (Jvm.Cond.methodLink "WheelWorksLaw" (166 : Nat) ({ cls := "WheelWorksLaw", name := "recall", desc := "(LWheelWorks;I[J)I" } : Jvm.MethodName)) ∈ lw_all := lw_g (lw_at lw_m4 81 rfl) rfl
theorem q840 : (Jvm.Cond.static ({ cls := "WheelWorksLaw", name := "recall", desc := "(LWheelWorks;I[J)I" } : Jvm.MethodName)) ∈ lw_all := lw_g (lw_at lw_m4 82 rfl) rfl
theorem q841 : (Jvm.Cond.codeWith ({ cls := "WheelWorksLaw", name := "recall", desc := "(LWheelWorks;I[J)I" } : Jvm.MethodName) method_16_code (4 : Nat) (Option.some Jvm.ClassFile.FieldType.int) [((0 : Nat), (9 : Nat), (12 : Nat), (13 : Nat))]) ∈ lw_all := lw_g (lw_at lw_m4 83 rfl) rfl
theorem q842 : (Jvm.Cond.methodLink "WheelWorksLaw" (61 : Nat) ({ cls := "WheelWorks", name := "recall", desc := "(I)I" } : Jvm.MethodName)) ∈ lw_all := lw_g (lw_at lw_m4 84 rfl) rfl
theorem q851 : (Jvm.Cond.methodLink "WheelWorksLaw" (169 : Nat) ({ cls := "WheelWorksLaw", name := "release", desc := "(LWheelWorks;I[J)I" } : Jvm.MethodName)) ∈ lw_all := lw_g (lw_at lw_m4 93 rfl) rfl
theorem q852 : (Jvm.Cond.static ({ cls := "WheelWorksLaw", name := "release", desc := "(LWheelWorks;I[J)I" } : Jvm.MethodName)) ∈ lw_all := lw_g (lw_at lw_m4 94 rfl) rfl
theorem q853 : (Jvm.Cond.codeWith ({ cls := "WheelWorksLaw", name := "release", desc := "(LWheelWorks;I[J)I" } : Jvm.MethodName) method_17_code (4 : Nat) (Option.some Jvm.ClassFile.FieldType.int) [((0 : Nat), (9 : Nat), (12 : Nat), (25 : Nat)), ((0 : Nat), (9 : Nat), (15 : Nat), (13 : Nat))]) ∈ lw_all := lw_g (lw_at lw_m4 95 rfl) rfl
theorem q854 : (Jvm.Cond.methodLink "WheelWorksLaw" (64 : Nat) ({ cls := "WheelWorks", name := "release", desc := "(I)I" } : Jvm.MethodName)) ∈ lw_all := lw_g (lw_at lw_m4 96 rfl) rfl
theorem q882 : (Jvm.Cond.methodLink "WheelWorksLaw" (172 : Nat) ({ cls := "WheelWorksLaw", name := "comes", desc := "(LWheelWorks;II[J)I" } : Jvm.MethodName)) ∈ lw_all := lw_g (lw_at lw_m4 124 rfl) rfl
theorem q883 : (Jvm.Cond.static ({ cls := "WheelWorksLaw", name := "comes", desc := "(LWheelWorks;II[J)I" } : Jvm.MethodName)) ∈ lw_all := lw_g (lw_at lw_m4 125 rfl) rfl
theorem q884 : (Jvm.Cond.codeWith ({ cls := "WheelWorksLaw", name := "comes", desc := "(LWheelWorks;II[J)I" } : Jvm.MethodName) method_18_code (5 : Nat) (Option.some Jvm.ClassFile.FieldType.int) [((0 : Nat), (10 : Nat), (13 : Nat), (25 : Nat)), ((0 : Nat), (10 : Nat), (17 : Nat), (13 : Nat)), ((0 : Nat), (10 : Nat), (21 : Nat), (15 : Nat))]) ∈ lw_all := lw_g (lw_at lw_m4 126 rfl) rfl
theorem q885 : (Jvm.Cond.methodLink "WheelWorksLaw" (67 : Nat) ({ cls := "WheelWorks", name := "comes", desc := "(II)I" } : Jvm.MethodName)) ∈ lw_all := lw_g (lw_at lw_m4 127 rfl) rfl
theorem q907 : (Jvm.Cond.methodLink "WheelWorksLaw" (175 : Nat) ({ cls := "WheelWorksLaw", name := "night", desc := "(LWheelWorks;[J)I" } : Jvm.MethodName)) ∈ lw_all := lw_g (lw_at lw_m4 149 rfl) rfl
theorem q908 : (Jvm.Cond.static ({ cls := "WheelWorksLaw", name := "night", desc := "(LWheelWorks;[J)I" } : Jvm.MethodName)) ∈ lw_all := lw_g (lw_at lw_m4 150 rfl) rfl
theorem q909 : (Jvm.Cond.codeWith ({ cls := "WheelWorksLaw", name := "night", desc := "(LWheelWorks;[J)I" } : Jvm.MethodName) method_19_code (3 : Nat) (Option.some Jvm.ClassFile.FieldType.int) [((0 : Nat), (8 : Nat), (11 : Nat), (15 : Nat))]) ∈ lw_all := lw_g (lw_at lw_m4 151 rfl) rfl
theorem q910 : (Jvm.Cond.methodLink "WheelWorksLaw" (70 : Nat) ({ cls := "WheelWorks", name := "night", desc := "()I" } : Jvm.MethodName)) ∈ lw_all := lw_g (lw_at lw_m4 152 rfl) rfl
theorem q918 : (Jvm.Cond.methodLink "WheelWorksLaw" (179 : Nat) ({ cls := "WheelWorksLaw", name := "out", desc := "(LWheelWorks;[J)I" } : Jvm.MethodName)) ∈ lw_all := lw_g (lw_at lw_m4 160 rfl) rfl
theorem q919 : (Jvm.Cond.static ({ cls := "WheelWorksLaw", name := "out", desc := "(LWheelWorks;[J)I" } : Jvm.MethodName)) ∈ lw_all := lw_g (lw_at lw_m4 161 rfl) rfl
theorem q920 : (Jvm.Cond.codeWith ({ cls := "WheelWorksLaw", name := "out", desc := "(LWheelWorks;[J)I" } : Jvm.MethodName) method_20_code (3 : Nat) (Option.some Jvm.ClassFile.FieldType.int) [((0 : Nat), (8 : Nat), (11 : Nat), (15 : Nat))]) ∈ lw_all := lw_g (lw_at lw_m4 162 rfl) rfl
theorem q921 : (Jvm.Cond.methodLink "WheelWorksLaw" (74 : Nat) ({ cls := "WheelWorks", name := "out", desc := "()I" } : Jvm.MethodName)) ∈ lw_all := lw_g (lw_at lw_m4 163 rfl) rfl
theorem q933 : (Jvm.Cond.methodLink "WheelWorksLaw" (182 : Nat) ({ cls := "WheelWorksLaw", name := "host", desc := "(LWheelWorks;I[J)I" } : Jvm.MethodName)) ∈ lw_all := lw_g (lw_at lw_m4 175 rfl) rfl
theorem q934 : (Jvm.Cond.static ({ cls := "WheelWorksLaw", name := "host", desc := "(LWheelWorks;I[J)I" } : Jvm.MethodName)) ∈ lw_all := lw_g (lw_at lw_m4 176 rfl) rfl
theorem q935 : (Jvm.Cond.codeWith ({ cls := "WheelWorksLaw", name := "host", desc := "(LWheelWorks;I[J)I" } : Jvm.MethodName) method_21_code (4 : Nat) (Option.some Jvm.ClassFile.FieldType.int) [((0 : Nat), (9 : Nat), (12 : Nat), (25 : Nat))]) ∈ lw_all := lw_g (lw_at lw_m4 177 rfl) rfl
theorem q936 : (Jvm.Cond.methodLink "WheelWorksLaw" (77 : Nat) ({ cls := "WheelWorks", name := "host", desc := "(I)I" } : Jvm.MethodName)) ∈ lw_all := lw_g (lw_at lw_m4 178 rfl) rfl
theorem q943 : (Jvm.Cond.methodLink "WheelWorksLaw" (185 : Nat) ({ cls := "WheelWorksLaw", name := "head", desc := "(LWheelWorks;I[J)I" } : Jvm.MethodName)) ∈ lw_all := lw_g (lw_at lw_m4 185 rfl) rfl
theorem q944 : (Jvm.Cond.static ({ cls := "WheelWorksLaw", name := "head", desc := "(LWheelWorks;I[J)I" } : Jvm.MethodName)) ∈ lw_all := lw_g (lw_at lw_m4 186 rfl) rfl
theorem q945 : (Jvm.Cond.codeWith ({ cls := "WheelWorksLaw", name := "head", desc := "(LWheelWorks;I[J)I" } : Jvm.MethodName) method_22_code (4 : Nat) (Option.some Jvm.ClassFile.FieldType.int) [((0 : Nat), (9 : Nat), (12 : Nat), (25 : Nat))]) ∈ lw_all := lw_g (lw_at lw_m4 187 rfl) rfl
theorem q946 : (Jvm.Cond.methodLink "WheelWorksLaw" (80 : Nat) ({ cls := "WheelWorks", name := "head", desc := "(I)I" } : Jvm.MethodName)) ∈ lw_all := lw_g (lw_at lw_m4 188 rfl) rfl
theorem q950 : (Jvm.Cond.methodLink "WheelWorksLaw" (188 : Nat) ({ cls := "WheelWorksLaw", name := "ofPart", desc := "(LWheelWorks;II[J)I" } : Jvm.MethodName)) ∈ lw_all := lw_g (lw_at lw_m4 192 rfl) rfl
theorem q951 : (Jvm.Cond.static ({ cls := "WheelWorksLaw", name := "ofPart", desc := "(LWheelWorks;II[J)I" } : Jvm.MethodName)) ∈ lw_all := lw_g (lw_at lw_m4 193 rfl) rfl
theorem q952 : (Jvm.Cond.codeWith ({ cls := "WheelWorksLaw", name := "ofPart", desc := "(LWheelWorks;II[J)I" } : Jvm.MethodName) method_23_code (5 : Nat) (Option.some Jvm.ClassFile.FieldType.int) [((0 : Nat), (10 : Nat), (13 : Nat), (25 : Nat)), ((0 : Nat), (10 : Nat), (17 : Nat), (13 : Nat))]) ∈ lw_all := lw_g (lw_at lw_m4 194 rfl) rfl
theorem q953 : (Jvm.Cond.methodLink "WheelWorksLaw" (83 : Nat) ({ cls := "WheelWorks", name := "ofPart", desc := "(II)I" } : Jvm.MethodName)) ∈ lw_all := lw_g (lw_at lw_m4 195 rfl) rfl
theorem q957 : (Jvm.Cond.methodLink "WheelWorksLaw" (191 : Nat) ({ cls := "WheelWorksLaw", name := "trace", desc := "(LWheelWorks;II[J)I" } : Jvm.MethodName)) ∈ lw_all := lw_g (lw_at lw_m4 199 rfl) rfl
theorem q958 : (Jvm.Cond.static ({ cls := "WheelWorksLaw", name := "trace", desc := "(LWheelWorks;II[J)I" } : Jvm.MethodName)) ∈ lw_all := lw_g (lw_at lw_m4 200 rfl) rfl
theorem q959 : (Jvm.Cond.codeWith ({ cls := "WheelWorksLaw", name := "trace", desc := "(LWheelWorks;II[J)I" } : Jvm.MethodName) method_24_code (5 : Nat) (Option.some Jvm.ClassFile.FieldType.int) [((0 : Nat), (10 : Nat), (13 : Nat), (25 : Nat))]) ∈ lw_all := lw_g (lw_at lw_m4 201 rfl) rfl
theorem q960 : (Jvm.Cond.methodLink "WheelWorksLaw" (86 : Nat) ({ cls := "WheelWorks", name := "trace", desc := "(II)I" } : Jvm.MethodName)) ∈ lw_all := lw_g (lw_at lw_m4 202 rfl) rfl
theorem q965 : (Jvm.Cond.methodLink "WheelWorksLaw" (194 : Nat) ({ cls := "WheelWorksLaw", name := "lifeAnew", desc := "(LWheelWorks;I[J)I" } : Jvm.MethodName)) ∈ lw_all := lw_g (lw_at lw_m4 207 rfl) rfl
theorem q966 : (Jvm.Cond.static ({ cls := "WheelWorksLaw", name := "lifeAnew", desc := "(LWheelWorks;I[J)I" } : Jvm.MethodName)) ∈ lw_all := lw_g (lw_at lw_m4 208 rfl) rfl
theorem q967 : (Jvm.Cond.codeWith ({ cls := "WheelWorksLaw", name := "lifeAnew", desc := "(LWheelWorks;I[J)I" } : Jvm.MethodName) method_25_code (4 : Nat) (Option.some Jvm.ClassFile.FieldType.int) [((0 : Nat), (9 : Nat), (12 : Nat), (25 : Nat))]) ∈ lw_all := lw_g (lw_at lw_m4 209 rfl) rfl
theorem q968 : (Jvm.Cond.methodLink "WheelWorksLaw" (89 : Nat) ({ cls := "WheelWorks", name := "lifeAnew", desc := "(I)I" } : Jvm.MethodName)) ∈ lw_all := lw_g (lw_at lw_m4 210 rfl) rfl
theorem q972 : (Jvm.Cond.methodLink "WheelWorksLaw" (197 : Nat) ({ cls := "WheelWorksLaw", name := "wheel", desc := "(LWheelWorks;II[J)I" } : Jvm.MethodName)) ∈ lw_all := lw_g (lw_at lw_m4 214 rfl) rfl
theorem q973 : (Jvm.Cond.static ({ cls := "WheelWorksLaw", name := "wheel", desc := "(LWheelWorks;II[J)I" } : Jvm.MethodName)) ∈ lw_all := lw_g (lw_at lw_m4 215 rfl) rfl
theorem q974 : (Jvm.Cond.codeWith ({ cls := "WheelWorksLaw", name := "wheel", desc := "(LWheelWorks;II[J)I" } : Jvm.MethodName) method_26_code (5 : Nat) (Option.some Jvm.ClassFile.FieldType.int) [((0 : Nat), (10 : Nat), (13 : Nat), (25 : Nat)), ((0 : Nat), (10 : Nat), (17 : Nat), (13 : Nat))]) ∈ lw_all := lw_g (lw_at lw_m4 216 rfl) rfl
theorem q975 : (Jvm.Cond.methodLink "WheelWorksLaw" (92 : Nat) ({ cls := "WheelWorks", name := "wheel", desc := "(II)I" } : Jvm.MethodName)) ∈ lw_all := lw_g (lw_at lw_m4 217 rfl) rfl
theorem q979 : (Jvm.Cond.methodLink "WheelWorksLaw" (200 : Nat) ({ cls := "WheelWorksLaw", name := "foretell", desc := "(LWheelWorks;III[J)I" } : Jvm.MethodName)) ∈ lw_all := lw_g (lw_at lw_m4 221 rfl) rfl
theorem q980 : (Jvm.Cond.static ({ cls := "WheelWorksLaw", name := "foretell", desc := "(LWheelWorks;III[J)I" } : Jvm.MethodName)) ∈ lw_all := lw_g (lw_at lw_m4 222 rfl) rfl
theorem q981 : (Jvm.Cond.codeWith ({ cls := "WheelWorksLaw", name := "foretell", desc := "(LWheelWorks;III[J)I" } : Jvm.MethodName) method_27_code (6 : Nat) (Option.some Jvm.ClassFile.FieldType.int) [((0 : Nat), (12 : Nat), (15 : Nat), (25 : Nat)), ((0 : Nat), (12 : Nat), (19 : Nat), (13 : Nat))]) ∈ lw_all := lw_g (lw_at lw_m4 223 rfl) rfl
theorem q982 : (Jvm.Cond.methodLink "WheelWorksLaw" (95 : Nat) ({ cls := "WheelWorks", name := "foretell", desc := "(III)I" } : Jvm.MethodName)) ∈ lw_all := lw_g (lw_at lw_m4 224 rfl) rfl
theorem q987 : (Jvm.Cond.methodLink "WheelWorksLaw" (203 : Nat) ({ cls := "WheelWorksLaw", name := "bars", desc := "(LWheelWorks;I[J)I" } : Jvm.MethodName)) ∈ lw_all := lw_g (lw_at lw_m4 229 rfl) rfl
theorem q988 : (Jvm.Cond.static ({ cls := "WheelWorksLaw", name := "bars", desc := "(LWheelWorks;I[J)I" } : Jvm.MethodName)) ∈ lw_all := lw_g (lw_at lw_m4 230 rfl) rfl
theorem q989 : (Jvm.Cond.codeWith ({ cls := "WheelWorksLaw", name := "bars", desc := "(LWheelWorks;I[J)I" } : Jvm.MethodName) method_28_code (4 : Nat) (Option.some Jvm.ClassFile.FieldType.int) [((0 : Nat), (9 : Nat), (12 : Nat), (25 : Nat)), ((0 : Nat), (9 : Nat), (15 : Nat), (13 : Nat))]) ∈ lw_all := lw_g (lw_at lw_m4 231 rfl) rfl
theorem q990 : (Jvm.Cond.methodLink "WheelWorksLaw" (98 : Nat) ({ cls := "WheelWorks", name := "bars", desc := "(I)I" } : Jvm.MethodName)) ∈ lw_all := lw_g (lw_at lw_m4 232 rfl) rfl
theorem q994 : (Jvm.Cond.methodLink "WheelWorksLaw" (206 : Nat) ({ cls := "WheelWorksLaw", name := "barredBy", desc := "(LWheelWorks;I[J)I" } : Jvm.MethodName)) ∈ lw_all := lw_g (lw_at lw_m4 236 rfl) rfl
theorem q995 : (Jvm.Cond.static ({ cls := "WheelWorksLaw", name := "barredBy", desc := "(LWheelWorks;I[J)I" } : Jvm.MethodName)) ∈ lw_all := lw_g (lw_at lw_m4 237 rfl) rfl
theorem q996 : (Jvm.Cond.codeWith ({ cls := "WheelWorksLaw", name := "barredBy", desc := "(LWheelWorks;I[J)I" } : Jvm.MethodName) method_29_code (4 : Nat) (Option.some Jvm.ClassFile.FieldType.int) [((0 : Nat), (9 : Nat), (12 : Nat), (25 : Nat)), ((0 : Nat), (9 : Nat), (15 : Nat), (13 : Nat))]) ∈ lw_all := lw_g (lw_at lw_m4 238 rfl) rfl
theorem q997 : (Jvm.Cond.methodLink "WheelWorksLaw" (101 : Nat) ({ cls := "WheelWorks", name := "barredBy", desc := "(I)I" } : Jvm.MethodName)) ∈ lw_all := lw_g (lw_at lw_m4 239 rfl) rfl
theorem q1001 : (Jvm.Cond.methodLink "WheelWorksLaw" (209 : Nat) ({ cls := "WheelWorksLaw", name := "isReleased", desc := "(LWheelWorks;I[J)I" } : Jvm.MethodName)) ∈ lw_all := lw_g (lw_at lw_m5 3 rfl) rfl
theorem q1002 : (Jvm.Cond.static ({ cls := "WheelWorksLaw", name := "isReleased", desc := "(LWheelWorks;I[J)I" } : Jvm.MethodName)) ∈ lw_all := lw_g (lw_at lw_m5 4 rfl) rfl
theorem q1003 : (Jvm.Cond.codeWith ({ cls := "WheelWorksLaw", name := "isReleased", desc := "(LWheelWorks;I[J)I" } : Jvm.MethodName) method_30_code (4 : Nat) (Option.some Jvm.ClassFile.FieldType.int) [((0 : Nat), (16 : Nat), (19 : Nat), (25 : Nat)), ((0 : Nat), (16 : Nat), (22 : Nat), (13 : Nat))]) ∈ lw_all := lw_g (lw_at lw_m5 5 rfl) rfl
theorem q1004 : (Jvm.Cond.methodLink "WheelWorksLaw" (104 : Nat) ({ cls := "WheelWorks", name := "isReleased", desc := "(I)Z" } : Jvm.MethodName)) ∈ lw_all := lw_g (lw_at lw_m5 6 rfl) rfl
theorem q1008 : (Jvm.Cond.methodLink "WheelWorksLaw" (220 : Nat) ({ cls := "WheelWorksLaw", name := "road", desc := "(LWheelWorks;II[J)I" } : Jvm.MethodName)) ∈ lw_all := lw_g (lw_at lw_m5 10 rfl) rfl
theorem q1009 : (Jvm.Cond.static ({ cls := "WheelWorksLaw", name := "road", desc := "(LWheelWorks;II[J)I" } : Jvm.MethodName)) ∈ lw_all := lw_g (lw_at lw_m5 11 rfl) rfl
theorem q1010 : (Jvm.Cond.codeWith ({ cls := "WheelWorksLaw", name := "road", desc := "(LWheelWorks;II[J)I" } : Jvm.MethodName) method_31_code (5 : Nat) (Option.some Jvm.ClassFile.FieldType.int) [((0 : Nat), (10 : Nat), (13 : Nat), (25 : Nat))]) ∈ lw_all := lw_g (lw_at lw_m5 12 rfl) rfl
theorem q1011 : (Jvm.Cond.methodLink "WheelWorksLaw" (108 : Nat) ({ cls := "WheelWorks", name := "road", desc := "(II)I" } : Jvm.MethodName)) ∈ lw_all := lw_g (lw_at lw_m5 13 rfl) rfl
theorem q1015 : (Jvm.Cond.classLink "WheelWorksLaw" (112 : Nat) "WheelWorksModel") ∈ lw_all := lw_g (lw_at lw_m5 17 rfl) rfl
theorem q1017 : (Jvm.Cond.methodLink "WheelWorksLaw" (114 : Nat) ({ cls := "WheelWorksModel", name := "<init>", desc := "()V" } : Jvm.MethodName)) ∈ lw_all := lw_g (lw_at lw_m5 19 rfl) rfl
theorem q1122 : (Jvm.Cond.methodLink "WheelWorksLaw" (121 : Nat) ({ cls := "WheelWorksModel", name := "thrown", desc := "()I" } : Jvm.MethodName)) ∈ lw_all := lw_g (lw_at lw_m5 124 rfl) rfl
theorem q1126 : (Jvm.Cond.methodLink "WheelWorksLaw" (120 : Nat) ({ cls := "WheelWorksModel", name := "part", desc := "(III)I" } : Jvm.MethodName)) ∈ lw_all := lw_g (lw_at lw_m5 128 rfl) rfl
theorem q1133 : (Jvm.Cond.methodLink "WheelWorksLaw" (127 : Nat) ({ cls := "WheelWorksModel", name := "limits", desc := "(IIII)I" } : Jvm.MethodName)) ∈ lw_all := lw_g (lw_at lw_m5 135 rfl) rfl
theorem q1138 : (Jvm.Cond.methodLink "WheelWorksLaw" (131 : Nat) ({ cls := "WheelWorksModel", name := "fit", desc := "(II)I" } : Jvm.MethodName)) ∈ lw_all := lw_g (lw_at lw_m5 140 rfl) rfl
theorem q1169 : (Jvm.Cond.methodLink "WheelWorksLaw" (135 : Nat) ({ cls := "WheelWorksModel", name := "take", desc := "(I)I" } : Jvm.MethodName)) ∈ lw_all := lw_g (lw_at lw_m5 171 rfl) rfl
theorem q1173 : (Jvm.Cond.methodLink "WheelWorksLaw" (139 : Nat) ({ cls := "WheelWorksModel", name := "scrap", desc := "(I)V" } : Jvm.MethodName)) ∈ lw_all := lw_g (lw_at lw_m5 175 rfl) rfl
theorem q1181 : (Jvm.Cond.methodLink "WheelWorksLaw" (142 : Nat) ({ cls := "WheelWorksModel", name := "run", desc := "(III)I" } : Jvm.MethodName)) ∈ lw_all := lw_g (lw_at lw_m5 183 rfl) rfl
theorem q1200 : (Jvm.Cond.methodLink "WheelWorksLaw" (145 : Nat) ({ cls := "WheelWorksModel", name := "turn", desc := "(I)I" } : Jvm.MethodName)) ∈ lw_all := lw_g (lw_at lw_m5 202 rfl) rfl
theorem q1212 : (Jvm.Cond.methodLink "WheelWorksLaw" (148 : Nat) ({ cls := "WheelWorksModel", name := "gate", desc := "(II)I" } : Jvm.MethodName)) ∈ lw_all := lw_g (lw_at lw_m5 214 rfl) rfl
theorem q1216 : (Jvm.Cond.methodLink "WheelWorksLaw" (151 : Nat) ({ cls := "WheelWorksModel", name := "examine", desc := "(I)I" } : Jvm.MethodName)) ∈ lw_all := lw_g (lw_at lw_m5 218 rfl) rfl
theorem q1220 : (Jvm.Cond.methodLink "WheelWorksLaw" (155 : Nat) ({ cls := "WheelWorksModel", name := "waive", desc := "(II)V" } : Jvm.MethodName)) ∈ lw_all := lw_g (lw_at lw_m5 222 rfl) rfl
theorem q1224 : (Jvm.Cond.methodLink "WheelWorksLaw" (158 : Nat) ({ cls := "WheelWorksModel", name := "flaw", desc := "(II)I" } : Jvm.MethodName)) ∈ lw_all := lw_g (lw_at lw_m5 226 rfl) rfl
theorem q1228 : (Jvm.Cond.methodLink "WheelWorksLaw" (162 : Nat) ({ cls := "WheelWorksModel", name := "look", desc := "(IZ)I" } : Jvm.MethodName)) ∈ lw_all := lw_g (lw_at lw_m5 230 rfl) rfl
theorem q1236 : (Jvm.Cond.methodLink "WheelWorksLaw" (165 : Nat) ({ cls := "WheelWorksModel", name := "clear", desc := "(I)I" } : Jvm.MethodName)) ∈ lw_all := lw_g (lw_at lw_m5 238 rfl) rfl
theorem q1240 : (Jvm.Cond.methodLink "WheelWorksLaw" (168 : Nat) ({ cls := "WheelWorksModel", name := "recall", desc := "(I)I" } : Jvm.MethodName)) ∈ lw_all := lw_g (lw_at lw_m6 2 rfl) rfl
theorem q1244 : (Jvm.Cond.methodLink "WheelWorksLaw" (171 : Nat) ({ cls := "WheelWorksModel", name := "release", desc := "(I)I" } : Jvm.MethodName)) ∈ lw_all := lw_g (lw_at lw_m6 6 rfl) rfl
theorem q1274 : (Jvm.Cond.methodLink "WheelWorksLaw" (174 : Nat) ({ cls := "WheelWorksModel", name := "comes", desc := "(II)I" } : Jvm.MethodName)) ∈ lw_all := lw_g (lw_at lw_m6 36 rfl) rfl
theorem q1278 : (Jvm.Cond.methodLink "WheelWorksLaw" (178 : Nat) ({ cls := "WheelWorksModel", name := "night", desc := "()I" } : Jvm.MethodName)) ∈ lw_all := lw_g (lw_at lw_m6 40 rfl) rfl
theorem q1290 : (Jvm.Cond.methodLink "WheelWorksLaw" (181 : Nat) ({ cls := "WheelWorksModel", name := "out", desc := "()I" } : Jvm.MethodName)) ∈ lw_all := lw_g (lw_at lw_m6 52 rfl) rfl
theorem q1294 : (Jvm.Cond.methodLink "WheelWorksLaw" (184 : Nat) ({ cls := "WheelWorksModel", name := "host", desc := "(I)I" } : Jvm.MethodName)) ∈ lw_all := lw_g (lw_at lw_m6 56 rfl) rfl
theorem q1298 : (Jvm.Cond.methodLink "WheelWorksLaw" (187 : Nat) ({ cls := "WheelWorksModel", name := "head", desc := "(I)I" } : Jvm.MethodName)) ∈ lw_all := lw_g (lw_at lw_m6 60 rfl) rfl
theorem q1302 : (Jvm.Cond.methodLink "WheelWorksLaw" (190 : Nat) ({ cls := "WheelWorksModel", name := "ofPart", desc := "(II)I" } : Jvm.MethodName)) ∈ lw_all := lw_g (lw_at lw_m6 64 rfl) rfl
theorem q1310 : (Jvm.Cond.methodLink "WheelWorksLaw" (193 : Nat) ({ cls := "WheelWorksModel", name := "trace", desc := "(II)I" } : Jvm.MethodName)) ∈ lw_all := lw_g (lw_at lw_m6 72 rfl) rfl
theorem q1314 : (Jvm.Cond.methodLink "WheelWorksLaw" (196 : Nat) ({ cls := "WheelWorksModel", name := "lifeAnew", desc := "(I)I" } : Jvm.MethodName)) ∈ lw_all := lw_g (lw_at lw_m6 76 rfl) rfl
theorem q1318 : (Jvm.Cond.methodLink "WheelWorksLaw" (199 : Nat) ({ cls := "WheelWorksModel", name := "wheel", desc := "(II)I" } : Jvm.MethodName)) ∈ lw_all := lw_g (lw_at lw_m6 80 rfl) rfl
theorem q1322 : (Jvm.Cond.methodLink "WheelWorksLaw" (202 : Nat) ({ cls := "WheelWorksModel", name := "foretell", desc := "(III)I" } : Jvm.MethodName)) ∈ lw_all := lw_g (lw_at lw_m6 84 rfl) rfl
theorem q1326 : (Jvm.Cond.methodLink "WheelWorksLaw" (205 : Nat) ({ cls := "WheelWorksModel", name := "bars", desc := "(I)I" } : Jvm.MethodName)) ∈ lw_all := lw_g (lw_at lw_m6 88 rfl) rfl
theorem q1330 : (Jvm.Cond.methodLink "WheelWorksLaw" (208 : Nat) ({ cls := "WheelWorksModel", name := "barredBy", desc := "(I)I" } : Jvm.MethodName)) ∈ lw_all := lw_g (lw_at lw_m6 92 rfl) rfl
theorem q1334 : (Jvm.Cond.methodLink "WheelWorksLaw" (211 : Nat) ({ cls := "WheelWorksModel", name := "isReleased", desc := "(I)Z" } : Jvm.MethodName)) ∈ lw_all := lw_g (lw_at lw_m6 96 rfl) rfl
theorem q1338 : (Jvm.Cond.methodLink "WheelWorksLaw" (215 : Nat) ({ cls := "WheelWorksModel", name := "plan", desc := "()I" } : Jvm.MethodName)) ∈ lw_all := lw_g (lw_at lw_m6 100 rfl) rfl
theorem q1342 : (Jvm.Cond.methodLink "WheelWorksLaw" (219 : Nat) ({ cls := "WheelWorksModel", name := "planAnew", desc := "()I" } : Jvm.MethodName)) ∈ lw_all := lw_g (lw_at lw_m6 104 rfl) rfl
theorem q1346 : (Jvm.Cond.methodLink "WheelWorksLaw" (222 : Nat) ({ cls := "WheelWorksModel", name := "road", desc := "(II)I" } : Jvm.MethodName)) ∈ lw_all := lw_g (lw_at lw_m6 108 rfl) rfl
