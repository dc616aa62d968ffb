/-! WheelWorks -/
set_option maxRecDepth 100000
def RX1 : String := "WheelWorks"
def TX1 : u_T := fun k => match k with
  | 0 => ("WheelWorks", "rack", "LWheelWorks$Rack;", true)
  | 1 => ("WheelWorks", "lives", "[I", true)
  | 2 => ("WheelWorks", "intervals", "[I", true)
  | 3 => ("WheelWorks", "windows", "[I", true)
  | 4 => ("WheelWorks", "log", "Ljava/util/ArrayList;", true)
  | 5 => ("WheelWorks", "waiting", "Ljava/util/ArrayList;", false)
  | 6 => ("WheelWorks", "roads", "Ljava/util/ArrayList;", true)
  | 7 => ("WheelWorks", "tried", "[I", true)
  | 8 => ("WheelWorks", "best", "[I", true)
  | _ => ("WheelWorks", "fewest", "I", false)
def tyX1 : Nat → FieldType := fun k => match k with
  | 0 => .object "WheelWorks$Rack"
  | 1 => .array .int
  | 2 => .array .int
  | 3 => .array .int
  | 4 => .object "java/util/ArrayList"
  | 5 => .object "java/util/ArrayList"
  | 6 => .object "java/util/ArrayList"
  | 7 => .array .int
  | 8 => .array .int
  | _ => .int
abbrev wsX10 : List Cond := u_ws RX1 TX1 10
theorem nmX1 : ∀ a, a < 10 → ∀ b, b < 10 → a ≠ b → (TX1 a).2.1 ≠ (TX1 b).2.1 := by decide +kernel
theorem tyX1_ok : ∀ k, k < 10 → parseFieldDescriptor (TX1 k).2.2.1 = some (tyX1 k) := by decide +kernel
abbrev cX1_init : ByteArray := prog_1_method_2_code
def yX1_init : MethodName := ⟨RX1, "<init>", "()V"⟩
def dkwX1_init_4 : List UInt8 := [187, 0, 26, 89, 183, 0, 28, 182, 0, 45, 87, 132, 1, 1, 167, 255, 233, 177]
abbrev dktX1_init_4 : List UInt8 := dkwX1_init_4 ++ []
def dkwX1_init_3 : List UInt8 := [188, 10, 181, 0, 39, 42, 16, 8, 188, 10, 181, 0, 42, 3, 60, 27, 6, 162, 0, 24, 42, 180, 0, 36]
abbrev dktX1_init_3 : List UInt8 := dkwX1_init_3 ++ dktX1_init_4
def dkwX1_init_2 : List UInt8 := [187, 0, 26, 89, 183, 0, 28, 181, 0, 33, 42, 187, 0, 26, 89, 183, 0, 28, 181, 0, 36, 42, 16, 8]
abbrev dktX1_init_2 : List UInt8 := dkwX1_init_2 ++ dktX1_init_3
def dkwX1_init_1 : List UInt8 := [188, 10, 181, 0, 20, 42, 8, 188, 10, 181, 0, 23, 42, 187, 0, 26, 89, 183, 0, 28, 181, 0, 29, 42]
abbrev dktX1_init_1 : List UInt8 := dkwX1_init_1 ++ dktX1_init_2
def dkwX1_init_0 : List UInt8 := [42, 183, 0, 1, 42, 187, 0, 7, 89, 183, 0, 9, 181, 0, 10, 42, 8, 188, 10, 181, 0, 16, 42, 8]
abbrev dktX1_init_0 : List UInt8 := dkwX1_init_0 ++ dktX1_init_1
theorem dksX1_init_0 : cX1_init.data.toList.drop 0 = dktX1_init_0 := by decide +kernel
theorem dksX1_init_1 : cX1_init.data.toList.drop 24 = dktX1_init_1 := dk_seg dksX1_init_0 24 rfl rfl
theorem dksX1_init_2 : cX1_init.data.toList.drop 48 = dktX1_init_2 := dk_seg dksX1_init_1 24 rfl rfl
theorem dksX1_init_3 : cX1_init.data.toList.drop 72 = dktX1_init_3 := dk_seg dksX1_init_2 24 rfl rfl
theorem dksX1_init_4 : cX1_init.data.toList.drop 96 = dktX1_init_4 := dk_seg dksX1_init_3 24 rfl rfl
theorem dX1_init_0 : decode cX1_init 0 = .ok (.aload_n 0, 1) := dk_42 (dk_at dksX1_init_0 0 rfl rfl)
theorem dX1_init_1 : decode cX1_init 1 = .ok (.invokespecial 1, 3) := dk_183 0 1 (dk_at dksX1_init_0 1 rfl rfl)
theorem dX1_init_4 : decode cX1_init 4 = .ok (.aload_n 0, 1) := dk_42 (dk_at dksX1_init_0 4 rfl rfl)
theorem dX1_init_5 : decode cX1_init 5 = .ok (.new 7, 3) := dk_187 0 7 (dk_at dksX1_init_0 5 rfl rfl)
theorem dX1_init_8 : decode cX1_init 8 = .ok (.dup, 1) := dk_89 (dk_at dksX1_init_0 8 rfl rfl)
theorem dX1_init_9 : decode cX1_init 9 = .ok (.invokespecial 9, 3) := dk_183 0 9 (dk_at dksX1_init_0 9 rfl rfl)
theorem dX1_init_12 : decode cX1_init 12 = .ok (.putfield 10, 3) := dk_181 0 10 (dk_at dksX1_init_0 12 rfl rfl)
theorem dX1_init_15 : decode cX1_init 15 = .ok (.aload_n 0, 1) := dk_42 (dk_at dksX1_init_0 15 rfl rfl)
theorem dX1_init_16 : decode cX1_init 16 = .ok (.iconst 5, 1) := dk_8 (dk_at dksX1_init_0 16 rfl rfl)
theorem dX1_init_17 : decode cX1_init 17 = .ok (.newarray .int, 2) := dk_188_10 (dk_at dksX1_init_0 17 rfl rfl)
theorem dX1_init_19 : decode cX1_init 19 = .ok (.putfield 16, 3) := dk_181 0 16 (dk_at dksX1_init_0 19 rfl rfl)
theorem dX1_init_22 : decode cX1_init 22 = .ok (.aload_n 0, 1) := dk_42 (dk_at dksX1_init_0 22 rfl rfl)
theorem dX1_init_23 : decode cX1_init 23 = .ok (.iconst 5, 1) := dk_8 (dk_at dksX1_init_0 23 rfl rfl)
theorem dX1_init_24 : decode cX1_init 24 = .ok (.newarray .int, 2) := dk_188_10 (dk_at dksX1_init_1 0 rfl rfl)
theorem dX1_init_26 : decode cX1_init 26 = .ok (.putfield 20, 3) := dk_181 0 20 (dk_at dksX1_init_1 2 rfl rfl)
theorem dX1_init_29 : decode cX1_init 29 = .ok (.aload_n 0, 1) := dk_42 (dk_at dksX1_init_1 5 rfl rfl)
theorem dX1_init_30 : decode cX1_init 30 = .ok (.iconst 5, 1) := dk_8 (dk_at dksX1_init_1 6 rfl rfl)
theorem dX1_init_31 : decode cX1_init 31 = .ok (.newarray .int, 2) := dk_188_10 (dk_at dksX1_init_1 7 rfl rfl)
theorem dX1_init_33 : decode cX1_init 33 = .ok (.putfield 23, 3) := dk_181 0 23 (dk_at dksX1_init_1 9 rfl rfl)
theorem dX1_init_36 : decode cX1_init 36 = .ok (.aload_n 0, 1) := dk_42 (dk_at dksX1_init_1 12 rfl rfl)
theorem dX1_init_37 : decode cX1_init 37 = .ok (.new 26, 3) := dk_187 0 26 (dk_at dksX1_init_1 13 rfl rfl)
theorem dX1_init_40 : decode cX1_init 40 = .ok (.dup, 1) := dk_89 (dk_at dksX1_init_1 16 rfl rfl)
theorem dX1_init_41 : decode cX1_init 41 = .ok (.invokespecial 28, 3) := dk_183 0 28 (dk_at dksX1_init_1 17 rfl rfl)
theorem dX1_init_44 : decode cX1_init 44 = .ok (.putfield 29, 3) := dk_181 0 29 (dk_at dksX1_init_1 20 rfl rfl)
theorem dX1_init_47 : decode cX1_init 47 = .ok (.aload_n 0, 1) := dk_42 (dk_at dksX1_init_1 23 rfl rfl)
theorem dX1_init_48 : decode cX1_init 48 = .ok (.new 26, 3) := dk_187 0 26 (dk_at dksX1_init_2 0 rfl rfl)
theorem dX1_init_51 : decode cX1_init 51 = .ok (.dup, 1) := dk_89 (dk_at dksX1_init_2 3 rfl rfl)
theorem dX1_init_52 : decode cX1_init 52 = .ok (.invokespecial 28, 3) := dk_183 0 28 (dk_at dksX1_init_2 4 rfl rfl)
theorem dX1_init_55 : decode cX1_init 55 = .ok (.putfield 33, 3) := dk_181 0 33 (dk_at dksX1_init_2 7 rfl rfl)
theorem dX1_init_58 : decode cX1_init 58 = .ok (.aload_n 0, 1) := dk_42 (dk_at dksX1_init_2 10 rfl rfl)
theorem dX1_init_59 : decode cX1_init 59 = .ok (.new 26, 3) := dk_187 0 26 (dk_at dksX1_init_2 11 rfl rfl)
theorem dX1_init_62 : decode cX1_init 62 = .ok (.dup, 1) := dk_89 (dk_at dksX1_init_2 14 rfl rfl)
theorem dX1_init_63 : decode cX1_init 63 = .ok (.invokespecial 28, 3) := dk_183 0 28 (dk_at dksX1_init_2 15 rfl rfl)
theorem dX1_init_66 : decode cX1_init 66 = .ok (.putfield 36, 3) := dk_181 0 36 (dk_at dksX1_init_2 18 rfl rfl)
theorem dX1_init_69 : decode cX1_init 69 = .ok (.aload_n 0, 1) := dk_42 (dk_at dksX1_init_2 21 rfl rfl)
theorem dX1_init_70 : decode cX1_init 70 = .ok (.bipush 8, 2) := dk_16 8 (dk_at dksX1_init_2 22 rfl rfl)
theorem dX1_init_72 : decode cX1_init 72 = .ok (.newarray .int, 2) := dk_188_10 (dk_at dksX1_init_3 0 rfl rfl)
theorem dX1_init_74 : decode cX1_init 74 = .ok (.putfield 39, 3) := dk_181 0 39 (dk_at dksX1_init_3 2 rfl rfl)
theorem dX1_init_77 : decode cX1_init 77 = .ok (.aload_n 0, 1) := dk_42 (dk_at dksX1_init_3 5 rfl rfl)
theorem dX1_init_78 : decode cX1_init 78 = .ok (.bipush 8, 2) := dk_16 8 (dk_at dksX1_init_3 6 rfl rfl)
theorem dX1_init_80 : decode cX1_init 80 = .ok (.newarray .int, 2) := dk_188_10 (dk_at dksX1_init_3 8 rfl rfl)
theorem dX1_init_82 : decode cX1_init 82 = .ok (.putfield 42, 3) := dk_181 0 42 (dk_at dksX1_init_3 10 rfl rfl)
theorem dX1_init_85 : decode cX1_init 85 = .ok (.iconst 0, 1) := dk_3 (dk_at dksX1_init_3 13 rfl rfl)
theorem dX1_init_86 : decode cX1_init 86 = .ok (.istore_n 1, 1) := dk_60 (dk_at dksX1_init_3 14 rfl rfl)
theorem dX1_init_87 : decode cX1_init 87 = .ok (.iload_n 1, 1) := dk_27 (dk_at dksX1_init_3 15 rfl rfl)
theorem dX1_init_88 : decode cX1_init 88 = .ok (.iconst 3, 1) := dk_6 (dk_at dksX1_init_3 16 rfl rfl)
theorem dX1_init_89 : decode cX1_init 89 = .ok (.if_icmp .ge 24, 3) := dk_162 0 24 (dk_at dksX1_init_3 17 rfl rfl)
theorem dX1_init_92 : decode cX1_init 92 = .ok (.aload_n 0, 1) := dk_42 (dk_at dksX1_init_3 20 rfl rfl)
theorem dX1_init_93 : decode cX1_init 93 = .ok (.getfield 36, 3) := dk_180 0 36 (dk_at dksX1_init_3 21 rfl rfl)
theorem dX1_init_96 : decode cX1_init 96 = .ok (.new 26, 3) := dk_187 0 26 (dk_at dksX1_init_4 0 rfl rfl)
theorem dX1_init_99 : decode cX1_init 99 = .ok (.dup, 1) := dk_89 (dk_at dksX1_init_4 3 rfl rfl)
theorem dX1_init_100 : decode cX1_init 100 = .ok (.invokespecial 28, 3) := dk_183 0 28 (dk_at dksX1_init_4 4 rfl rfl)
theorem dX1_init_103 : decode cX1_init 103 = .ok (.invokevirtual 45, 3) := dk_182 0 45 (dk_at dksX1_init_4 7 rfl rfl)
theorem dX1_init_106 : decode cX1_init 106 = .ok (.pop, 1) := dk_87 (dk_at dksX1_init_4 10 rfl rfl)
theorem dX1_init_107 : decode cX1_init 107 = .ok (.iinc 1 1, 3) := dk_132 1 1 (dk_at dksX1_init_4 11 rfl rfl)
theorem dX1_init_110 : decode cX1_init 110 = .ok (.goto (-23), 3) := dk_167 255 233 (dk_at dksX1_init_4 14 rfl rfl)
theorem dX1_init_113 : decode cX1_init 113 = .ok (.return_, 1) := dk_177 (dk_at dksX1_init_4 17 rfl rfl)
abbrev cX1_plan : ByteArray := prog_1_method_47_code
def yX1_plan : MethodName := ⟨RX1, "plan", "()I"⟩
def dkwX1_plan_0 : List UInt8 := [42, 180, 0, 33, 182, 0, 164, 153, 0, 7, 3, 167, 0, 8, 42, 4, 182, 1, 47, 172]
abbrev dktX1_plan_0 : List UInt8 := dkwX1_plan_0 ++ []
theorem dksX1_plan_0 : cX1_plan.data.toList.drop 0 = dktX1_plan_0 := by decide +kernel
theorem dX1_plan_0 : decode cX1_plan 0 = .ok (.aload_n 0, 1) := dk_42 (dk_at dksX1_plan_0 0 rfl rfl)
theorem dX1_plan_1 : decode cX1_plan 1 = .ok (.getfield 33, 3) := dk_180 0 33 (dk_at dksX1_plan_0 1 rfl rfl)
theorem dX1_plan_4 : decode cX1_plan 4 = .ok (.invokevirtual 164, 3) := dk_182 0 164 (dk_at dksX1_plan_0 4 rfl rfl)
theorem dX1_plan_7 : decode cX1_plan 7 = .ok (.ifCond .eq 7, 3) := dk_153 0 7 (dk_at dksX1_plan_0 7 rfl rfl)
theorem dX1_plan_10 : decode cX1_plan 10 = .ok (.iconst 0, 1) := dk_3 (dk_at dksX1_plan_0 10 rfl rfl)
theorem dX1_plan_11 : decode cX1_plan 11 = .ok (.goto 8, 3) := dk_167 0 8 (dk_at dksX1_plan_0 11 rfl rfl)
theorem dX1_plan_14 : decode cX1_plan 14 = .ok (.aload_n 0, 1) := dk_42 (dk_at dksX1_plan_0 14 rfl rfl)
theorem dX1_plan_15 : decode cX1_plan 15 = .ok (.iconst 1, 1) := dk_4 (dk_at dksX1_plan_0 15 rfl rfl)
theorem dX1_plan_16 : decode cX1_plan 16 = .ok (.invokevirtual 303, 3) := dk_182 1 47 (dk_at dksX1_plan_0 16 rfl rfl)
theorem dX1_plan_19 : decode cX1_plan 19 = .ok (.ireturn, 1) := dk_172 (dk_at dksX1_plan_0 19 rfl rfl)
abbrev cX1_search : ByteArray := prog_1_method_32_code
def yX1_search : MethodName := ⟨RX1, "search", "(Z)I"⟩
def dkwX1_search_0 : List UInt8 := [42, 17, 3, 232, 181, 1, 29, 42, 3, 3, 27, 182, 1, 42, 42, 180, 1, 29, 172]
abbrev dktX1_search_0 : List UInt8 := dkwX1_search_0 ++ []
theorem dksX1_search_0 : cX1_search.data.toList.drop 0 = dktX1_search_0 := by decide +kernel
theorem dX1_search_0 : decode cX1_search 0 = .ok (.aload_n 0, 1) := dk_42 (dk_at dksX1_search_0 0 rfl rfl)
theorem dX1_search_1 : decode cX1_search 1 = .ok (.sipush 1000, 3) := dk_17 3 232 (dk_at dksX1_search_0 1 rfl rfl)
theorem dX1_search_4 : decode cX1_search 4 = .ok (.putfield 285, 3) := dk_181 1 29 (dk_at dksX1_search_0 4 rfl rfl)
theorem dX1_search_7 : decode cX1_search 7 = .ok (.aload_n 0, 1) := dk_42 (dk_at dksX1_search_0 7 rfl rfl)
theorem dX1_search_8 : decode cX1_search 8 = .ok (.iconst 0, 1) := dk_3 (dk_at dksX1_search_0 8 rfl rfl)
theorem dX1_search_9 : decode cX1_search 9 = .ok (.iconst 0, 1) := dk_3 (dk_at dksX1_search_0 9 rfl rfl)
theorem dX1_search_10 : decode cX1_search 10 = .ok (.iload_n 1, 1) := dk_27 (dk_at dksX1_search_0 10 rfl rfl)
theorem dX1_search_11 : decode cX1_search 11 = .ok (.invokevirtual 298, 3) := dk_182 1 42 (dk_at dksX1_search_0 11 rfl rfl)
theorem dX1_search_14 : decode cX1_search 14 = .ok (.aload_n 0, 1) := dk_42 (dk_at dksX1_search_0 14 rfl rfl)
theorem dX1_search_15 : decode cX1_search 15 = .ok (.getfield 285, 3) := dk_180 1 29 (dk_at dksX1_search_0 15 rfl rfl)
theorem dX1_search_18 : decode cX1_search 18 = .ok (.ireturn, 1) := dk_172 (dk_at dksX1_search_0 18 rfl rfl)
abbrev cX1_give : ByteArray := prog_1_method_31_code
def yX1_give : MethodName := ⟨RX1, "give", "(IIZ)V"⟩
def dkwX1_give_4 : List UInt8 := [182, 1, 42, 132, 4, 1, 167, 255, 218, 42, 180, 0, 39, 27, 2, 79, 177]
abbrev dktX1_give_4 : List UInt8 := dkwX1_give_4 ++ []
def dkwX1_give_3 : List UInt8 := [182, 1, 38, 54, 5, 42, 180, 0, 39, 27, 21, 4, 79, 42, 27, 4, 96, 28, 21, 5, 96, 29]
abbrev dktX1_give_3 : List UInt8 := dkwX1_give_3 ++ dktX1_give_4
def dkwX1_give_2 : List UInt8 := [42, 180, 0, 42, 3, 16, 8, 184, 1, 32, 177, 3, 54, 4, 21, 4, 6, 162, 0, 38, 42, 27, 21, 4]
abbrev dktX1_give_2 : List UInt8 := dkwX1_give_2 ++ dktX1_give_3
def dkwX1_give_1 : List UInt8 := [182, 0, 146, 160, 0, 32, 28, 42, 180, 1, 29, 162, 0, 23, 42, 28, 181, 1, 29, 42, 180, 0, 39, 3]
abbrev dktX1_give_1 : List UInt8 := dkwX1_give_1 ++ dktX1_give_2
def dkwX1_give_0 : List UInt8 := [28, 29, 153, 0, 10, 42, 180, 1, 29, 167, 0, 6, 17, 3, 232, 161, 0, 4, 177, 27, 42, 180, 0, 33]
abbrev dktX1_give_0 : List UInt8 := dkwX1_give_0 ++ dktX1_give_1
theorem dksX1_give_0 : cX1_give.data.toList.drop 0 = dktX1_give_0 := by decide +kernel
theorem dksX1_give_1 : cX1_give.data.toList.drop 24 = dktX1_give_1 := dk_seg dksX1_give_0 24 rfl rfl
theorem dksX1_give_2 : cX1_give.data.toList.drop 48 = dktX1_give_2 := dk_seg dksX1_give_1 24 rfl rfl
theorem dksX1_give_3 : cX1_give.data.toList.drop 72 = dktX1_give_3 := dk_seg dksX1_give_2 24 rfl rfl
theorem dksX1_give_4 : cX1_give.data.toList.drop 94 = dktX1_give_4 := dk_seg dksX1_give_3 22 rfl rfl
theorem dX1_give_0 : decode cX1_give 0 = .ok (.iload_n 2, 1) := dk_28 (dk_at dksX1_give_0 0 rfl rfl)
theorem dX1_give_1 : decode cX1_give 1 = .ok (.iload_n 3, 1) := dk_29 (dk_at dksX1_give_0 1 rfl rfl)
theorem dX1_give_2 : decode cX1_give 2 = .ok (.ifCond .eq 10, 3) := dk_153 0 10 (dk_at dksX1_give_0 2 rfl rfl)
theorem dX1_give_5 : decode cX1_give 5 = .ok (.aload_n 0, 1) := dk_42 (dk_at dksX1_give_0 5 rfl rfl)
theorem dX1_give_6 : decode cX1_give 6 = .ok (.getfield 285, 3) := dk_180 1 29 (dk_at dksX1_give_0 6 rfl rfl)
theorem dX1_give_9 : decode cX1_give 9 = .ok (.goto 6, 3) := dk_167 0 6 (dk_at dksX1_give_0 9 rfl rfl)
theorem dX1_give_12 : decode cX1_give 12 = .ok (.sipush 1000, 3) := dk_17 3 232 (dk_at dksX1_give_0 12 rfl rfl)
theorem dX1_give_15 : decode cX1_give 15 = .ok (.if_icmp .lt 4, 3) := dk_161 0 4 (dk_at dksX1_give_0 15 rfl rfl)
theorem dX1_give_18 : decode cX1_give 18 = .ok (.return_, 1) := dk_177 (dk_at dksX1_give_0 18 rfl rfl)
theorem dX1_give_19 : decode cX1_give 19 = .ok (.iload_n 1, 1) := dk_27 (dk_at dksX1_give_0 19 rfl rfl)
theorem dX1_give_20 : decode cX1_give 20 = .ok (.aload_n 0, 1) := dk_42 (dk_at dksX1_give_0 20 rfl rfl)
theorem dX1_give_21 : decode cX1_give 21 = .ok (.getfield 33, 3) := dk_180 0 33 (dk_at dksX1_give_0 21 rfl rfl)
theorem dX1_give_24 : decode cX1_give 24 = .ok (.invokevirtual 146, 3) := dk_182 0 146 (dk_at dksX1_give_1 0 rfl rfl)
theorem dX1_give_27 : decode cX1_give 27 = .ok (.if_icmp .ne 32, 3) := dk_160 0 32 (dk_at dksX1_give_1 3 rfl rfl)
theorem dX1_give_30 : decode cX1_give 30 = .ok (.iload_n 2, 1) := dk_28 (dk_at dksX1_give_1 6 rfl rfl)
theorem dX1_give_31 : decode cX1_give 31 = .ok (.aload_n 0, 1) := dk_42 (dk_at dksX1_give_1 7 rfl rfl)
theorem dX1_give_32 : decode cX1_give 32 = .ok (.getfield 285, 3) := dk_180 1 29 (dk_at dksX1_give_1 8 rfl rfl)
theorem dX1_give_35 : decode cX1_give 35 = .ok (.if_icmp .ge 23, 3) := dk_162 0 23 (dk_at dksX1_give_1 11 rfl rfl)
theorem dX1_give_38 : decode cX1_give 38 = .ok (.aload_n 0, 1) := dk_42 (dk_at dksX1_give_1 14 rfl rfl)
theorem dX1_give_39 : decode cX1_give 39 = .ok (.iload_n 2, 1) := dk_28 (dk_at dksX1_give_1 15 rfl rfl)
theorem dX1_give_40 : decode cX1_give 40 = .ok (.putfield 285, 3) := dk_181 1 29 (dk_at dksX1_give_1 16 rfl rfl)
theorem dX1_give_43 : decode cX1_give 43 = .ok (.aload_n 0, 1) := dk_42 (dk_at dksX1_give_1 19 rfl rfl)
theorem dX1_give_44 : decode cX1_give 44 = .ok (.getfield 39, 3) := dk_180 0 39 (dk_at dksX1_give_1 20 rfl rfl)
theorem dX1_give_47 : decode cX1_give 47 = .ok (.iconst 0, 1) := dk_3 (dk_at dksX1_give_1 23 rfl rfl)
theorem dX1_give_48 : decode cX1_give 48 = .ok (.aload_n 0, 1) := dk_42 (dk_at dksX1_give_2 0 rfl rfl)
theorem dX1_give_49 : decode cX1_give 49 = .ok (.getfield 42, 3) := dk_180 0 42 (dk_at dksX1_give_2 1 rfl rfl)
theorem dX1_give_52 : decode cX1_give 52 = .ok (.iconst 0, 1) := dk_3 (dk_at dksX1_give_2 4 rfl rfl)
theorem dX1_give_53 : decode cX1_give 53 = .ok (.bipush 8, 2) := dk_16 8 (dk_at dksX1_give_2 5 rfl rfl)
theorem dX1_give_55 : decode cX1_give 55 = .ok (.invokestatic 288, 3) := dk_184 1 32 (dk_at dksX1_give_2 7 rfl rfl)
theorem dX1_give_58 : decode cX1_give 58 = .ok (.return_, 1) := dk_177 (dk_at dksX1_give_2 10 rfl rfl)
theorem dX1_give_59 : decode cX1_give 59 = .ok (.iconst 0, 1) := dk_3 (dk_at dksX1_give_2 11 rfl rfl)
theorem dX1_give_60 : decode cX1_give 60 = .ok (.istore 4, 2) := dk_54 4 (dk_at dksX1_give_2 12 rfl rfl)
theorem dX1_give_62 : decode cX1_give 62 = .ok (.iload 4, 2) := dk_21 4 (dk_at dksX1_give_2 14 rfl rfl)
theorem dX1_give_64 : decode cX1_give 64 = .ok (.iconst 3, 1) := dk_6 (dk_at dksX1_give_2 16 rfl rfl)
theorem dX1_give_65 : decode cX1_give 65 = .ok (.if_icmp .ge 38, 3) := dk_162 0 38 (dk_at dksX1_give_2 17 rfl rfl)
theorem dX1_give_68 : decode cX1_give 68 = .ok (.aload_n 0, 1) := dk_42 (dk_at dksX1_give_2 20 rfl rfl)
theorem dX1_give_69 : decode cX1_give 69 = .ok (.iload_n 1, 1) := dk_27 (dk_at dksX1_give_2 21 rfl rfl)
theorem dX1_give_70 : decode cX1_give 70 = .ok (.iload 4, 2) := dk_21 4 (dk_at dksX1_give_2 22 rfl rfl)
theorem dX1_give_72 : decode cX1_give 72 = .ok (.invokevirtual 294, 3) := dk_182 1 38 (dk_at dksX1_give_3 0 rfl rfl)
theorem dX1_give_75 : decode cX1_give 75 = .ok (.istore 5, 2) := dk_54 5 (dk_at dksX1_give_3 3 rfl rfl)
theorem dX1_give_77 : decode cX1_give 77 = .ok (.aload_n 0, 1) := dk_42 (dk_at dksX1_give_3 5 rfl rfl)
theorem dX1_give_78 : decode cX1_give 78 = .ok (.getfield 39, 3) := dk_180 0 39 (dk_at dksX1_give_3 6 rfl rfl)
theorem dX1_give_81 : decode cX1_give 81 = .ok (.iload_n 1, 1) := dk_27 (dk_at dksX1_give_3 9 rfl rfl)
theorem dX1_give_82 : decode cX1_give 82 = .ok (.iload 4, 2) := dk_21 4 (dk_at dksX1_give_3 10 rfl rfl)
theorem dX1_give_84 : decode cX1_give 84 = .ok (.iastore, 1) := dk_79 (dk_at dksX1_give_3 12 rfl rfl)
theorem dX1_give_85 : decode cX1_give 85 = .ok (.aload_n 0, 1) := dk_42 (dk_at dksX1_give_3 13 rfl rfl)
theorem dX1_give_86 : decode cX1_give 86 = .ok (.iload_n 1, 1) := dk_27 (dk_at dksX1_give_3 14 rfl rfl)
theorem dX1_give_87 : decode cX1_give 87 = .ok (.iconst 1, 1) := dk_4 (dk_at dksX1_give_3 15 rfl rfl)
theorem dX1_give_88 : decode cX1_give 88 = .ok (.iadd, 1) := dk_96 (dk_at dksX1_give_3 16 rfl rfl)
theorem dX1_give_89 : decode cX1_give 89 = .ok (.iload_n 2, 1) := dk_28 (dk_at dksX1_give_3 17 rfl rfl)
theorem dX1_give_90 : decode cX1_give 90 = .ok (.iload 5, 2) := dk_21 5 (dk_at dksX1_give_3 18 rfl rfl)
theorem dX1_give_92 : decode cX1_give 92 = .ok (.iadd, 1) := dk_96 (dk_at dksX1_give_3 20 rfl rfl)
theorem dX1_give_93 : decode cX1_give 93 = .ok (.iload_n 3, 1) := dk_29 (dk_at dksX1_give_3 21 rfl rfl)
theorem dX1_give_94 : decode cX1_give 94 = .ok (.invokevirtual 298, 3) := dk_182 1 42 (dk_at dksX1_give_4 0 rfl rfl)
theorem dX1_give_97 : decode cX1_give 97 = .ok (.iinc 4 1, 3) := dk_132 4 1 (dk_at dksX1_give_4 3 rfl rfl)
theorem dX1_give_100 : decode cX1_give 100 = .ok (.goto (-38), 3) := dk_167 255 218 (dk_at dksX1_give_4 6 rfl rfl)
theorem dX1_give_103 : decode cX1_give 103 = .ok (.aload_n 0, 1) := dk_42 (dk_at dksX1_give_4 9 rfl rfl)
theorem dX1_give_104 : decode cX1_give 104 = .ok (.getfield 39, 3) := dk_180 0 39 (dk_at dksX1_give_4 10 rfl rfl)
theorem dX1_give_107 : decode cX1_give 107 = .ok (.iload_n 1, 1) := dk_27 (dk_at dksX1_give_4 13 rfl rfl)
theorem dX1_give_108 : decode cX1_give 108 = .ok (.iconst (-1), 1) := dk_2 (dk_at dksX1_give_4 14 rfl rfl)
theorem dX1_give_109 : decode cX1_give 109 = .ok (.iastore, 1) := dk_79 (dk_at dksX1_give_4 15 rfl rfl)
theorem dX1_give_110 : decode cX1_give 110 = .ok (.return_, 1) := dk_177 (dk_at dksX1_give_4 16 rfl rfl)
abbrev cX1_moves : ByteArray := prog_1_method_30_code
def yX1_moves : MethodName := ⟨RX1, "moves", "(II)I"⟩
def dkwX1_moves_3 : List UInt8 := [132, 5, 1, 167, 255, 191, 29, 7, 162, 0, 8, 21, 4, 167, 0, 6, 17, 3, 232, 172]
abbrev dktX1_moves_3 : List UInt8 := dkwX1_moves_3 ++ []
def dkwX1_moves_2 : List UInt8 := [180, 0, 33, 27, 182, 0, 154, 192, 0, 158, 180, 1, 16, 162, 0, 7, 4, 167, 0, 4, 3, 96, 54, 4]
abbrev dktX1_moves_2 : List UInt8 := dkwX1_moves_2 ++ dktX1_moves_3
def dkwX1_moves_1 : List UInt8 := [160, 0, 48, 132, 3, 1, 21, 4, 42, 180, 0, 33, 21, 5, 182, 0, 154, 192, 0, 158, 180, 1, 16, 42]
abbrev dktX1_moves_1 : List UInt8 := dkwX1_moves_1 ++ dktX1_moves_2
def dkwX1_moves_0 : List UInt8 := [3, 62, 3, 54, 4, 3, 54, 5, 21, 5, 27, 162, 0, 65, 42, 180, 0, 39, 21, 5, 46, 28]
abbrev dktX1_moves_0 : List UInt8 := dkwX1_moves_0 ++ dktX1_moves_1
theorem dksX1_moves_0 : cX1_moves.data.toList.drop 0 = dktX1_moves_0 := by decide +kernel
theorem dksX1_moves_1 : cX1_moves.data.toList.drop 22 = dktX1_moves_1 := dk_seg dksX1_moves_0 22 rfl rfl
theorem dksX1_moves_2 : cX1_moves.data.toList.drop 46 = dktX1_moves_2 := dk_seg dksX1_moves_1 24 rfl rfl
theorem dksX1_moves_3 : cX1_moves.data.toList.drop 70 = dktX1_moves_3 := dk_seg dksX1_moves_2 24 rfl rfl
theorem dX1_moves_0 : decode cX1_moves 0 = .ok (.iconst 0, 1) := dk_3 (dk_at dksX1_moves_0 0 rfl rfl)
theorem dX1_moves_1 : decode cX1_moves 1 = .ok (.istore_n 3, 1) := dk_62 (dk_at dksX1_moves_0 1 rfl rfl)
theorem dX1_moves_2 : decode cX1_moves 2 = .ok (.iconst 0, 1) := dk_3 (dk_at dksX1_moves_0 2 rfl rfl)
theorem dX1_moves_3 : decode cX1_moves 3 = .ok (.istore 4, 2) := dk_54 4 (dk_at dksX1_moves_0 3 rfl rfl)
theorem dX1_moves_5 : decode cX1_moves 5 = .ok (.iconst 0, 1) := dk_3 (dk_at dksX1_moves_0 5 rfl rfl)
theorem dX1_moves_6 : decode cX1_moves 6 = .ok (.istore 5, 2) := dk_54 5 (dk_at dksX1_moves_0 6 rfl rfl)
theorem dX1_moves_8 : decode cX1_moves 8 = .ok (.iload 5, 2) := dk_21 5 (dk_at dksX1_moves_0 8 rfl rfl)
theorem dX1_moves_10 : decode cX1_moves 10 = .ok (.iload_n 1, 1) := dk_27 (dk_at dksX1_moves_0 10 rfl rfl)
theorem dX1_moves_11 : decode cX1_moves 11 = .ok (.if_icmp .ge 65, 3) := dk_162 0 65 (dk_at dksX1_moves_0 11 rfl rfl)
theorem dX1_moves_14 : decode cX1_moves 14 = .ok (.aload_n 0, 1) := dk_42 (dk_at dksX1_moves_0 14 rfl rfl)
theorem dX1_moves_15 : decode cX1_moves 15 = .ok (.getfield 39, 3) := dk_180 0 39 (dk_at dksX1_moves_0 15 rfl rfl)
theorem dX1_moves_18 : decode cX1_moves 18 = .ok (.iload 5, 2) := dk_21 5 (dk_at dksX1_moves_0 18 rfl rfl)
theorem dX1_moves_20 : decode cX1_moves 20 = .ok (.iaload, 1) := dk_46 (dk_at dksX1_moves_0 20 rfl rfl)
theorem dX1_moves_21 : decode cX1_moves 21 = .ok (.iload_n 2, 1) := dk_28 (dk_at dksX1_moves_0 21 rfl rfl)
theorem dX1_moves_22 : decode cX1_moves 22 = .ok (.if_icmp .ne 48, 3) := dk_160 0 48 (dk_at dksX1_moves_1 0 rfl rfl)
theorem dX1_moves_25 : decode cX1_moves 25 = .ok (.iinc 3 1, 3) := dk_132 3 1 (dk_at dksX1_moves_1 3 rfl rfl)
theorem dX1_moves_28 : decode cX1_moves 28 = .ok (.iload 4, 2) := dk_21 4 (dk_at dksX1_moves_1 6 rfl rfl)
theorem dX1_moves_30 : decode cX1_moves 30 = .ok (.aload_n 0, 1) := dk_42 (dk_at dksX1_moves_1 8 rfl rfl)
theorem dX1_moves_31 : decode cX1_moves 31 = .ok (.getfield 33, 3) := dk_180 0 33 (dk_at dksX1_moves_1 9 rfl rfl)
theorem dX1_moves_34 : decode cX1_moves 34 = .ok (.iload 5, 2) := dk_21 5 (dk_at dksX1_moves_1 12 rfl rfl)
theorem dX1_moves_36 : decode cX1_moves 36 = .ok (.invokevirtual 154, 3) := dk_182 0 154 (dk_at dksX1_moves_1 14 rfl rfl)
theorem dX1_moves_39 : decode cX1_moves 39 = .ok (.checkcast 158, 3) := dk_192 0 158 (dk_at dksX1_moves_1 17 rfl rfl)
theorem dX1_moves_42 : decode cX1_moves 42 = .ok (.getfield 272, 3) := dk_180 1 16 (dk_at dksX1_moves_1 20 rfl rfl)
theorem dX1_moves_45 : decode cX1_moves 45 = .ok (.aload_n 0, 1) := dk_42 (dk_at dksX1_moves_1 23 rfl rfl)
theorem dX1_moves_46 : decode cX1_moves 46 = .ok (.getfield 33, 3) := dk_180 0 33 (dk_at dksX1_moves_2 0 rfl rfl)
theorem dX1_moves_49 : decode cX1_moves 49 = .ok (.iload_n 1, 1) := dk_27 (dk_at dksX1_moves_2 3 rfl rfl)
theorem dX1_moves_50 : decode cX1_moves 50 = .ok (.invokevirtual 154, 3) := dk_182 0 154 (dk_at dksX1_moves_2 4 rfl rfl)
theorem dX1_moves_53 : decode cX1_moves 53 = .ok (.checkcast 158, 3) := dk_192 0 158 (dk_at dksX1_moves_2 7 rfl rfl)
theorem dX1_moves_56 : decode cX1_moves 56 = .ok (.getfield 272, 3) := dk_180 1 16 (dk_at dksX1_moves_2 10 rfl rfl)
theorem dX1_moves_59 : decode cX1_moves 59 = .ok (.if_icmp .ge 7, 3) := dk_162 0 7 (dk_at dksX1_moves_2 13 rfl rfl)
theorem dX1_moves_62 : decode cX1_moves 62 = .ok (.iconst 1, 1) := dk_4 (dk_at dksX1_moves_2 16 rfl rfl)
theorem dX1_moves_63 : decode cX1_moves 63 = .ok (.goto 4, 3) := dk_167 0 4 (dk_at dksX1_moves_2 17 rfl rfl)
theorem dX1_moves_66 : decode cX1_moves 66 = .ok (.iconst 0, 1) := dk_3 (dk_at dksX1_moves_2 20 rfl rfl)
theorem dX1_moves_67 : decode cX1_moves 67 = .ok (.iadd, 1) := dk_96 (dk_at dksX1_moves_2 21 rfl rfl)
theorem dX1_moves_68 : decode cX1_moves 68 = .ok (.istore 4, 2) := dk_54 4 (dk_at dksX1_moves_2 22 rfl rfl)
theorem dX1_moves_70 : decode cX1_moves 70 = .ok (.iinc 5 1, 3) := dk_132 5 1 (dk_at dksX1_moves_3 0 rfl rfl)
theorem dX1_moves_73 : decode cX1_moves 73 = .ok (.goto (-65), 3) := dk_167 255 191 (dk_at dksX1_moves_3 3 rfl rfl)
theorem dX1_moves_76 : decode cX1_moves 76 = .ok (.iload_n 3, 1) := dk_29 (dk_at dksX1_moves_3 6 rfl rfl)
theorem dX1_moves_77 : decode cX1_moves 77 = .ok (.iconst 4, 1) := dk_7 (dk_at dksX1_moves_3 7 rfl rfl)
theorem dX1_moves_78 : decode cX1_moves 78 = .ok (.if_icmp .ge 8, 3) := dk_162 0 8 (dk_at dksX1_moves_3 8 rfl rfl)
theorem dX1_moves_81 : decode cX1_moves 81 = .ok (.iload 4, 2) := dk_21 4 (dk_at dksX1_moves_3 11 rfl rfl)
theorem dX1_moves_83 : decode cX1_moves 83 = .ok (.goto 6, 3) := dk_167 0 6 (dk_at dksX1_moves_3 13 rfl rfl)
theorem dX1_moves_86 : decode cX1_moves 86 = .ok (.sipush 1000, 3) := dk_17 3 232 (dk_at dksX1_moves_3 16 rfl rfl)
theorem dX1_moves_89 : decode cX1_moves 89 = .ok (.ireturn, 1) := dk_172 (dk_at dksX1_moves_3 19 rfl rfl)
abbrev cX1_planAnew : ByteArray := prog_1_method_48_code
def yX1_planAnew : MethodName := ⟨RX1, "planAnew", "()I"⟩
def dkwX1_planAnew_0 : List UInt8 := [42, 180, 0, 33, 182, 0, 164, 153, 0, 7, 3, 167, 0, 8, 42, 3, 182, 1, 47, 172]
abbrev dktX1_planAnew_0 : List UInt8 := dkwX1_planAnew_0 ++ []
theorem dksX1_planAnew_0 : cX1_planAnew.data.toList.drop 0 = dktX1_planAnew_0 := by decide +kernel
theorem dX1_planAnew_0 : decode cX1_planAnew 0 = .ok (.aload_n 0, 1) := dk_42 (dk_at dksX1_planAnew_0 0 rfl rfl)
theorem dX1_planAnew_1 : decode cX1_planAnew 1 = .ok (.getfield 33, 3) := dk_180 0 33 (dk_at dksX1_planAnew_0 1 rfl rfl)
theorem dX1_planAnew_4 : decode cX1_planAnew 4 = .ok (.invokevirtual 164, 3) := dk_182 0 164 (dk_at dksX1_planAnew_0 4 rfl rfl)
theorem dX1_planAnew_7 : decode cX1_planAnew 7 = .ok (.ifCond .eq 7, 3) := dk_153 0 7 (dk_at dksX1_planAnew_0 7 rfl rfl)
theorem dX1_planAnew_10 : decode cX1_planAnew 10 = .ok (.iconst 0, 1) := dk_3 (dk_at dksX1_planAnew_0 10 rfl rfl)
theorem dX1_planAnew_11 : decode cX1_planAnew 11 = .ok (.goto 8, 3) := dk_167 0 8 (dk_at dksX1_planAnew_0 11 rfl rfl)
theorem dX1_planAnew_14 : decode cX1_planAnew 14 = .ok (.aload_n 0, 1) := dk_42 (dk_at dksX1_planAnew_0 14 rfl rfl)
theorem dX1_planAnew_15 : decode cX1_planAnew 15 = .ok (.iconst 0, 1) := dk_3 (dk_at dksX1_planAnew_0 15 rfl rfl)
theorem dX1_planAnew_16 : decode cX1_planAnew 16 = .ok (.invokevirtual 303, 3) := dk_182 1 47 (dk_at dksX1_planAnew_0 16 rfl rfl)
theorem dX1_planAnew_19 : decode cX1_planAnew 19 = .ok (.ireturn, 1) := dk_172 (dk_at dksX1_planAnew_0 19 rfl rfl)
abbrev cX1_part : ByteArray := prog_1_method_8_code
def yX1_part : MethodName := ⟨RX1, "part", "(III)I"⟩
def dkwX1_part_3 : List UInt8 := [182, 0, 75, 27, 28, 29, 183, 0, 82, 182, 0, 85, 192, 0, 62, 180, 0, 88, 172]
abbrev dktX1_part_3 : List UInt8 := dkwX1_part_3 ++ []
def dkwX1_part_2 : List UInt8 := [162, 0, 7, 4, 167, 0, 4, 3, 184, 0, 79, 42, 180, 0, 10, 187, 0, 62, 89, 42, 180, 0, 10]
abbrev dktX1_part_2 : List UInt8 := dkwX1_part_2 ++ dktX1_part_3
def dkwX1_part_1 : List UInt8 := [184, 0, 71, 153, 0, 7, 4, 167, 0, 4, 3, 184, 0, 68, 42, 180, 0, 10, 182, 0, 75, 16, 60]
abbrev dktX1_part_1 : List UInt8 := dkwX1_part_1 ++ dktX1_part_2
def dkwX1_part_0 : List UInt8 := [27, 3, 7, 184, 0, 71, 153, 0, 26, 28, 3, 16, 9, 184, 0, 71, 153, 0, 16, 29, 3, 6]
abbrev dktX1_part_0 : List UInt8 := dkwX1_part_0 ++ dktX1_part_1
theorem dksX1_part_0 : cX1_part.data.toList.drop 0 = dktX1_part_0 := by decide +kernel
theorem dksX1_part_1 : cX1_part.data.toList.drop 22 = dktX1_part_1 := dk_seg dksX1_part_0 22 rfl rfl
theorem dksX1_part_2 : cX1_part.data.toList.drop 45 = dktX1_part_2 := dk_seg dksX1_part_1 23 rfl rfl
theorem dksX1_part_3 : cX1_part.data.toList.drop 68 = dktX1_part_3 := dk_seg dksX1_part_2 23 rfl rfl
theorem dX1_part_0 : decode cX1_part 0 = .ok (.iload_n 1, 1) := dk_27 (dk_at dksX1_part_0 0 rfl rfl)
theorem dX1_part_1 : decode cX1_part 1 = .ok (.iconst 0, 1) := dk_3 (dk_at dksX1_part_0 1 rfl rfl)
theorem dX1_part_2 : decode cX1_part 2 = .ok (.iconst 4, 1) := dk_7 (dk_at dksX1_part_0 2 rfl rfl)
theorem dX1_part_3 : decode cX1_part 3 = .ok (.invokestatic 71, 3) := dk_184 0 71 (dk_at dksX1_part_0 3 rfl rfl)
theorem dX1_part_6 : decode cX1_part 6 = .ok (.ifCond .eq 26, 3) := dk_153 0 26 (dk_at dksX1_part_0 6 rfl rfl)
theorem dX1_part_9 : decode cX1_part 9 = .ok (.iload_n 2, 1) := dk_28 (dk_at dksX1_part_0 9 rfl rfl)
theorem dX1_part_10 : decode cX1_part 10 = .ok (.iconst 0, 1) := dk_3 (dk_at dksX1_part_0 10 rfl rfl)
theorem dX1_part_11 : decode cX1_part 11 = .ok (.bipush 9, 2) := dk_16 9 (dk_at dksX1_part_0 11 rfl rfl)
theorem dX1_part_13 : decode cX1_part 13 = .ok (.invokestatic 71, 3) := dk_184 0 71 (dk_at dksX1_part_0 13 rfl rfl)
theorem dX1_part_16 : decode cX1_part 16 = .ok (.ifCond .eq 16, 3) := dk_153 0 16 (dk_at dksX1_part_0 16 rfl rfl)
theorem dX1_part_19 : decode cX1_part 19 = .ok (.iload_n 3, 1) := dk_29 (dk_at dksX1_part_0 19 rfl rfl)
theorem dX1_part_20 : decode cX1_part 20 = .ok (.iconst 0, 1) := dk_3 (dk_at dksX1_part_0 20 rfl rfl)
theorem dX1_part_21 : decode cX1_part 21 = .ok (.iconst 3, 1) := dk_6 (dk_at dksX1_part_0 21 rfl rfl)
theorem dX1_part_22 : decode cX1_part 22 = .ok (.invokestatic 71, 3) := dk_184 0 71 (dk_at dksX1_part_1 0 rfl rfl)
theorem dX1_part_25 : decode cX1_part 25 = .ok (.ifCond .eq 7, 3) := dk_153 0 7 (dk_at dksX1_part_1 3 rfl rfl)
theorem dX1_part_28 : decode cX1_part 28 = .ok (.iconst 1, 1) := dk_4 (dk_at dksX1_part_1 6 rfl rfl)
theorem dX1_part_29 : decode cX1_part 29 = .ok (.goto 4, 3) := dk_167 0 4 (dk_at dksX1_part_1 7 rfl rfl)
theorem dX1_part_32 : decode cX1_part 32 = .ok (.iconst 0, 1) := dk_3 (dk_at dksX1_part_1 10 rfl rfl)
theorem dX1_part_33 : decode cX1_part 33 = .ok (.invokestatic 68, 3) := dk_184 0 68 (dk_at dksX1_part_1 11 rfl rfl)
theorem dX1_part_36 : decode cX1_part 36 = .ok (.aload_n 0, 1) := dk_42 (dk_at dksX1_part_1 14 rfl rfl)
theorem dX1_part_37 : decode cX1_part 37 = .ok (.getfield 10, 3) := dk_180 0 10 (dk_at dksX1_part_1 15 rfl rfl)
theorem dX1_part_40 : decode cX1_part 40 = .ok (.invokevirtual 75, 3) := dk_182 0 75 (dk_at dksX1_part_1 18 rfl rfl)
theorem dX1_part_43 : decode cX1_part 43 = .ok (.bipush 60, 2) := dk_16 60 (dk_at dksX1_part_1 21 rfl rfl)
theorem dX1_part_45 : decode cX1_part 45 = .ok (.if_icmp .ge 7, 3) := dk_162 0 7 (dk_at dksX1_part_2 0 rfl rfl)
theorem dX1_part_48 : decode cX1_part 48 = .ok (.iconst 1, 1) := dk_4 (dk_at dksX1_part_2 3 rfl rfl)
theorem dX1_part_49 : decode cX1_part 49 = .ok (.goto 4, 3) := dk_167 0 4 (dk_at dksX1_part_2 4 rfl rfl)
theorem dX1_part_52 : decode cX1_part 52 = .ok (.iconst 0, 1) := dk_3 (dk_at dksX1_part_2 7 rfl rfl)
theorem dX1_part_53 : decode cX1_part 53 = .ok (.invokestatic 79, 3) := dk_184 0 79 (dk_at dksX1_part_2 8 rfl rfl)
theorem dX1_part_56 : decode cX1_part 56 = .ok (.aload_n 0, 1) := dk_42 (dk_at dksX1_part_2 11 rfl rfl)
theorem dX1_part_57 : decode cX1_part 57 = .ok (.getfield 10, 3) := dk_180 0 10 (dk_at dksX1_part_2 12 rfl rfl)
theorem dX1_part_60 : decode cX1_part 60 = .ok (.new 62, 3) := dk_187 0 62 (dk_at dksX1_part_2 15 rfl rfl)
theorem dX1_part_63 : decode cX1_part 63 = .ok (.dup, 1) := dk_89 (dk_at dksX1_part_2 18 rfl rfl)
theorem dX1_part_64 : decode cX1_part 64 = .ok (.aload_n 0, 1) := dk_42 (dk_at dksX1_part_2 19 rfl rfl)
theorem dX1_part_65 : decode cX1_part 65 = .ok (.getfield 10, 3) := dk_180 0 10 (dk_at dksX1_part_2 20 rfl rfl)
theorem dX1_part_68 : decode cX1_part 68 = .ok (.invokevirtual 75, 3) := dk_182 0 75 (dk_at dksX1_part_3 0 rfl rfl)
theorem dX1_part_71 : decode cX1_part 71 = .ok (.iload_n 1, 1) := dk_27 (dk_at dksX1_part_3 3 rfl rfl)
theorem dX1_part_72 : decode cX1_part 72 = .ok (.iload_n 2, 1) := dk_28 (dk_at dksX1_part_3 4 rfl rfl)
theorem dX1_part_73 : decode cX1_part 73 = .ok (.iload_n 3, 1) := dk_29 (dk_at dksX1_part_3 5 rfl rfl)
theorem dX1_part_74 : decode cX1_part 74 = .ok (.invokespecial 82, 3) := dk_183 0 82 (dk_at dksX1_part_3 6 rfl rfl)
theorem dX1_part_77 : decode cX1_part 77 = .ok (.invokevirtual 85, 3) := dk_182 0 85 (dk_at dksX1_part_3 9 rfl rfl)
theorem dX1_part_80 : decode cX1_part 80 = .ok (.checkcast 62, 3) := dk_192 0 62 (dk_at dksX1_part_3 12 rfl rfl)
theorem dX1_part_83 : decode cX1_part 83 = .ok (.getfield 88, 3) := dk_180 0 88 (dk_at dksX1_part_3 15 rfl rfl)
theorem dX1_part_86 : decode cX1_part 86 = .ok (.ireturn, 1) := dk_172 (dk_at dksX1_part_3 18 rfl rfl)
abbrev cX1_in : ByteArray := prog_1_method_3_code
def yX1_in : MethodName := ⟨RX1, "in", "(III)Z"⟩
def dkwX1_in_0 : List UInt8 := [26, 27, 161, 0, 12, 26, 28, 163, 0, 7, 4, 167, 0, 4, 3, 172]
abbrev dktX1_in_0 : List UInt8 := dkwX1_in_0 ++ []
theorem dksX1_in_0 : cX1_in.data.toList.drop 0 = dktX1_in_0 := by decide +kernel
theorem dX1_in_0 : decode cX1_in 0 = .ok (.iload_n 0, 1) := dk_26 (dk_at dksX1_in_0 0 rfl rfl)
theorem dX1_in_1 : decode cX1_in 1 = .ok (.iload_n 1, 1) := dk_27 (dk_at dksX1_in_0 1 rfl rfl)
theorem dX1_in_2 : decode cX1_in 2 = .ok (.if_icmp .lt 12, 3) := dk_161 0 12 (dk_at dksX1_in_0 2 rfl rfl)
theorem dX1_in_5 : decode cX1_in 5 = .ok (.iload_n 0, 1) := dk_26 (dk_at dksX1_in_0 5 rfl rfl)
theorem dX1_in_6 : decode cX1_in 6 = .ok (.iload_n 2, 1) := dk_28 (dk_at dksX1_in_0 6 rfl rfl)
theorem dX1_in_7 : decode cX1_in 7 = .ok (.if_icmp .gt 7, 3) := dk_163 0 7 (dk_at dksX1_in_0 7 rfl rfl)
theorem dX1_in_10 : decode cX1_in 10 = .ok (.iconst 1, 1) := dk_4 (dk_at dksX1_in_0 10 rfl rfl)
theorem dX1_in_11 : decode cX1_in 11 = .ok (.goto 4, 3) := dk_167 0 4 (dk_at dksX1_in_0 11 rfl rfl)
theorem dX1_in_14 : decode cX1_in 14 = .ok (.iconst 0, 1) := dk_3 (dk_at dksX1_in_0 14 rfl rfl)
theorem dX1_in_15 : decode cX1_in 15 = .ok (.ireturn, 1) := dk_172 (dk_at dksX1_in_0 15 rfl rfl)
abbrev cX1_need : ByteArray := prog_1_method_5_code
def yX1_need : MethodName := ⟨RX1, "need", "(Z)V"⟩
def dkwX1_need_0 : List UInt8 := [26, 154, 0, 11, 187, 0, 52, 89, 183, 0, 54, 191, 177]
abbrev dktX1_need_0 : List UInt8 := dkwX1_need_0 ++ []
theorem dksX1_need_0 : cX1_need.data.toList.drop 0 = dktX1_need_0 := by decide +kernel
theorem dX1_need_0 : decode cX1_need 0 = .ok (.iload_n 0, 1) := dk_26 (dk_at dksX1_need_0 0 rfl rfl)
theorem dX1_need_1 : decode cX1_need 1 = .ok (.ifCond .ne 11, 3) := dk_154 0 11 (dk_at dksX1_need_0 1 rfl rfl)
theorem dX1_need_4 : decode cX1_need 4 = .ok (.new 52, 3) := dk_187 0 52 (dk_at dksX1_need_0 4 rfl rfl)
theorem dX1_need_7 : decode cX1_need 7 = .ok (.dup, 1) := dk_89 (dk_at dksX1_need_0 7 rfl rfl)
theorem dX1_need_8 : decode cX1_need 8 = .ok (.invokespecial 54, 3) := dk_183 0 54 (dk_at dksX1_need_0 8 rfl rfl)
theorem dX1_need_11 : decode cX1_need 11 = .ok (.athrow, 1) := dk_191 (dk_at dksX1_need_0 11 rfl rfl)
theorem dX1_need_12 : decode cX1_need 12 = .ok (.return_, 1) := dk_177 (dk_at dksX1_need_0 12 rfl rfl)
abbrev cX1_needState : ByteArray := prog_1_method_6_code
def yX1_needState : MethodName := ⟨RX1, "needState", "(Z)V"⟩
def dkwX1_needState_0 : List UInt8 := [26, 154, 0, 11, 187, 0, 55, 89, 183, 0, 57, 191, 177]
abbrev dktX1_needState_0 : List UInt8 := dkwX1_needState_0 ++ []
theorem dksX1_needState_0 : cX1_needState.data.toList.drop 0 = dktX1_needState_0 := by decide +kernel
theorem dX1_needState_0 : decode cX1_needState 0 = .ok (.iload_n 0, 1) := dk_26 (dk_at dksX1_needState_0 0 rfl rfl)
theorem dX1_needState_1 : decode cX1_needState 1 = .ok (.ifCond .ne 11, 3) := dk_154 0 11 (dk_at dksX1_needState_0 1 rfl rfl)
theorem dX1_needState_4 : decode cX1_needState 4 = .ok (.new 55, 3) := dk_187 0 55 (dk_at dksX1_needState_0 4 rfl rfl)
theorem dX1_needState_7 : decode cX1_needState 7 = .ok (.dup, 1) := dk_89 (dk_at dksX1_needState_0 7 rfl rfl)
theorem dX1_needState_8 : decode cX1_needState 8 = .ok (.invokespecial 57, 3) := dk_183 0 57 (dk_at dksX1_needState_0 8 rfl rfl)
theorem dX1_needState_11 : decode cX1_needState 11 = .ok (.athrow, 1) := dk_191 (dk_at dksX1_needState_0 11 rfl rfl)
theorem dX1_needState_12 : decode cX1_needState 12 = .ok (.return_, 1) := dk_177 (dk_at dksX1_needState_0 12 rfl rfl)
abbrev cX1_limits : ByteArray := prog_1_method_9_code
def yX1_limits : MethodName := ⟨RX1, "limits", "(IIII)I"⟩
def dkwX1_limits_3 : List UInt8 := [79, 42, 180, 0, 23, 27, 21, 4, 79, 21, 5, 172]
abbrev dktX1_limits_3 : List UInt8 := dkwX1_limits_3 ++ []
def dkwX1_limits_2 : List UInt8 := [184, 0, 68, 42, 180, 0, 16, 27, 46, 54, 5, 42, 180, 0, 16, 27, 28, 79, 42, 180, 0, 20, 27, 29]
abbrev dktX1_limits_2 : List UInt8 := dkwX1_limits_2 ++ dktX1_limits_3
def dkwX1_limits_1 : List UInt8 := [184, 0, 71, 153, 0, 18, 21, 4, 3, 18, 91, 184, 0, 71, 153, 0, 7, 4, 167, 0, 4, 3]
abbrev dktX1_limits_1 : List UInt8 := dkwX1_limits_1 ++ dktX1_limits_2
def dkwX1_limits_0 : List UInt8 := [27, 3, 7, 184, 0, 71, 153, 0, 38, 28, 3, 18, 91, 184, 0, 71, 153, 0, 28, 29, 3, 18, 91]
abbrev dktX1_limits_0 : List UInt8 := dkwX1_limits_0 ++ dktX1_limits_1
theorem dksX1_limits_0 : cX1_limits.data.toList.drop 0 = dktX1_limits_0 := by decide +kernel
theorem dksX1_limits_1 : cX1_limits.data.toList.drop 23 = dktX1_limits_1 := dk_seg dksX1_limits_0 23 rfl rfl
theorem dksX1_limits_2 : cX1_limits.data.toList.drop 45 = dktX1_limits_2 := dk_seg dksX1_limits_1 22 rfl rfl
theorem dksX1_limits_3 : cX1_limits.data.toList.drop 69 = dktX1_limits_3 := dk_seg dksX1_limits_2 24 rfl rfl
theorem dX1_limits_0 : decode cX1_limits 0 = .ok (.iload_n 1, 1) := dk_27 (dk_at dksX1_limits_0 0 rfl rfl)
theorem dX1_limits_1 : decode cX1_limits 1 = .ok (.iconst 0, 1) := dk_3 (dk_at dksX1_limits_0 1 rfl rfl)
theorem dX1_limits_2 : decode cX1_limits 2 = .ok (.iconst 4, 1) := dk_7 (dk_at dksX1_limits_0 2 rfl rfl)
theorem dX1_limits_3 : decode cX1_limits 3 = .ok (.invokestatic 71, 3) := dk_184 0 71 (dk_at dksX1_limits_0 3 rfl rfl)
theorem dX1_limits_6 : decode cX1_limits 6 = .ok (.ifCond .eq 38, 3) := dk_153 0 38 (dk_at dksX1_limits_0 6 rfl rfl)
theorem dX1_limits_9 : decode cX1_limits 9 = .ok (.iload_n 2, 1) := dk_28 (dk_at dksX1_limits_0 9 rfl rfl)
theorem dX1_limits_10 : decode cX1_limits 10 = .ok (.iconst 0, 1) := dk_3 (dk_at dksX1_limits_0 10 rfl rfl)
theorem dX1_limits_11 : decode cX1_limits 11 = .ok (.ldc 91, 2) := dk_18 91 (dk_at dksX1_limits_0 11 rfl rfl)
theorem dX1_limits_13 : decode cX1_limits 13 = .ok (.invokestatic 71, 3) := dk_184 0 71 (dk_at dksX1_limits_0 13 rfl rfl)
theorem dX1_limits_16 : decode cX1_limits 16 = .ok (.ifCond .eq 28, 3) := dk_153 0 28 (dk_at dksX1_limits_0 16 rfl rfl)
theorem dX1_limits_19 : decode cX1_limits 19 = .ok (.iload_n 3, 1) := dk_29 (dk_at dksX1_limits_0 19 rfl rfl)
theorem dX1_limits_20 : decode cX1_limits 20 = .ok (.iconst 0, 1) := dk_3 (dk_at dksX1_limits_0 20 rfl rfl)
theorem dX1_limits_21 : decode cX1_limits 21 = .ok (.ldc 91, 2) := dk_18 91 (dk_at dksX1_limits_0 21 rfl rfl)
theorem dX1_limits_23 : decode cX1_limits 23 = .ok (.invokestatic 71, 3) := dk_184 0 71 (dk_at dksX1_limits_1 0 rfl rfl)
theorem dX1_limits_26 : decode cX1_limits 26 = .ok (.ifCond .eq 18, 3) := dk_153 0 18 (dk_at dksX1_limits_1 3 rfl rfl)
theorem dX1_limits_29 : decode cX1_limits 29 = .ok (.iload 4, 2) := dk_21 4 (dk_at dksX1_limits_1 6 rfl rfl)
theorem dX1_limits_31 : decode cX1_limits 31 = .ok (.iconst 0, 1) := dk_3 (dk_at dksX1_limits_1 8 rfl rfl)
theorem dX1_limits_32 : decode cX1_limits 32 = .ok (.ldc 91, 2) := dk_18 91 (dk_at dksX1_limits_1 9 rfl rfl)
theorem dX1_limits_34 : decode cX1_limits 34 = .ok (.invokestatic 71, 3) := dk_184 0 71 (dk_at dksX1_limits_1 11 rfl rfl)
theorem dX1_limits_37 : decode cX1_limits 37 = .ok (.ifCond .eq 7, 3) := dk_153 0 7 (dk_at dksX1_limits_1 14 rfl rfl)
theorem dX1_limits_40 : decode cX1_limits 40 = .ok (.iconst 1, 1) := dk_4 (dk_at dksX1_limits_1 17 rfl rfl)
theorem dX1_limits_41 : decode cX1_limits 41 = .ok (.goto 4, 3) := dk_167 0 4 (dk_at dksX1_limits_1 18 rfl rfl)
theorem dX1_limits_44 : decode cX1_limits 44 = .ok (.iconst 0, 1) := dk_3 (dk_at dksX1_limits_1 21 rfl rfl)
theorem dX1_limits_45 : decode cX1_limits 45 = .ok (.invokestatic 68, 3) := dk_184 0 68 (dk_at dksX1_limits_2 0 rfl rfl)
theorem dX1_limits_48 : decode cX1_limits 48 = .ok (.aload_n 0, 1) := dk_42 (dk_at dksX1_limits_2 3 rfl rfl)
theorem dX1_limits_49 : decode cX1_limits 49 = .ok (.getfield 16, 3) := dk_180 0 16 (dk_at dksX1_limits_2 4 rfl rfl)
theorem dX1_limits_52 : decode cX1_limits 52 = .ok (.iload_n 1, 1) := dk_27 (dk_at dksX1_limits_2 7 rfl rfl)
theorem dX1_limits_53 : decode cX1_limits 53 = .ok (.iaload, 1) := dk_46 (dk_at dksX1_limits_2 8 rfl rfl)
theorem dX1_limits_54 : decode cX1_limits 54 = .ok (.istore 5, 2) := dk_54 5 (dk_at dksX1_limits_2 9 rfl rfl)
theorem dX1_limits_56 : decode cX1_limits 56 = .ok (.aload_n 0, 1) := dk_42 (dk_at dksX1_limits_2 11 rfl rfl)
theorem dX1_limits_57 : decode cX1_limits 57 = .ok (.getfield 16, 3) := dk_180 0 16 (dk_at dksX1_limits_2 12 rfl rfl)
theorem dX1_limits_60 : decode cX1_limits 60 = .ok (.iload_n 1, 1) := dk_27 (dk_at dksX1_limits_2 15 rfl rfl)
theorem dX1_limits_61 : decode cX1_limits 61 = .ok (.iload_n 2, 1) := dk_28 (dk_at dksX1_limits_2 16 rfl rfl)
theorem dX1_limits_62 : decode cX1_limits 62 = .ok (.iastore, 1) := dk_79 (dk_at dksX1_limits_2 17 rfl rfl)
theorem dX1_limits_63 : decode cX1_limits 63 = .ok (.aload_n 0, 1) := dk_42 (dk_at dksX1_limits_2 18 rfl rfl)
theorem dX1_limits_64 : decode cX1_limits 64 = .ok (.getfield 20, 3) := dk_180 0 20 (dk_at dksX1_limits_2 19 rfl rfl)
theorem dX1_limits_67 : decode cX1_limits 67 = .ok (.iload_n 1, 1) := dk_27 (dk_at dksX1_limits_2 22 rfl rfl)
theorem dX1_limits_68 : decode cX1_limits 68 = .ok (.iload_n 3, 1) := dk_29 (dk_at dksX1_limits_2 23 rfl rfl)
theorem dX1_limits_69 : decode cX1_limits 69 = .ok (.iastore, 1) := dk_79 (dk_at dksX1_limits_3 0 rfl rfl)
theorem dX1_limits_70 : decode cX1_limits 70 = .ok (.aload_n 0, 1) := dk_42 (dk_at dksX1_limits_3 1 rfl rfl)
theorem dX1_limits_71 : decode cX1_limits 71 = .ok (.getfield 23, 3) := dk_180 0 23 (dk_at dksX1_limits_3 2 rfl rfl)
theorem dX1_limits_74 : decode cX1_limits 74 = .ok (.iload_n 1, 1) := dk_27 (dk_at dksX1_limits_3 5 rfl rfl)
theorem dX1_limits_75 : decode cX1_limits 75 = .ok (.iload 4, 2) := dk_21 4 (dk_at dksX1_limits_3 6 rfl rfl)
theorem dX1_limits_77 : decode cX1_limits 77 = .ok (.iastore, 1) := dk_79 (dk_at dksX1_limits_3 8 rfl rfl)
theorem dX1_limits_78 : decode cX1_limits 78 = .ok (.iload 5, 2) := dk_21 5 (dk_at dksX1_limits_3 9 rfl rfl)
theorem dX1_limits_80 : decode cX1_limits 80 = .ok (.ireturn, 1) := dk_172 (dk_at dksX1_limits_3 11 rfl rfl)
abbrev cX1_fit : ByteArray := prog_1_method_10_code
def yX1_fit : MethodName := ⟨RX1, "fit", "(II)I"⟩
def dkwX1_fit_7 : List UInt8 := [187, 0, 141, 89, 45, 25, 4, 3, 183, 0, 143, 182, 0, 45, 87, 25, 4, 180, 0, 121, 182, 0, 146, 172]
abbrev dktX1_fit_7 : List UInt8 := dkwX1_fit_7 ++ []
def dkwX1_fit_6 : List UInt8 := [87, 45, 180, 0, 124, 25, 4, 182, 0, 128, 25, 4, 182, 0, 134, 3, 181, 0, 138, 42, 180, 0, 29]
abbrev dktX1_fit_6 : List UInt8 := dkwX1_fit_6 ++ dktX1_fit_7
def dkwX1_fit_5 : List UInt8 := [184, 0, 116, 4, 163, 0, 7, 4, 167, 0, 4, 3, 184, 0, 79, 25, 4, 180, 0, 121, 45, 182, 0, 45]
abbrev dktX1_fit_5 : List UInt8 := dkwX1_fit_5 ++ dktX1_fit_6
def dkwX1_fit_4 : List UInt8 := [25, 4, 45, 180, 0, 64, 182, 0, 92, 162, 0, 24, 45, 180, 0, 113, 25, 4, 180, 0, 113, 100]
abbrev dktX1_fit_4 : List UInt8 := dkwX1_fit_4 ++ dktX1_fit_5
def dkwX1_fit_3 : List UInt8 := [182, 0, 107, 154, 0, 7, 4, 167, 0, 4, 3, 184, 0, 79, 25, 4, 45, 180, 0, 64, 182, 0, 110]
abbrev dktX1_fit_3 : List UInt8 := dkwX1_fit_3 ++ dktX1_fit_4
def dkwX1_fit_2 : List UInt8 := [182, 0, 96, 153, 0, 30, 45, 180, 0, 100, 154, 0, 23, 25, 4, 180, 0, 104, 154, 0, 15, 25, 4]
abbrev dktX1_fit_2 : List UInt8 := dkwX1_fit_2 ++ dktX1_fit_3
def dkwX1_fit_1 : List UInt8 := [58, 4, 25, 4, 45, 180, 0, 64, 182, 0, 92, 158, 0, 7, 4, 167, 0, 4, 3, 184, 0, 68, 45]
abbrev dktX1_fit_1 : List UInt8 := dkwX1_fit_1 ++ dktX1_fit_2
def dkwX1_fit_0 : List UInt8 := [42, 180, 0, 10, 27, 182, 0, 58, 192, 0, 62, 78, 42, 180, 0, 10, 28, 182, 0, 58, 192, 0, 62]
abbrev dktX1_fit_0 : List UInt8 := dkwX1_fit_0 ++ dktX1_fit_1
theorem dksX1_fit_0 : cX1_fit.data.toList.drop 0 = dktX1_fit_0 := by decide +kernel
theorem dksX1_fit_1 : cX1_fit.data.toList.drop 23 = dktX1_fit_1 := dk_seg dksX1_fit_0 23 rfl rfl
theorem dksX1_fit_2 : cX1_fit.data.toList.drop 46 = dktX1_fit_2 := dk_seg dksX1_fit_1 23 rfl rfl
theorem dksX1_fit_3 : cX1_fit.data.toList.drop 69 = dktX1_fit_3 := dk_seg dksX1_fit_2 23 rfl rfl
theorem dksX1_fit_4 : cX1_fit.data.toList.drop 92 = dktX1_fit_4 := dk_seg dksX1_fit_3 23 rfl rfl
theorem dksX1_fit_5 : cX1_fit.data.toList.drop 114 = dktX1_fit_5 := dk_seg dksX1_fit_4 22 rfl rfl
theorem dksX1_fit_6 : cX1_fit.data.toList.drop 138 = dktX1_fit_6 := dk_seg dksX1_fit_5 24 rfl rfl
theorem dksX1_fit_7 : cX1_fit.data.toList.drop 161 = dktX1_fit_7 := dk_seg dksX1_fit_6 23 rfl rfl
theorem dX1_fit_0 : decode cX1_fit 0 = .ok (.aload_n 0, 1) := dk_42 (dk_at dksX1_fit_0 0 rfl rfl)
theorem dX1_fit_1 : decode cX1_fit 1 = .ok (.getfield 10, 3) := dk_180 0 10 (dk_at dksX1_fit_0 1 rfl rfl)
theorem dX1_fit_4 : decode cX1_fit 4 = .ok (.iload_n 1, 1) := dk_27 (dk_at dksX1_fit_0 4 rfl rfl)
theorem dX1_fit_5 : decode cX1_fit 5 = .ok (.invokevirtual 58, 3) := dk_182 0 58 (dk_at dksX1_fit_0 5 rfl rfl)
theorem dX1_fit_8 : decode cX1_fit 8 = .ok (.checkcast 62, 3) := dk_192 0 62 (dk_at dksX1_fit_0 8 rfl rfl)
theorem dX1_fit_11 : decode cX1_fit 11 = .ok (.astore_n 3, 1) := dk_78 (dk_at dksX1_fit_0 11 rfl rfl)
theorem dX1_fit_12 : decode cX1_fit 12 = .ok (.aload_n 0, 1) := dk_42 (dk_at dksX1_fit_0 12 rfl rfl)
theorem dX1_fit_13 : decode cX1_fit 13 = .ok (.getfield 10, 3) := dk_180 0 10 (dk_at dksX1_fit_0 13 rfl rfl)
theorem dX1_fit_16 : decode cX1_fit 16 = .ok (.iload_n 2, 1) := dk_28 (dk_at dksX1_fit_0 16 rfl rfl)
theorem dX1_fit_17 : decode cX1_fit 17 = .ok (.invokevirtual 58, 3) := dk_182 0 58 (dk_at dksX1_fit_0 17 rfl rfl)
theorem dX1_fit_20 : decode cX1_fit 20 = .ok (.checkcast 62, 3) := dk_192 0 62 (dk_at dksX1_fit_0 20 rfl rfl)
theorem dX1_fit_23 : decode cX1_fit 23 = .ok (.astore 4, 2) := dk_58 4 (dk_at dksX1_fit_1 0 rfl rfl)
theorem dX1_fit_25 : decode cX1_fit 25 = .ok (.aload 4, 2) := dk_25 4 (dk_at dksX1_fit_1 2 rfl rfl)
theorem dX1_fit_27 : decode cX1_fit 27 = .ok (.aload_n 3, 1) := dk_45 (dk_at dksX1_fit_1 4 rfl rfl)
theorem dX1_fit_28 : decode cX1_fit 28 = .ok (.getfield 64, 3) := dk_180 0 64 (dk_at dksX1_fit_1 5 rfl rfl)
theorem dX1_fit_31 : decode cX1_fit 31 = .ok (.invokevirtual 92, 3) := dk_182 0 92 (dk_at dksX1_fit_1 8 rfl rfl)
theorem dX1_fit_34 : decode cX1_fit 34 = .ok (.ifCond .le 7, 3) := dk_158 0 7 (dk_at dksX1_fit_1 11 rfl rfl)
theorem dX1_fit_37 : decode cX1_fit 37 = .ok (.iconst 1, 1) := dk_4 (dk_at dksX1_fit_1 14 rfl rfl)
theorem dX1_fit_38 : decode cX1_fit 38 = .ok (.goto 4, 3) := dk_167 0 4 (dk_at dksX1_fit_1 15 rfl rfl)
theorem dX1_fit_41 : decode cX1_fit 41 = .ok (.iconst 0, 1) := dk_3 (dk_at dksX1_fit_1 18 rfl rfl)
theorem dX1_fit_42 : decode cX1_fit 42 = .ok (.invokestatic 68, 3) := dk_184 0 68 (dk_at dksX1_fit_1 19 rfl rfl)
theorem dX1_fit_45 : decode cX1_fit 45 = .ok (.aload_n 3, 1) := dk_45 (dk_at dksX1_fit_1 22 rfl rfl)
theorem dX1_fit_46 : decode cX1_fit 46 = .ok (.invokevirtual 96, 3) := dk_182 0 96 (dk_at dksX1_fit_2 0 rfl rfl)
theorem dX1_fit_49 : decode cX1_fit 49 = .ok (.ifCond .eq 30, 3) := dk_153 0 30 (dk_at dksX1_fit_2 3 rfl rfl)
theorem dX1_fit_52 : decode cX1_fit 52 = .ok (.aload_n 3, 1) := dk_45 (dk_at dksX1_fit_2 6 rfl rfl)
theorem dX1_fit_53 : decode cX1_fit 53 = .ok (.getfield 100, 3) := dk_180 0 100 (dk_at dksX1_fit_2 7 rfl rfl)
theorem dX1_fit_56 : decode cX1_fit 56 = .ok (.ifCond .ne 23, 3) := dk_154 0 23 (dk_at dksX1_fit_2 10 rfl rfl)
theorem dX1_fit_59 : decode cX1_fit 59 = .ok (.aload 4, 2) := dk_25 4 (dk_at dksX1_fit_2 13 rfl rfl)
theorem dX1_fit_61 : decode cX1_fit 61 = .ok (.getfield 104, 3) := dk_180 0 104 (dk_at dksX1_fit_2 15 rfl rfl)
theorem dX1_fit_64 : decode cX1_fit 64 = .ok (.ifCond .ne 15, 3) := dk_154 0 15 (dk_at dksX1_fit_2 18 rfl rfl)
theorem dX1_fit_67 : decode cX1_fit 67 = .ok (.aload 4, 2) := dk_25 4 (dk_at dksX1_fit_2 21 rfl rfl)
theorem dX1_fit_69 : decode cX1_fit 69 = .ok (.invokevirtual 107, 3) := dk_182 0 107 (dk_at dksX1_fit_3 0 rfl rfl)
theorem dX1_fit_72 : decode cX1_fit 72 = .ok (.ifCond .ne 7, 3) := dk_154 0 7 (dk_at dksX1_fit_3 3 rfl rfl)
theorem dX1_fit_75 : decode cX1_fit 75 = .ok (.iconst 1, 1) := dk_4 (dk_at dksX1_fit_3 6 rfl rfl)
theorem dX1_fit_76 : decode cX1_fit 76 = .ok (.goto 4, 3) := dk_167 0 4 (dk_at dksX1_fit_3 7 rfl rfl)
theorem dX1_fit_79 : decode cX1_fit 79 = .ok (.iconst 0, 1) := dk_3 (dk_at dksX1_fit_3 10 rfl rfl)
theorem dX1_fit_80 : decode cX1_fit 80 = .ok (.invokestatic 79, 3) := dk_184 0 79 (dk_at dksX1_fit_3 11 rfl rfl)
theorem dX1_fit_83 : decode cX1_fit 83 = .ok (.aload 4, 2) := dk_25 4 (dk_at dksX1_fit_3 14 rfl rfl)
theorem dX1_fit_85 : decode cX1_fit 85 = .ok (.aload_n 3, 1) := dk_45 (dk_at dksX1_fit_3 16 rfl rfl)
theorem dX1_fit_86 : decode cX1_fit 86 = .ok (.getfield 64, 3) := dk_180 0 64 (dk_at dksX1_fit_3 17 rfl rfl)
theorem dX1_fit_89 : decode cX1_fit 89 = .ok (.invokevirtual 110, 3) := dk_182 0 110 (dk_at dksX1_fit_3 20 rfl rfl)
theorem dX1_fit_92 : decode cX1_fit 92 = .ok (.aload 4, 2) := dk_25 4 (dk_at dksX1_fit_4 0 rfl rfl)
theorem dX1_fit_94 : decode cX1_fit 94 = .ok (.aload_n 3, 1) := dk_45 (dk_at dksX1_fit_4 2 rfl rfl)
theorem dX1_fit_95 : decode cX1_fit 95 = .ok (.getfield 64, 3) := dk_180 0 64 (dk_at dksX1_fit_4 3 rfl rfl)
theorem dX1_fit_98 : decode cX1_fit 98 = .ok (.invokevirtual 92, 3) := dk_182 0 92 (dk_at dksX1_fit_4 6 rfl rfl)
theorem dX1_fit_101 : decode cX1_fit 101 = .ok (.if_icmp .ge 24, 3) := dk_162 0 24 (dk_at dksX1_fit_4 9 rfl rfl)
theorem dX1_fit_104 : decode cX1_fit 104 = .ok (.aload_n 3, 1) := dk_45 (dk_at dksX1_fit_4 12 rfl rfl)
theorem dX1_fit_105 : decode cX1_fit 105 = .ok (.getfield 113, 3) := dk_180 0 113 (dk_at dksX1_fit_4 13 rfl rfl)
theorem dX1_fit_108 : decode cX1_fit 108 = .ok (.aload 4, 2) := dk_25 4 (dk_at dksX1_fit_4 16 rfl rfl)
theorem dX1_fit_110 : decode cX1_fit 110 = .ok (.getfield 113, 3) := dk_180 0 113 (dk_at dksX1_fit_4 18 rfl rfl)
theorem dX1_fit_113 : decode cX1_fit 113 = .ok (.isub, 1) := dk_100 (dk_at dksX1_fit_4 21 rfl rfl)
theorem dX1_fit_114 : decode cX1_fit 114 = .ok (.invokestatic 116, 3) := dk_184 0 116 (dk_at dksX1_fit_5 0 rfl rfl)
theorem dX1_fit_117 : decode cX1_fit 117 = .ok (.iconst 1, 1) := dk_4 (dk_at dksX1_fit_5 3 rfl rfl)
theorem dX1_fit_118 : decode cX1_fit 118 = .ok (.if_icmp .gt 7, 3) := dk_163 0 7 (dk_at dksX1_fit_5 4 rfl rfl)
theorem dX1_fit_121 : decode cX1_fit 121 = .ok (.iconst 1, 1) := dk_4 (dk_at dksX1_fit_5 7 rfl rfl)
theorem dX1_fit_122 : decode cX1_fit 122 = .ok (.goto 4, 3) := dk_167 0 4 (dk_at dksX1_fit_5 8 rfl rfl)
theorem dX1_fit_125 : decode cX1_fit 125 = .ok (.iconst 0, 1) := dk_3 (dk_at dksX1_fit_5 11 rfl rfl)
theorem dX1_fit_126 : decode cX1_fit 126 = .ok (.invokestatic 79, 3) := dk_184 0 79 (dk_at dksX1_fit_5 12 rfl rfl)
theorem dX1_fit_129 : decode cX1_fit 129 = .ok (.aload 4, 2) := dk_25 4 (dk_at dksX1_fit_5 15 rfl rfl)
theorem dX1_fit_131 : decode cX1_fit 131 = .ok (.getfield 121, 3) := dk_180 0 121 (dk_at dksX1_fit_5 17 rfl rfl)
theorem dX1_fit_134 : decode cX1_fit 134 = .ok (.aload_n 3, 1) := dk_45 (dk_at dksX1_fit_5 20 rfl rfl)
theorem dX1_fit_135 : decode cX1_fit 135 = .ok (.invokevirtual 45, 3) := dk_182 0 45 (dk_at dksX1_fit_5 21 rfl rfl)
theorem dX1_fit_138 : decode cX1_fit 138 = .ok (.pop, 1) := dk_87 (dk_at dksX1_fit_6 0 rfl rfl)
theorem dX1_fit_139 : decode cX1_fit 139 = .ok (.aload_n 3, 1) := dk_45 (dk_at dksX1_fit_6 1 rfl rfl)
theorem dX1_fit_140 : decode cX1_fit 140 = .ok (.getfield 124, 3) := dk_180 0 124 (dk_at dksX1_fit_6 2 rfl rfl)
theorem dX1_fit_143 : decode cX1_fit 143 = .ok (.aload 4, 2) := dk_25 4 (dk_at dksX1_fit_6 5 rfl rfl)
theorem dX1_fit_145 : decode cX1_fit 145 = .ok (.invokevirtual 128, 3) := dk_182 0 128 (dk_at dksX1_fit_6 7 rfl rfl)
theorem dX1_fit_148 : decode cX1_fit 148 = .ok (.aload 4, 2) := dk_25 4 (dk_at dksX1_fit_6 10 rfl rfl)
theorem dX1_fit_150 : decode cX1_fit 150 = .ok (.invokevirtual 134, 3) := dk_182 0 134 (dk_at dksX1_fit_6 12 rfl rfl)
theorem dX1_fit_153 : decode cX1_fit 153 = .ok (.iconst 0, 1) := dk_3 (dk_at dksX1_fit_6 15 rfl rfl)
theorem dX1_fit_154 : decode cX1_fit 154 = .ok (.putfield 138, 3) := dk_181 0 138 (dk_at dksX1_fit_6 16 rfl rfl)
theorem dX1_fit_157 : decode cX1_fit 157 = .ok (.aload_n 0, 1) := dk_42 (dk_at dksX1_fit_6 19 rfl rfl)
theorem dX1_fit_158 : decode cX1_fit 158 = .ok (.getfield 29, 3) := dk_180 0 29 (dk_at dksX1_fit_6 20 rfl rfl)
theorem dX1_fit_161 : decode cX1_fit 161 = .ok (.new 141, 3) := dk_187 0 141 (dk_at dksX1_fit_7 0 rfl rfl)
theorem dX1_fit_164 : decode cX1_fit 164 = .ok (.dup, 1) := dk_89 (dk_at dksX1_fit_7 3 rfl rfl)
theorem dX1_fit_165 : decode cX1_fit 165 = .ok (.aload_n 3, 1) := dk_45 (dk_at dksX1_fit_7 4 rfl rfl)
theorem dX1_fit_166 : decode cX1_fit 166 = .ok (.aload 4, 2) := dk_25 4 (dk_at dksX1_fit_7 5 rfl rfl)
theorem dX1_fit_168 : decode cX1_fit 168 = .ok (.iconst 0, 1) := dk_3 (dk_at dksX1_fit_7 7 rfl rfl)
theorem dX1_fit_169 : decode cX1_fit 169 = .ok (.invokespecial 143, 3) := dk_183 0 143 (dk_at dksX1_fit_7 8 rfl rfl)
theorem dX1_fit_172 : decode cX1_fit 172 = .ok (.invokevirtual 45, 3) := dk_182 0 45 (dk_at dksX1_fit_7 11 rfl rfl)
theorem dX1_fit_175 : decode cX1_fit 175 = .ok (.pop, 1) := dk_87 (dk_at dksX1_fit_7 14 rfl rfl)
theorem dX1_fit_176 : decode cX1_fit 176 = .ok (.aload 4, 2) := dk_25 4 (dk_at dksX1_fit_7 15 rfl rfl)
theorem dX1_fit_178 : decode cX1_fit 178 = .ok (.getfield 121, 3) := dk_180 0 121 (dk_at dksX1_fit_7 17 rfl rfl)
theorem dX1_fit_181 : decode cX1_fit 181 = .ok (.invokevirtual 146, 3) := dk_182 0 146 (dk_at dksX1_fit_7 20 rfl rfl)
theorem dX1_fit_184 : decode cX1_fit 184 = .ok (.ireturn, 1) := dk_172 (dk_at dksX1_fit_7 23 rfl rfl)
abbrev cX1_needIndex : ByteArray := prog_1_method_4_code
def yX1_needIndex : MethodName := ⟨RX1, "needIndex", "(Z)V"⟩
def dkwX1_needIndex_0 : List UInt8 := [26, 154, 0, 11, 187, 0, 49, 89, 183, 0, 51, 191, 177]
abbrev dktX1_needIndex_0 : List UInt8 := dkwX1_needIndex_0 ++ []
theorem dksX1_needIndex_0 : cX1_needIndex.data.toList.drop 0 = dktX1_needIndex_0 := by decide +kernel
theorem dX1_needIndex_0 : decode cX1_needIndex 0 = .ok (.iload_n 0, 1) := dk_26 (dk_at dksX1_needIndex_0 0 rfl rfl)
theorem dX1_needIndex_1 : decode cX1_needIndex 1 = .ok (.ifCond .ne 11, 3) := dk_154 0 11 (dk_at dksX1_needIndex_0 1 rfl rfl)
theorem dX1_needIndex_4 : decode cX1_needIndex 4 = .ok (.new 49, 3) := dk_187 0 49 (dk_at dksX1_needIndex_0 4 rfl rfl)
theorem dX1_needIndex_7 : decode cX1_needIndex 7 = .ok (.dup, 1) := dk_89 (dk_at dksX1_needIndex_0 7 rfl rfl)
theorem dX1_needIndex_8 : decode cX1_needIndex 8 = .ok (.invokespecial 51, 3) := dk_183 0 51 (dk_at dksX1_needIndex_0 8 rfl rfl)
theorem dX1_needIndex_11 : decode cX1_needIndex 11 = .ok (.athrow, 1) := dk_191 (dk_at dksX1_needIndex_0 11 rfl rfl)
theorem dX1_needIndex_12 : decode cX1_needIndex 12 = .ok (.return_, 1) := dk_177 (dk_at dksX1_needIndex_0 12 rfl rfl)
abbrev cX1_take : ByteArray := prog_1_method_11_code
def yX1_take : MethodName := ⟨RX1, "take", "(I)I"⟩
def dkwX1_take_3 : List UInt8 := [187, 0, 141, 89, 44, 1, 3, 183, 0, 143, 182, 0, 45, 87, 45, 180, 0, 88, 172]
abbrev dktX1_take_3 : List UInt8 := dkwX1_take_3 ++ []
def dkwX1_take_2 : List UInt8 := [181, 0, 138, 45, 180, 0, 121, 44, 182, 0, 151, 87, 44, 180, 0, 124, 1, 182, 0, 128, 42, 180, 0, 29]
abbrev dktX1_take_2 : List UInt8 := dkwX1_take_2 ++ dktX1_take_3
def dkwX1_take_1 : List UInt8 := [198, 0, 14, 44, 182, 0, 107, 154, 0, 7, 4, 167, 0, 4, 3, 184, 0, 79, 45, 182, 0, 134, 3]
abbrev dktX1_take_1 : List UInt8 := dkwX1_take_1 ++ dktX1_take_2
def dkwX1_take_0 : List UInt8 := [42, 180, 0, 10, 27, 182, 0, 58, 192, 0, 62, 77, 44, 180, 0, 124, 180, 0, 147, 192, 0, 62, 78, 45]
abbrev dktX1_take_0 : List UInt8 := dkwX1_take_0 ++ dktX1_take_1
theorem dksX1_take_0 : cX1_take.data.toList.drop 0 = dktX1_take_0 := by decide +kernel
theorem dksX1_take_1 : cX1_take.data.toList.drop 24 = dktX1_take_1 := dk_seg dksX1_take_0 24 rfl rfl
theorem dksX1_take_2 : cX1_take.data.toList.drop 47 = dktX1_take_2 := dk_seg dksX1_take_1 23 rfl rfl
theorem dksX1_take_3 : cX1_take.data.toList.drop 71 = dktX1_take_3 := dk_seg dksX1_take_2 24 rfl rfl
theorem dX1_take_0 : decode cX1_take 0 = .ok (.aload_n 0, 1) := dk_42 (dk_at dksX1_take_0 0 rfl rfl)
theorem dX1_take_1 : decode cX1_take 1 = .ok (.getfield 10, 3) := dk_180 0 10 (dk_at dksX1_take_0 1 rfl rfl)
theorem dX1_take_4 : decode cX1_take 4 = .ok (.iload_n 1, 1) := dk_27 (dk_at dksX1_take_0 4 rfl rfl)
theorem dX1_take_5 : decode cX1_take 5 = .ok (.invokevirtual 58, 3) := dk_182 0 58 (dk_at dksX1_take_0 5 rfl rfl)
theorem dX1_take_8 : decode cX1_take 8 = .ok (.checkcast 62, 3) := dk_192 0 62 (dk_at dksX1_take_0 8 rfl rfl)
theorem dX1_take_11 : decode cX1_take 11 = .ok (.astore_n 2, 1) := dk_77 (dk_at dksX1_take_0 11 rfl rfl)
theorem dX1_take_12 : decode cX1_take 12 = .ok (.aload_n 2, 1) := dk_44 (dk_at dksX1_take_0 12 rfl rfl)
theorem dX1_take_13 : decode cX1_take 13 = .ok (.getfield 124, 3) := dk_180 0 124 (dk_at dksX1_take_0 13 rfl rfl)
theorem dX1_take_16 : decode cX1_take 16 = .ok (.getfield 147, 3) := dk_180 0 147 (dk_at dksX1_take_0 16 rfl rfl)
theorem dX1_take_19 : decode cX1_take 19 = .ok (.checkcast 62, 3) := dk_192 0 62 (dk_at dksX1_take_0 19 rfl rfl)
theorem dX1_take_22 : decode cX1_take 22 = .ok (.astore_n 3, 1) := dk_78 (dk_at dksX1_take_0 22 rfl rfl)
theorem dX1_take_23 : decode cX1_take 23 = .ok (.aload_n 3, 1) := dk_45 (dk_at dksX1_take_0 23 rfl rfl)
theorem dX1_take_24 : decode cX1_take 24 = .ok (.ifnull 14, 3) := dk_198 0 14 (dk_at dksX1_take_1 0 rfl rfl)
theorem dX1_take_27 : decode cX1_take 27 = .ok (.aload_n 2, 1) := dk_44 (dk_at dksX1_take_1 3 rfl rfl)
theorem dX1_take_28 : decode cX1_take 28 = .ok (.invokevirtual 107, 3) := dk_182 0 107 (dk_at dksX1_take_1 4 rfl rfl)
theorem dX1_take_31 : decode cX1_take 31 = .ok (.ifCond .ne 7, 3) := dk_154 0 7 (dk_at dksX1_take_1 7 rfl rfl)
theorem dX1_take_34 : decode cX1_take 34 = .ok (.iconst 1, 1) := dk_4 (dk_at dksX1_take_1 10 rfl rfl)
theorem dX1_take_35 : decode cX1_take 35 = .ok (.goto 4, 3) := dk_167 0 4 (dk_at dksX1_take_1 11 rfl rfl)
theorem dX1_take_38 : decode cX1_take 38 = .ok (.iconst 0, 1) := dk_3 (dk_at dksX1_take_1 14 rfl rfl)
theorem dX1_take_39 : decode cX1_take 39 = .ok (.invokestatic 79, 3) := dk_184 0 79 (dk_at dksX1_take_1 15 rfl rfl)
theorem dX1_take_42 : decode cX1_take 42 = .ok (.aload_n 3, 1) := dk_45 (dk_at dksX1_take_1 18 rfl rfl)
theorem dX1_take_43 : decode cX1_take 43 = .ok (.invokevirtual 134, 3) := dk_182 0 134 (dk_at dksX1_take_1 19 rfl rfl)
theorem dX1_take_46 : decode cX1_take 46 = .ok (.iconst 0, 1) := dk_3 (dk_at dksX1_take_1 22 rfl rfl)
theorem dX1_take_47 : decode cX1_take 47 = .ok (.putfield 138, 3) := dk_181 0 138 (dk_at dksX1_take_2 0 rfl rfl)
theorem dX1_take_50 : decode cX1_take 50 = .ok (.aload_n 3, 1) := dk_45 (dk_at dksX1_take_2 3 rfl rfl)
theorem dX1_take_51 : decode cX1_take 51 = .ok (.getfield 121, 3) := dk_180 0 121 (dk_at dksX1_take_2 4 rfl rfl)
theorem dX1_take_54 : decode cX1_take 54 = .ok (.aload_n 2, 1) := dk_44 (dk_at dksX1_take_2 7 rfl rfl)
theorem dX1_take_55 : decode cX1_take 55 = .ok (.invokevirtual 151, 3) := dk_182 0 151 (dk_at dksX1_take_2 8 rfl rfl)
theorem dX1_take_58 : decode cX1_take 58 = .ok (.pop, 1) := dk_87 (dk_at dksX1_take_2 11 rfl rfl)
theorem dX1_take_59 : decode cX1_take 59 = .ok (.aload_n 2, 1) := dk_44 (dk_at dksX1_take_2 12 rfl rfl)
theorem dX1_take_60 : decode cX1_take 60 = .ok (.getfield 124, 3) := dk_180 0 124 (dk_at dksX1_take_2 13 rfl rfl)
theorem dX1_take_63 : decode cX1_take 63 = .ok (.aconst_null, 1) := dk_1 (dk_at dksX1_take_2 16 rfl rfl)
theorem dX1_take_64 : decode cX1_take 64 = .ok (.invokevirtual 128, 3) := dk_182 0 128 (dk_at dksX1_take_2 17 rfl rfl)
theorem dX1_take_67 : decode cX1_take 67 = .ok (.aload_n 0, 1) := dk_42 (dk_at dksX1_take_2 20 rfl rfl)
theorem dX1_take_68 : decode cX1_take 68 = .ok (.getfield 29, 3) := dk_180 0 29 (dk_at dksX1_take_2 21 rfl rfl)
theorem dX1_take_71 : decode cX1_take 71 = .ok (.new 141, 3) := dk_187 0 141 (dk_at dksX1_take_3 0 rfl rfl)
theorem dX1_take_74 : decode cX1_take 74 = .ok (.dup, 1) := dk_89 (dk_at dksX1_take_3 3 rfl rfl)
theorem dX1_take_75 : decode cX1_take 75 = .ok (.aload_n 2, 1) := dk_44 (dk_at dksX1_take_3 4 rfl rfl)
theorem dX1_take_76 : decode cX1_take 76 = .ok (.aconst_null, 1) := dk_1 (dk_at dksX1_take_3 5 rfl rfl)
theorem dX1_take_77 : decode cX1_take 77 = .ok (.iconst 0, 1) := dk_3 (dk_at dksX1_take_3 6 rfl rfl)
theorem dX1_take_78 : decode cX1_take 78 = .ok (.invokespecial 143, 3) := dk_183 0 143 (dk_at dksX1_take_3 7 rfl rfl)
theorem dX1_take_81 : decode cX1_take 81 = .ok (.invokevirtual 45, 3) := dk_182 0 45 (dk_at dksX1_take_3 10 rfl rfl)
theorem dX1_take_84 : decode cX1_take 84 = .ok (.pop, 1) := dk_87 (dk_at dksX1_take_3 13 rfl rfl)
theorem dX1_take_85 : decode cX1_take 85 = .ok (.aload_n 3, 1) := dk_45 (dk_at dksX1_take_3 14 rfl rfl)
theorem dX1_take_86 : decode cX1_take 86 = .ok (.getfield 88, 3) := dk_180 0 88 (dk_at dksX1_take_3 15 rfl rfl)
theorem dX1_take_89 : decode cX1_take 89 = .ok (.ireturn, 1) := dk_172 (dk_at dksX1_take_3 18 rfl rfl)
abbrev cX1_scrap : ByteArray := prog_1_method_13_code
def yX1_scrap : MethodName := ⟨RX1, "scrap", "(I)V"⟩
def dkwX1_scrap_3 : List UInt8 := [182, 0, 128, 177]
abbrev dktX1_scrap_3 : List UInt8 := dkwX1_scrap_3 ++ []
def dkwX1_scrap_2 : List UInt8 := [167, 0, 4, 3, 184, 0, 79, 44, 4, 181, 0, 104, 44, 3, 181, 0, 138, 44, 180, 0, 124, 1]
abbrev dktX1_scrap_2 : List UInt8 := dkwX1_scrap_2 ++ dktX1_scrap_3
def dkwX1_scrap_1 : List UInt8 := [182, 0, 164, 153, 0, 22, 44, 182, 0, 107, 154, 0, 15, 42, 44, 182, 0, 167, 154, 0, 7, 4]
abbrev dktX1_scrap_1 : List UInt8 := dkwX1_scrap_1 ++ dktX1_scrap_2
def dkwX1_scrap_0 : List UInt8 := [42, 180, 0, 10, 27, 182, 0, 58, 192, 0, 62, 77, 44, 182, 0, 96, 153, 0, 32, 44, 180, 0, 121]
abbrev dktX1_scrap_0 : List UInt8 := dkwX1_scrap_0 ++ dktX1_scrap_1
theorem dksX1_scrap_0 : cX1_scrap.data.toList.drop 0 = dktX1_scrap_0 := by decide +kernel
theorem dksX1_scrap_1 : cX1_scrap.data.toList.drop 23 = dktX1_scrap_1 := dk_seg dksX1_scrap_0 23 rfl rfl
theorem dksX1_scrap_2 : cX1_scrap.data.toList.drop 45 = dktX1_scrap_2 := dk_seg dksX1_scrap_1 22 rfl rfl
theorem dksX1_scrap_3 : cX1_scrap.data.toList.drop 67 = dktX1_scrap_3 := dk_seg dksX1_scrap_2 22 rfl rfl
theorem dX1_scrap_0 : decode cX1_scrap 0 = .ok (.aload_n 0, 1) := dk_42 (dk_at dksX1_scrap_0 0 rfl rfl)
theorem dX1_scrap_1 : decode cX1_scrap 1 = .ok (.getfield 10, 3) := dk_180 0 10 (dk_at dksX1_scrap_0 1 rfl rfl)
theorem dX1_scrap_4 : decode cX1_scrap 4 = .ok (.iload_n 1, 1) := dk_27 (dk_at dksX1_scrap_0 4 rfl rfl)
theorem dX1_scrap_5 : decode cX1_scrap 5 = .ok (.invokevirtual 58, 3) := dk_182 0 58 (dk_at dksX1_scrap_0 5 rfl rfl)
theorem dX1_scrap_8 : decode cX1_scrap 8 = .ok (.checkcast 62, 3) := dk_192 0 62 (dk_at dksX1_scrap_0 8 rfl rfl)
theorem dX1_scrap_11 : decode cX1_scrap 11 = .ok (.astore_n 2, 1) := dk_77 (dk_at dksX1_scrap_0 11 rfl rfl)
theorem dX1_scrap_12 : decode cX1_scrap 12 = .ok (.aload_n 2, 1) := dk_44 (dk_at dksX1_scrap_0 12 rfl rfl)
theorem dX1_scrap_13 : decode cX1_scrap 13 = .ok (.invokevirtual 96, 3) := dk_182 0 96 (dk_at dksX1_scrap_0 13 rfl rfl)
theorem dX1_scrap_16 : decode cX1_scrap 16 = .ok (.ifCond .eq 32, 3) := dk_153 0 32 (dk_at dksX1_scrap_0 16 rfl rfl)
theorem dX1_scrap_19 : decode cX1_scrap 19 = .ok (.aload_n 2, 1) := dk_44 (dk_at dksX1_scrap_0 19 rfl rfl)
theorem dX1_scrap_20 : decode cX1_scrap 20 = .ok (.getfield 121, 3) := dk_180 0 121 (dk_at dksX1_scrap_0 20 rfl rfl)
theorem dX1_scrap_23 : decode cX1_scrap 23 = .ok (.invokevirtual 164, 3) := dk_182 0 164 (dk_at dksX1_scrap_1 0 rfl rfl)
theorem dX1_scrap_26 : decode cX1_scrap 26 = .ok (.ifCond .eq 22, 3) := dk_153 0 22 (dk_at dksX1_scrap_1 3 rfl rfl)
theorem dX1_scrap_29 : decode cX1_scrap 29 = .ok (.aload_n 2, 1) := dk_44 (dk_at dksX1_scrap_1 6 rfl rfl)
theorem dX1_scrap_30 : decode cX1_scrap 30 = .ok (.invokevirtual 107, 3) := dk_182 0 107 (dk_at dksX1_scrap_1 7 rfl rfl)
theorem dX1_scrap_33 : decode cX1_scrap 33 = .ok (.ifCond .ne 15, 3) := dk_154 0 15 (dk_at dksX1_scrap_1 10 rfl rfl)
theorem dX1_scrap_36 : decode cX1_scrap 36 = .ok (.aload_n 0, 1) := dk_42 (dk_at dksX1_scrap_1 13 rfl rfl)
theorem dX1_scrap_37 : decode cX1_scrap 37 = .ok (.aload_n 2, 1) := dk_44 (dk_at dksX1_scrap_1 14 rfl rfl)
theorem dX1_scrap_38 : decode cX1_scrap 38 = .ok (.invokevirtual 167, 3) := dk_182 0 167 (dk_at dksX1_scrap_1 15 rfl rfl)
theorem dX1_scrap_41 : decode cX1_scrap 41 = .ok (.ifCond .ne 7, 3) := dk_154 0 7 (dk_at dksX1_scrap_1 18 rfl rfl)
theorem dX1_scrap_44 : decode cX1_scrap 44 = .ok (.iconst 1, 1) := dk_4 (dk_at dksX1_scrap_1 21 rfl rfl)
theorem dX1_scrap_45 : decode cX1_scrap 45 = .ok (.goto 4, 3) := dk_167 0 4 (dk_at dksX1_scrap_2 0 rfl rfl)
theorem dX1_scrap_48 : decode cX1_scrap 48 = .ok (.iconst 0, 1) := dk_3 (dk_at dksX1_scrap_2 3 rfl rfl)
theorem dX1_scrap_49 : decode cX1_scrap 49 = .ok (.invokestatic 79, 3) := dk_184 0 79 (dk_at dksX1_scrap_2 4 rfl rfl)
theorem dX1_scrap_52 : decode cX1_scrap 52 = .ok (.aload_n 2, 1) := dk_44 (dk_at dksX1_scrap_2 7 rfl rfl)
theorem dX1_scrap_53 : decode cX1_scrap 53 = .ok (.iconst 1, 1) := dk_4 (dk_at dksX1_scrap_2 8 rfl rfl)
theorem dX1_scrap_54 : decode cX1_scrap 54 = .ok (.putfield 104, 3) := dk_181 0 104 (dk_at dksX1_scrap_2 9 rfl rfl)
theorem dX1_scrap_57 : decode cX1_scrap 57 = .ok (.aload_n 2, 1) := dk_44 (dk_at dksX1_scrap_2 12 rfl rfl)
theorem dX1_scrap_58 : decode cX1_scrap 58 = .ok (.iconst 0, 1) := dk_3 (dk_at dksX1_scrap_2 13 rfl rfl)
theorem dX1_scrap_59 : decode cX1_scrap 59 = .ok (.putfield 138, 3) := dk_181 0 138 (dk_at dksX1_scrap_2 14 rfl rfl)
theorem dX1_scrap_62 : decode cX1_scrap 62 = .ok (.aload_n 2, 1) := dk_44 (dk_at dksX1_scrap_2 17 rfl rfl)
theorem dX1_scrap_63 : decode cX1_scrap 63 = .ok (.getfield 124, 3) := dk_180 0 124 (dk_at dksX1_scrap_2 18 rfl rfl)
theorem dX1_scrap_66 : decode cX1_scrap 66 = .ok (.aconst_null, 1) := dk_1 (dk_at dksX1_scrap_2 21 rfl rfl)
theorem dX1_scrap_67 : decode cX1_scrap 67 = .ok (.invokevirtual 128, 3) := dk_182 0 128 (dk_at dksX1_scrap_3 0 rfl rfl)
theorem dX1_scrap_70 : decode cX1_scrap 70 = .ok (.return_, 1) := dk_177 (dk_at dksX1_scrap_3 3 rfl rfl)
abbrev cX1_waits : ByteArray := prog_1_method_12_code
def yX1_waits : MethodName := ⟨RX1, "waits", "(LWheelWorks$Part;)Z"⟩
def dkwX1_waits_2 : List UInt8 := [172]
abbrev dktX1_waits_2 : List UInt8 := dkwX1_waits_2 ++ []
def dkwX1_waits_1 : List UInt8 := [192, 0, 158, 180, 0, 160, 43, 166, 0, 7, 4, 167, 0, 4, 3, 128, 61, 132, 3, 1, 167, 255, 216, 28]
abbrev dktX1_waits_1 : List UInt8 := dkwX1_waits_1 ++ dktX1_waits_2
def dkwX1_waits_0 : List UInt8 := [3, 61, 3, 62, 29, 42, 180, 0, 33, 182, 0, 146, 162, 0, 35, 28, 42, 180, 0, 33, 29, 182, 0, 154]
abbrev dktX1_waits_0 : List UInt8 := dkwX1_waits_0 ++ dktX1_waits_1
theorem dksX1_waits_0 : cX1_waits.data.toList.drop 0 = dktX1_waits_0 := by decide +kernel
theorem dksX1_waits_1 : cX1_waits.data.toList.drop 24 = dktX1_waits_1 := dk_seg dksX1_waits_0 24 rfl rfl
theorem dksX1_waits_2 : cX1_waits.data.toList.drop 48 = dktX1_waits_2 := dk_seg dksX1_waits_1 24 rfl rfl
theorem dX1_waits_0 : decode cX1_waits 0 = .ok (.iconst 0, 1) := dk_3 (dk_at dksX1_waits_0 0 rfl rfl)
theorem dX1_waits_1 : decode cX1_waits 1 = .ok (.istore_n 2, 1) := dk_61 (dk_at dksX1_waits_0 1 rfl rfl)
theorem dX1_waits_2 : decode cX1_waits 2 = .ok (.iconst 0, 1) := dk_3 (dk_at dksX1_waits_0 2 rfl rfl)
theorem dX1_waits_3 : decode cX1_waits 3 = .ok (.istore_n 3, 1) := dk_62 (dk_at dksX1_waits_0 3 rfl rfl)
theorem dX1_waits_4 : decode cX1_waits 4 = .ok (.iload_n 3, 1) := dk_29 (dk_at dksX1_waits_0 4 rfl rfl)
theorem dX1_waits_5 : decode cX1_waits 5 = .ok (.aload_n 0, 1) := dk_42 (dk_at dksX1_waits_0 5 rfl rfl)
theorem dX1_waits_6 : decode cX1_waits 6 = .ok (.getfield 33, 3) := dk_180 0 33 (dk_at dksX1_waits_0 6 rfl rfl)
theorem dX1_waits_9 : decode cX1_waits 9 = .ok (.invokevirtual 146, 3) := dk_182 0 146 (dk_at dksX1_waits_0 9 rfl rfl)
theorem dX1_waits_12 : decode cX1_waits 12 = .ok (.if_icmp .ge 35, 3) := dk_162 0 35 (dk_at dksX1_waits_0 12 rfl rfl)
theorem dX1_waits_15 : decode cX1_waits 15 = .ok (.iload_n 2, 1) := dk_28 (dk_at dksX1_waits_0 15 rfl rfl)
theorem dX1_waits_16 : decode cX1_waits 16 = .ok (.aload_n 0, 1) := dk_42 (dk_at dksX1_waits_0 16 rfl rfl)
theorem dX1_waits_17 : decode cX1_waits 17 = .ok (.getfield 33, 3) := dk_180 0 33 (dk_at dksX1_waits_0 17 rfl rfl)
theorem dX1_waits_20 : decode cX1_waits 20 = .ok (.iload_n 3, 1) := dk_29 (dk_at dksX1_waits_0 20 rfl rfl)
theorem dX1_waits_21 : decode cX1_waits 21 = .ok (.invokevirtual 154, 3) := dk_182 0 154 (dk_at dksX1_waits_0 21 rfl rfl)
theorem dX1_waits_24 : decode cX1_waits 24 = .ok (.checkcast 158, 3) := dk_192 0 158 (dk_at dksX1_waits_1 0 rfl rfl)
theorem dX1_waits_27 : decode cX1_waits 27 = .ok (.getfield 160, 3) := dk_180 0 160 (dk_at dksX1_waits_1 3 rfl rfl)
theorem dX1_waits_30 : decode cX1_waits 30 = .ok (.aload_n 1, 1) := dk_43 (dk_at dksX1_waits_1 6 rfl rfl)
theorem dX1_waits_31 : decode cX1_waits 31 = .ok (.if_acmp .ne 7, 3) := dk_166 0 7 (dk_at dksX1_waits_1 7 rfl rfl)
theorem dX1_waits_34 : decode cX1_waits 34 = .ok (.iconst 1, 1) := dk_4 (dk_at dksX1_waits_1 10 rfl rfl)
theorem dX1_waits_35 : decode cX1_waits 35 = .ok (.goto 4, 3) := dk_167 0 4 (dk_at dksX1_waits_1 11 rfl rfl)
theorem dX1_waits_38 : decode cX1_waits 38 = .ok (.iconst 0, 1) := dk_3 (dk_at dksX1_waits_1 14 rfl rfl)
theorem dX1_waits_39 : decode cX1_waits 39 = .ok (.ior, 1) := dk_128 (dk_at dksX1_waits_1 15 rfl rfl)
theorem dX1_waits_40 : decode cX1_waits 40 = .ok (.istore_n 2, 1) := dk_61 (dk_at dksX1_waits_1 16 rfl rfl)
theorem dX1_waits_41 : decode cX1_waits 41 = .ok (.iinc 3 1, 3) := dk_132 3 1 (dk_at dksX1_waits_1 17 rfl rfl)
theorem dX1_waits_44 : decode cX1_waits 44 = .ok (.goto (-40), 3) := dk_167 255 216 (dk_at dksX1_waits_1 20 rfl rfl)
theorem dX1_waits_47 : decode cX1_waits 47 = .ok (.iload_n 2, 1) := dk_28 (dk_at dksX1_waits_1 23 rfl rfl)
theorem dX1_waits_48 : decode cX1_waits 48 = .ok (.ireturn, 1) := dk_172 (dk_at dksX1_waits_2 0 rfl rfl)
abbrev cX1_run : ByteArray := prog_1_method_14_code
def yX1_run : MethodName := ⟨RX1, "run", "(III)I"⟩
def dkwX1_run_5 : List UInt8 := [25, 5, 199, 0, 5, 2, 172, 25, 4, 182, 0, 191, 25, 5, 180, 0, 88, 172]
abbrev dktX1_run_5 : List UInt8 := dkwX1_run_5 ++ []
def dkwX1_run_4 : List UInt8 := [87, 42, 180, 0, 10, 187, 0, 182, 89, 42, 25, 4, 183, 0, 184, 182, 0, 187, 192, 0, 62, 58, 5]
abbrev dktX1_run_4 : List UInt8 := dkwX1_run_4 ++ dktX1_run_5
def dkwX1_run_3 : List UInt8 := [184, 0, 175, 182, 0, 178, 42, 180, 0, 29, 187, 0, 141, 89, 25, 4, 1, 28, 183, 0, 143, 182, 0, 45]
abbrev dktX1_run_3 : List UInt8 := dkwX1_run_3 ++ dktX1_run_4
def dkwX1_run_2 : List UInt8 := [182, 0, 107, 154, 0, 7, 4, 167, 0, 4, 3, 184, 0, 79, 25, 4, 3, 181, 0, 138, 25, 4, 28, 29]
abbrev dktX1_run_2 : List UInt8 := dkwX1_run_2 ++ dktX1_run_3
def dkwX1_run_1 : List UInt8 := [184, 0, 71, 153, 0, 7, 4, 167, 0, 4, 3, 184, 0, 68, 25, 4, 180, 0, 138, 153, 0, 15, 25, 4]
abbrev dktX1_run_1 : List UInt8 := dkwX1_run_1 ++ dktX1_run_2
def dkwX1_run_0 : List UInt8 := [42, 27, 3, 182, 0, 171, 58, 4, 28, 4, 17, 7, 208, 184, 0, 71, 153, 0, 16, 29, 3, 6]
abbrev dktX1_run_0 : List UInt8 := dkwX1_run_0 ++ dktX1_run_1
theorem dksX1_run_0 : cX1_run.data.toList.drop 0 = dktX1_run_0 := by decide +kernel
theorem dksX1_run_1 : cX1_run.data.toList.drop 22 = dktX1_run_1 := dk_seg dksX1_run_0 22 rfl rfl
theorem dksX1_run_2 : cX1_run.data.toList.drop 46 = dktX1_run_2 := dk_seg dksX1_run_1 24 rfl rfl
theorem dksX1_run_3 : cX1_run.data.toList.drop 70 = dktX1_run_3 := dk_seg dksX1_run_2 24 rfl rfl
theorem dksX1_run_4 : cX1_run.data.toList.drop 94 = dktX1_run_4 := dk_seg dksX1_run_3 24 rfl rfl
theorem dksX1_run_5 : cX1_run.data.toList.drop 117 = dktX1_run_5 := dk_seg dksX1_run_4 23 rfl rfl
theorem dX1_run_0 : decode cX1_run 0 = .ok (.aload_n 0, 1) := dk_42 (dk_at dksX1_run_0 0 rfl rfl)
theorem dX1_run_1 : decode cX1_run 1 = .ok (.iload_n 1, 1) := dk_27 (dk_at dksX1_run_0 1 rfl rfl)
theorem dX1_run_2 : decode cX1_run 2 = .ok (.iconst 0, 1) := dk_3 (dk_at dksX1_run_0 2 rfl rfl)
theorem dX1_run_3 : decode cX1_run 3 = .ok (.invokevirtual 171, 3) := dk_182 0 171 (dk_at dksX1_run_0 3 rfl rfl)
theorem dX1_run_6 : decode cX1_run 6 = .ok (.astore 4, 2) := dk_58 4 (dk_at dksX1_run_0 6 rfl rfl)
theorem dX1_run_8 : decode cX1_run 8 = .ok (.iload_n 2, 1) := dk_28 (dk_at dksX1_run_0 8 rfl rfl)
theorem dX1_run_9 : decode cX1_run 9 = .ok (.iconst 1, 1) := dk_4 (dk_at dksX1_run_0 9 rfl rfl)
theorem dX1_run_10 : decode cX1_run 10 = .ok (.sipush 2000, 3) := dk_17 7 208 (dk_at dksX1_run_0 10 rfl rfl)
theorem dX1_run_13 : decode cX1_run 13 = .ok (.invokestatic 71, 3) := dk_184 0 71 (dk_at dksX1_run_0 13 rfl rfl)
theorem dX1_run_16 : decode cX1_run 16 = .ok (.ifCond .eq 16, 3) := dk_153 0 16 (dk_at dksX1_run_0 16 rfl rfl)
theorem dX1_run_19 : decode cX1_run 19 = .ok (.iload_n 3, 1) := dk_29 (dk_at dksX1_run_0 19 rfl rfl)
theorem dX1_run_20 : decode cX1_run 20 = .ok (.iconst 0, 1) := dk_3 (dk_at dksX1_run_0 20 rfl rfl)
theorem dX1_run_21 : decode cX1_run 21 = .ok (.iconst 3, 1) := dk_6 (dk_at dksX1_run_0 21 rfl rfl)
theorem dX1_run_22 : decode cX1_run 22 = .ok (.invokestatic 71, 3) := dk_184 0 71 (dk_at dksX1_run_1 0 rfl rfl)
theorem dX1_run_25 : decode cX1_run 25 = .ok (.ifCond .eq 7, 3) := dk_153 0 7 (dk_at dksX1_run_1 3 rfl rfl)
theorem dX1_run_28 : decode cX1_run 28 = .ok (.iconst 1, 1) := dk_4 (dk_at dksX1_run_1 6 rfl rfl)
theorem dX1_run_29 : decode cX1_run 29 = .ok (.goto 4, 3) := dk_167 0 4 (dk_at dksX1_run_1 7 rfl rfl)
theorem dX1_run_32 : decode cX1_run 32 = .ok (.iconst 0, 1) := dk_3 (dk_at dksX1_run_1 10 rfl rfl)
theorem dX1_run_33 : decode cX1_run 33 = .ok (.invokestatic 68, 3) := dk_184 0 68 (dk_at dksX1_run_1 11 rfl rfl)
theorem dX1_run_36 : decode cX1_run 36 = .ok (.aload 4, 2) := dk_25 4 (dk_at dksX1_run_1 14 rfl rfl)
theorem dX1_run_38 : decode cX1_run 38 = .ok (.getfield 138, 3) := dk_180 0 138 (dk_at dksX1_run_1 16 rfl rfl)
theorem dX1_run_41 : decode cX1_run 41 = .ok (.ifCond .eq 15, 3) := dk_153 0 15 (dk_at dksX1_run_1 19 rfl rfl)
theorem dX1_run_44 : decode cX1_run 44 = .ok (.aload 4, 2) := dk_25 4 (dk_at dksX1_run_1 22 rfl rfl)
theorem dX1_run_46 : decode cX1_run 46 = .ok (.invokevirtual 107, 3) := dk_182 0 107 (dk_at dksX1_run_2 0 rfl rfl)
theorem dX1_run_49 : decode cX1_run 49 = .ok (.ifCond .ne 7, 3) := dk_154 0 7 (dk_at dksX1_run_2 3 rfl rfl)
theorem dX1_run_52 : decode cX1_run 52 = .ok (.iconst 1, 1) := dk_4 (dk_at dksX1_run_2 6 rfl rfl)
theorem dX1_run_53 : decode cX1_run 53 = .ok (.goto 4, 3) := dk_167 0 4 (dk_at dksX1_run_2 7 rfl rfl)
theorem dX1_run_56 : decode cX1_run 56 = .ok (.iconst 0, 1) := dk_3 (dk_at dksX1_run_2 10 rfl rfl)
theorem dX1_run_57 : decode cX1_run 57 = .ok (.invokestatic 79, 3) := dk_184 0 79 (dk_at dksX1_run_2 11 rfl rfl)
theorem dX1_run_60 : decode cX1_run 60 = .ok (.aload 4, 2) := dk_25 4 (dk_at dksX1_run_2 14 rfl rfl)
theorem dX1_run_62 : decode cX1_run 62 = .ok (.iconst 0, 1) := dk_3 (dk_at dksX1_run_2 16 rfl rfl)
theorem dX1_run_63 : decode cX1_run 63 = .ok (.putfield 138, 3) := dk_181 0 138 (dk_at dksX1_run_2 17 rfl rfl)
theorem dX1_run_66 : decode cX1_run 66 = .ok (.aload 4, 2) := dk_25 4 (dk_at dksX1_run_2 20 rfl rfl)
theorem dX1_run_68 : decode cX1_run 68 = .ok (.iload_n 2, 1) := dk_28 (dk_at dksX1_run_2 22 rfl rfl)
theorem dX1_run_69 : decode cX1_run 69 = .ok (.iload_n 3, 1) := dk_29 (dk_at dksX1_run_2 23 rfl rfl)
theorem dX1_run_70 : decode cX1_run 70 = .ok (.invokestatic 175, 3) := dk_184 0 175 (dk_at dksX1_run_3 0 rfl rfl)
theorem dX1_run_73 : decode cX1_run 73 = .ok (.invokevirtual 178, 3) := dk_182 0 178 (dk_at dksX1_run_3 3 rfl rfl)
theorem dX1_run_76 : decode cX1_run 76 = .ok (.aload_n 0, 1) := dk_42 (dk_at dksX1_run_3 6 rfl rfl)
theorem dX1_run_77 : decode cX1_run 77 = .ok (.getfield 29, 3) := dk_180 0 29 (dk_at dksX1_run_3 7 rfl rfl)
theorem dX1_run_80 : decode cX1_run 80 = .ok (.new 141, 3) := dk_187 0 141 (dk_at dksX1_run_3 10 rfl rfl)
theorem dX1_run_83 : decode cX1_run 83 = .ok (.dup, 1) := dk_89 (dk_at dksX1_run_3 13 rfl rfl)
theorem dX1_run_84 : decode cX1_run 84 = .ok (.aload 4, 2) := dk_25 4 (dk_at dksX1_run_3 14 rfl rfl)
theorem dX1_run_86 : decode cX1_run 86 = .ok (.aconst_null, 1) := dk_1 (dk_at dksX1_run_3 16 rfl rfl)
theorem dX1_run_87 : decode cX1_run 87 = .ok (.iload_n 2, 1) := dk_28 (dk_at dksX1_run_3 17 rfl rfl)
theorem dX1_run_88 : decode cX1_run 88 = .ok (.invokespecial 143, 3) := dk_183 0 143 (dk_at dksX1_run_3 18 rfl rfl)
theorem dX1_run_91 : decode cX1_run 91 = .ok (.invokevirtual 45, 3) := dk_182 0 45 (dk_at dksX1_run_3 21 rfl rfl)
theorem dX1_run_94 : decode cX1_run 94 = .ok (.pop, 1) := dk_87 (dk_at dksX1_run_4 0 rfl rfl)
theorem dX1_run_95 : decode cX1_run 95 = .ok (.aload_n 0, 1) := dk_42 (dk_at dksX1_run_4 1 rfl rfl)
theorem dX1_run_96 : decode cX1_run 96 = .ok (.getfield 10, 3) := dk_180 0 10 (dk_at dksX1_run_4 2 rfl rfl)
theorem dX1_run_99 : decode cX1_run 99 = .ok (.new 182, 3) := dk_187 0 182 (dk_at dksX1_run_4 5 rfl rfl)
theorem dX1_run_102 : decode cX1_run 102 = .ok (.dup, 1) := dk_89 (dk_at dksX1_run_4 8 rfl rfl)
theorem dX1_run_103 : decode cX1_run 103 = .ok (.aload_n 0, 1) := dk_42 (dk_at dksX1_run_4 9 rfl rfl)
theorem dX1_run_104 : decode cX1_run 104 = .ok (.aload 4, 2) := dk_25 4 (dk_at dksX1_run_4 10 rfl rfl)
theorem dX1_run_106 : decode cX1_run 106 = .ok (.invokespecial 184, 3) := dk_183 0 184 (dk_at dksX1_run_4 12 rfl rfl)
theorem dX1_run_109 : decode cX1_run 109 = .ok (.invokevirtual 187, 3) := dk_182 0 187 (dk_at dksX1_run_4 15 rfl rfl)
theorem dX1_run_112 : decode cX1_run 112 = .ok (.checkcast 62, 3) := dk_192 0 62 (dk_at dksX1_run_4 18 rfl rfl)
theorem dX1_run_115 : decode cX1_run 115 = .ok (.astore 5, 2) := dk_58 5 (dk_at dksX1_run_4 21 rfl rfl)
theorem dX1_run_117 : decode cX1_run 117 = .ok (.aload 5, 2) := dk_25 5 (dk_at dksX1_run_5 0 rfl rfl)
theorem dX1_run_119 : decode cX1_run 119 = .ok (.ifnonnull 5, 3) := dk_199 0 5 (dk_at dksX1_run_5 2 rfl rfl)
theorem dX1_run_122 : decode cX1_run 122 = .ok (.iconst (-1), 1) := dk_2 (dk_at dksX1_run_5 5 rfl rfl)
theorem dX1_run_123 : decode cX1_run 123 = .ok (.ireturn, 1) := dk_172 (dk_at dksX1_run_5 6 rfl rfl)
theorem dX1_run_124 : decode cX1_run 124 = .ok (.aload 4, 2) := dk_25 4 (dk_at dksX1_run_5 7 rfl rfl)
theorem dX1_run_126 : decode cX1_run 126 = .ok (.invokevirtual 191, 3) := dk_182 0 191 (dk_at dksX1_run_5 9 rfl rfl)
theorem dX1_run_129 : decode cX1_run 129 = .ok (.aload 5, 2) := dk_25 5 (dk_at dksX1_run_5 12 rfl rfl)
theorem dX1_run_131 : decode cX1_run 131 = .ok (.getfield 88, 3) := dk_180 0 88 (dk_at dksX1_run_5 14 rfl rfl)
theorem dX1_run_134 : decode cX1_run 134 = .ok (.ireturn, 1) := dk_172 (dk_at dksX1_run_5 17 rfl rfl)
abbrev cX1_needKind : ByteArray := prog_1_method_7_code
def yX1_needKind : MethodName := ⟨RX1, "needKind", "(II)LWheelWorks$Part;"⟩
def dkwX1_needKind_1 : List UInt8 := [3, 184, 0, 68, 45, 176]
abbrev dktX1_needKind_1 : List UInt8 := dkwX1_needKind_1 ++ []
def dkwX1_needKind_0 : List UInt8 := [42, 180, 0, 10, 27, 182, 0, 58, 192, 0, 62, 78, 45, 180, 0, 64, 28, 160, 0, 7, 4, 167, 0, 4]
abbrev dktX1_needKind_0 : List UInt8 := dkwX1_needKind_0 ++ dktX1_needKind_1
theorem dksX1_needKind_0 : cX1_needKind.data.toList.drop 0 = dktX1_needKind_0 := by decide +kernel
theorem dksX1_needKind_1 : cX1_needKind.data.toList.drop 24 = dktX1_needKind_1 := dk_seg dksX1_needKind_0 24 rfl rfl
theorem dX1_needKind_0 : decode cX1_needKind 0 = .ok (.aload_n 0, 1) := dk_42 (dk_at dksX1_needKind_0 0 rfl rfl)
theorem dX1_needKind_1 : decode cX1_needKind 1 = .ok (.getfield 10, 3) := dk_180 0 10 (dk_at dksX1_needKind_0 1 rfl rfl)
theorem dX1_needKind_4 : decode cX1_needKind 4 = .ok (.iload_n 1, 1) := dk_27 (dk_at dksX1_needKind_0 4 rfl rfl)
theorem dX1_needKind_5 : decode cX1_needKind 5 = .ok (.invokevirtual 58, 3) := dk_182 0 58 (dk_at dksX1_needKind_0 5 rfl rfl)
theorem dX1_needKind_8 : decode cX1_needKind 8 = .ok (.checkcast 62, 3) := dk_192 0 62 (dk_at dksX1_needKind_0 8 rfl rfl)
theorem dX1_needKind_11 : decode cX1_needKind 11 = .ok (.astore_n 3, 1) := dk_78 (dk_at dksX1_needKind_0 11 rfl rfl)
theorem dX1_needKind_12 : decode cX1_needKind 12 = .ok (.aload_n 3, 1) := dk_45 (dk_at dksX1_needKind_0 12 rfl rfl)
theorem dX1_needKind_13 : decode cX1_needKind 13 = .ok (.getfield 64, 3) := dk_180 0 64 (dk_at dksX1_needKind_0 13 rfl rfl)
theorem dX1_needKind_16 : decode cX1_needKind 16 = .ok (.iload_n 2, 1) := dk_28 (dk_at dksX1_needKind_0 16 rfl rfl)
theorem dX1_needKind_17 : decode cX1_needKind 17 = .ok (.if_icmp .ne 7, 3) := dk_160 0 7 (dk_at dksX1_needKind_0 17 rfl rfl)
theorem dX1_needKind_20 : decode cX1_needKind 20 = .ok (.iconst 1, 1) := dk_4 (dk_at dksX1_needKind_0 20 rfl rfl)
theorem dX1_needKind_21 : decode cX1_needKind 21 = .ok (.goto 4, 3) := dk_167 0 4 (dk_at dksX1_needKind_0 21 rfl rfl)
theorem dX1_needKind_24 : decode cX1_needKind 24 = .ok (.iconst 0, 1) := dk_3 (dk_at dksX1_needKind_1 0 rfl rfl)
theorem dX1_needKind_25 : decode cX1_needKind 25 = .ok (.invokestatic 68, 3) := dk_184 0 68 (dk_at dksX1_needKind_1 1 rfl rfl)
theorem dX1_needKind_28 : decode cX1_needKind 28 = .ok (.aload_n 3, 1) := dk_45 (dk_at dksX1_needKind_1 4 rfl rfl)
theorem dX1_needKind_29 : decode cX1_needKind 29 = .ok (.areturn, 1) := dk_176 (dk_at dksX1_needKind_1 5 rfl rfl)
abbrev cX1_factor : ByteArray := prog_1_method_1_code
def yX1_factor : MethodName := ⟨RX1, "factor", "(I)I"⟩
def dkwX1_factor_0 : List UInt8 := [26, 154, 0, 7, 4, 167, 0, 13, 26, 5, 160, 0, 7, 6, 167, 0, 4, 5, 172]
abbrev dktX1_factor_0 : List UInt8 := dkwX1_factor_0 ++ []
theorem dksX1_factor_0 : cX1_factor.data.toList.drop 0 = dktX1_factor_0 := by decide +kernel
theorem dX1_factor_0 : decode cX1_factor 0 = .ok (.iload_n 0, 1) := dk_26 (dk_at dksX1_factor_0 0 rfl rfl)
theorem dX1_factor_1 : decode cX1_factor 1 = .ok (.ifCond .ne 7, 3) := dk_154 0 7 (dk_at dksX1_factor_0 1 rfl rfl)
theorem dX1_factor_4 : decode cX1_factor 4 = .ok (.iconst 1, 1) := dk_4 (dk_at dksX1_factor_0 4 rfl rfl)
theorem dX1_factor_5 : decode cX1_factor 5 = .ok (.goto 13, 3) := dk_167 0 13 (dk_at dksX1_factor_0 5 rfl rfl)
theorem dX1_factor_8 : decode cX1_factor 8 = .ok (.iload_n 0, 1) := dk_26 (dk_at dksX1_factor_0 8 rfl rfl)
theorem dX1_factor_9 : decode cX1_factor 9 = .ok (.iconst 2, 1) := dk_5 (dk_at dksX1_factor_0 9 rfl rfl)
theorem dX1_factor_10 : decode cX1_factor 10 = .ok (.if_icmp .ne 7, 3) := dk_160 0 7 (dk_at dksX1_factor_0 10 rfl rfl)
theorem dX1_factor_13 : decode cX1_factor 13 = .ok (.iconst 3, 1) := dk_6 (dk_at dksX1_factor_0 13 rfl rfl)
theorem dX1_factor_14 : decode cX1_factor 14 = .ok (.goto 4, 3) := dk_167 0 4 (dk_at dksX1_factor_0 14 rfl rfl)
theorem dX1_factor_17 : decode cX1_factor 17 = .ok (.iconst 2, 1) := dk_5 (dk_at dksX1_factor_0 17 rfl rfl)
theorem dX1_factor_18 : decode cX1_factor 18 = .ok (.ireturn, 1) := dk_172 (dk_at dksX1_factor_0 18 rfl rfl)
abbrev cX1_isBar : ByteArray := prog_1_method_24_code
def yX1_isBar : MethodName := ⟨RX1, "isBar", "(LWheelWorks$Part;I)Z"⟩
def dkwX1_isBar_5 : List UInt8 := [167, 0, 8, 42, 43, 182, 1, 0, 172]
abbrev dktX1_isBar_5 : List UInt8 := dkwX1_isBar_5 ++ []
def dkwX1_isBar_4 : List UInt8 := [164, 0, 7, 4, 167, 0, 26, 3, 167, 0, 22, 43, 182, 0, 250, 167, 0, 15, 43, 182, 0, 253]
abbrev dktX1_isBar_4 : List UInt8 := dkwX1_isBar_4 ++ dktX1_isBar_5
def dkwX1_isBar_3 : List UInt8 := [180, 0, 16, 43, 180, 0, 64, 46, 158, 0, 23, 43, 180, 0, 231, 42, 180, 0, 16, 43, 180, 0, 64, 46]
abbrev dktX1_isBar_3 : List UInt8 := dkwX1_isBar_3 ++ dktX1_isBar_4
def dkwX1_isBar_2 : List UInt8 := [43, 182, 0, 247, 167, 0, 72, 43, 180, 0, 100, 167, 0, 65, 43, 180, 0, 240, 167, 0, 58, 42]
abbrev dktX1_isBar_2 : List UInt8 := dkwX1_isBar_2 ++ dktX1_isBar_3
def dkwX1_isBar_1 : List UInt8 := [170, 0, 0, 0, 0, 0, 110, 0, 0, 0, 1, 0, 0, 0, 6, 0, 0, 0, 39, 0, 0, 0, 46, 0, 0, 0, 53, 0, 0, 0, 60, 0, 0, 0, 96, 0, 0, 0, 103]
abbrev dktX1_isBar_1 : List UInt8 := dkwX1_isBar_1 ++ dktX1_isBar_2
def dkwX1_isBar_0 : List UInt8 := [28]
abbrev dktX1_isBar_0 : List UInt8 := dkwX1_isBar_0 ++ dktX1_isBar_1
theorem dksX1_isBar_0 : cX1_isBar.data.toList.drop 0 = dktX1_isBar_0 := by decide +kernel
theorem dksX1_isBar_1 : cX1_isBar.data.toList.drop 1 = dktX1_isBar_1 := dk_seg dksX1_isBar_0 1 rfl rfl
theorem dksX1_isBar_2 : cX1_isBar.data.toList.drop 40 = dktX1_isBar_2 := dk_seg dksX1_isBar_1 39 rfl rfl
theorem dksX1_isBar_3 : cX1_isBar.data.toList.drop 62 = dktX1_isBar_3 := dk_seg dksX1_isBar_2 22 rfl rfl
theorem dksX1_isBar_4 : cX1_isBar.data.toList.drop 86 = dktX1_isBar_4 := dk_seg dksX1_isBar_3 24 rfl rfl
theorem dksX1_isBar_5 : cX1_isBar.data.toList.drop 108 = dktX1_isBar_5 := dk_seg dksX1_isBar_4 22 rfl rfl
theorem dX1_isBar_0 : decode cX1_isBar 0 = .ok (.iload_n 2, 1) := dk_28 (dk_at dksX1_isBar_0 0 rfl rfl)
theorem dX1_isBar_1 : decode cX1_isBar 1 = .ok (.tableswitch 110 1 6 #[39, 46, 53, 60, 96, 103], 39) := by decide +kernel
theorem dX1_isBar_40 : decode cX1_isBar 40 = .ok (.aload_n 1, 1) := dk_43 (dk_at dksX1_isBar_2 0 rfl rfl)
theorem dX1_isBar_41 : decode cX1_isBar 41 = .ok (.invokevirtual 247, 3) := dk_182 0 247 (dk_at dksX1_isBar_2 1 rfl rfl)
theorem dX1_isBar_44 : decode cX1_isBar 44 = .ok (.goto 72, 3) := dk_167 0 72 (dk_at dksX1_isBar_2 4 rfl rfl)
theorem dX1_isBar_47 : decode cX1_isBar 47 = .ok (.aload_n 1, 1) := dk_43 (dk_at dksX1_isBar_2 7 rfl rfl)
theorem dX1_isBar_48 : decode cX1_isBar 48 = .ok (.getfield 100, 3) := dk_180 0 100 (dk_at dksX1_isBar_2 8 rfl rfl)
theorem dX1_isBar_51 : decode cX1_isBar 51 = .ok (.goto 65, 3) := dk_167 0 65 (dk_at dksX1_isBar_2 11 rfl rfl)
theorem dX1_isBar_54 : decode cX1_isBar 54 = .ok (.aload_n 1, 1) := dk_43 (dk_at dksX1_isBar_2 14 rfl rfl)
theorem dX1_isBar_55 : decode cX1_isBar 55 = .ok (.getfield 240, 3) := dk_180 0 240 (dk_at dksX1_isBar_2 15 rfl rfl)
theorem dX1_isBar_58 : decode cX1_isBar 58 = .ok (.goto 58, 3) := dk_167 0 58 (dk_at dksX1_isBar_2 18 rfl rfl)
theorem dX1_isBar_61 : decode cX1_isBar 61 = .ok (.aload_n 0, 1) := dk_42 (dk_at dksX1_isBar_2 21 rfl rfl)
theorem dX1_isBar_62 : decode cX1_isBar 62 = .ok (.getfield 16, 3) := dk_180 0 16 (dk_at dksX1_isBar_3 0 rfl rfl)
theorem dX1_isBar_65 : decode cX1_isBar 65 = .ok (.aload_n 1, 1) := dk_43 (dk_at dksX1_isBar_3 3 rfl rfl)
theorem dX1_isBar_66 : decode cX1_isBar 66 = .ok (.getfield 64, 3) := dk_180 0 64 (dk_at dksX1_isBar_3 4 rfl rfl)
theorem dX1_isBar_69 : decode cX1_isBar 69 = .ok (.iaload, 1) := dk_46 (dk_at dksX1_isBar_3 7 rfl rfl)
theorem dX1_isBar_70 : decode cX1_isBar 70 = .ok (.ifCond .le 23, 3) := dk_158 0 23 (dk_at dksX1_isBar_3 8 rfl rfl)
theorem dX1_isBar_73 : decode cX1_isBar 73 = .ok (.aload_n 1, 1) := dk_43 (dk_at dksX1_isBar_3 11 rfl rfl)
theorem dX1_isBar_74 : decode cX1_isBar 74 = .ok (.getfield 231, 3) := dk_180 0 231 (dk_at dksX1_isBar_3 12 rfl rfl)
theorem dX1_isBar_77 : decode cX1_isBar 77 = .ok (.aload_n 0, 1) := dk_42 (dk_at dksX1_isBar_3 15 rfl rfl)
theorem dX1_isBar_78 : decode cX1_isBar 78 = .ok (.getfield 16, 3) := dk_180 0 16 (dk_at dksX1_isBar_3 16 rfl rfl)
theorem dX1_isBar_81 : decode cX1_isBar 81 = .ok (.aload_n 1, 1) := dk_43 (dk_at dksX1_isBar_3 19 rfl rfl)
theorem dX1_isBar_82 : decode cX1_isBar 82 = .ok (.getfield 64, 3) := dk_180 0 64 (dk_at dksX1_isBar_3 20 rfl rfl)
theorem dX1_isBar_85 : decode cX1_isBar 85 = .ok (.iaload, 1) := dk_46 (dk_at dksX1_isBar_3 23 rfl rfl)
theorem dX1_isBar_86 : decode cX1_isBar 86 = .ok (.if_icmp .le 7, 3) := dk_164 0 7 (dk_at dksX1_isBar_4 0 rfl rfl)
theorem dX1_isBar_89 : decode cX1_isBar 89 = .ok (.iconst 1, 1) := dk_4 (dk_at dksX1_isBar_4 3 rfl rfl)
theorem dX1_isBar_90 : decode cX1_isBar 90 = .ok (.goto 26, 3) := dk_167 0 26 (dk_at dksX1_isBar_4 4 rfl rfl)
theorem dX1_isBar_93 : decode cX1_isBar 93 = .ok (.iconst 0, 1) := dk_3 (dk_at dksX1_isBar_4 7 rfl rfl)
theorem dX1_isBar_94 : decode cX1_isBar 94 = .ok (.goto 22, 3) := dk_167 0 22 (dk_at dksX1_isBar_4 8 rfl rfl)
theorem dX1_isBar_97 : decode cX1_isBar 97 = .ok (.aload_n 1, 1) := dk_43 (dk_at dksX1_isBar_4 11 rfl rfl)
theorem dX1_isBar_98 : decode cX1_isBar 98 = .ok (.invokevirtual 250, 3) := dk_182 0 250 (dk_at dksX1_isBar_4 12 rfl rfl)
theorem dX1_isBar_101 : decode cX1_isBar 101 = .ok (.goto 15, 3) := dk_167 0 15 (dk_at dksX1_isBar_4 15 rfl rfl)
theorem dX1_isBar_104 : decode cX1_isBar 104 = .ok (.aload_n 1, 1) := dk_43 (dk_at dksX1_isBar_4 18 rfl rfl)
theorem dX1_isBar_105 : decode cX1_isBar 105 = .ok (.invokevirtual 253, 3) := dk_182 0 253 (dk_at dksX1_isBar_4 19 rfl rfl)
theorem dX1_isBar_108 : decode cX1_isBar 108 = .ok (.goto 8, 3) := dk_167 0 8 (dk_at dksX1_isBar_5 0 rfl rfl)
theorem dX1_isBar_111 : decode cX1_isBar 111 = .ok (.aload_n 0, 1) := dk_42 (dk_at dksX1_isBar_5 3 rfl rfl)
theorem dX1_isBar_112 : decode cX1_isBar 112 = .ok (.aload_n 1, 1) := dk_43 (dk_at dksX1_isBar_5 4 rfl rfl)
theorem dX1_isBar_113 : decode cX1_isBar 113 = .ok (.invokevirtual 256, 3) := dk_182 1 0 (dk_at dksX1_isBar_5 5 rfl rfl)
theorem dX1_isBar_116 : decode cX1_isBar 116 = .ok (.ireturn, 1) := dk_172 (dk_at dksX1_isBar_5 8 rfl rfl)
abbrev cX1_isDue : ByteArray := prog_1_method_23_code
def yX1_isDue : MethodName := ⟨RX1, "isDue", "(LWheelWorks$Part;)Z"⟩
def dkwX1_isDue_1 : List UInt8 := [46, 43, 180, 0, 225, 96, 164, 0, 7, 4, 167, 0, 4, 3, 172]
abbrev dktX1_isDue_1 : List UInt8 := dkwX1_isDue_1 ++ []
def dkwX1_isDue_0 : List UInt8 := [42, 180, 0, 20, 43, 180, 0, 64, 46, 158, 0, 28, 43, 180, 0, 222, 42, 180, 0, 20, 43, 180, 0, 64]
abbrev dktX1_isDue_0 : List UInt8 := dkwX1_isDue_0 ++ dktX1_isDue_1
theorem dksX1_isDue_0 : cX1_isDue.data.toList.drop 0 = dktX1_isDue_0 := by decide +kernel
theorem dksX1_isDue_1 : cX1_isDue.data.toList.drop 24 = dktX1_isDue_1 := dk_seg dksX1_isDue_0 24 rfl rfl
theorem dX1_isDue_0 : decode cX1_isDue 0 = .ok (.aload_n 0, 1) := dk_42 (dk_at dksX1_isDue_0 0 rfl rfl)
theorem dX1_isDue_1 : decode cX1_isDue 1 = .ok (.getfield 20, 3) := dk_180 0 20 (dk_at dksX1_isDue_0 1 rfl rfl)
theorem dX1_isDue_4 : decode cX1_isDue 4 = .ok (.aload_n 1, 1) := dk_43 (dk_at dksX1_isDue_0 4 rfl rfl)
theorem dX1_isDue_5 : decode cX1_isDue 5 = .ok (.getfield 64, 3) := dk_180 0 64 (dk_at dksX1_isDue_0 5 rfl rfl)
theorem dX1_isDue_8 : decode cX1_isDue 8 = .ok (.iaload, 1) := dk_46 (dk_at dksX1_isDue_0 8 rfl rfl)
theorem dX1_isDue_9 : decode cX1_isDue 9 = .ok (.ifCond .le 28, 3) := dk_158 0 28 (dk_at dksX1_isDue_0 9 rfl rfl)
theorem dX1_isDue_12 : decode cX1_isDue 12 = .ok (.aload_n 1, 1) := dk_43 (dk_at dksX1_isDue_0 12 rfl rfl)
theorem dX1_isDue_13 : decode cX1_isDue 13 = .ok (.getfield 222, 3) := dk_180 0 222 (dk_at dksX1_isDue_0 13 rfl rfl)
theorem dX1_isDue_16 : decode cX1_isDue 16 = .ok (.aload_n 0, 1) := dk_42 (dk_at dksX1_isDue_0 16 rfl rfl)
theorem dX1_isDue_17 : decode cX1_isDue 17 = .ok (.getfield 20, 3) := dk_180 0 20 (dk_at dksX1_isDue_0 17 rfl rfl)
theorem dX1_isDue_20 : decode cX1_isDue 20 = .ok (.aload_n 1, 1) := dk_43 (dk_at dksX1_isDue_0 20 rfl rfl)
theorem dX1_isDue_21 : decode cX1_isDue 21 = .ok (.getfield 64, 3) := dk_180 0 64 (dk_at dksX1_isDue_0 21 rfl rfl)
theorem dX1_isDue_24 : decode cX1_isDue 24 = .ok (.iaload, 1) := dk_46 (dk_at dksX1_isDue_1 0 rfl rfl)
theorem dX1_isDue_25 : decode cX1_isDue 25 = .ok (.aload_n 1, 1) := dk_43 (dk_at dksX1_isDue_1 1 rfl rfl)
theorem dX1_isDue_26 : decode cX1_isDue 26 = .ok (.getfield 225, 3) := dk_180 0 225 (dk_at dksX1_isDue_1 2 rfl rfl)
theorem dX1_isDue_29 : decode cX1_isDue 29 = .ok (.iadd, 1) := dk_96 (dk_at dksX1_isDue_1 5 rfl rfl)
theorem dX1_isDue_30 : decode cX1_isDue 30 = .ok (.if_icmp .le 7, 3) := dk_164 0 7 (dk_at dksX1_isDue_1 6 rfl rfl)
theorem dX1_isDue_33 : decode cX1_isDue 33 = .ok (.iconst 1, 1) := dk_4 (dk_at dksX1_isDue_1 9 rfl rfl)
theorem dX1_isDue_34 : decode cX1_isDue 34 = .ok (.goto 4, 3) := dk_167 0 4 (dk_at dksX1_isDue_1 10 rfl rfl)
theorem dX1_isDue_37 : decode cX1_isDue 37 = .ok (.iconst 0, 1) := dk_3 (dk_at dksX1_isDue_1 13 rfl rfl)
theorem dX1_isDue_38 : decode cX1_isDue 38 = .ok (.ireturn, 1) := dk_172 (dk_at dksX1_isDue_1 14 rfl rfl)
abbrev cX1_turn : ByteArray := prog_1_method_15_code
def yX1_turn : MethodName := ⟨RX1, "turn", "(I)I"⟩
def dkwX1_turn_6 : List UInt8 := [180, 0, 214, 21, 4, 100, 96, 62, 25, 6, 21, 4, 181, 0, 214, 167, 255, 207, 29, 172]
abbrev dktX1_turn_6 : List UInt8 := dkwX1_turn_6 ++ []
def dkwX1_turn_5 : List UInt8 := [25, 5, 185, 0, 203, 1, 0, 192, 0, 62, 58, 6, 25, 6, 180, 0, 64, 6, 160, 0, 21, 29, 25, 6]
abbrev dktX1_turn_5 : List UInt8 := dkwX1_turn_5 ++ dktX1_turn_6
def dkwX1_turn_4 : List UInt8 := [182, 0, 210, 54, 4, 44, 180, 0, 121, 182, 0, 194, 58, 5, 25, 5, 185, 0, 198, 1, 0, 153, 0, 45]
abbrev dktX1_turn_4 : List UInt8 := dkwX1_turn_4 ++ dktX1_turn_5
def dkwX1_turn_3 : List UInt8 := [180, 0, 64, 6, 160, 0, 11, 25, 5, 182, 0, 207, 167, 0, 4, 3, 96, 62, 167, 255, 213, 44, 3]
abbrev dktX1_turn_3 : List UInt8 := dkwX1_turn_3 ++ dktX1_turn_4
def dkwX1_turn_2 : List UInt8 := [185, 0, 198, 1, 0, 153, 0, 39, 25, 4, 185, 0, 203, 1, 0, 192, 0, 62, 58, 5, 29, 25, 5]
abbrev dktX1_turn_2 : List UInt8 := dkwX1_turn_2 ++ dktX1_turn_3
def dkwX1_turn_1 : List UInt8 := [167, 0, 4, 3, 184, 0, 79, 3, 62, 44, 180, 0, 121, 182, 0, 194, 58, 4, 25, 4]
abbrev dktX1_turn_1 : List UInt8 := dkwX1_turn_1 ++ dktX1_turn_2
def dkwX1_turn_0 : List UInt8 := [42, 27, 5, 182, 0, 171, 77, 44, 6, 182, 0, 110, 5, 160, 0, 14, 44, 182, 0, 107, 154, 0, 7, 4]
abbrev dktX1_turn_0 : List UInt8 := dkwX1_turn_0 ++ dktX1_turn_1
theorem dksX1_turn_0 : cX1_turn.data.toList.drop 0 = dktX1_turn_0 := by decide +kernel
theorem dksX1_turn_1 : cX1_turn.data.toList.drop 24 = dktX1_turn_1 := dk_seg dksX1_turn_0 24 rfl rfl
theorem dksX1_turn_2 : cX1_turn.data.toList.drop 44 = dktX1_turn_2 := dk_seg dksX1_turn_1 20 rfl rfl
theorem dksX1_turn_3 : cX1_turn.data.toList.drop 67 = dktX1_turn_3 := dk_seg dksX1_turn_2 23 rfl rfl
theorem dksX1_turn_4 : cX1_turn.data.toList.drop 90 = dktX1_turn_4 := dk_seg dksX1_turn_3 23 rfl rfl
theorem dksX1_turn_5 : cX1_turn.data.toList.drop 114 = dktX1_turn_5 := dk_seg dksX1_turn_4 24 rfl rfl
theorem dksX1_turn_6 : cX1_turn.data.toList.drop 138 = dktX1_turn_6 := dk_seg dksX1_turn_5 24 rfl rfl
theorem dX1_turn_0 : decode cX1_turn 0 = .ok (.aload_n 0, 1) := dk_42 (dk_at dksX1_turn_0 0 rfl rfl)
theorem dX1_turn_1 : decode cX1_turn 1 = .ok (.iload_n 1, 1) := dk_27 (dk_at dksX1_turn_0 1 rfl rfl)
theorem dX1_turn_2 : decode cX1_turn 2 = .ok (.iconst 2, 1) := dk_5 (dk_at dksX1_turn_0 2 rfl rfl)
theorem dX1_turn_3 : decode cX1_turn 3 = .ok (.invokevirtual 171, 3) := dk_182 0 171 (dk_at dksX1_turn_0 3 rfl rfl)
theorem dX1_turn_6 : decode cX1_turn 6 = .ok (.astore_n 2, 1) := dk_77 (dk_at dksX1_turn_0 6 rfl rfl)
theorem dX1_turn_7 : decode cX1_turn 7 = .ok (.aload_n 2, 1) := dk_44 (dk_at dksX1_turn_0 7 rfl rfl)
theorem dX1_turn_8 : decode cX1_turn 8 = .ok (.iconst 3, 1) := dk_6 (dk_at dksX1_turn_0 8 rfl rfl)
theorem dX1_turn_9 : decode cX1_turn 9 = .ok (.invokevirtual 110, 3) := dk_182 0 110 (dk_at dksX1_turn_0 9 rfl rfl)
theorem dX1_turn_12 : decode cX1_turn 12 = .ok (.iconst 2, 1) := dk_5 (dk_at dksX1_turn_0 12 rfl rfl)
theorem dX1_turn_13 : decode cX1_turn 13 = .ok (.if_icmp .ne 14, 3) := dk_160 0 14 (dk_at dksX1_turn_0 13 rfl rfl)
theorem dX1_turn_16 : decode cX1_turn 16 = .ok (.aload_n 2, 1) := dk_44 (dk_at dksX1_turn_0 16 rfl rfl)
theorem dX1_turn_17 : decode cX1_turn 17 = .ok (.invokevirtual 107, 3) := dk_182 0 107 (dk_at dksX1_turn_0 17 rfl rfl)
theorem dX1_turn_20 : decode cX1_turn 20 = .ok (.ifCond .ne 7, 3) := dk_154 0 7 (dk_at dksX1_turn_0 20 rfl rfl)
theorem dX1_turn_23 : decode cX1_turn 23 = .ok (.iconst 1, 1) := dk_4 (dk_at dksX1_turn_0 23 rfl rfl)
theorem dX1_turn_24 : decode cX1_turn 24 = .ok (.goto 4, 3) := dk_167 0 4 (dk_at dksX1_turn_1 0 rfl rfl)
theorem dX1_turn_27 : decode cX1_turn 27 = .ok (.iconst 0, 1) := dk_3 (dk_at dksX1_turn_1 3 rfl rfl)
theorem dX1_turn_28 : decode cX1_turn 28 = .ok (.invokestatic 79, 3) := dk_184 0 79 (dk_at dksX1_turn_1 4 rfl rfl)
theorem dX1_turn_31 : decode cX1_turn 31 = .ok (.iconst 0, 1) := dk_3 (dk_at dksX1_turn_1 7 rfl rfl)
theorem dX1_turn_32 : decode cX1_turn 32 = .ok (.istore_n 3, 1) := dk_62 (dk_at dksX1_turn_1 8 rfl rfl)
theorem dX1_turn_33 : decode cX1_turn 33 = .ok (.aload_n 2, 1) := dk_44 (dk_at dksX1_turn_1 9 rfl rfl)
theorem dX1_turn_34 : decode cX1_turn 34 = .ok (.getfield 121, 3) := dk_180 0 121 (dk_at dksX1_turn_1 10 rfl rfl)
theorem dX1_turn_37 : decode cX1_turn 37 = .ok (.invokevirtual 194, 3) := dk_182 0 194 (dk_at dksX1_turn_1 13 rfl rfl)
theorem dX1_turn_40 : decode cX1_turn 40 = .ok (.astore 4, 2) := dk_58 4 (dk_at dksX1_turn_1 16 rfl rfl)
theorem dX1_turn_42 : decode cX1_turn 42 = .ok (.aload 4, 2) := dk_25 4 (dk_at dksX1_turn_1 18 rfl rfl)
theorem dX1_turn_44 : decode cX1_turn 44 = .ok (.invokeinterface 198 1, 5) := by decide +kernel
theorem dX1_turn_49 : decode cX1_turn 49 = .ok (.ifCond .eq 39, 3) := dk_153 0 39 (dk_at dksX1_turn_2 5 rfl rfl)
theorem dX1_turn_52 : decode cX1_turn 52 = .ok (.aload 4, 2) := dk_25 4 (dk_at dksX1_turn_2 8 rfl rfl)
theorem dX1_turn_54 : decode cX1_turn 54 = .ok (.invokeinterface 203 1, 5) := by decide +kernel
theorem dX1_turn_59 : decode cX1_turn 59 = .ok (.checkcast 62, 3) := dk_192 0 62 (dk_at dksX1_turn_2 15 rfl rfl)
theorem dX1_turn_62 : decode cX1_turn 62 = .ok (.astore 5, 2) := dk_58 5 (dk_at dksX1_turn_2 18 rfl rfl)
theorem dX1_turn_64 : decode cX1_turn 64 = .ok (.iload_n 3, 1) := dk_29 (dk_at dksX1_turn_2 20 rfl rfl)
theorem dX1_turn_65 : decode cX1_turn 65 = .ok (.aload 5, 2) := dk_25 5 (dk_at dksX1_turn_2 21 rfl rfl)
theorem dX1_turn_67 : decode cX1_turn 67 = .ok (.getfield 64, 3) := dk_180 0 64 (dk_at dksX1_turn_3 0 rfl rfl)
theorem dX1_turn_70 : decode cX1_turn 70 = .ok (.iconst 3, 1) := dk_6 (dk_at dksX1_turn_3 3 rfl rfl)
theorem dX1_turn_71 : decode cX1_turn 71 = .ok (.if_icmp .ne 11, 3) := dk_160 0 11 (dk_at dksX1_turn_3 4 rfl rfl)
theorem dX1_turn_74 : decode cX1_turn 74 = .ok (.aload 5, 2) := dk_25 5 (dk_at dksX1_turn_3 7 rfl rfl)
theorem dX1_turn_76 : decode cX1_turn 76 = .ok (.invokevirtual 207, 3) := dk_182 0 207 (dk_at dksX1_turn_3 9 rfl rfl)
theorem dX1_turn_79 : decode cX1_turn 79 = .ok (.goto 4, 3) := dk_167 0 4 (dk_at dksX1_turn_3 12 rfl rfl)
theorem dX1_turn_82 : decode cX1_turn 82 = .ok (.iconst 0, 1) := dk_3 (dk_at dksX1_turn_3 15 rfl rfl)
theorem dX1_turn_83 : decode cX1_turn 83 = .ok (.iadd, 1) := dk_96 (dk_at dksX1_turn_3 16 rfl rfl)
theorem dX1_turn_84 : decode cX1_turn 84 = .ok (.istore_n 3, 1) := dk_62 (dk_at dksX1_turn_3 17 rfl rfl)
theorem dX1_turn_85 : decode cX1_turn 85 = .ok (.goto (-43), 3) := dk_167 255 213 (dk_at dksX1_turn_3 18 rfl rfl)
theorem dX1_turn_88 : decode cX1_turn 88 = .ok (.aload_n 2, 1) := dk_44 (dk_at dksX1_turn_3 21 rfl rfl)
theorem dX1_turn_89 : decode cX1_turn 89 = .ok (.iconst 0, 1) := dk_3 (dk_at dksX1_turn_3 22 rfl rfl)
theorem dX1_turn_90 : decode cX1_turn 90 = .ok (.invokevirtual 210, 3) := dk_182 0 210 (dk_at dksX1_turn_4 0 rfl rfl)
theorem dX1_turn_93 : decode cX1_turn 93 = .ok (.istore 4, 2) := dk_54 4 (dk_at dksX1_turn_4 3 rfl rfl)
theorem dX1_turn_95 : decode cX1_turn 95 = .ok (.aload_n 2, 1) := dk_44 (dk_at dksX1_turn_4 5 rfl rfl)
theorem dX1_turn_96 : decode cX1_turn 96 = .ok (.getfield 121, 3) := dk_180 0 121 (dk_at dksX1_turn_4 6 rfl rfl)
theorem dX1_turn_99 : decode cX1_turn 99 = .ok (.invokevirtual 194, 3) := dk_182 0 194 (dk_at dksX1_turn_4 9 rfl rfl)
theorem dX1_turn_102 : decode cX1_turn 102 = .ok (.astore 5, 2) := dk_58 5 (dk_at dksX1_turn_4 12 rfl rfl)
theorem dX1_turn_104 : decode cX1_turn 104 = .ok (.aload 5, 2) := dk_25 5 (dk_at dksX1_turn_4 14 rfl rfl)
theorem dX1_turn_106 : decode cX1_turn 106 = .ok (.invokeinterface 198 1, 5) := by decide +kernel
theorem dX1_turn_111 : decode cX1_turn 111 = .ok (.ifCond .eq 45, 3) := dk_153 0 45 (dk_at dksX1_turn_4 21 rfl rfl)
theorem dX1_turn_114 : decode cX1_turn 114 = .ok (.aload 5, 2) := dk_25 5 (dk_at dksX1_turn_5 0 rfl rfl)
theorem dX1_turn_116 : decode cX1_turn 116 = .ok (.invokeinterface 203 1, 5) := by decide +kernel
theorem dX1_turn_121 : decode cX1_turn 121 = .ok (.checkcast 62, 3) := dk_192 0 62 (dk_at dksX1_turn_5 7 rfl rfl)
theorem dX1_turn_124 : decode cX1_turn 124 = .ok (.astore 6, 2) := dk_58 6 (dk_at dksX1_turn_5 10 rfl rfl)
theorem dX1_turn_126 : decode cX1_turn 126 = .ok (.aload 6, 2) := dk_25 6 (dk_at dksX1_turn_5 12 rfl rfl)
theorem dX1_turn_128 : decode cX1_turn 128 = .ok (.getfield 64, 3) := dk_180 0 64 (dk_at dksX1_turn_5 14 rfl rfl)
theorem dX1_turn_131 : decode cX1_turn 131 = .ok (.iconst 3, 1) := dk_6 (dk_at dksX1_turn_5 17 rfl rfl)
theorem dX1_turn_132 : decode cX1_turn 132 = .ok (.if_icmp .ne 21, 3) := dk_160 0 21 (dk_at dksX1_turn_5 18 rfl rfl)
theorem dX1_turn_135 : decode cX1_turn 135 = .ok (.iload_n 3, 1) := dk_29 (dk_at dksX1_turn_5 21 rfl rfl)
theorem dX1_turn_136 : decode cX1_turn 136 = .ok (.aload 6, 2) := dk_25 6 (dk_at dksX1_turn_5 22 rfl rfl)
theorem dX1_turn_138 : decode cX1_turn 138 = .ok (.getfield 214, 3) := dk_180 0 214 (dk_at dksX1_turn_6 0 rfl rfl)
theorem dX1_turn_141 : decode cX1_turn 141 = .ok (.iload 4, 2) := dk_21 4 (dk_at dksX1_turn_6 3 rfl rfl)
theorem dX1_turn_143 : decode cX1_turn 143 = .ok (.isub, 1) := dk_100 (dk_at dksX1_turn_6 5 rfl rfl)
theorem dX1_turn_144 : decode cX1_turn 144 = .ok (.iadd, 1) := dk_96 (dk_at dksX1_turn_6 6 rfl rfl)
theorem dX1_turn_145 : decode cX1_turn 145 = .ok (.istore_n 3, 1) := dk_62 (dk_at dksX1_turn_6 7 rfl rfl)
theorem dX1_turn_146 : decode cX1_turn 146 = .ok (.aload 6, 2) := dk_25 6 (dk_at dksX1_turn_6 8 rfl rfl)
theorem dX1_turn_148 : decode cX1_turn 148 = .ok (.iload 4, 2) := dk_21 4 (dk_at dksX1_turn_6 10 rfl rfl)
theorem dX1_turn_150 : decode cX1_turn 150 = .ok (.putfield 214, 3) := dk_181 0 214 (dk_at dksX1_turn_6 12 rfl rfl)
theorem dX1_turn_153 : decode cX1_turn 153 = .ok (.goto (-49), 3) := dk_167 255 207 (dk_at dksX1_turn_6 15 rfl rfl)
theorem dX1_turn_156 : decode cX1_turn 156 = .ok (.iload_n 3, 1) := dk_29 (dk_at dksX1_turn_6 18 rfl rfl)
theorem dX1_turn_157 : decode cX1_turn 157 = .ok (.ireturn, 1) := dk_172 (dk_at dksX1_turn_6 19 rfl rfl)
abbrev cX1_gate : ByteArray := prog_1_method_16_code
def yX1_gate : MethodName := ⟨RX1, "gate", "(II)I"⟩
def dkwX1_gate_1 : List UInt8 := [181, 0, 219, 45, 180, 0, 219, 172]
abbrev dktX1_gate_1 : List UInt8 := dkwX1_gate_1 ++ []
def dkwX1_gate_0 : List UInt8 := [42, 27, 6, 182, 0, 171, 78, 28, 16, 251, 8, 184, 0, 71, 184, 0, 68, 45, 45, 180, 0, 216, 28, 96]
abbrev dktX1_gate_0 : List UInt8 := dkwX1_gate_0 ++ dktX1_gate_1
theorem dksX1_gate_0 : cX1_gate.data.toList.drop 0 = dktX1_gate_0 := by decide +kernel
theorem dksX1_gate_1 : cX1_gate.data.toList.drop 24 = dktX1_gate_1 := dk_seg dksX1_gate_0 24 rfl rfl
theorem dX1_gate_0 : decode cX1_gate 0 = .ok (.aload_n 0, 1) := dk_42 (dk_at dksX1_gate_0 0 rfl rfl)
theorem dX1_gate_1 : decode cX1_gate 1 = .ok (.iload_n 1, 1) := dk_27 (dk_at dksX1_gate_0 1 rfl rfl)
theorem dX1_gate_2 : decode cX1_gate 2 = .ok (.iconst 3, 1) := dk_6 (dk_at dksX1_gate_0 2 rfl rfl)
theorem dX1_gate_3 : decode cX1_gate 3 = .ok (.invokevirtual 171, 3) := dk_182 0 171 (dk_at dksX1_gate_0 3 rfl rfl)
theorem dX1_gate_6 : decode cX1_gate 6 = .ok (.astore_n 3, 1) := dk_78 (dk_at dksX1_gate_0 6 rfl rfl)
theorem dX1_gate_7 : decode cX1_gate 7 = .ok (.iload_n 2, 1) := dk_28 (dk_at dksX1_gate_0 7 rfl rfl)
theorem dX1_gate_8 : decode cX1_gate 8 = .ok (.bipush (-5), 2) := dk_16 251 (dk_at dksX1_gate_0 8 rfl rfl)
theorem dX1_gate_10 : decode cX1_gate 10 = .ok (.iconst 5, 1) := dk_8 (dk_at dksX1_gate_0 10 rfl rfl)
theorem dX1_gate_11 : decode cX1_gate 11 = .ok (.invokestatic 71, 3) := dk_184 0 71 (dk_at dksX1_gate_0 11 rfl rfl)
theorem dX1_gate_14 : decode cX1_gate 14 = .ok (.invokestatic 68, 3) := dk_184 0 68 (dk_at dksX1_gate_0 14 rfl rfl)
theorem dX1_gate_17 : decode cX1_gate 17 = .ok (.aload_n 3, 1) := dk_45 (dk_at dksX1_gate_0 17 rfl rfl)
theorem dX1_gate_18 : decode cX1_gate 18 = .ok (.aload_n 3, 1) := dk_45 (dk_at dksX1_gate_0 18 rfl rfl)
theorem dX1_gate_19 : decode cX1_gate 19 = .ok (.getfield 216, 3) := dk_180 0 216 (dk_at dksX1_gate_0 19 rfl rfl)
theorem dX1_gate_22 : decode cX1_gate 22 = .ok (.iload_n 2, 1) := dk_28 (dk_at dksX1_gate_0 22 rfl rfl)
theorem dX1_gate_23 : decode cX1_gate 23 = .ok (.iadd, 1) := dk_96 (dk_at dksX1_gate_0 23 rfl rfl)
theorem dX1_gate_24 : decode cX1_gate 24 = .ok (.putfield 219, 3) := dk_181 0 219 (dk_at dksX1_gate_1 0 rfl rfl)
theorem dX1_gate_27 : decode cX1_gate 27 = .ok (.aload_n 3, 1) := dk_45 (dk_at dksX1_gate_1 3 rfl rfl)
theorem dX1_gate_28 : decode cX1_gate 28 = .ok (.getfield 219, 3) := dk_180 0 219 (dk_at dksX1_gate_1 4 rfl rfl)
theorem dX1_gate_31 : decode cX1_gate 31 = .ok (.ireturn, 1) := dk_172 (dk_at dksX1_gate_1 7 rfl rfl)
abbrev cX1_examine : ByteArray := prog_1_method_17_code
def yX1_examine : MethodName := ⟨RX1, "examine", "(I)I"⟩
def dkwX1_examine_3 : List UInt8 := [180, 0, 222, 54, 4, 44, 3, 181, 0, 222, 44, 3, 181, 0, 225, 21, 4, 172]
abbrev dktX1_examine_3 : List UInt8 := dkwX1_examine_3 ++ []
def dkwX1_examine_2 : List UInt8 := [180, 0, 104, 154, 0, 14, 44, 182, 0, 107, 154, 0, 7, 4, 167, 0, 4, 3, 184, 0, 79, 44]
abbrev dktX1_examine_2 : List UInt8 := dkwX1_examine_2 ++ dktX1_examine_3
def dkwX1_examine_1 : List UInt8 := [158, 0, 39, 44, 180, 0, 222, 29, 42, 180, 0, 23, 44, 180, 0, 64, 46, 100, 161, 0, 21, 44]
abbrev dktX1_examine_1 : List UInt8 := dkwX1_examine_1 ++ dktX1_examine_2
def dkwX1_examine_0 : List UInt8 := [42, 180, 0, 10, 27, 182, 0, 58, 192, 0, 62, 77, 42, 180, 0, 20, 44, 180, 0, 64, 46, 62, 29]
abbrev dktX1_examine_0 : List UInt8 := dkwX1_examine_0 ++ dktX1_examine_1
theorem dksX1_examine_0 : cX1_examine.data.toList.drop 0 = dktX1_examine_0 := by decide +kernel
theorem dksX1_examine_1 : cX1_examine.data.toList.drop 23 = dktX1_examine_1 := dk_seg dksX1_examine_0 23 rfl rfl
theorem dksX1_examine_2 : cX1_examine.data.toList.drop 45 = dktX1_examine_2 := dk_seg dksX1_examine_1 22 rfl rfl
theorem dksX1_examine_3 : cX1_examine.data.toList.drop 67 = dktX1_examine_3 := dk_seg dksX1_examine_2 22 rfl rfl
theorem dX1_examine_0 : decode cX1_examine 0 = .ok (.aload_n 0, 1) := dk_42 (dk_at dksX1_examine_0 0 rfl rfl)
theorem dX1_examine_1 : decode cX1_examine 1 = .ok (.getfield 10, 3) := dk_180 0 10 (dk_at dksX1_examine_0 1 rfl rfl)
theorem dX1_examine_4 : decode cX1_examine 4 = .ok (.iload_n 1, 1) := dk_27 (dk_at dksX1_examine_0 4 rfl rfl)
theorem dX1_examine_5 : decode cX1_examine 5 = .ok (.invokevirtual 58, 3) := dk_182 0 58 (dk_at dksX1_examine_0 5 rfl rfl)
theorem dX1_examine_8 : decode cX1_examine 8 = .ok (.checkcast 62, 3) := dk_192 0 62 (dk_at dksX1_examine_0 8 rfl rfl)
theorem dX1_examine_11 : decode cX1_examine 11 = .ok (.astore_n 2, 1) := dk_77 (dk_at dksX1_examine_0 11 rfl rfl)
theorem dX1_examine_12 : decode cX1_examine 12 = .ok (.aload_n 0, 1) := dk_42 (dk_at dksX1_examine_0 12 rfl rfl)
theorem dX1_examine_13 : decode cX1_examine 13 = .ok (.getfield 20, 3) := dk_180 0 20 (dk_at dksX1_examine_0 13 rfl rfl)
theorem dX1_examine_16 : decode cX1_examine 16 = .ok (.aload_n 2, 1) := dk_44 (dk_at dksX1_examine_0 16 rfl rfl)
theorem dX1_examine_17 : decode cX1_examine 17 = .ok (.getfield 64, 3) := dk_180 0 64 (dk_at dksX1_examine_0 17 rfl rfl)
theorem dX1_examine_20 : decode cX1_examine 20 = .ok (.iaload, 1) := dk_46 (dk_at dksX1_examine_0 20 rfl rfl)
theorem dX1_examine_21 : decode cX1_examine 21 = .ok (.istore_n 3, 1) := dk_62 (dk_at dksX1_examine_0 21 rfl rfl)
theorem dX1_examine_22 : decode cX1_examine 22 = .ok (.iload_n 3, 1) := dk_29 (dk_at dksX1_examine_0 22 rfl rfl)
theorem dX1_examine_23 : decode cX1_examine 23 = .ok (.ifCond .le 39, 3) := dk_158 0 39 (dk_at dksX1_examine_1 0 rfl rfl)
theorem dX1_examine_26 : decode cX1_examine 26 = .ok (.aload_n 2, 1) := dk_44 (dk_at dksX1_examine_1 3 rfl rfl)
theorem dX1_examine_27 : decode cX1_examine 27 = .ok (.getfield 222, 3) := dk_180 0 222 (dk_at dksX1_examine_1 4 rfl rfl)
theorem dX1_examine_30 : decode cX1_examine 30 = .ok (.iload_n 3, 1) := dk_29 (dk_at dksX1_examine_1 7 rfl rfl)
theorem dX1_examine_31 : decode cX1_examine 31 = .ok (.aload_n 0, 1) := dk_42 (dk_at dksX1_examine_1 8 rfl rfl)
theorem dX1_examine_32 : decode cX1_examine 32 = .ok (.getfield 23, 3) := dk_180 0 23 (dk_at dksX1_examine_1 9 rfl rfl)
theorem dX1_examine_35 : decode cX1_examine 35 = .ok (.aload_n 2, 1) := dk_44 (dk_at dksX1_examine_1 12 rfl rfl)
theorem dX1_examine_36 : decode cX1_examine 36 = .ok (.getfield 64, 3) := dk_180 0 64 (dk_at dksX1_examine_1 13 rfl rfl)
theorem dX1_examine_39 : decode cX1_examine 39 = .ok (.iaload, 1) := dk_46 (dk_at dksX1_examine_1 16 rfl rfl)
theorem dX1_examine_40 : decode cX1_examine 40 = .ok (.isub, 1) := dk_100 (dk_at dksX1_examine_1 17 rfl rfl)
theorem dX1_examine_41 : decode cX1_examine 41 = .ok (.if_icmp .lt 21, 3) := dk_161 0 21 (dk_at dksX1_examine_1 18 rfl rfl)
theorem dX1_examine_44 : decode cX1_examine 44 = .ok (.aload_n 2, 1) := dk_44 (dk_at dksX1_examine_1 21 rfl rfl)
theorem dX1_examine_45 : decode cX1_examine 45 = .ok (.getfield 104, 3) := dk_180 0 104 (dk_at dksX1_examine_2 0 rfl rfl)
theorem dX1_examine_48 : decode cX1_examine 48 = .ok (.ifCond .ne 14, 3) := dk_154 0 14 (dk_at dksX1_examine_2 3 rfl rfl)
theorem dX1_examine_51 : decode cX1_examine 51 = .ok (.aload_n 2, 1) := dk_44 (dk_at dksX1_examine_2 6 rfl rfl)
theorem dX1_examine_52 : decode cX1_examine 52 = .ok (.invokevirtual 107, 3) := dk_182 0 107 (dk_at dksX1_examine_2 7 rfl rfl)
theorem dX1_examine_55 : decode cX1_examine 55 = .ok (.ifCond .ne 7, 3) := dk_154 0 7 (dk_at dksX1_examine_2 10 rfl rfl)
theorem dX1_examine_58 : decode cX1_examine 58 = .ok (.iconst 1, 1) := dk_4 (dk_at dksX1_examine_2 13 rfl rfl)
theorem dX1_examine_59 : decode cX1_examine 59 = .ok (.goto 4, 3) := dk_167 0 4 (dk_at dksX1_examine_2 14 rfl rfl)
theorem dX1_examine_62 : decode cX1_examine 62 = .ok (.iconst 0, 1) := dk_3 (dk_at dksX1_examine_2 17 rfl rfl)
theorem dX1_examine_63 : decode cX1_examine 63 = .ok (.invokestatic 79, 3) := dk_184 0 79 (dk_at dksX1_examine_2 18 rfl rfl)
theorem dX1_examine_66 : decode cX1_examine 66 = .ok (.aload_n 2, 1) := dk_44 (dk_at dksX1_examine_2 21 rfl rfl)
theorem dX1_examine_67 : decode cX1_examine 67 = .ok (.getfield 222, 3) := dk_180 0 222 (dk_at dksX1_examine_3 0 rfl rfl)
theorem dX1_examine_70 : decode cX1_examine 70 = .ok (.istore 4, 2) := dk_54 4 (dk_at dksX1_examine_3 3 rfl rfl)
theorem dX1_examine_72 : decode cX1_examine 72 = .ok (.aload_n 2, 1) := dk_44 (dk_at dksX1_examine_3 5 rfl rfl)
theorem dX1_examine_73 : decode cX1_examine 73 = .ok (.iconst 0, 1) := dk_3 (dk_at dksX1_examine_3 6 rfl rfl)
theorem dX1_examine_74 : decode cX1_examine 74 = .ok (.putfield 222, 3) := dk_181 0 222 (dk_at dksX1_examine_3 7 rfl rfl)
theorem dX1_examine_77 : decode cX1_examine 77 = .ok (.aload_n 2, 1) := dk_44 (dk_at dksX1_examine_3 10 rfl rfl)
theorem dX1_examine_78 : decode cX1_examine 78 = .ok (.iconst 0, 1) := dk_3 (dk_at dksX1_examine_3 11 rfl rfl)
theorem dX1_examine_79 : decode cX1_examine 79 = .ok (.putfield 225, 3) := dk_181 0 225 (dk_at dksX1_examine_3 12 rfl rfl)
theorem dX1_examine_82 : decode cX1_examine 82 = .ok (.iload 4, 2) := dk_21 4 (dk_at dksX1_examine_3 15 rfl rfl)
theorem dX1_examine_84 : decode cX1_examine 84 = .ok (.ireturn, 1) := dk_172 (dk_at dksX1_examine_3 17 rfl rfl)
abbrev cX1_waive : ByteArray := prog_1_method_18_code
def yX1_waive : MethodName := ⟨RX1, "waive", "(II)V"⟩
def dkwX1_waive_2 : List UInt8 := [184, 0, 79, 45, 28, 181, 0, 225, 177]
abbrev dktX1_waive_2 : List UInt8 := dkwX1_waive_2 ++ []
def dkwX1_waive_1 : List UInt8 := [180, 0, 20, 45, 180, 0, 64, 46, 158, 0, 14, 45, 180, 0, 225, 154, 0, 7, 4, 167, 0, 4, 3]
abbrev dktX1_waive_1 : List UInt8 := dkwX1_waive_1 ++ dktX1_waive_2
def dkwX1_waive_0 : List UInt8 := [42, 180, 0, 10, 27, 182, 0, 58, 192, 0, 62, 78, 28, 4, 17, 3, 231, 184, 0, 71, 184, 0, 68, 42]
abbrev dktX1_waive_0 : List UInt8 := dkwX1_waive_0 ++ dktX1_waive_1
theorem dksX1_waive_0 : cX1_waive.data.toList.drop 0 = dktX1_waive_0 := by decide +kernel
theorem dksX1_waive_1 : cX1_waive.data.toList.drop 24 = dktX1_waive_1 := dk_seg dksX1_waive_0 24 rfl rfl
theorem dksX1_waive_2 : cX1_waive.data.toList.drop 47 = dktX1_waive_2 := dk_seg dksX1_waive_1 23 rfl rfl
theorem dX1_waive_0 : decode cX1_waive 0 = .ok (.aload_n 0, 1) := dk_42 (dk_at dksX1_waive_0 0 rfl rfl)
theorem dX1_waive_1 : decode cX1_waive 1 = .ok (.getfield 10, 3) := dk_180 0 10 (dk_at dksX1_waive_0 1 rfl rfl)
theorem dX1_waive_4 : decode cX1_waive 4 = .ok (.iload_n 1, 1) := dk_27 (dk_at dksX1_waive_0 4 rfl rfl)
theorem dX1_waive_5 : decode cX1_waive 5 = .ok (.invokevirtual 58, 3) := dk_182 0 58 (dk_at dksX1_waive_0 5 rfl rfl)
theorem dX1_waive_8 : decode cX1_waive 8 = .ok (.checkcast 62, 3) := dk_192 0 62 (dk_at dksX1_waive_0 8 rfl rfl)
theorem dX1_waive_11 : decode cX1_waive 11 = .ok (.astore_n 3, 1) := dk_78 (dk_at dksX1_waive_0 11 rfl rfl)
theorem dX1_waive_12 : decode cX1_waive 12 = .ok (.iload_n 2, 1) := dk_28 (dk_at dksX1_waive_0 12 rfl rfl)
theorem dX1_waive_13 : decode cX1_waive 13 = .ok (.iconst 1, 1) := dk_4 (dk_at dksX1_waive_0 13 rfl rfl)
theorem dX1_waive_14 : decode cX1_waive 14 = .ok (.sipush 999, 3) := dk_17 3 231 (dk_at dksX1_waive_0 14 rfl rfl)
theorem dX1_waive_17 : decode cX1_waive 17 = .ok (.invokestatic 71, 3) := dk_184 0 71 (dk_at dksX1_waive_0 17 rfl rfl)
theorem dX1_waive_20 : decode cX1_waive 20 = .ok (.invokestatic 68, 3) := dk_184 0 68 (dk_at dksX1_waive_0 20 rfl rfl)
theorem dX1_waive_23 : decode cX1_waive 23 = .ok (.aload_n 0, 1) := dk_42 (dk_at dksX1_waive_0 23 rfl rfl)
theorem dX1_waive_24 : decode cX1_waive 24 = .ok (.getfield 20, 3) := dk_180 0 20 (dk_at dksX1_waive_1 0 rfl rfl)
theorem dX1_waive_27 : decode cX1_waive 27 = .ok (.aload_n 3, 1) := dk_45 (dk_at dksX1_waive_1 3 rfl rfl)
theorem dX1_waive_28 : decode cX1_waive 28 = .ok (.getfield 64, 3) := dk_180 0 64 (dk_at dksX1_waive_1 4 rfl rfl)
theorem dX1_waive_31 : decode cX1_waive 31 = .ok (.iaload, 1) := dk_46 (dk_at dksX1_waive_1 7 rfl rfl)
theorem dX1_waive_32 : decode cX1_waive 32 = .ok (.ifCond .le 14, 3) := dk_158 0 14 (dk_at dksX1_waive_1 8 rfl rfl)
theorem dX1_waive_35 : decode cX1_waive 35 = .ok (.aload_n 3, 1) := dk_45 (dk_at dksX1_waive_1 11 rfl rfl)
theorem dX1_waive_36 : decode cX1_waive 36 = .ok (.getfield 225, 3) := dk_180 0 225 (dk_at dksX1_waive_1 12 rfl rfl)
theorem dX1_waive_39 : decode cX1_waive 39 = .ok (.ifCond .ne 7, 3) := dk_154 0 7 (dk_at dksX1_waive_1 15 rfl rfl)
theorem dX1_waive_42 : decode cX1_waive 42 = .ok (.iconst 1, 1) := dk_4 (dk_at dksX1_waive_1 18 rfl rfl)
theorem dX1_waive_43 : decode cX1_waive 43 = .ok (.goto 4, 3) := dk_167 0 4 (dk_at dksX1_waive_1 19 rfl rfl)
theorem dX1_waive_46 : decode cX1_waive 46 = .ok (.iconst 0, 1) := dk_3 (dk_at dksX1_waive_1 22 rfl rfl)
theorem dX1_waive_47 : decode cX1_waive 47 = .ok (.invokestatic 79, 3) := dk_184 0 79 (dk_at dksX1_waive_2 0 rfl rfl)
theorem dX1_waive_50 : decode cX1_waive 50 = .ok (.aload_n 3, 1) := dk_45 (dk_at dksX1_waive_2 3 rfl rfl)
theorem dX1_waive_51 : decode cX1_waive 51 = .ok (.iload_n 2, 1) := dk_28 (dk_at dksX1_waive_2 4 rfl rfl)
theorem dX1_waive_52 : decode cX1_waive 52 = .ok (.putfield 225, 3) := dk_181 0 225 (dk_at dksX1_waive_2 5 rfl rfl)
theorem dX1_waive_55 : decode cX1_waive 55 = .ok (.return_, 1) := dk_177 (dk_at dksX1_waive_2 8 rfl rfl)
abbrev cX1_flaw : ByteArray := prog_1_method_19_code
def yX1_flaw : MethodName := ⟨RX1, "flaw", "(II)I"⟩
def dkwX1_flaw_2 : List UInt8 := [180, 0, 228, 54, 4, 45, 28, 181, 0, 228, 45, 45, 180, 0, 231, 181, 0, 234, 21, 4, 172]
abbrev dktX1_flaw_2 : List UInt8 := dkwX1_flaw_2 ++ []
def dkwX1_flaw_1 : List UInt8 := [7, 160, 0, 17, 28, 4, 16, 99, 184, 0, 71, 153, 0, 7, 4, 167, 0, 4, 3, 184, 0, 68, 45]
abbrev dktX1_flaw_1 : List UInt8 := dkwX1_flaw_1 ++ dktX1_flaw_2
def dkwX1_flaw_0 : List UInt8 := [42, 180, 0, 10, 27, 182, 0, 58, 192, 0, 62, 78, 45, 180, 0, 64, 6, 159, 0, 11, 45, 180, 0, 64]
abbrev dktX1_flaw_0 : List UInt8 := dkwX1_flaw_0 ++ dktX1_flaw_1
theorem dksX1_flaw_0 : cX1_flaw.data.toList.drop 0 = dktX1_flaw_0 := by decide +kernel
theorem dksX1_flaw_1 : cX1_flaw.data.toList.drop 24 = dktX1_flaw_1 := dk_seg dksX1_flaw_0 24 rfl rfl
theorem dksX1_flaw_2 : cX1_flaw.data.toList.drop 47 = dktX1_flaw_2 := dk_seg dksX1_flaw_1 23 rfl rfl
theorem dX1_flaw_0 : decode cX1_flaw 0 = .ok (.aload_n 0, 1) := dk_42 (dk_at dksX1_flaw_0 0 rfl rfl)
theorem dX1_flaw_1 : decode cX1_flaw 1 = .ok (.getfield 10, 3) := dk_180 0 10 (dk_at dksX1_flaw_0 1 rfl rfl)
theorem dX1_flaw_4 : decode cX1_flaw 4 = .ok (.iload_n 1, 1) := dk_27 (dk_at dksX1_flaw_0 4 rfl rfl)
theorem dX1_flaw_5 : decode cX1_flaw 5 = .ok (.invokevirtual 58, 3) := dk_182 0 58 (dk_at dksX1_flaw_0 5 rfl rfl)
theorem dX1_flaw_8 : decode cX1_flaw 8 = .ok (.checkcast 62, 3) := dk_192 0 62 (dk_at dksX1_flaw_0 8 rfl rfl)
theorem dX1_flaw_11 : decode cX1_flaw 11 = .ok (.astore_n 3, 1) := dk_78 (dk_at dksX1_flaw_0 11 rfl rfl)
theorem dX1_flaw_12 : decode cX1_flaw 12 = .ok (.aload_n 3, 1) := dk_45 (dk_at dksX1_flaw_0 12 rfl rfl)
theorem dX1_flaw_13 : decode cX1_flaw 13 = .ok (.getfield 64, 3) := dk_180 0 64 (dk_at dksX1_flaw_0 13 rfl rfl)
theorem dX1_flaw_16 : decode cX1_flaw 16 = .ok (.iconst 3, 1) := dk_6 (dk_at dksX1_flaw_0 16 rfl rfl)
theorem dX1_flaw_17 : decode cX1_flaw 17 = .ok (.if_icmp .eq 11, 3) := dk_159 0 11 (dk_at dksX1_flaw_0 17 rfl rfl)
theorem dX1_flaw_20 : decode cX1_flaw 20 = .ok (.aload_n 3, 1) := dk_45 (dk_at dksX1_flaw_0 20 rfl rfl)
theorem dX1_flaw_21 : decode cX1_flaw 21 = .ok (.getfield 64, 3) := dk_180 0 64 (dk_at dksX1_flaw_0 21 rfl rfl)
theorem dX1_flaw_24 : decode cX1_flaw 24 = .ok (.iconst 4, 1) := dk_7 (dk_at dksX1_flaw_1 0 rfl rfl)
theorem dX1_flaw_25 : decode cX1_flaw 25 = .ok (.if_icmp .ne 17, 3) := dk_160 0 17 (dk_at dksX1_flaw_1 1 rfl rfl)
theorem dX1_flaw_28 : decode cX1_flaw 28 = .ok (.iload_n 2, 1) := dk_28 (dk_at dksX1_flaw_1 4 rfl rfl)
theorem dX1_flaw_29 : decode cX1_flaw 29 = .ok (.iconst 1, 1) := dk_4 (dk_at dksX1_flaw_1 5 rfl rfl)
theorem dX1_flaw_30 : decode cX1_flaw 30 = .ok (.bipush 99, 2) := dk_16 99 (dk_at dksX1_flaw_1 6 rfl rfl)
theorem dX1_flaw_32 : decode cX1_flaw 32 = .ok (.invokestatic 71, 3) := dk_184 0 71 (dk_at dksX1_flaw_1 8 rfl rfl)
theorem dX1_flaw_35 : decode cX1_flaw 35 = .ok (.ifCond .eq 7, 3) := dk_153 0 7 (dk_at dksX1_flaw_1 11 rfl rfl)
theorem dX1_flaw_38 : decode cX1_flaw 38 = .ok (.iconst 1, 1) := dk_4 (dk_at dksX1_flaw_1 14 rfl rfl)
theorem dX1_flaw_39 : decode cX1_flaw 39 = .ok (.goto 4, 3) := dk_167 0 4 (dk_at dksX1_flaw_1 15 rfl rfl)
theorem dX1_flaw_42 : decode cX1_flaw 42 = .ok (.iconst 0, 1) := dk_3 (dk_at dksX1_flaw_1 18 rfl rfl)
theorem dX1_flaw_43 : decode cX1_flaw 43 = .ok (.invokestatic 68, 3) := dk_184 0 68 (dk_at dksX1_flaw_1 19 rfl rfl)
theorem dX1_flaw_46 : decode cX1_flaw 46 = .ok (.aload_n 3, 1) := dk_45 (dk_at dksX1_flaw_1 22 rfl rfl)
theorem dX1_flaw_47 : decode cX1_flaw 47 = .ok (.getfield 228, 3) := dk_180 0 228 (dk_at dksX1_flaw_2 0 rfl rfl)
theorem dX1_flaw_50 : decode cX1_flaw 50 = .ok (.istore 4, 2) := dk_54 4 (dk_at dksX1_flaw_2 3 rfl rfl)
theorem dX1_flaw_52 : decode cX1_flaw 52 = .ok (.aload_n 3, 1) := dk_45 (dk_at dksX1_flaw_2 5 rfl rfl)
theorem dX1_flaw_53 : decode cX1_flaw 53 = .ok (.iload_n 2, 1) := dk_28 (dk_at dksX1_flaw_2 6 rfl rfl)
theorem dX1_flaw_54 : decode cX1_flaw 54 = .ok (.putfield 228, 3) := dk_181 0 228 (dk_at dksX1_flaw_2 7 rfl rfl)
theorem dX1_flaw_57 : decode cX1_flaw 57 = .ok (.aload_n 3, 1) := dk_45 (dk_at dksX1_flaw_2 10 rfl rfl)
theorem dX1_flaw_58 : decode cX1_flaw 58 = .ok (.aload_n 3, 1) := dk_45 (dk_at dksX1_flaw_2 11 rfl rfl)
theorem dX1_flaw_59 : decode cX1_flaw 59 = .ok (.getfield 231, 3) := dk_180 0 231 (dk_at dksX1_flaw_2 12 rfl rfl)
theorem dX1_flaw_62 : decode cX1_flaw 62 = .ok (.putfield 234, 3) := dk_181 0 234 (dk_at dksX1_flaw_2 15 rfl rfl)
theorem dX1_flaw_65 : decode cX1_flaw 65 = .ok (.iload 4, 2) := dk_21 4 (dk_at dksX1_flaw_2 18 rfl rfl)
theorem dX1_flaw_67 : decode cX1_flaw 67 = .ok (.ireturn, 1) := dk_172 (dk_at dksX1_flaw_2 20 rfl rfl)
abbrev cX1_look : ByteArray := prog_1_method_20_code
def yX1_look : MethodName := ⟨RX1, "look", "(IZ)I"⟩
def dkwX1_look_3 : List UInt8 := [172, 45, 89, 180, 0, 240, 28, 154, 0, 7, 4, 167, 0, 4, 3, 126, 181, 0, 240, 3, 172]
abbrev dktX1_look_3 : List UInt8 := dkwX1_look_3 ++ []
def dkwX1_look_2 : List UInt8 := [180, 0, 228, 28, 153, 0, 7, 6, 167, 0, 5, 16, 10, 161, 0, 12, 45, 182, 0, 237, 45, 180, 0, 228]
abbrev dktX1_look_2 : List UInt8 := dkwX1_look_2 ++ dktX1_look_3
def dkwX1_look_1 : List UInt8 := [154, 0, 18, 28, 153, 0, 10, 45, 182, 0, 96, 153, 0, 7, 4, 167, 0, 4, 3, 184, 0, 79, 45]
abbrev dktX1_look_1 : List UInt8 := dkwX1_look_1 ++ dktX1_look_2
def dkwX1_look_0 : List UInt8 := [42, 180, 0, 10, 27, 182, 0, 58, 192, 0, 62, 78, 45, 180, 0, 104, 154, 0, 25, 45, 182, 0, 107]
abbrev dktX1_look_0 : List UInt8 := dkwX1_look_0 ++ dktX1_look_1
theorem dksX1_look_0 : cX1_look.data.toList.drop 0 = dktX1_look_0 := by decide +kernel
theorem dksX1_look_1 : cX1_look.data.toList.drop 23 = dktX1_look_1 := dk_seg dksX1_look_0 23 rfl rfl
theorem dksX1_look_2 : cX1_look.data.toList.drop 46 = dktX1_look_2 := dk_seg dksX1_look_1 23 rfl rfl
theorem dksX1_look_3 : cX1_look.data.toList.drop 70 = dktX1_look_3 := dk_seg dksX1_look_2 24 rfl rfl
theorem dX1_look_0 : decode cX1_look 0 = .ok (.aload_n 0, 1) := dk_42 (dk_at dksX1_look_0 0 rfl rfl)
theorem dX1_look_1 : decode cX1_look 1 = .ok (.getfield 10, 3) := dk_180 0 10 (dk_at dksX1_look_0 1 rfl rfl)
theorem dX1_look_4 : decode cX1_look 4 = .ok (.iload_n 1, 1) := dk_27 (dk_at dksX1_look_0 4 rfl rfl)
theorem dX1_look_5 : decode cX1_look 5 = .ok (.invokevirtual 58, 3) := dk_182 0 58 (dk_at dksX1_look_0 5 rfl rfl)
theorem dX1_look_8 : decode cX1_look 8 = .ok (.checkcast 62, 3) := dk_192 0 62 (dk_at dksX1_look_0 8 rfl rfl)
theorem dX1_look_11 : decode cX1_look 11 = .ok (.astore_n 3, 1) := dk_78 (dk_at dksX1_look_0 11 rfl rfl)
theorem dX1_look_12 : decode cX1_look 12 = .ok (.aload_n 3, 1) := dk_45 (dk_at dksX1_look_0 12 rfl rfl)
theorem dX1_look_13 : decode cX1_look 13 = .ok (.getfield 104, 3) := dk_180 0 104 (dk_at dksX1_look_0 13 rfl rfl)
theorem dX1_look_16 : decode cX1_look 16 = .ok (.ifCond .ne 25, 3) := dk_154 0 25 (dk_at dksX1_look_0 16 rfl rfl)
theorem dX1_look_19 : decode cX1_look 19 = .ok (.aload_n 3, 1) := dk_45 (dk_at dksX1_look_0 19 rfl rfl)
theorem dX1_look_20 : decode cX1_look 20 = .ok (.invokevirtual 107, 3) := dk_182 0 107 (dk_at dksX1_look_0 20 rfl rfl)
theorem dX1_look_23 : decode cX1_look 23 = .ok (.ifCond .ne 18, 3) := dk_154 0 18 (dk_at dksX1_look_1 0 rfl rfl)
theorem dX1_look_26 : decode cX1_look 26 = .ok (.iload_n 2, 1) := dk_28 (dk_at dksX1_look_1 3 rfl rfl)
theorem dX1_look_27 : decode cX1_look 27 = .ok (.ifCond .eq 10, 3) := dk_153 0 10 (dk_at dksX1_look_1 4 rfl rfl)
theorem dX1_look_30 : decode cX1_look 30 = .ok (.aload_n 3, 1) := dk_45 (dk_at dksX1_look_1 7 rfl rfl)
theorem dX1_look_31 : decode cX1_look 31 = .ok (.invokevirtual 96, 3) := dk_182 0 96 (dk_at dksX1_look_1 8 rfl rfl)
theorem dX1_look_34 : decode cX1_look 34 = .ok (.ifCond .eq 7, 3) := dk_153 0 7 (dk_at dksX1_look_1 11 rfl rfl)
theorem dX1_look_37 : decode cX1_look 37 = .ok (.iconst 1, 1) := dk_4 (dk_at dksX1_look_1 14 rfl rfl)
theorem dX1_look_38 : decode cX1_look 38 = .ok (.goto 4, 3) := dk_167 0 4 (dk_at dksX1_look_1 15 rfl rfl)
theorem dX1_look_41 : decode cX1_look 41 = .ok (.iconst 0, 1) := dk_3 (dk_at dksX1_look_1 18 rfl rfl)
theorem dX1_look_42 : decode cX1_look 42 = .ok (.invokestatic 79, 3) := dk_184 0 79 (dk_at dksX1_look_1 19 rfl rfl)
theorem dX1_look_45 : decode cX1_look 45 = .ok (.aload_n 3, 1) := dk_45 (dk_at dksX1_look_1 22 rfl rfl)
theorem dX1_look_46 : decode cX1_look 46 = .ok (.getfield 228, 3) := dk_180 0 228 (dk_at dksX1_look_2 0 rfl rfl)
theorem dX1_look_49 : decode cX1_look 49 = .ok (.iload_n 2, 1) := dk_28 (dk_at dksX1_look_2 3 rfl rfl)
theorem dX1_look_50 : decode cX1_look 50 = .ok (.ifCond .eq 7, 3) := dk_153 0 7 (dk_at dksX1_look_2 4 rfl rfl)
theorem dX1_look_53 : decode cX1_look 53 = .ok (.iconst 3, 1) := dk_6 (dk_at dksX1_look_2 7 rfl rfl)
theorem dX1_look_54 : decode cX1_look 54 = .ok (.goto 5, 3) := dk_167 0 5 (dk_at dksX1_look_2 8 rfl rfl)
theorem dX1_look_57 : decode cX1_look 57 = .ok (.bipush 10, 2) := dk_16 10 (dk_at dksX1_look_2 11 rfl rfl)
theorem dX1_look_59 : decode cX1_look 59 = .ok (.if_icmp .lt 12, 3) := dk_161 0 12 (dk_at dksX1_look_2 13 rfl rfl)
theorem dX1_look_62 : decode cX1_look 62 = .ok (.aload_n 3, 1) := dk_45 (dk_at dksX1_look_2 16 rfl rfl)
theorem dX1_look_63 : decode cX1_look 63 = .ok (.invokevirtual 237, 3) := dk_182 0 237 (dk_at dksX1_look_2 17 rfl rfl)
theorem dX1_look_66 : decode cX1_look 66 = .ok (.aload_n 3, 1) := dk_45 (dk_at dksX1_look_2 20 rfl rfl)
theorem dX1_look_67 : decode cX1_look 67 = .ok (.getfield 228, 3) := dk_180 0 228 (dk_at dksX1_look_2 21 rfl rfl)
theorem dX1_look_70 : decode cX1_look 70 = .ok (.ireturn, 1) := dk_172 (dk_at dksX1_look_3 0 rfl rfl)
theorem dX1_look_71 : decode cX1_look 71 = .ok (.aload_n 3, 1) := dk_45 (dk_at dksX1_look_3 1 rfl rfl)
theorem dX1_look_72 : decode cX1_look 72 = .ok (.dup, 1) := dk_89 (dk_at dksX1_look_3 2 rfl rfl)
theorem dX1_look_73 : decode cX1_look 73 = .ok (.getfield 240, 3) := dk_180 0 240 (dk_at dksX1_look_3 3 rfl rfl)
theorem dX1_look_76 : decode cX1_look 76 = .ok (.iload_n 2, 1) := dk_28 (dk_at dksX1_look_3 6 rfl rfl)
theorem dX1_look_77 : decode cX1_look 77 = .ok (.ifCond .ne 7, 3) := dk_154 0 7 (dk_at dksX1_look_3 7 rfl rfl)
theorem dX1_look_80 : decode cX1_look 80 = .ok (.iconst 1, 1) := dk_4 (dk_at dksX1_look_3 10 rfl rfl)
theorem dX1_look_81 : decode cX1_look 81 = .ok (.goto 4, 3) := dk_167 0 4 (dk_at dksX1_look_3 11 rfl rfl)
theorem dX1_look_84 : decode cX1_look 84 = .ok (.iconst 0, 1) := dk_3 (dk_at dksX1_look_3 14 rfl rfl)
theorem dX1_look_85 : decode cX1_look 85 = .ok (.iand, 1) := dk_126 (dk_at dksX1_look_3 15 rfl rfl)
theorem dX1_look_86 : decode cX1_look 86 = .ok (.putfield 240, 3) := dk_181 0 240 (dk_at dksX1_look_3 16 rfl rfl)
theorem dX1_look_89 : decode cX1_look 89 = .ok (.iconst 0, 1) := dk_3 (dk_at dksX1_look_3 19 rfl rfl)
theorem dX1_look_90 : decode cX1_look 90 = .ok (.ireturn, 1) := dk_172 (dk_at dksX1_look_3 20 rfl rfl)
abbrev cX1_clear : ByteArray := prog_1_method_21_code
def yX1_clear : MethodName := ⟨RX1, "clear", "(I)I"⟩
def dkwX1_clear_2 : List UInt8 := [181, 0, 228, 29, 172]
abbrev dktX1_clear_2 : List UInt8 := dkwX1_clear_2 ++ []
def dkwX1_clear_1 : List UInt8 := [154, 0, 7, 4, 167, 0, 4, 3, 184, 0, 79, 44, 180, 0, 228, 62, 44, 3, 181, 0, 100, 44, 3]
abbrev dktX1_clear_1 : List UInt8 := dkwX1_clear_1 ++ dktX1_clear_2
def dkwX1_clear_0 : List UInt8 := [42, 180, 0, 10, 27, 182, 0, 58, 192, 0, 62, 77, 44, 180, 0, 100, 153, 0, 14, 44, 182, 0, 107]
abbrev dktX1_clear_0 : List UInt8 := dkwX1_clear_0 ++ dktX1_clear_1
theorem dksX1_clear_0 : cX1_clear.data.toList.drop 0 = dktX1_clear_0 := by decide +kernel
theorem dksX1_clear_1 : cX1_clear.data.toList.drop 23 = dktX1_clear_1 := dk_seg dksX1_clear_0 23 rfl rfl
theorem dksX1_clear_2 : cX1_clear.data.toList.drop 46 = dktX1_clear_2 := dk_seg dksX1_clear_1 23 rfl rfl
theorem dX1_clear_0 : decode cX1_clear 0 = .ok (.aload_n 0, 1) := dk_42 (dk_at dksX1_clear_0 0 rfl rfl)
theorem dX1_clear_1 : decode cX1_clear 1 = .ok (.getfield 10, 3) := dk_180 0 10 (dk_at dksX1_clear_0 1 rfl rfl)
theorem dX1_clear_4 : decode cX1_clear 4 = .ok (.iload_n 1, 1) := dk_27 (dk_at dksX1_clear_0 4 rfl rfl)
theorem dX1_clear_5 : decode cX1_clear 5 = .ok (.invokevirtual 58, 3) := dk_182 0 58 (dk_at dksX1_clear_0 5 rfl rfl)
theorem dX1_clear_8 : decode cX1_clear 8 = .ok (.checkcast 62, 3) := dk_192 0 62 (dk_at dksX1_clear_0 8 rfl rfl)
theorem dX1_clear_11 : decode cX1_clear 11 = .ok (.astore_n 2, 1) := dk_77 (dk_at dksX1_clear_0 11 rfl rfl)
theorem dX1_clear_12 : decode cX1_clear 12 = .ok (.aload_n 2, 1) := dk_44 (dk_at dksX1_clear_0 12 rfl rfl)
theorem dX1_clear_13 : decode cX1_clear 13 = .ok (.getfield 100, 3) := dk_180 0 100 (dk_at dksX1_clear_0 13 rfl rfl)
theorem dX1_clear_16 : decode cX1_clear 16 = .ok (.ifCond .eq 14, 3) := dk_153 0 14 (dk_at dksX1_clear_0 16 rfl rfl)
theorem dX1_clear_19 : decode cX1_clear 19 = .ok (.aload_n 2, 1) := dk_44 (dk_at dksX1_clear_0 19 rfl rfl)
theorem dX1_clear_20 : decode cX1_clear 20 = .ok (.invokevirtual 107, 3) := dk_182 0 107 (dk_at dksX1_clear_0 20 rfl rfl)
theorem dX1_clear_23 : decode cX1_clear 23 = .ok (.ifCond .ne 7, 3) := dk_154 0 7 (dk_at dksX1_clear_1 0 rfl rfl)
theorem dX1_clear_26 : decode cX1_clear 26 = .ok (.iconst 1, 1) := dk_4 (dk_at dksX1_clear_1 3 rfl rfl)
theorem dX1_clear_27 : decode cX1_clear 27 = .ok (.goto 4, 3) := dk_167 0 4 (dk_at dksX1_clear_1 4 rfl rfl)
theorem dX1_clear_30 : decode cX1_clear 30 = .ok (.iconst 0, 1) := dk_3 (dk_at dksX1_clear_1 7 rfl rfl)
theorem dX1_clear_31 : decode cX1_clear 31 = .ok (.invokestatic 79, 3) := dk_184 0 79 (dk_at dksX1_clear_1 8 rfl rfl)
theorem dX1_clear_34 : decode cX1_clear 34 = .ok (.aload_n 2, 1) := dk_44 (dk_at dksX1_clear_1 11 rfl rfl)
theorem dX1_clear_35 : decode cX1_clear 35 = .ok (.getfield 228, 3) := dk_180 0 228 (dk_at dksX1_clear_1 12 rfl rfl)
theorem dX1_clear_38 : decode cX1_clear 38 = .ok (.istore_n 3, 1) := dk_62 (dk_at dksX1_clear_1 15 rfl rfl)
theorem dX1_clear_39 : decode cX1_clear 39 = .ok (.aload_n 2, 1) := dk_44 (dk_at dksX1_clear_1 16 rfl rfl)
theorem dX1_clear_40 : decode cX1_clear 40 = .ok (.iconst 0, 1) := dk_3 (dk_at dksX1_clear_1 17 rfl rfl)
theorem dX1_clear_41 : decode cX1_clear 41 = .ok (.putfield 100, 3) := dk_181 0 100 (dk_at dksX1_clear_1 18 rfl rfl)
theorem dX1_clear_44 : decode cX1_clear 44 = .ok (.aload_n 2, 1) := dk_44 (dk_at dksX1_clear_1 21 rfl rfl)
theorem dX1_clear_45 : decode cX1_clear 45 = .ok (.iconst 0, 1) := dk_3 (dk_at dksX1_clear_1 22 rfl rfl)
theorem dX1_clear_46 : decode cX1_clear 46 = .ok (.putfield 228, 3) := dk_181 0 228 (dk_at dksX1_clear_2 0 rfl rfl)
theorem dX1_clear_49 : decode cX1_clear 49 = .ok (.iload_n 3, 1) := dk_29 (dk_at dksX1_clear_2 3 rfl rfl)
theorem dX1_clear_50 : decode cX1_clear 50 = .ok (.ireturn, 1) := dk_172 (dk_at dksX1_clear_2 4 rfl rfl)
abbrev cX1_recall : ByteArray := prog_1_method_22_code
def yX1_recall : MethodName := ⟨RX1, "recall", "(I)I"⟩
def dkwX1_recall_3 : List UInt8 := [181, 0, 240, 25, 4, 182, 0, 134, 3, 181, 0, 138, 132, 2, 1, 167, 255, 193, 28, 172]
abbrev dktX1_recall_3 : List UInt8 := dkwX1_recall_3 ++ []
def dkwX1_recall_2 : List UInt8 := [27, 160, 0, 37, 25, 4, 180, 0, 104, 154, 0, 29, 25, 4, 180, 0, 240, 154, 0, 21, 25, 4, 4]
abbrev dktX1_recall_2 : List UInt8 := dkwX1_recall_2 ++ dktX1_recall_3
def dkwX1_recall_1 : List UInt8 := [185, 0, 198, 1, 0, 153, 0, 60, 45, 185, 0, 203, 1, 0, 192, 0, 62, 58, 4, 25, 4, 180, 0, 244]
abbrev dktX1_recall_1 : List UInt8 := dkwX1_recall_1 ++ dktX1_recall_2
def dkwX1_recall_0 : List UInt8 := [27, 3, 16, 9, 184, 0, 71, 184, 0, 68, 3, 61, 42, 180, 0, 10, 182, 0, 243, 78, 45]
abbrev dktX1_recall_0 : List UInt8 := dkwX1_recall_0 ++ dktX1_recall_1
theorem dksX1_recall_0 : cX1_recall.data.toList.drop 0 = dktX1_recall_0 := by decide +kernel
theorem dksX1_recall_1 : cX1_recall.data.toList.drop 21 = dktX1_recall_1 := dk_seg dksX1_recall_0 21 rfl rfl
theorem dksX1_recall_2 : cX1_recall.data.toList.drop 45 = dktX1_recall_2 := dk_seg dksX1_recall_1 24 rfl rfl
theorem dksX1_recall_3 : cX1_recall.data.toList.drop 68 = dktX1_recall_3 := dk_seg dksX1_recall_2 23 rfl rfl
theorem dX1_recall_0 : decode cX1_recall 0 = .ok (.iload_n 1, 1) := dk_27 (dk_at dksX1_recall_0 0 rfl rfl)
theorem dX1_recall_1 : decode cX1_recall 1 = .ok (.iconst 0, 1) := dk_3 (dk_at dksX1_recall_0 1 rfl rfl)
theorem dX1_recall_2 : decode cX1_recall 2 = .ok (.bipush 9, 2) := dk_16 9 (dk_at dksX1_recall_0 2 rfl rfl)
theorem dX1_recall_4 : decode cX1_recall 4 = .ok (.invokestatic 71, 3) := dk_184 0 71 (dk_at dksX1_recall_0 4 rfl rfl)
theorem dX1_recall_7 : decode cX1_recall 7 = .ok (.invokestatic 68, 3) := dk_184 0 68 (dk_at dksX1_recall_0 7 rfl rfl)
theorem dX1_recall_10 : decode cX1_recall 10 = .ok (.iconst 0, 1) := dk_3 (dk_at dksX1_recall_0 10 rfl rfl)
theorem dX1_recall_11 : decode cX1_recall 11 = .ok (.istore_n 2, 1) := dk_61 (dk_at dksX1_recall_0 11 rfl rfl)
theorem dX1_recall_12 : decode cX1_recall 12 = .ok (.aload_n 0, 1) := dk_42 (dk_at dksX1_recall_0 12 rfl rfl)
theorem dX1_recall_13 : decode cX1_recall 13 = .ok (.getfield 10, 3) := dk_180 0 10 (dk_at dksX1_recall_0 13 rfl rfl)
theorem dX1_recall_16 : decode cX1_recall 16 = .ok (.invokevirtual 243, 3) := dk_182 0 243 (dk_at dksX1_recall_0 16 rfl rfl)
theorem dX1_recall_19 : decode cX1_recall 19 = .ok (.astore_n 3, 1) := dk_78 (dk_at dksX1_recall_0 19 rfl rfl)
theorem dX1_recall_20 : decode cX1_recall 20 = .ok (.aload_n 3, 1) := dk_45 (dk_at dksX1_recall_0 20 rfl rfl)
theorem dX1_recall_21 : decode cX1_recall 21 = .ok (.invokeinterface 198 1, 5) := by decide +kernel
theorem dX1_recall_26 : decode cX1_recall 26 = .ok (.ifCond .eq 60, 3) := dk_153 0 60 (dk_at dksX1_recall_1 5 rfl rfl)
theorem dX1_recall_29 : decode cX1_recall 29 = .ok (.aload_n 3, 1) := dk_45 (dk_at dksX1_recall_1 8 rfl rfl)
theorem dX1_recall_30 : decode cX1_recall 30 = .ok (.invokeinterface 203 1, 5) := by decide +kernel
theorem dX1_recall_35 : decode cX1_recall 35 = .ok (.checkcast 62, 3) := dk_192 0 62 (dk_at dksX1_recall_1 14 rfl rfl)
theorem dX1_recall_38 : decode cX1_recall 38 = .ok (.astore 4, 2) := dk_58 4 (dk_at dksX1_recall_1 17 rfl rfl)
theorem dX1_recall_40 : decode cX1_recall 40 = .ok (.aload 4, 2) := dk_25 4 (dk_at dksX1_recall_1 19 rfl rfl)
theorem dX1_recall_42 : decode cX1_recall 42 = .ok (.getfield 244, 3) := dk_180 0 244 (dk_at dksX1_recall_1 21 rfl rfl)
theorem dX1_recall_45 : decode cX1_recall 45 = .ok (.iload_n 1, 1) := dk_27 (dk_at dksX1_recall_2 0 rfl rfl)
theorem dX1_recall_46 : decode cX1_recall 46 = .ok (.if_icmp .ne 37, 3) := dk_160 0 37 (dk_at dksX1_recall_2 1 rfl rfl)
theorem dX1_recall_49 : decode cX1_recall 49 = .ok (.aload 4, 2) := dk_25 4 (dk_at dksX1_recall_2 4 rfl rfl)
theorem dX1_recall_51 : decode cX1_recall 51 = .ok (.getfield 104, 3) := dk_180 0 104 (dk_at dksX1_recall_2 6 rfl rfl)
theorem dX1_recall_54 : decode cX1_recall 54 = .ok (.ifCond .ne 29, 3) := dk_154 0 29 (dk_at dksX1_recall_2 9 rfl rfl)
theorem dX1_recall_57 : decode cX1_recall 57 = .ok (.aload 4, 2) := dk_25 4 (dk_at dksX1_recall_2 12 rfl rfl)
theorem dX1_recall_59 : decode cX1_recall 59 = .ok (.getfield 240, 3) := dk_180 0 240 (dk_at dksX1_recall_2 14 rfl rfl)
theorem dX1_recall_62 : decode cX1_recall 62 = .ok (.ifCond .ne 21, 3) := dk_154 0 21 (dk_at dksX1_recall_2 17 rfl rfl)
theorem dX1_recall_65 : decode cX1_recall 65 = .ok (.aload 4, 2) := dk_25 4 (dk_at dksX1_recall_2 20 rfl rfl)
theorem dX1_recall_67 : decode cX1_recall 67 = .ok (.iconst 1, 1) := dk_4 (dk_at dksX1_recall_2 22 rfl rfl)
theorem dX1_recall_68 : decode cX1_recall 68 = .ok (.putfield 240, 3) := dk_181 0 240 (dk_at dksX1_recall_3 0 rfl rfl)
theorem dX1_recall_71 : decode cX1_recall 71 = .ok (.aload 4, 2) := dk_25 4 (dk_at dksX1_recall_3 3 rfl rfl)
theorem dX1_recall_73 : decode cX1_recall 73 = .ok (.invokevirtual 134, 3) := dk_182 0 134 (dk_at dksX1_recall_3 5 rfl rfl)
theorem dX1_recall_76 : decode cX1_recall 76 = .ok (.iconst 0, 1) := dk_3 (dk_at dksX1_recall_3 8 rfl rfl)
theorem dX1_recall_77 : decode cX1_recall 77 = .ok (.putfield 138, 3) := dk_181 0 138 (dk_at dksX1_recall_3 9 rfl rfl)
theorem dX1_recall_80 : decode cX1_recall 80 = .ok (.iinc 2 1, 3) := dk_132 2 1 (dk_at dksX1_recall_3 12 rfl rfl)
theorem dX1_recall_83 : decode cX1_recall 83 = .ok (.goto (-63), 3) := dk_167 255 193 (dk_at dksX1_recall_3 15 rfl rfl)
theorem dX1_recall_86 : decode cX1_recall 86 = .ok (.iload_n 2, 1) := dk_28 (dk_at dksX1_recall_3 18 rfl rfl)
theorem dX1_recall_87 : decode cX1_recall 87 = .ok (.ireturn, 1) := dk_172 (dk_at dksX1_recall_3 19 rfl rfl)
abbrev cX1_release : ByteArray := prog_1_method_27_code
def yX1_release : MethodName := ⟨RX1, "release", "(I)I"⟩
def dkwX1_release_1 : List UInt8 := [181, 0, 138, 29, 172]
abbrev dktX1_release_1 : List UInt8 := dkwX1_release_1 ++ []
def dkwX1_release_0 : List UInt8 := [42, 27, 3, 182, 0, 171, 77, 42, 44, 182, 1, 12, 62, 44, 29, 154, 0, 7, 4, 167, 0, 4, 3]
abbrev dktX1_release_0 : List UInt8 := dkwX1_release_0 ++ dktX1_release_1
theorem dksX1_release_0 : cX1_release.data.toList.drop 0 = dktX1_release_0 := by decide +kernel
theorem dksX1_release_1 : cX1_release.data.toList.drop 23 = dktX1_release_1 := dk_seg dksX1_release_0 23 rfl rfl
theorem dX1_release_0 : decode cX1_release 0 = .ok (.aload_n 0, 1) := dk_42 (dk_at dksX1_release_0 0 rfl rfl)
theorem dX1_release_1 : decode cX1_release 1 = .ok (.iload_n 1, 1) := dk_27 (dk_at dksX1_release_0 1 rfl rfl)
theorem dX1_release_2 : decode cX1_release 2 = .ok (.iconst 0, 1) := dk_3 (dk_at dksX1_release_0 2 rfl rfl)
theorem dX1_release_3 : decode cX1_release 3 = .ok (.invokevirtual 171, 3) := dk_182 0 171 (dk_at dksX1_release_0 3 rfl rfl)
theorem dX1_release_6 : decode cX1_release 6 = .ok (.astore_n 2, 1) := dk_77 (dk_at dksX1_release_0 6 rfl rfl)
theorem dX1_release_7 : decode cX1_release 7 = .ok (.aload_n 0, 1) := dk_42 (dk_at dksX1_release_0 7 rfl rfl)
theorem dX1_release_8 : decode cX1_release 8 = .ok (.aload_n 2, 1) := dk_44 (dk_at dksX1_release_0 8 rfl rfl)
theorem dX1_release_9 : decode cX1_release 9 = .ok (.invokevirtual 268, 3) := dk_182 1 12 (dk_at dksX1_release_0 9 rfl rfl)
theorem dX1_release_12 : decode cX1_release 12 = .ok (.istore_n 3, 1) := dk_62 (dk_at dksX1_release_0 12 rfl rfl)
theorem dX1_release_13 : decode cX1_release 13 = .ok (.aload_n 2, 1) := dk_44 (dk_at dksX1_release_0 13 rfl rfl)
theorem dX1_release_14 : decode cX1_release 14 = .ok (.iload_n 3, 1) := dk_29 (dk_at dksX1_release_0 14 rfl rfl)
theorem dX1_release_15 : decode cX1_release 15 = .ok (.ifCond .ne 7, 3) := dk_154 0 7 (dk_at dksX1_release_0 15 rfl rfl)
theorem dX1_release_18 : decode cX1_release 18 = .ok (.iconst 1, 1) := dk_4 (dk_at dksX1_release_0 18 rfl rfl)
theorem dX1_release_19 : decode cX1_release 19 = .ok (.goto 4, 3) := dk_167 0 4 (dk_at dksX1_release_0 19 rfl rfl)
theorem dX1_release_22 : decode cX1_release 22 = .ok (.iconst 0, 1) := dk_3 (dk_at dksX1_release_0 22 rfl rfl)
theorem dX1_release_23 : decode cX1_release 23 = .ok (.putfield 138, 3) := dk_181 0 138 (dk_at dksX1_release_1 0 rfl rfl)
theorem dX1_release_26 : decode cX1_release 26 = .ok (.iload_n 3, 1) := dk_29 (dk_at dksX1_release_1 3 rfl rfl)
theorem dX1_release_27 : decode cX1_release 27 = .ok (.ireturn, 1) := dk_172 (dk_at dksX1_release_1 4 rfl rfl)
abbrev cX1_reasonOf : ByteArray := prog_1_method_26_code
def yX1_reasonOf : MethodName := ⟨RX1, "reasonOf", "(LWheelWorks$Part;)I"⟩
def dkwX1_reasonOf_1 : List UInt8 := [167, 255, 236, 3, 172]
abbrev dktX1_reasonOf_1 : List UInt8 := dkwX1_reasonOf_1 ++ []
def dkwX1_reasonOf_0 : List UInt8 := [4, 61, 28, 16, 7, 163, 0, 20, 42, 43, 28, 182, 1, 8, 198, 0, 5, 28, 172, 132, 2, 1]
abbrev dktX1_reasonOf_0 : List UInt8 := dkwX1_reasonOf_0 ++ dktX1_reasonOf_1
theorem dksX1_reasonOf_0 : cX1_reasonOf.data.toList.drop 0 = dktX1_reasonOf_0 := by decide +kernel
theorem dksX1_reasonOf_1 : cX1_reasonOf.data.toList.drop 22 = dktX1_reasonOf_1 := dk_seg dksX1_reasonOf_0 22 rfl rfl
theorem dX1_reasonOf_0 : decode cX1_reasonOf 0 = .ok (.iconst 1, 1) := dk_4 (dk_at dksX1_reasonOf_0 0 rfl rfl)
theorem dX1_reasonOf_1 : decode cX1_reasonOf 1 = .ok (.istore_n 2, 1) := dk_61 (dk_at dksX1_reasonOf_0 1 rfl rfl)
theorem dX1_reasonOf_2 : decode cX1_reasonOf 2 = .ok (.iload_n 2, 1) := dk_28 (dk_at dksX1_reasonOf_0 2 rfl rfl)
theorem dX1_reasonOf_3 : decode cX1_reasonOf 3 = .ok (.bipush 7, 2) := dk_16 7 (dk_at dksX1_reasonOf_0 3 rfl rfl)
theorem dX1_reasonOf_5 : decode cX1_reasonOf 5 = .ok (.if_icmp .gt 20, 3) := dk_163 0 20 (dk_at dksX1_reasonOf_0 5 rfl rfl)
theorem dX1_reasonOf_8 : decode cX1_reasonOf 8 = .ok (.aload_n 0, 1) := dk_42 (dk_at dksX1_reasonOf_0 8 rfl rfl)
theorem dX1_reasonOf_9 : decode cX1_reasonOf 9 = .ok (.aload_n 1, 1) := dk_43 (dk_at dksX1_reasonOf_0 9 rfl rfl)
theorem dX1_reasonOf_10 : decode cX1_reasonOf 10 = .ok (.iload_n 2, 1) := dk_28 (dk_at dksX1_reasonOf_0 10 rfl rfl)
theorem dX1_reasonOf_11 : decode cX1_reasonOf 11 = .ok (.invokevirtual 264, 3) := dk_182 1 8 (dk_at dksX1_reasonOf_0 11 rfl rfl)
theorem dX1_reasonOf_14 : decode cX1_reasonOf 14 = .ok (.ifnull 5, 3) := dk_198 0 5 (dk_at dksX1_reasonOf_0 14 rfl rfl)
theorem dX1_reasonOf_17 : decode cX1_reasonOf 17 = .ok (.iload_n 2, 1) := dk_28 (dk_at dksX1_reasonOf_0 17 rfl rfl)
theorem dX1_reasonOf_18 : decode cX1_reasonOf 18 = .ok (.ireturn, 1) := dk_172 (dk_at dksX1_reasonOf_0 18 rfl rfl)
theorem dX1_reasonOf_19 : decode cX1_reasonOf 19 = .ok (.iinc 2 1, 3) := dk_132 2 1 (dk_at dksX1_reasonOf_0 19 rfl rfl)
theorem dX1_reasonOf_22 : decode cX1_reasonOf 22 = .ok (.goto (-20), 3) := dk_167 255 236 (dk_at dksX1_reasonOf_1 0 rfl rfl)
theorem dX1_reasonOf_25 : decode cX1_reasonOf 25 = .ok (.iconst 0, 1) := dk_3 (dk_at dksX1_reasonOf_1 3 rfl rfl)
theorem dX1_reasonOf_26 : decode cX1_reasonOf 26 = .ok (.ireturn, 1) := dk_172 (dk_at dksX1_reasonOf_1 4 rfl rfl)
abbrev cX1_barring : ByteArray := prog_1_method_25_code
def yX1_barring : MethodName := ⟨RX1, "barring", "(LWheelWorks$Part;I)LWheelWorks$Part;"⟩
def dkwX1_barring_0 : List UInt8 := [42, 180, 0, 10, 187, 1, 3, 89, 42, 43, 28, 183, 1, 5, 182, 0, 187, 192, 0, 62, 176]
abbrev dktX1_barring_0 : List UInt8 := dkwX1_barring_0 ++ []
theorem dksX1_barring_0 : cX1_barring.data.toList.drop 0 = dktX1_barring_0 := by decide +kernel
theorem dX1_barring_0 : decode cX1_barring 0 = .ok (.aload_n 0, 1) := dk_42 (dk_at dksX1_barring_0 0 rfl rfl)
theorem dX1_barring_1 : decode cX1_barring 1 = .ok (.getfield 10, 3) := dk_180 0 10 (dk_at dksX1_barring_0 1 rfl rfl)
theorem dX1_barring_4 : decode cX1_barring 4 = .ok (.new 259, 3) := dk_187 1 3 (dk_at dksX1_barring_0 4 rfl rfl)
theorem dX1_barring_7 : decode cX1_barring 7 = .ok (.dup, 1) := dk_89 (dk_at dksX1_barring_0 7 rfl rfl)
theorem dX1_barring_8 : decode cX1_barring 8 = .ok (.aload_n 0, 1) := dk_42 (dk_at dksX1_barring_0 8 rfl rfl)
theorem dX1_barring_9 : decode cX1_barring 9 = .ok (.aload_n 1, 1) := dk_43 (dk_at dksX1_barring_0 9 rfl rfl)
theorem dX1_barring_10 : decode cX1_barring 10 = .ok (.iload_n 2, 1) := dk_28 (dk_at dksX1_barring_0 10 rfl rfl)
theorem dX1_barring_11 : decode cX1_barring 11 = .ok (.invokespecial 261, 3) := dk_183 1 5 (dk_at dksX1_barring_0 11 rfl rfl)
theorem dX1_barring_14 : decode cX1_barring 14 = .ok (.invokevirtual 187, 3) := dk_182 0 187 (dk_at dksX1_barring_0 14 rfl rfl)
theorem dX1_barring_17 : decode cX1_barring 17 = .ok (.checkcast 62, 3) := dk_192 0 62 (dk_at dksX1_barring_0 17 rfl rfl)
theorem dX1_barring_20 : decode cX1_barring 20 = .ok (.areturn, 1) := dk_176 (dk_at dksX1_barring_0 20 rfl rfl)
abbrev cX1_comes : ByteArray := prog_1_method_29_code
def yX1_comes : MethodName := ⟨RX1, "comes", "(II)I"⟩
def dkwX1_comes_3 : List UInt8 := [180, 0, 33, 187, 0, 158, 89, 45, 28, 183, 1, 26, 182, 0, 45, 87, 42, 180, 0, 33, 182, 0, 146, 172]
abbrev dktX1_comes_3 : List UInt8 := dkwX1_comes_3 ++ []
def dkwX1_comes_2 : List UInt8 := [180, 1, 23, 154, 0, 14, 45, 180, 0, 104, 154, 0, 7, 4, 167, 0, 4, 3, 184, 0, 79, 42]
abbrev dktX1_comes_2 : List UInt8 := dkwX1_comes_2 ++ dktX1_comes_3
def dkwX1_comes_1 : List UInt8 := [16, 8, 162, 0, 37, 42, 28, 182, 1, 19, 154, 0, 29, 42, 45, 182, 0, 167, 154, 0, 21, 45]
abbrev dktX1_comes_1 : List UInt8 := dkwX1_comes_1 ++ dktX1_comes_2
def dkwX1_comes_0 : List UInt8 := [42, 27, 3, 182, 0, 171, 78, 28, 3, 16, 99, 184, 0, 71, 184, 0, 68, 42, 180, 0, 33, 182, 0, 146]
abbrev dktX1_comes_0 : List UInt8 := dkwX1_comes_0 ++ dktX1_comes_1
theorem dksX1_comes_0 : cX1_comes.data.toList.drop 0 = dktX1_comes_0 := by decide +kernel
theorem dksX1_comes_1 : cX1_comes.data.toList.drop 24 = dktX1_comes_1 := dk_seg dksX1_comes_0 24 rfl rfl
theorem dksX1_comes_2 : cX1_comes.data.toList.drop 46 = dktX1_comes_2 := dk_seg dksX1_comes_1 22 rfl rfl
theorem dksX1_comes_3 : cX1_comes.data.toList.drop 68 = dktX1_comes_3 := dk_seg dksX1_comes_2 22 rfl rfl
theorem dX1_comes_0 : decode cX1_comes 0 = .ok (.aload_n 0, 1) := dk_42 (dk_at dksX1_comes_0 0 rfl rfl)
theorem dX1_comes_1 : decode cX1_comes 1 = .ok (.iload_n 1, 1) := dk_27 (dk_at dksX1_comes_0 1 rfl rfl)
theorem dX1_comes_2 : decode cX1_comes 2 = .ok (.iconst 0, 1) := dk_3 (dk_at dksX1_comes_0 2 rfl rfl)
theorem dX1_comes_3 : decode cX1_comes 3 = .ok (.invokevirtual 171, 3) := dk_182 0 171 (dk_at dksX1_comes_0 3 rfl rfl)
theorem dX1_comes_6 : decode cX1_comes 6 = .ok (.astore_n 3, 1) := dk_78 (dk_at dksX1_comes_0 6 rfl rfl)
theorem dX1_comes_7 : decode cX1_comes 7 = .ok (.iload_n 2, 1) := dk_28 (dk_at dksX1_comes_0 7 rfl rfl)
theorem dX1_comes_8 : decode cX1_comes 8 = .ok (.iconst 0, 1) := dk_3 (dk_at dksX1_comes_0 8 rfl rfl)
theorem dX1_comes_9 : decode cX1_comes 9 = .ok (.bipush 99, 2) := dk_16 99 (dk_at dksX1_comes_0 9 rfl rfl)
theorem dX1_comes_11 : decode cX1_comes 11 = .ok (.invokestatic 71, 3) := dk_184 0 71 (dk_at dksX1_comes_0 11 rfl rfl)
theorem dX1_comes_14 : decode cX1_comes 14 = .ok (.invokestatic 68, 3) := dk_184 0 68 (dk_at dksX1_comes_0 14 rfl rfl)
theorem dX1_comes_17 : decode cX1_comes 17 = .ok (.aload_n 0, 1) := dk_42 (dk_at dksX1_comes_0 17 rfl rfl)
theorem dX1_comes_18 : decode cX1_comes 18 = .ok (.getfield 33, 3) := dk_180 0 33 (dk_at dksX1_comes_0 18 rfl rfl)
theorem dX1_comes_21 : decode cX1_comes 21 = .ok (.invokevirtual 146, 3) := dk_182 0 146 (dk_at dksX1_comes_0 21 rfl rfl)
theorem dX1_comes_24 : decode cX1_comes 24 = .ok (.bipush 8, 2) := dk_16 8 (dk_at dksX1_comes_1 0 rfl rfl)
theorem dX1_comes_26 : decode cX1_comes 26 = .ok (.if_icmp .ge 37, 3) := dk_162 0 37 (dk_at dksX1_comes_1 2 rfl rfl)
theorem dX1_comes_29 : decode cX1_comes 29 = .ok (.aload_n 0, 1) := dk_42 (dk_at dksX1_comes_1 5 rfl rfl)
theorem dX1_comes_30 : decode cX1_comes 30 = .ok (.iload_n 2, 1) := dk_28 (dk_at dksX1_comes_1 6 rfl rfl)
theorem dX1_comes_31 : decode cX1_comes 31 = .ok (.invokevirtual 275, 3) := dk_182 1 19 (dk_at dksX1_comes_1 7 rfl rfl)
theorem dX1_comes_34 : decode cX1_comes 34 = .ok (.ifCond .ne 29, 3) := dk_154 0 29 (dk_at dksX1_comes_1 10 rfl rfl)
theorem dX1_comes_37 : decode cX1_comes 37 = .ok (.aload_n 0, 1) := dk_42 (dk_at dksX1_comes_1 13 rfl rfl)
theorem dX1_comes_38 : decode cX1_comes 38 = .ok (.aload_n 3, 1) := dk_45 (dk_at dksX1_comes_1 14 rfl rfl)
theorem dX1_comes_39 : decode cX1_comes 39 = .ok (.invokevirtual 167, 3) := dk_182 0 167 (dk_at dksX1_comes_1 15 rfl rfl)
theorem dX1_comes_42 : decode cX1_comes 42 = .ok (.ifCond .ne 21, 3) := dk_154 0 21 (dk_at dksX1_comes_1 18 rfl rfl)
theorem dX1_comes_45 : decode cX1_comes 45 = .ok (.aload_n 3, 1) := dk_45 (dk_at dksX1_comes_1 21 rfl rfl)
theorem dX1_comes_46 : decode cX1_comes 46 = .ok (.getfield 279, 3) := dk_180 1 23 (dk_at dksX1_comes_2 0 rfl rfl)
theorem dX1_comes_49 : decode cX1_comes 49 = .ok (.ifCond .ne 14, 3) := dk_154 0 14 (dk_at dksX1_comes_2 3 rfl rfl)
theorem dX1_comes_52 : decode cX1_comes 52 = .ok (.aload_n 3, 1) := dk_45 (dk_at dksX1_comes_2 6 rfl rfl)
theorem dX1_comes_53 : decode cX1_comes 53 = .ok (.getfield 104, 3) := dk_180 0 104 (dk_at dksX1_comes_2 7 rfl rfl)
theorem dX1_comes_56 : decode cX1_comes 56 = .ok (.ifCond .ne 7, 3) := dk_154 0 7 (dk_at dksX1_comes_2 10 rfl rfl)
theorem dX1_comes_59 : decode cX1_comes 59 = .ok (.iconst 1, 1) := dk_4 (dk_at dksX1_comes_2 13 rfl rfl)
theorem dX1_comes_60 : decode cX1_comes 60 = .ok (.goto 4, 3) := dk_167 0 4 (dk_at dksX1_comes_2 14 rfl rfl)
theorem dX1_comes_63 : decode cX1_comes 63 = .ok (.iconst 0, 1) := dk_3 (dk_at dksX1_comes_2 17 rfl rfl)
theorem dX1_comes_64 : decode cX1_comes 64 = .ok (.invokestatic 79, 3) := dk_184 0 79 (dk_at dksX1_comes_2 18 rfl rfl)
theorem dX1_comes_67 : decode cX1_comes 67 = .ok (.aload_n 0, 1) := dk_42 (dk_at dksX1_comes_2 21 rfl rfl)
theorem dX1_comes_68 : decode cX1_comes 68 = .ok (.getfield 33, 3) := dk_180 0 33 (dk_at dksX1_comes_3 0 rfl rfl)
theorem dX1_comes_71 : decode cX1_comes 71 = .ok (.new 158, 3) := dk_187 0 158 (dk_at dksX1_comes_3 3 rfl rfl)
theorem dX1_comes_74 : decode cX1_comes 74 = .ok (.dup, 1) := dk_89 (dk_at dksX1_comes_3 6 rfl rfl)
theorem dX1_comes_75 : decode cX1_comes 75 = .ok (.aload_n 3, 1) := dk_45 (dk_at dksX1_comes_3 7 rfl rfl)
theorem dX1_comes_76 : decode cX1_comes 76 = .ok (.iload_n 2, 1) := dk_28 (dk_at dksX1_comes_3 8 rfl rfl)
theorem dX1_comes_77 : decode cX1_comes 77 = .ok (.invokespecial 282, 3) := dk_183 1 26 (dk_at dksX1_comes_3 9 rfl rfl)
theorem dX1_comes_80 : decode cX1_comes 80 = .ok (.invokevirtual 45, 3) := dk_182 0 45 (dk_at dksX1_comes_3 12 rfl rfl)
theorem dX1_comes_83 : decode cX1_comes 83 = .ok (.pop, 1) := dk_87 (dk_at dksX1_comes_3 15 rfl rfl)
theorem dX1_comes_84 : decode cX1_comes 84 = .ok (.aload_n 0, 1) := dk_42 (dk_at dksX1_comes_3 16 rfl rfl)
theorem dX1_comes_85 : decode cX1_comes 85 = .ok (.getfield 33, 3) := dk_180 0 33 (dk_at dksX1_comes_3 17 rfl rfl)
theorem dX1_comes_88 : decode cX1_comes 88 = .ok (.invokevirtual 146, 3) := dk_182 0 146 (dk_at dksX1_comes_3 20 rfl rfl)
theorem dX1_comes_91 : decode cX1_comes 91 = .ok (.ireturn, 1) := dk_172 (dk_at dksX1_comes_3 23 rfl rfl)
abbrev cX1_hasTime : ByteArray := prog_1_method_28_code
def yX1_hasTime : MethodName := ⟨RX1, "hasTime", "(I)Z"⟩
def dkwX1_hasTime_2 : List UInt8 := [172]
abbrev dktX1_hasTime_2 : List UInt8 := dkwX1_hasTime_2 ++ []
def dkwX1_hasTime_1 : List UInt8 := [192, 0, 158, 180, 1, 16, 27, 160, 0, 7, 4, 167, 0, 4, 3, 128, 61, 132, 3, 1, 167, 255, 216, 28]
abbrev dktX1_hasTime_1 : List UInt8 := dkwX1_hasTime_1 ++ dktX1_hasTime_2
def dkwX1_hasTime_0 : List UInt8 := [3, 61, 3, 62, 29, 42, 180, 0, 33, 182, 0, 146, 162, 0, 35, 28, 42, 180, 0, 33, 29, 182, 0, 154]
abbrev dktX1_hasTime_0 : List UInt8 := dkwX1_hasTime_0 ++ dktX1_hasTime_1
theorem dksX1_hasTime_0 : cX1_hasTime.data.toList.drop 0 = dktX1_hasTime_0 := by decide +kernel
theorem dksX1_hasTime_1 : cX1_hasTime.data.toList.drop 24 = dktX1_hasTime_1 := dk_seg dksX1_hasTime_0 24 rfl rfl
theorem dksX1_hasTime_2 : cX1_hasTime.data.toList.drop 48 = dktX1_hasTime_2 := dk_seg dksX1_hasTime_1 24 rfl rfl
theorem dX1_hasTime_0 : decode cX1_hasTime 0 = .ok (.iconst 0, 1) := dk_3 (dk_at dksX1_hasTime_0 0 rfl rfl)
theorem dX1_hasTime_1 : decode cX1_hasTime 1 = .ok (.istore_n 2, 1) := dk_61 (dk_at dksX1_hasTime_0 1 rfl rfl)
theorem dX1_hasTime_2 : decode cX1_hasTime 2 = .ok (.iconst 0, 1) := dk_3 (dk_at dksX1_hasTime_0 2 rfl rfl)
theorem dX1_hasTime_3 : decode cX1_hasTime 3 = .ok (.istore_n 3, 1) := dk_62 (dk_at dksX1_hasTime_0 3 rfl rfl)
theorem dX1_hasTime_4 : decode cX1_hasTime 4 = .ok (.iload_n 3, 1) := dk_29 (dk_at dksX1_hasTime_0 4 rfl rfl)
theorem dX1_hasTime_5 : decode cX1_hasTime 5 = .ok (.aload_n 0, 1) := dk_42 (dk_at dksX1_hasTime_0 5 rfl rfl)
theorem dX1_hasTime_6 : decode cX1_hasTime 6 = .ok (.getfield 33, 3) := dk_180 0 33 (dk_at dksX1_hasTime_0 6 rfl rfl)
theorem dX1_hasTime_9 : decode cX1_hasTime 9 = .ok (.invokevirtual 146, 3) := dk_182 0 146 (dk_at dksX1_hasTime_0 9 rfl rfl)
theorem dX1_hasTime_12 : decode cX1_hasTime 12 = .ok (.if_icmp .ge 35, 3) := dk_162 0 35 (dk_at dksX1_hasTime_0 12 rfl rfl)
theorem dX1_hasTime_15 : decode cX1_hasTime 15 = .ok (.iload_n 2, 1) := dk_28 (dk_at dksX1_hasTime_0 15 rfl rfl)
theorem dX1_hasTime_16 : decode cX1_hasTime 16 = .ok (.aload_n 0, 1) := dk_42 (dk_at dksX1_hasTime_0 16 rfl rfl)
theorem dX1_hasTime_17 : decode cX1_hasTime 17 = .ok (.getfield 33, 3) := dk_180 0 33 (dk_at dksX1_hasTime_0 17 rfl rfl)
theorem dX1_hasTime_20 : decode cX1_hasTime 20 = .ok (.iload_n 3, 1) := dk_29 (dk_at dksX1_hasTime_0 20 rfl rfl)
theorem dX1_hasTime_21 : decode cX1_hasTime 21 = .ok (.invokevirtual 154, 3) := dk_182 0 154 (dk_at dksX1_hasTime_0 21 rfl rfl)
theorem dX1_hasTime_24 : decode cX1_hasTime 24 = .ok (.checkcast 158, 3) := dk_192 0 158 (dk_at dksX1_hasTime_1 0 rfl rfl)
theorem dX1_hasTime_27 : decode cX1_hasTime 27 = .ok (.getfield 272, 3) := dk_180 1 16 (dk_at dksX1_hasTime_1 3 rfl rfl)
theorem dX1_hasTime_30 : decode cX1_hasTime 30 = .ok (.iload_n 1, 1) := dk_27 (dk_at dksX1_hasTime_1 6 rfl rfl)
theorem dX1_hasTime_31 : decode cX1_hasTime 31 = .ok (.if_icmp .ne 7, 3) := dk_160 0 7 (dk_at dksX1_hasTime_1 7 rfl rfl)
theorem dX1_hasTime_34 : decode cX1_hasTime 34 = .ok (.iconst 1, 1) := dk_4 (dk_at dksX1_hasTime_1 10 rfl rfl)
theorem dX1_hasTime_35 : decode cX1_hasTime 35 = .ok (.goto 4, 3) := dk_167 0 4 (dk_at dksX1_hasTime_1 11 rfl rfl)
theorem dX1_hasTime_38 : decode cX1_hasTime 38 = .ok (.iconst 0, 1) := dk_3 (dk_at dksX1_hasTime_1 14 rfl rfl)
theorem dX1_hasTime_39 : decode cX1_hasTime 39 = .ok (.ior, 1) := dk_128 (dk_at dksX1_hasTime_1 15 rfl rfl)
theorem dX1_hasTime_40 : decode cX1_hasTime 40 = .ok (.istore_n 2, 1) := dk_61 (dk_at dksX1_hasTime_1 16 rfl rfl)
theorem dX1_hasTime_41 : decode cX1_hasTime 41 = .ok (.iinc 3 1, 3) := dk_132 3 1 (dk_at dksX1_hasTime_1 17 rfl rfl)
theorem dX1_hasTime_44 : decode cX1_hasTime 44 = .ok (.goto (-40), 3) := dk_167 255 216 (dk_at dksX1_hasTime_1 20 rfl rfl)
theorem dX1_hasTime_47 : decode cX1_hasTime 47 = .ok (.iload_n 2, 1) := dk_28 (dk_at dksX1_hasTime_1 23 rfl rfl)
theorem dX1_hasTime_48 : decode cX1_hasTime 48 = .ok (.ireturn, 1) := dk_172 (dk_at dksX1_hasTime_2 0 rfl rfl)
abbrev cX1_night : ByteArray := prog_1_method_34_code
def yX1_night : MethodName := ⟨RX1, "night", "()I"⟩
def dkwX1_night_4 : List UInt8 := [181, 1, 23, 132, 2, 1, 167, 255, 193, 42, 187, 0, 26, 89, 183, 0, 28, 181, 0, 33, 27, 172]
abbrev dktX1_night_4 : List UInt8 := dkwX1_night_4 ++ []
def dkwX1_night_3 : List UInt8 := [192, 0, 158, 182, 0, 45, 87, 42, 180, 0, 33, 28, 182, 0, 154, 192, 0, 158, 180, 0, 160, 4]
abbrev dktX1_night_3 : List UInt8 := dkwX1_night_3 ++ dktX1_night_4
def dkwX1_night_2 : List UInt8 := [180, 0, 36, 42, 180, 0, 42, 28, 46, 182, 0, 154, 192, 0, 26, 42, 180, 0, 33, 28, 182, 0, 154]
abbrev dktX1_night_2 : List UInt8 := dkwX1_night_2 ++ dktX1_night_3
def dkwX1_night_1 : List UInt8 := [184, 0, 79, 42, 4, 182, 1, 47, 60, 3, 61, 28, 42, 180, 0, 33, 182, 0, 146, 162, 0, 58, 42]
abbrev dktX1_night_1 : List UInt8 := dkwX1_night_1 ++ dktX1_night_2
def dkwX1_night_0 : List UInt8 := [42, 180, 0, 33, 182, 0, 164, 154, 0, 14, 42, 182, 1, 46, 153, 0, 7, 4, 167, 0, 4, 3]
abbrev dktX1_night_0 : List UInt8 := dkwX1_night_0 ++ dktX1_night_1
theorem dksX1_night_0 : cX1_night.data.toList.drop 0 = dktX1_night_0 := by decide +kernel
theorem dksX1_night_1 : cX1_night.data.toList.drop 22 = dktX1_night_1 := dk_seg dksX1_night_0 22 rfl rfl
theorem dksX1_night_2 : cX1_night.data.toList.drop 45 = dktX1_night_2 := dk_seg dksX1_night_1 23 rfl rfl
theorem dksX1_night_3 : cX1_night.data.toList.drop 68 = dktX1_night_3 := dk_seg dksX1_night_2 23 rfl rfl
theorem dksX1_night_4 : cX1_night.data.toList.drop 90 = dktX1_night_4 := dk_seg dksX1_night_3 22 rfl rfl
theorem dX1_night_0 : decode cX1_night 0 = .ok (.aload_n 0, 1) := dk_42 (dk_at dksX1_night_0 0 rfl rfl)
theorem dX1_night_1 : decode cX1_night 1 = .ok (.getfield 33, 3) := dk_180 0 33 (dk_at dksX1_night_0 1 rfl rfl)
theorem dX1_night_4 : decode cX1_night 4 = .ok (.invokevirtual 164, 3) := dk_182 0 164 (dk_at dksX1_night_0 4 rfl rfl)
theorem dX1_night_7 : decode cX1_night 7 = .ok (.ifCond .ne 14, 3) := dk_154 0 14 (dk_at dksX1_night_0 7 rfl rfl)
theorem dX1_night_10 : decode cX1_night 10 = .ok (.aload_n 0, 1) := dk_42 (dk_at dksX1_night_0 10 rfl rfl)
theorem dX1_night_11 : decode cX1_night 11 = .ok (.invokevirtual 302, 3) := dk_182 1 46 (dk_at dksX1_night_0 11 rfl rfl)
theorem dX1_night_14 : decode cX1_night 14 = .ok (.ifCond .eq 7, 3) := dk_153 0 7 (dk_at dksX1_night_0 14 rfl rfl)
theorem dX1_night_17 : decode cX1_night 17 = .ok (.iconst 1, 1) := dk_4 (dk_at dksX1_night_0 17 rfl rfl)
theorem dX1_night_18 : decode cX1_night 18 = .ok (.goto 4, 3) := dk_167 0 4 (dk_at dksX1_night_0 18 rfl rfl)
theorem dX1_night_21 : decode cX1_night 21 = .ok (.iconst 0, 1) := dk_3 (dk_at dksX1_night_0 21 rfl rfl)
theorem dX1_night_22 : decode cX1_night 22 = .ok (.invokestatic 79, 3) := dk_184 0 79 (dk_at dksX1_night_1 0 rfl rfl)
theorem dX1_night_25 : decode cX1_night 25 = .ok (.aload_n 0, 1) := dk_42 (dk_at dksX1_night_1 3 rfl rfl)
theorem dX1_night_26 : decode cX1_night 26 = .ok (.iconst 1, 1) := dk_4 (dk_at dksX1_night_1 4 rfl rfl)
theorem dX1_night_27 : decode cX1_night 27 = .ok (.invokevirtual 303, 3) := dk_182 1 47 (dk_at dksX1_night_1 5 rfl rfl)
theorem dX1_night_30 : decode cX1_night 30 = .ok (.istore_n 1, 1) := dk_60 (dk_at dksX1_night_1 8 rfl rfl)
theorem dX1_night_31 : decode cX1_night 31 = .ok (.iconst 0, 1) := dk_3 (dk_at dksX1_night_1 9 rfl rfl)
theorem dX1_night_32 : decode cX1_night 32 = .ok (.istore_n 2, 1) := dk_61 (dk_at dksX1_night_1 10 rfl rfl)
theorem dX1_night_33 : decode cX1_night 33 = .ok (.iload_n 2, 1) := dk_28 (dk_at dksX1_night_1 11 rfl rfl)
theorem dX1_night_34 : decode cX1_night 34 = .ok (.aload_n 0, 1) := dk_42 (dk_at dksX1_night_1 12 rfl rfl)
theorem dX1_night_35 : decode cX1_night 35 = .ok (.getfield 33, 3) := dk_180 0 33 (dk_at dksX1_night_1 13 rfl rfl)
theorem dX1_night_38 : decode cX1_night 38 = .ok (.invokevirtual 146, 3) := dk_182 0 146 (dk_at dksX1_night_1 16 rfl rfl)
theorem dX1_night_41 : decode cX1_night 41 = .ok (.if_icmp .ge 58, 3) := dk_162 0 58 (dk_at dksX1_night_1 19 rfl rfl)
theorem dX1_night_44 : decode cX1_night 44 = .ok (.aload_n 0, 1) := dk_42 (dk_at dksX1_night_1 22 rfl rfl)
theorem dX1_night_45 : decode cX1_night 45 = .ok (.getfield 36, 3) := dk_180 0 36 (dk_at dksX1_night_2 0 rfl rfl)
theorem dX1_night_48 : decode cX1_night 48 = .ok (.aload_n 0, 1) := dk_42 (dk_at dksX1_night_2 3 rfl rfl)
theorem dX1_night_49 : decode cX1_night 49 = .ok (.getfield 42, 3) := dk_180 0 42 (dk_at dksX1_night_2 4 rfl rfl)
theorem dX1_night_52 : decode cX1_night 52 = .ok (.iload_n 2, 1) := dk_28 (dk_at dksX1_night_2 7 rfl rfl)
theorem dX1_night_53 : decode cX1_night 53 = .ok (.iaload, 1) := dk_46 (dk_at dksX1_night_2 8 rfl rfl)
theorem dX1_night_54 : decode cX1_night 54 = .ok (.invokevirtual 154, 3) := dk_182 0 154 (dk_at dksX1_night_2 9 rfl rfl)
theorem dX1_night_57 : decode cX1_night 57 = .ok (.checkcast 26, 3) := dk_192 0 26 (dk_at dksX1_night_2 12 rfl rfl)
theorem dX1_night_60 : decode cX1_night 60 = .ok (.aload_n 0, 1) := dk_42 (dk_at dksX1_night_2 15 rfl rfl)
theorem dX1_night_61 : decode cX1_night 61 = .ok (.getfield 33, 3) := dk_180 0 33 (dk_at dksX1_night_2 16 rfl rfl)
theorem dX1_night_64 : decode cX1_night 64 = .ok (.iload_n 2, 1) := dk_28 (dk_at dksX1_night_2 19 rfl rfl)
theorem dX1_night_65 : decode cX1_night 65 = .ok (.invokevirtual 154, 3) := dk_182 0 154 (dk_at dksX1_night_2 20 rfl rfl)
theorem dX1_night_68 : decode cX1_night 68 = .ok (.checkcast 158, 3) := dk_192 0 158 (dk_at dksX1_night_3 0 rfl rfl)
theorem dX1_night_71 : decode cX1_night 71 = .ok (.invokevirtual 45, 3) := dk_182 0 45 (dk_at dksX1_night_3 3 rfl rfl)
theorem dX1_night_74 : decode cX1_night 74 = .ok (.pop, 1) := dk_87 (dk_at dksX1_night_3 6 rfl rfl)
theorem dX1_night_75 : decode cX1_night 75 = .ok (.aload_n 0, 1) := dk_42 (dk_at dksX1_night_3 7 rfl rfl)
theorem dX1_night_76 : decode cX1_night 76 = .ok (.getfield 33, 3) := dk_180 0 33 (dk_at dksX1_night_3 8 rfl rfl)
theorem dX1_night_79 : decode cX1_night 79 = .ok (.iload_n 2, 1) := dk_28 (dk_at dksX1_night_3 11 rfl rfl)
theorem dX1_night_80 : decode cX1_night 80 = .ok (.invokevirtual 154, 3) := dk_182 0 154 (dk_at dksX1_night_3 12 rfl rfl)
theorem dX1_night_83 : decode cX1_night 83 = .ok (.checkcast 158, 3) := dk_192 0 158 (dk_at dksX1_night_3 15 rfl rfl)
theorem dX1_night_86 : decode cX1_night 86 = .ok (.getfield 160, 3) := dk_180 0 160 (dk_at dksX1_night_3 18 rfl rfl)
theorem dX1_night_89 : decode cX1_night 89 = .ok (.iconst 1, 1) := dk_4 (dk_at dksX1_night_3 21 rfl rfl)
theorem dX1_night_90 : decode cX1_night 90 = .ok (.putfield 279, 3) := dk_181 1 23 (dk_at dksX1_night_4 0 rfl rfl)
theorem dX1_night_93 : decode cX1_night 93 = .ok (.iinc 2 1, 3) := dk_132 2 1 (dk_at dksX1_night_4 3 rfl rfl)
theorem dX1_night_96 : decode cX1_night 96 = .ok (.goto (-63), 3) := dk_167 255 193 (dk_at dksX1_night_4 6 rfl rfl)
theorem dX1_night_99 : decode cX1_night 99 = .ok (.aload_n 0, 1) := dk_42 (dk_at dksX1_night_4 9 rfl rfl)
theorem dX1_night_100 : decode cX1_night 100 = .ok (.new 26, 3) := dk_187 0 26 (dk_at dksX1_night_4 10 rfl rfl)
theorem dX1_night_103 : decode cX1_night 103 = .ok (.dup, 1) := dk_89 (dk_at dksX1_night_4 13 rfl rfl)
theorem dX1_night_104 : decode cX1_night 104 = .ok (.invokespecial 28, 3) := dk_183 0 28 (dk_at dksX1_night_4 14 rfl rfl)
theorem dX1_night_107 : decode cX1_night 107 = .ok (.putfield 33, 3) := dk_181 0 33 (dk_at dksX1_night_4 17 rfl rfl)
theorem dX1_night_110 : decode cX1_night 110 = .ok (.iload_n 1, 1) := dk_27 (dk_at dksX1_night_4 20 rfl rfl)
theorem dX1_night_111 : decode cX1_night 111 = .ok (.ireturn, 1) := dk_172 (dk_at dksX1_night_4 21 rfl rfl)
abbrev cX1_isEmpty : ByteArray := prog_1_method_33_code
def yX1_isEmpty : MethodName := ⟨RX1, "isEmpty", "()Z"⟩
def dkwX1_isEmpty_1 : List UInt8 := [126, 60, 132, 2, 1, 167, 255, 231, 27, 172]
abbrev dktX1_isEmpty_1 : List UInt8 := dkwX1_isEmpty_1 ++ []
def dkwX1_isEmpty_0 : List UInt8 := [4, 60, 3, 61, 28, 6, 162, 0, 26, 27, 42, 180, 0, 36, 28, 182, 0, 154, 192, 0, 26, 182, 0, 164]
abbrev dktX1_isEmpty_0 : List UInt8 := dkwX1_isEmpty_0 ++ dktX1_isEmpty_1
theorem dksX1_isEmpty_0 : cX1_isEmpty.data.toList.drop 0 = dktX1_isEmpty_0 := by decide +kernel
theorem dksX1_isEmpty_1 : cX1_isEmpty.data.toList.drop 24 = dktX1_isEmpty_1 := dk_seg dksX1_isEmpty_0 24 rfl rfl
theorem dX1_isEmpty_0 : decode cX1_isEmpty 0 = .ok (.iconst 1, 1) := dk_4 (dk_at dksX1_isEmpty_0 0 rfl rfl)
theorem dX1_isEmpty_1 : decode cX1_isEmpty 1 = .ok (.istore_n 1, 1) := dk_60 (dk_at dksX1_isEmpty_0 1 rfl rfl)
theorem dX1_isEmpty_2 : decode cX1_isEmpty 2 = .ok (.iconst 0, 1) := dk_3 (dk_at dksX1_isEmpty_0 2 rfl rfl)
theorem dX1_isEmpty_3 : decode cX1_isEmpty 3 = .ok (.istore_n 2, 1) := dk_61 (dk_at dksX1_isEmpty_0 3 rfl rfl)
theorem dX1_isEmpty_4 : decode cX1_isEmpty 4 = .ok (.iload_n 2, 1) := dk_28 (dk_at dksX1_isEmpty_0 4 rfl rfl)
theorem dX1_isEmpty_5 : decode cX1_isEmpty 5 = .ok (.iconst 3, 1) := dk_6 (dk_at dksX1_isEmpty_0 5 rfl rfl)
theorem dX1_isEmpty_6 : decode cX1_isEmpty 6 = .ok (.if_icmp .ge 26, 3) := dk_162 0 26 (dk_at dksX1_isEmpty_0 6 rfl rfl)
theorem dX1_isEmpty_9 : decode cX1_isEmpty 9 = .ok (.iload_n 1, 1) := dk_27 (dk_at dksX1_isEmpty_0 9 rfl rfl)
theorem dX1_isEmpty_10 : decode cX1_isEmpty 10 = .ok (.aload_n 0, 1) := dk_42 (dk_at dksX1_isEmpty_0 10 rfl rfl)
theorem dX1_isEmpty_11 : decode cX1_isEmpty 11 = .ok (.getfield 36, 3) := dk_180 0 36 (dk_at dksX1_isEmpty_0 11 rfl rfl)
theorem dX1_isEmpty_14 : decode cX1_isEmpty 14 = .ok (.iload_n 2, 1) := dk_28 (dk_at dksX1_isEmpty_0 14 rfl rfl)
theorem dX1_isEmpty_15 : decode cX1_isEmpty 15 = .ok (.invokevirtual 154, 3) := dk_182 0 154 (dk_at dksX1_isEmpty_0 15 rfl rfl)
theorem dX1_isEmpty_18 : decode cX1_isEmpty 18 = .ok (.checkcast 26, 3) := dk_192 0 26 (dk_at dksX1_isEmpty_0 18 rfl rfl)
theorem dX1_isEmpty_21 : decode cX1_isEmpty 21 = .ok (.invokevirtual 164, 3) := dk_182 0 164 (dk_at dksX1_isEmpty_0 21 rfl rfl)
theorem dX1_isEmpty_24 : decode cX1_isEmpty 24 = .ok (.iand, 1) := dk_126 (dk_at dksX1_isEmpty_1 0 rfl rfl)
theorem dX1_isEmpty_25 : decode cX1_isEmpty 25 = .ok (.istore_n 1, 1) := dk_60 (dk_at dksX1_isEmpty_1 1 rfl rfl)
theorem dX1_isEmpty_26 : decode cX1_isEmpty 26 = .ok (.iinc 2 1, 3) := dk_132 2 1 (dk_at dksX1_isEmpty_1 2 rfl rfl)
theorem dX1_isEmpty_29 : decode cX1_isEmpty 29 = .ok (.goto (-25), 3) := dk_167 255 231 (dk_at dksX1_isEmpty_1 5 rfl rfl)
theorem dX1_isEmpty_32 : decode cX1_isEmpty 32 = .ok (.iload_n 1, 1) := dk_27 (dk_at dksX1_isEmpty_1 8 rfl rfl)
theorem dX1_isEmpty_33 : decode cX1_isEmpty 33 = .ok (.ireturn, 1) := dk_172 (dk_at dksX1_isEmpty_1 9 rfl rfl)
abbrev cX1_out : ByteArray := prog_1_method_35_code
def yX1_out : MethodName := ⟨RX1, "out", "()I"⟩
def dkwX1_out_6 : List UInt8 := [100, 62, 44, 43, 182, 0, 151, 87, 43, 180, 0, 160, 3, 181, 1, 23, 29, 172]
abbrev dktX1_out_6 : List UInt8 := dkwX1_out_6 ++ []
def dkwX1_out_5 : List UInt8 := [25, 6, 167, 0, 4, 43, 76, 167, 255, 187, 167, 255, 157, 44, 182, 0, 146, 4, 100, 44, 43, 182, 1, 50]
abbrev dktX1_out_5 : List UInt8 := dkwX1_out_5 ++ dktX1_out_6
def dkwX1_out_4 : List UInt8 := [167, 0, 4, 3, 54, 7, 21, 7, 153, 0, 8, 25, 4, 167, 0, 4, 44, 77, 21, 7, 153, 0, 8]
abbrev dktX1_out_4 : List UInt8 := dkwX1_out_4 ++ dktX1_out_5
def dkwX1_out_3 : List UInt8 := [192, 0, 158, 58, 6, 43, 198, 0, 15, 25, 6, 180, 1, 16, 43, 180, 1, 16, 162, 0, 7, 4]
abbrev dktX1_out_3 : List UInt8 := dkwX1_out_3 ++ dktX1_out_4
def dkwX1_out_2 : List UInt8 := [25, 4, 182, 0, 194, 58, 5, 25, 5, 185, 0, 198, 1, 0, 153, 0, 65, 25, 5, 185, 0, 203, 1, 0]
abbrev dktX1_out_2 : List UInt8 := dkwX1_out_2 ++ dktX1_out_3
def dkwX1_out_1 : List UInt8 := [182, 0, 194, 78, 45, 185, 0, 198, 1, 0, 153, 0, 96, 45, 185, 0, 203, 1, 0, 192, 0, 26, 58, 4]
abbrev dktX1_out_1 : List UInt8 := dkwX1_out_1 ++ dktX1_out_2
def dkwX1_out_0 : List UInt8 := [42, 182, 1, 46, 154, 0, 7, 4, 167, 0, 4, 3, 184, 0, 79, 1, 76, 1, 77, 42, 180, 0, 36]
abbrev dktX1_out_0 : List UInt8 := dkwX1_out_0 ++ dktX1_out_1
theorem dksX1_out_0 : cX1_out.data.toList.drop 0 = dktX1_out_0 := by decide +kernel
theorem dksX1_out_1 : cX1_out.data.toList.drop 23 = dktX1_out_1 := dk_seg dksX1_out_0 23 rfl rfl
theorem dksX1_out_2 : cX1_out.data.toList.drop 47 = dktX1_out_2 := dk_seg dksX1_out_1 24 rfl rfl
theorem dksX1_out_3 : cX1_out.data.toList.drop 71 = dktX1_out_3 := dk_seg dksX1_out_2 24 rfl rfl
theorem dksX1_out_4 : cX1_out.data.toList.drop 93 = dktX1_out_4 := dk_seg dksX1_out_3 22 rfl rfl
theorem dksX1_out_5 : cX1_out.data.toList.drop 116 = dktX1_out_5 := dk_seg dksX1_out_4 23 rfl rfl
theorem dksX1_out_6 : cX1_out.data.toList.drop 140 = dktX1_out_6 := dk_seg dksX1_out_5 24 rfl rfl
theorem dX1_out_0 : decode cX1_out 0 = .ok (.aload_n 0, 1) := dk_42 (dk_at dksX1_out_0 0 rfl rfl)
theorem dX1_out_1 : decode cX1_out 1 = .ok (.invokevirtual 302, 3) := dk_182 1 46 (dk_at dksX1_out_0 1 rfl rfl)
theorem dX1_out_4 : decode cX1_out 4 = .ok (.ifCond .ne 7, 3) := dk_154 0 7 (dk_at dksX1_out_0 4 rfl rfl)
theorem dX1_out_7 : decode cX1_out 7 = .ok (.iconst 1, 1) := dk_4 (dk_at dksX1_out_0 7 rfl rfl)
theorem dX1_out_8 : decode cX1_out 8 = .ok (.goto 4, 3) := dk_167 0 4 (dk_at dksX1_out_0 8 rfl rfl)
theorem dX1_out_11 : decode cX1_out 11 = .ok (.iconst 0, 1) := dk_3 (dk_at dksX1_out_0 11 rfl rfl)
theorem dX1_out_12 : decode cX1_out 12 = .ok (.invokestatic 79, 3) := dk_184 0 79 (dk_at dksX1_out_0 12 rfl rfl)
theorem dX1_out_15 : decode cX1_out 15 = .ok (.aconst_null, 1) := dk_1 (dk_at dksX1_out_0 15 rfl rfl)
theorem dX1_out_16 : decode cX1_out 16 = .ok (.astore_n 1, 1) := dk_76 (dk_at dksX1_out_0 16 rfl rfl)
theorem dX1_out_17 : decode cX1_out 17 = .ok (.aconst_null, 1) := dk_1 (dk_at dksX1_out_0 17 rfl rfl)
theorem dX1_out_18 : decode cX1_out 18 = .ok (.astore_n 2, 1) := dk_77 (dk_at dksX1_out_0 18 rfl rfl)
theorem dX1_out_19 : decode cX1_out 19 = .ok (.aload_n 0, 1) := dk_42 (dk_at dksX1_out_0 19 rfl rfl)
theorem dX1_out_20 : decode cX1_out 20 = .ok (.getfield 36, 3) := dk_180 0 36 (dk_at dksX1_out_0 20 rfl rfl)
theorem dX1_out_23 : decode cX1_out 23 = .ok (.invokevirtual 194, 3) := dk_182 0 194 (dk_at dksX1_out_1 0 rfl rfl)
theorem dX1_out_26 : decode cX1_out 26 = .ok (.astore_n 3, 1) := dk_78 (dk_at dksX1_out_1 3 rfl rfl)
theorem dX1_out_27 : decode cX1_out 27 = .ok (.aload_n 3, 1) := dk_45 (dk_at dksX1_out_1 4 rfl rfl)
theorem dX1_out_28 : decode cX1_out 28 = .ok (.invokeinterface 198 1, 5) := by decide +kernel
theorem dX1_out_33 : decode cX1_out 33 = .ok (.ifCond .eq 96, 3) := dk_153 0 96 (dk_at dksX1_out_1 10 rfl rfl)
theorem dX1_out_36 : decode cX1_out 36 = .ok (.aload_n 3, 1) := dk_45 (dk_at dksX1_out_1 13 rfl rfl)
theorem dX1_out_37 : decode cX1_out 37 = .ok (.invokeinterface 203 1, 5) := by decide +kernel
theorem dX1_out_42 : decode cX1_out 42 = .ok (.checkcast 26, 3) := dk_192 0 26 (dk_at dksX1_out_1 19 rfl rfl)
theorem dX1_out_45 : decode cX1_out 45 = .ok (.astore 4, 2) := dk_58 4 (dk_at dksX1_out_1 22 rfl rfl)
theorem dX1_out_47 : decode cX1_out 47 = .ok (.aload 4, 2) := dk_25 4 (dk_at dksX1_out_2 0 rfl rfl)
theorem dX1_out_49 : decode cX1_out 49 = .ok (.invokevirtual 194, 3) := dk_182 0 194 (dk_at dksX1_out_2 2 rfl rfl)
theorem dX1_out_52 : decode cX1_out 52 = .ok (.astore 5, 2) := dk_58 5 (dk_at dksX1_out_2 5 rfl rfl)
theorem dX1_out_54 : decode cX1_out 54 = .ok (.aload 5, 2) := dk_25 5 (dk_at dksX1_out_2 7 rfl rfl)
theorem dX1_out_56 : decode cX1_out 56 = .ok (.invokeinterface 198 1, 5) := by decide +kernel
theorem dX1_out_61 : decode cX1_out 61 = .ok (.ifCond .eq 65, 3) := dk_153 0 65 (dk_at dksX1_out_2 14 rfl rfl)
theorem dX1_out_64 : decode cX1_out 64 = .ok (.aload 5, 2) := dk_25 5 (dk_at dksX1_out_2 17 rfl rfl)
theorem dX1_out_66 : decode cX1_out 66 = .ok (.invokeinterface 203 1, 5) := by decide +kernel
theorem dX1_out_71 : decode cX1_out 71 = .ok (.checkcast 158, 3) := dk_192 0 158 (dk_at dksX1_out_3 0 rfl rfl)
theorem dX1_out_74 : decode cX1_out 74 = .ok (.astore 6, 2) := dk_58 6 (dk_at dksX1_out_3 3 rfl rfl)
theorem dX1_out_76 : decode cX1_out 76 = .ok (.aload_n 1, 1) := dk_43 (dk_at dksX1_out_3 5 rfl rfl)
theorem dX1_out_77 : decode cX1_out 77 = .ok (.ifnull 15, 3) := dk_198 0 15 (dk_at dksX1_out_3 6 rfl rfl)
theorem dX1_out_80 : decode cX1_out 80 = .ok (.aload 6, 2) := dk_25 6 (dk_at dksX1_out_3 9 rfl rfl)
theorem dX1_out_82 : decode cX1_out 82 = .ok (.getfield 272, 3) := dk_180 1 16 (dk_at dksX1_out_3 11 rfl rfl)
theorem dX1_out_85 : decode cX1_out 85 = .ok (.aload_n 1, 1) := dk_43 (dk_at dksX1_out_3 14 rfl rfl)
theorem dX1_out_86 : decode cX1_out 86 = .ok (.getfield 272, 3) := dk_180 1 16 (dk_at dksX1_out_3 15 rfl rfl)
theorem dX1_out_89 : decode cX1_out 89 = .ok (.if_icmp .ge 7, 3) := dk_162 0 7 (dk_at dksX1_out_3 18 rfl rfl)
theorem dX1_out_92 : decode cX1_out 92 = .ok (.iconst 1, 1) := dk_4 (dk_at dksX1_out_3 21 rfl rfl)
theorem dX1_out_93 : decode cX1_out 93 = .ok (.goto 4, 3) := dk_167 0 4 (dk_at dksX1_out_4 0 rfl rfl)
theorem dX1_out_96 : decode cX1_out 96 = .ok (.iconst 0, 1) := dk_3 (dk_at dksX1_out_4 3 rfl rfl)
theorem dX1_out_97 : decode cX1_out 97 = .ok (.istore 7, 2) := dk_54 7 (dk_at dksX1_out_4 4 rfl rfl)
theorem dX1_out_99 : decode cX1_out 99 = .ok (.iload 7, 2) := dk_21 7 (dk_at dksX1_out_4 6 rfl rfl)
theorem dX1_out_101 : decode cX1_out 101 = .ok (.ifCond .eq 8, 3) := dk_153 0 8 (dk_at dksX1_out_4 8 rfl rfl)
theorem dX1_out_104 : decode cX1_out 104 = .ok (.aload 4, 2) := dk_25 4 (dk_at dksX1_out_4 11 rfl rfl)
theorem dX1_out_106 : decode cX1_out 106 = .ok (.goto 4, 3) := dk_167 0 4 (dk_at dksX1_out_4 13 rfl rfl)
theorem dX1_out_109 : decode cX1_out 109 = .ok (.aload_n 2, 1) := dk_44 (dk_at dksX1_out_4 16 rfl rfl)
theorem dX1_out_110 : decode cX1_out 110 = .ok (.astore_n 2, 1) := dk_77 (dk_at dksX1_out_4 17 rfl rfl)
theorem dX1_out_111 : decode cX1_out 111 = .ok (.iload 7, 2) := dk_21 7 (dk_at dksX1_out_4 18 rfl rfl)
theorem dX1_out_113 : decode cX1_out 113 = .ok (.ifCond .eq 8, 3) := dk_153 0 8 (dk_at dksX1_out_4 20 rfl rfl)
theorem dX1_out_116 : decode cX1_out 116 = .ok (.aload 6, 2) := dk_25 6 (dk_at dksX1_out_5 0 rfl rfl)
theorem dX1_out_118 : decode cX1_out 118 = .ok (.goto 4, 3) := dk_167 0 4 (dk_at dksX1_out_5 2 rfl rfl)
theorem dX1_out_121 : decode cX1_out 121 = .ok (.aload_n 1, 1) := dk_43 (dk_at dksX1_out_5 5 rfl rfl)
theorem dX1_out_122 : decode cX1_out 122 = .ok (.astore_n 1, 1) := dk_76 (dk_at dksX1_out_5 6 rfl rfl)
theorem dX1_out_123 : decode cX1_out 123 = .ok (.goto (-69), 3) := dk_167 255 187 (dk_at dksX1_out_5 7 rfl rfl)
theorem dX1_out_126 : decode cX1_out 126 = .ok (.goto (-99), 3) := dk_167 255 157 (dk_at dksX1_out_5 10 rfl rfl)
theorem dX1_out_129 : decode cX1_out 129 = .ok (.aload_n 2, 1) := dk_44 (dk_at dksX1_out_5 13 rfl rfl)
theorem dX1_out_130 : decode cX1_out 130 = .ok (.invokevirtual 146, 3) := dk_182 0 146 (dk_at dksX1_out_5 14 rfl rfl)
theorem dX1_out_133 : decode cX1_out 133 = .ok (.iconst 1, 1) := dk_4 (dk_at dksX1_out_5 17 rfl rfl)
theorem dX1_out_134 : decode cX1_out 134 = .ok (.isub, 1) := dk_100 (dk_at dksX1_out_5 18 rfl rfl)
theorem dX1_out_135 : decode cX1_out 135 = .ok (.aload_n 2, 1) := dk_44 (dk_at dksX1_out_5 19 rfl rfl)
theorem dX1_out_136 : decode cX1_out 136 = .ok (.aload_n 1, 1) := dk_43 (dk_at dksX1_out_5 20 rfl rfl)
theorem dX1_out_137 : decode cX1_out 137 = .ok (.invokevirtual 306, 3) := dk_182 1 50 (dk_at dksX1_out_5 21 rfl rfl)
theorem dX1_out_140 : decode cX1_out 140 = .ok (.isub, 1) := dk_100 (dk_at dksX1_out_6 0 rfl rfl)
theorem dX1_out_141 : decode cX1_out 141 = .ok (.istore_n 3, 1) := dk_62 (dk_at dksX1_out_6 1 rfl rfl)
theorem dX1_out_142 : decode cX1_out 142 = .ok (.aload_n 2, 1) := dk_44 (dk_at dksX1_out_6 2 rfl rfl)
theorem dX1_out_143 : decode cX1_out 143 = .ok (.aload_n 1, 1) := dk_43 (dk_at dksX1_out_6 3 rfl rfl)
theorem dX1_out_144 : decode cX1_out 144 = .ok (.invokevirtual 151, 3) := dk_182 0 151 (dk_at dksX1_out_6 4 rfl rfl)
theorem dX1_out_147 : decode cX1_out 147 = .ok (.pop, 1) := dk_87 (dk_at dksX1_out_6 7 rfl rfl)
theorem dX1_out_148 : decode cX1_out 148 = .ok (.aload_n 1, 1) := dk_43 (dk_at dksX1_out_6 8 rfl rfl)
theorem dX1_out_149 : decode cX1_out 149 = .ok (.getfield 160, 3) := dk_180 0 160 (dk_at dksX1_out_6 9 rfl rfl)
theorem dX1_out_152 : decode cX1_out 152 = .ok (.iconst 0, 1) := dk_3 (dk_at dksX1_out_6 12 rfl rfl)
theorem dX1_out_153 : decode cX1_out 153 = .ok (.putfield 279, 3) := dk_181 1 23 (dk_at dksX1_out_6 13 rfl rfl)
theorem dX1_out_156 : decode cX1_out 156 = .ok (.iload_n 3, 1) := dk_29 (dk_at dksX1_out_6 16 rfl rfl)
theorem dX1_out_157 : decode cX1_out 157 = .ok (.ireturn, 1) := dk_172 (dk_at dksX1_out_6 17 rfl rfl)
abbrev cX1_host : ByteArray := prog_1_method_37_code
def yX1_host : MethodName := ⟨RX1, "host", "(I)I"⟩
def dkwX1_host_1 : List UInt8 := [44, 180, 0, 124, 180, 0, 147, 192, 0, 62, 184, 1, 54, 172]
abbrev dktX1_host_1 : List UInt8 := dkwX1_host_1 ++ []
def dkwX1_host_0 : List UInt8 := [42, 180, 0, 10, 27, 182, 0, 58, 192, 0, 62, 77, 44, 180, 0, 104, 153, 0, 8, 16, 254, 167, 0, 16]
abbrev dktX1_host_0 : List UInt8 := dkwX1_host_0 ++ dktX1_host_1
theorem dksX1_host_0 : cX1_host.data.toList.drop 0 = dktX1_host_0 := by decide +kernel
theorem dksX1_host_1 : cX1_host.data.toList.drop 24 = dktX1_host_1 := dk_seg dksX1_host_0 24 rfl rfl
theorem dX1_host_0 : decode cX1_host 0 = .ok (.aload_n 0, 1) := dk_42 (dk_at dksX1_host_0 0 rfl rfl)
theorem dX1_host_1 : decode cX1_host 1 = .ok (.getfield 10, 3) := dk_180 0 10 (dk_at dksX1_host_0 1 rfl rfl)
theorem dX1_host_4 : decode cX1_host 4 = .ok (.iload_n 1, 1) := dk_27 (dk_at dksX1_host_0 4 rfl rfl)
theorem dX1_host_5 : decode cX1_host 5 = .ok (.invokevirtual 58, 3) := dk_182 0 58 (dk_at dksX1_host_0 5 rfl rfl)
theorem dX1_host_8 : decode cX1_host 8 = .ok (.checkcast 62, 3) := dk_192 0 62 (dk_at dksX1_host_0 8 rfl rfl)
theorem dX1_host_11 : decode cX1_host 11 = .ok (.astore_n 2, 1) := dk_77 (dk_at dksX1_host_0 11 rfl rfl)
theorem dX1_host_12 : decode cX1_host 12 = .ok (.aload_n 2, 1) := dk_44 (dk_at dksX1_host_0 12 rfl rfl)
theorem dX1_host_13 : decode cX1_host 13 = .ok (.getfield 104, 3) := dk_180 0 104 (dk_at dksX1_host_0 13 rfl rfl)
theorem dX1_host_16 : decode cX1_host 16 = .ok (.ifCond .eq 8, 3) := dk_153 0 8 (dk_at dksX1_host_0 16 rfl rfl)
theorem dX1_host_19 : decode cX1_host 19 = .ok (.bipush (-2), 2) := dk_16 254 (dk_at dksX1_host_0 19 rfl rfl)
theorem dX1_host_21 : decode cX1_host 21 = .ok (.goto 16, 3) := dk_167 0 16 (dk_at dksX1_host_0 21 rfl rfl)
theorem dX1_host_24 : decode cX1_host 24 = .ok (.aload_n 2, 1) := dk_44 (dk_at dksX1_host_1 0 rfl rfl)
theorem dX1_host_25 : decode cX1_host 25 = .ok (.getfield 124, 3) := dk_180 0 124 (dk_at dksX1_host_1 1 rfl rfl)
theorem dX1_host_28 : decode cX1_host 28 = .ok (.getfield 147, 3) := dk_180 0 147 (dk_at dksX1_host_1 4 rfl rfl)
theorem dX1_host_31 : decode cX1_host 31 = .ok (.checkcast 62, 3) := dk_192 0 62 (dk_at dksX1_host_1 7 rfl rfl)
theorem dX1_host_34 : decode cX1_host 34 = .ok (.invokestatic 310, 3) := dk_184 1 54 (dk_at dksX1_host_1 10 rfl rfl)
theorem dX1_host_37 : decode cX1_host 37 = .ok (.ireturn, 1) := dk_172 (dk_at dksX1_host_1 13 rfl rfl)
abbrev cX1_numberOf : ByteArray := prog_1_method_36_code
def yX1_numberOf : MethodName := ⟨RX1, "numberOf", "(LWheelWorks$Part;)I"⟩
def dkwX1_numberOf_0 : List UInt8 := [42, 199, 0, 7, 2, 167, 0, 7, 42, 180, 0, 88, 172]
abbrev dktX1_numberOf_0 : List UInt8 := dkwX1_numberOf_0 ++ []
theorem dksX1_numberOf_0 : cX1_numberOf.data.toList.drop 0 = dktX1_numberOf_0 := by decide +kernel
theorem dX1_numberOf_0 : decode cX1_numberOf 0 = .ok (.aload_n 0, 1) := dk_42 (dk_at dksX1_numberOf_0 0 rfl rfl)
theorem dX1_numberOf_1 : decode cX1_numberOf 1 = .ok (.ifnonnull 7, 3) := dk_199 0 7 (dk_at dksX1_numberOf_0 1 rfl rfl)
theorem dX1_numberOf_4 : decode cX1_numberOf 4 = .ok (.iconst (-1), 1) := dk_2 (dk_at dksX1_numberOf_0 4 rfl rfl)
theorem dX1_numberOf_5 : decode cX1_numberOf 5 = .ok (.goto 7, 3) := dk_167 0 7 (dk_at dksX1_numberOf_0 5 rfl rfl)
theorem dX1_numberOf_8 : decode cX1_numberOf 8 = .ok (.aload_n 0, 1) := dk_42 (dk_at dksX1_numberOf_0 8 rfl rfl)
theorem dX1_numberOf_9 : decode cX1_numberOf 9 = .ok (.getfield 88, 3) := dk_180 0 88 (dk_at dksX1_numberOf_0 9 rfl rfl)
theorem dX1_numberOf_12 : decode cX1_numberOf 12 = .ok (.ireturn, 1) := dk_172 (dk_at dksX1_numberOf_0 12 rfl rfl)
abbrev cX1_head : ByteArray := prog_1_method_38_code
def yX1_head : MethodName := ⟨RX1, "head", "(I)I"⟩
def dkwX1_head_0 : List UInt8 := [42, 180, 0, 10, 27, 182, 0, 58, 192, 0, 62, 182, 0, 134, 180, 0, 88, 172]
abbrev dktX1_head_0 : List UInt8 := dkwX1_head_0 ++ []
theorem dksX1_head_0 : cX1_head.data.toList.drop 0 = dktX1_head_0 := by decide +kernel
theorem dX1_head_0 : decode cX1_head 0 = .ok (.aload_n 0, 1) := dk_42 (dk_at dksX1_head_0 0 rfl rfl)
theorem dX1_head_1 : decode cX1_head 1 = .ok (.getfield 10, 3) := dk_180 0 10 (dk_at dksX1_head_0 1 rfl rfl)
theorem dX1_head_4 : decode cX1_head 4 = .ok (.iload_n 1, 1) := dk_27 (dk_at dksX1_head_0 4 rfl rfl)
theorem dX1_head_5 : decode cX1_head 5 = .ok (.invokevirtual 58, 3) := dk_182 0 58 (dk_at dksX1_head_0 5 rfl rfl)
theorem dX1_head_8 : decode cX1_head 8 = .ok (.checkcast 62, 3) := dk_192 0 62 (dk_at dksX1_head_0 8 rfl rfl)
theorem dX1_head_11 : decode cX1_head 11 = .ok (.invokevirtual 134, 3) := dk_182 0 134 (dk_at dksX1_head_0 11 rfl rfl)
theorem dX1_head_14 : decode cX1_head 14 = .ok (.getfield 88, 3) := dk_180 0 88 (dk_at dksX1_head_0 14 rfl rfl)
theorem dX1_head_17 : decode cX1_head 17 = .ok (.ireturn, 1) := dk_172 (dk_at dksX1_head_0 17 rfl rfl)
abbrev cX1_ofPart : ByteArray := prog_1_method_39_code
def yX1_ofPart : MethodName := ⟨RX1, "ofPart", "(II)I"⟩
def dkwX1_ofPart_5 : List UInt8 := [167, 0, 13, 45, 180, 0, 124, 180, 1, 57, 182, 0, 146, 172]
abbrev dktX1_ofPart_5 : List UInt8 := dkwX1_ofPart_5 ++ []
def dkwX1_ofPart_4 : List UInt8 := [153, 0, 7, 4, 167, 0, 32, 3, 167, 0, 28, 45, 180, 0, 240, 153, 0, 7, 4, 167, 0, 17, 3]
abbrev dktX1_ofPart_4 : List UInt8 := dkwX1_ofPart_4 ++ dktX1_ofPart_5
def dkwX1_ofPart_3 : List UInt8 := [180, 0, 231, 167, 0, 57, 45, 180, 0, 222, 167, 0, 50, 45, 180, 0, 225, 167, 0, 43, 45, 180, 0, 100]
abbrev dktX1_ofPart_3 : List UInt8 := dkwX1_ofPart_3 ++ dktX1_ofPart_4
def dkwX1_ofPart_2 : List UInt8 := [45, 180, 0, 64, 167, 0, 78, 45, 180, 0, 244, 167, 0, 71, 45, 180, 0, 113, 167, 0, 64, 45]
abbrev dktX1_ofPart_2 : List UInt8 := dkwX1_ofPart_2 ++ dktX1_ofPart_3
def dkwX1_ofPart_1 : List UInt8 := [170, 0, 0, 0, 117, 0, 0, 0, 0, 0, 0, 0, 7, 0, 0, 0, 45, 0, 0, 0, 52, 0, 0, 0, 59, 0, 0, 0, 66, 0, 0, 0, 73, 0, 0, 0, 80, 0, 0, 0, 87, 0, 0, 0, 102]
abbrev dktX1_ofPart_1 : List UInt8 := dkwX1_ofPart_1 ++ dktX1_ofPart_2
def dkwX1_ofPart_0 : List UInt8 := [42, 180, 0, 10, 27, 182, 0, 58, 192, 0, 62, 78, 28, 3, 16, 8, 184, 0, 71, 184, 0, 68, 28]
abbrev dktX1_ofPart_0 : List UInt8 := dkwX1_ofPart_0 ++ dktX1_ofPart_1
theorem dksX1_ofPart_0 : cX1_ofPart.data.toList.drop 0 = dktX1_ofPart_0 := by decide +kernel
theorem dksX1_ofPart_1 : cX1_ofPart.data.toList.drop 23 = dktX1_ofPart_1 := dk_seg dksX1_ofPart_0 23 rfl rfl
theorem dksX1_ofPart_2 : cX1_ofPart.data.toList.drop 68 = dktX1_ofPart_2 := dk_seg dksX1_ofPart_1 45 rfl rfl
theorem dksX1_ofPart_3 : cX1_ofPart.data.toList.drop 90 = dktX1_ofPart_3 := dk_seg dksX1_ofPart_2 22 rfl rfl
theorem dksX1_ofPart_4 : cX1_ofPart.data.toList.drop 114 = dktX1_ofPart_4 := dk_seg dksX1_ofPart_3 24 rfl rfl
theorem dksX1_ofPart_5 : cX1_ofPart.data.toList.drop 137 = dktX1_ofPart_5 := dk_seg dksX1_ofPart_4 23 rfl rfl
theorem dX1_ofPart_0 : decode cX1_ofPart 0 = .ok (.aload_n 0, 1) := dk_42 (dk_at dksX1_ofPart_0 0 rfl rfl)
theorem dX1_ofPart_1 : decode cX1_ofPart 1 = .ok (.getfield 10, 3) := dk_180 0 10 (dk_at dksX1_ofPart_0 1 rfl rfl)
theorem dX1_ofPart_4 : decode cX1_ofPart 4 = .ok (.iload_n 1, 1) := dk_27 (dk_at dksX1_ofPart_0 4 rfl rfl)
theorem dX1_ofPart_5 : decode cX1_ofPart 5 = .ok (.invokevirtual 58, 3) := dk_182 0 58 (dk_at dksX1_ofPart_0 5 rfl rfl)
theorem dX1_ofPart_8 : decode cX1_ofPart 8 = .ok (.checkcast 62, 3) := dk_192 0 62 (dk_at dksX1_ofPart_0 8 rfl rfl)
theorem dX1_ofPart_11 : decode cX1_ofPart 11 = .ok (.astore_n 3, 1) := dk_78 (dk_at dksX1_ofPart_0 11 rfl rfl)
theorem dX1_ofPart_12 : decode cX1_ofPart 12 = .ok (.iload_n 2, 1) := dk_28 (dk_at dksX1_ofPart_0 12 rfl rfl)
theorem dX1_ofPart_13 : decode cX1_ofPart 13 = .ok (.iconst 0, 1) := dk_3 (dk_at dksX1_ofPart_0 13 rfl rfl)
theorem dX1_ofPart_14 : decode cX1_ofPart 14 = .ok (.bipush 8, 2) := dk_16 8 (dk_at dksX1_ofPart_0 14 rfl rfl)
theorem dX1_ofPart_16 : decode cX1_ofPart 16 = .ok (.invokestatic 71, 3) := dk_184 0 71 (dk_at dksX1_ofPart_0 16 rfl rfl)
theorem dX1_ofPart_19 : decode cX1_ofPart 19 = .ok (.invokestatic 68, 3) := dk_184 0 68 (dk_at dksX1_ofPart_0 19 rfl rfl)
theorem dX1_ofPart_22 : decode cX1_ofPart 22 = .ok (.iload_n 2, 1) := dk_28 (dk_at dksX1_ofPart_0 22 rfl rfl)
theorem dX1_ofPart_23 : decode cX1_ofPart 23 = .ok (.tableswitch 117 0 7 #[45, 52, 59, 66, 73, 80, 87, 102], 45) := by decide +kernel
theorem dX1_ofPart_68 : decode cX1_ofPart 68 = .ok (.aload_n 3, 1) := dk_45 (dk_at dksX1_ofPart_2 0 rfl rfl)
theorem dX1_ofPart_69 : decode cX1_ofPart 69 = .ok (.getfield 64, 3) := dk_180 0 64 (dk_at dksX1_ofPart_2 1 rfl rfl)
theorem dX1_ofPart_72 : decode cX1_ofPart 72 = .ok (.goto 78, 3) := dk_167 0 78 (dk_at dksX1_ofPart_2 4 rfl rfl)
theorem dX1_ofPart_75 : decode cX1_ofPart 75 = .ok (.aload_n 3, 1) := dk_45 (dk_at dksX1_ofPart_2 7 rfl rfl)
theorem dX1_ofPart_76 : decode cX1_ofPart 76 = .ok (.getfield 244, 3) := dk_180 0 244 (dk_at dksX1_ofPart_2 8 rfl rfl)
theorem dX1_ofPart_79 : decode cX1_ofPart 79 = .ok (.goto 71, 3) := dk_167 0 71 (dk_at dksX1_ofPart_2 11 rfl rfl)
theorem dX1_ofPart_82 : decode cX1_ofPart 82 = .ok (.aload_n 3, 1) := dk_45 (dk_at dksX1_ofPart_2 14 rfl rfl)
theorem dX1_ofPart_83 : decode cX1_ofPart 83 = .ok (.getfield 113, 3) := dk_180 0 113 (dk_at dksX1_ofPart_2 15 rfl rfl)
theorem dX1_ofPart_86 : decode cX1_ofPart 86 = .ok (.goto 64, 3) := dk_167 0 64 (dk_at dksX1_ofPart_2 18 rfl rfl)
theorem dX1_ofPart_89 : decode cX1_ofPart 89 = .ok (.aload_n 3, 1) := dk_45 (dk_at dksX1_ofPart_2 21 rfl rfl)
theorem dX1_ofPart_90 : decode cX1_ofPart 90 = .ok (.getfield 231, 3) := dk_180 0 231 (dk_at dksX1_ofPart_3 0 rfl rfl)
theorem dX1_ofPart_93 : decode cX1_ofPart 93 = .ok (.goto 57, 3) := dk_167 0 57 (dk_at dksX1_ofPart_3 3 rfl rfl)
theorem dX1_ofPart_96 : decode cX1_ofPart 96 = .ok (.aload_n 3, 1) := dk_45 (dk_at dksX1_ofPart_3 6 rfl rfl)
theorem dX1_ofPart_97 : decode cX1_ofPart 97 = .ok (.getfield 222, 3) := dk_180 0 222 (dk_at dksX1_ofPart_3 7 rfl rfl)
theorem dX1_ofPart_100 : decode cX1_ofPart 100 = .ok (.goto 50, 3) := dk_167 0 50 (dk_at dksX1_ofPart_3 10 rfl rfl)
theorem dX1_ofPart_103 : decode cX1_ofPart 103 = .ok (.aload_n 3, 1) := dk_45 (dk_at dksX1_ofPart_3 13 rfl rfl)
theorem dX1_ofPart_104 : decode cX1_ofPart 104 = .ok (.getfield 225, 3) := dk_180 0 225 (dk_at dksX1_ofPart_3 14 rfl rfl)
theorem dX1_ofPart_107 : decode cX1_ofPart 107 = .ok (.goto 43, 3) := dk_167 0 43 (dk_at dksX1_ofPart_3 17 rfl rfl)
theorem dX1_ofPart_110 : decode cX1_ofPart 110 = .ok (.aload_n 3, 1) := dk_45 (dk_at dksX1_ofPart_3 20 rfl rfl)
theorem dX1_ofPart_111 : decode cX1_ofPart 111 = .ok (.getfield 100, 3) := dk_180 0 100 (dk_at dksX1_ofPart_3 21 rfl rfl)
theorem dX1_ofPart_114 : decode cX1_ofPart 114 = .ok (.ifCond .eq 7, 3) := dk_153 0 7 (dk_at dksX1_ofPart_4 0 rfl rfl)
theorem dX1_ofPart_117 : decode cX1_ofPart 117 = .ok (.iconst 1, 1) := dk_4 (dk_at dksX1_ofPart_4 3 rfl rfl)
theorem dX1_ofPart_118 : decode cX1_ofPart 118 = .ok (.goto 32, 3) := dk_167 0 32 (dk_at dksX1_ofPart_4 4 rfl rfl)
theorem dX1_ofPart_121 : decode cX1_ofPart 121 = .ok (.iconst 0, 1) := dk_3 (dk_at dksX1_ofPart_4 7 rfl rfl)
theorem dX1_ofPart_122 : decode cX1_ofPart 122 = .ok (.goto 28, 3) := dk_167 0 28 (dk_at dksX1_ofPart_4 8 rfl rfl)
theorem dX1_ofPart_125 : decode cX1_ofPart 125 = .ok (.aload_n 3, 1) := dk_45 (dk_at dksX1_ofPart_4 11 rfl rfl)
theorem dX1_ofPart_126 : decode cX1_ofPart 126 = .ok (.getfield 240, 3) := dk_180 0 240 (dk_at dksX1_ofPart_4 12 rfl rfl)
theorem dX1_ofPart_129 : decode cX1_ofPart 129 = .ok (.ifCond .eq 7, 3) := dk_153 0 7 (dk_at dksX1_ofPart_4 15 rfl rfl)
theorem dX1_ofPart_132 : decode cX1_ofPart 132 = .ok (.iconst 1, 1) := dk_4 (dk_at dksX1_ofPart_4 18 rfl rfl)
theorem dX1_ofPart_133 : decode cX1_ofPart 133 = .ok (.goto 17, 3) := dk_167 0 17 (dk_at dksX1_ofPart_4 19 rfl rfl)
theorem dX1_ofPart_136 : decode cX1_ofPart 136 = .ok (.iconst 0, 1) := dk_3 (dk_at dksX1_ofPart_4 22 rfl rfl)
theorem dX1_ofPart_137 : decode cX1_ofPart 137 = .ok (.goto 13, 3) := dk_167 0 13 (dk_at dksX1_ofPart_5 0 rfl rfl)
theorem dX1_ofPart_140 : decode cX1_ofPart 140 = .ok (.aload_n 3, 1) := dk_45 (dk_at dksX1_ofPart_5 3 rfl rfl)
theorem dX1_ofPart_141 : decode cX1_ofPart 141 = .ok (.getfield 124, 3) := dk_180 0 124 (dk_at dksX1_ofPart_5 4 rfl rfl)
theorem dX1_ofPart_144 : decode cX1_ofPart 144 = .ok (.getfield 313, 3) := dk_180 1 57 (dk_at dksX1_ofPart_5 7 rfl rfl)
theorem dX1_ofPart_147 : decode cX1_ofPart 147 = .ok (.invokevirtual 146, 3) := dk_182 0 146 (dk_at dksX1_ofPart_5 10 rfl rfl)
theorem dX1_ofPart_150 : decode cX1_ofPart 150 = .ok (.ireturn, 1) := dk_172 (dk_at dksX1_ofPart_5 13 rfl rfl)
abbrev cX1_trace : ByteArray := prog_1_method_40_code
def yX1_trace : MethodName := ⟨RX1, "trace", "(II)I"⟩
def dkwX1_trace_3 : List UInt8 := [45, 180, 0, 124, 180, 1, 57, 28, 182, 0, 154, 192, 0, 62, 184, 1, 54, 172]
abbrev dktX1_trace_3 : List UInt8 := dkwX1_trace_3 ++ []
def dkwX1_trace_2 : List UInt8 := [4, 167, 0, 4, 3, 54, 4, 45, 180, 0, 104, 153, 0, 13, 21, 4, 153, 0, 8, 16, 254, 167, 0, 20]
abbrev dktX1_trace_2 : List UInt8 := dkwX1_trace_2 ++ dktX1_trace_3
def dkwX1_trace_1 : List UInt8 := [4, 100, 184, 0, 71, 184, 1, 60, 28, 45, 180, 0, 124, 180, 1, 57, 182, 0, 146, 4, 100, 160, 0, 7]
abbrev dktX1_trace_1 : List UInt8 := dkwX1_trace_1 ++ dktX1_trace_2
def dkwX1_trace_0 : List UInt8 := [42, 180, 0, 10, 27, 182, 0, 58, 192, 0, 62, 78, 28, 3, 45, 180, 0, 124, 180, 1, 57, 182, 0, 146]
abbrev dktX1_trace_0 : List UInt8 := dkwX1_trace_0 ++ dktX1_trace_1
theorem dksX1_trace_0 : cX1_trace.data.toList.drop 0 = dktX1_trace_0 := by decide +kernel
theorem dksX1_trace_1 : cX1_trace.data.toList.drop 24 = dktX1_trace_1 := dk_seg dksX1_trace_0 24 rfl rfl
theorem dksX1_trace_2 : cX1_trace.data.toList.drop 48 = dktX1_trace_2 := dk_seg dksX1_trace_1 24 rfl rfl
theorem dksX1_trace_3 : cX1_trace.data.toList.drop 72 = dktX1_trace_3 := dk_seg dksX1_trace_2 24 rfl rfl
theorem dX1_trace_0 : decode cX1_trace 0 = .ok (.aload_n 0, 1) := dk_42 (dk_at dksX1_trace_0 0 rfl rfl)
theorem dX1_trace_1 : decode cX1_trace 1 = .ok (.getfield 10, 3) := dk_180 0 10 (dk_at dksX1_trace_0 1 rfl rfl)
theorem dX1_trace_4 : decode cX1_trace 4 = .ok (.iload_n 1, 1) := dk_27 (dk_at dksX1_trace_0 4 rfl rfl)
theorem dX1_trace_5 : decode cX1_trace 5 = .ok (.invokevirtual 58, 3) := dk_182 0 58 (dk_at dksX1_trace_0 5 rfl rfl)
theorem dX1_trace_8 : decode cX1_trace 8 = .ok (.checkcast 62, 3) := dk_192 0 62 (dk_at dksX1_trace_0 8 rfl rfl)
theorem dX1_trace_11 : decode cX1_trace 11 = .ok (.astore_n 3, 1) := dk_78 (dk_at dksX1_trace_0 11 rfl rfl)
theorem dX1_trace_12 : decode cX1_trace 12 = .ok (.iload_n 2, 1) := dk_28 (dk_at dksX1_trace_0 12 rfl rfl)
theorem dX1_trace_13 : decode cX1_trace 13 = .ok (.iconst 0, 1) := dk_3 (dk_at dksX1_trace_0 13 rfl rfl)
theorem dX1_trace_14 : decode cX1_trace 14 = .ok (.aload_n 3, 1) := dk_45 (dk_at dksX1_trace_0 14 rfl rfl)
theorem dX1_trace_15 : decode cX1_trace 15 = .ok (.getfield 124, 3) := dk_180 0 124 (dk_at dksX1_trace_0 15 rfl rfl)
theorem dX1_trace_18 : decode cX1_trace 18 = .ok (.getfield 313, 3) := dk_180 1 57 (dk_at dksX1_trace_0 18 rfl rfl)
theorem dX1_trace_21 : decode cX1_trace 21 = .ok (.invokevirtual 146, 3) := dk_182 0 146 (dk_at dksX1_trace_0 21 rfl rfl)
theorem dX1_trace_24 : decode cX1_trace 24 = .ok (.iconst 1, 1) := dk_4 (dk_at dksX1_trace_1 0 rfl rfl)
theorem dX1_trace_25 : decode cX1_trace 25 = .ok (.isub, 1) := dk_100 (dk_at dksX1_trace_1 1 rfl rfl)
theorem dX1_trace_26 : decode cX1_trace 26 = .ok (.invokestatic 71, 3) := dk_184 0 71 (dk_at dksX1_trace_1 2 rfl rfl)
theorem dX1_trace_29 : decode cX1_trace 29 = .ok (.invokestatic 316, 3) := dk_184 1 60 (dk_at dksX1_trace_1 5 rfl rfl)
theorem dX1_trace_32 : decode cX1_trace 32 = .ok (.iload_n 2, 1) := dk_28 (dk_at dksX1_trace_1 8 rfl rfl)
theorem dX1_trace_33 : decode cX1_trace 33 = .ok (.aload_n 3, 1) := dk_45 (dk_at dksX1_trace_1 9 rfl rfl)
theorem dX1_trace_34 : decode cX1_trace 34 = .ok (.getfield 124, 3) := dk_180 0 124 (dk_at dksX1_trace_1 10 rfl rfl)
theorem dX1_trace_37 : decode cX1_trace 37 = .ok (.getfield 313, 3) := dk_180 1 57 (dk_at dksX1_trace_1 13 rfl rfl)
theorem dX1_trace_40 : decode cX1_trace 40 = .ok (.invokevirtual 146, 3) := dk_182 0 146 (dk_at dksX1_trace_1 16 rfl rfl)
theorem dX1_trace_43 : decode cX1_trace 43 = .ok (.iconst 1, 1) := dk_4 (dk_at dksX1_trace_1 19 rfl rfl)
theorem dX1_trace_44 : decode cX1_trace 44 = .ok (.isub, 1) := dk_100 (dk_at dksX1_trace_1 20 rfl rfl)
theorem dX1_trace_45 : decode cX1_trace 45 = .ok (.if_icmp .ne 7, 3) := dk_160 0 7 (dk_at dksX1_trace_1 21 rfl rfl)
theorem dX1_trace_48 : decode cX1_trace 48 = .ok (.iconst 1, 1) := dk_4 (dk_at dksX1_trace_2 0 rfl rfl)
theorem dX1_trace_49 : decode cX1_trace 49 = .ok (.goto 4, 3) := dk_167 0 4 (dk_at dksX1_trace_2 1 rfl rfl)
theorem dX1_trace_52 : decode cX1_trace 52 = .ok (.iconst 0, 1) := dk_3 (dk_at dksX1_trace_2 4 rfl rfl)
theorem dX1_trace_53 : decode cX1_trace 53 = .ok (.istore 4, 2) := dk_54 4 (dk_at dksX1_trace_2 5 rfl rfl)
theorem dX1_trace_55 : decode cX1_trace 55 = .ok (.aload_n 3, 1) := dk_45 (dk_at dksX1_trace_2 7 rfl rfl)
theorem dX1_trace_56 : decode cX1_trace 56 = .ok (.getfield 104, 3) := dk_180 0 104 (dk_at dksX1_trace_2 8 rfl rfl)
theorem dX1_trace_59 : decode cX1_trace 59 = .ok (.ifCond .eq 13, 3) := dk_153 0 13 (dk_at dksX1_trace_2 11 rfl rfl)
theorem dX1_trace_62 : decode cX1_trace 62 = .ok (.iload 4, 2) := dk_21 4 (dk_at dksX1_trace_2 14 rfl rfl)
theorem dX1_trace_64 : decode cX1_trace 64 = .ok (.ifCond .eq 8, 3) := dk_153 0 8 (dk_at dksX1_trace_2 16 rfl rfl)
theorem dX1_trace_67 : decode cX1_trace 67 = .ok (.bipush (-2), 2) := dk_16 254 (dk_at dksX1_trace_2 19 rfl rfl)
theorem dX1_trace_69 : decode cX1_trace 69 = .ok (.goto 20, 3) := dk_167 0 20 (dk_at dksX1_trace_2 21 rfl rfl)
theorem dX1_trace_72 : decode cX1_trace 72 = .ok (.aload_n 3, 1) := dk_45 (dk_at dksX1_trace_3 0 rfl rfl)
theorem dX1_trace_73 : decode cX1_trace 73 = .ok (.getfield 124, 3) := dk_180 0 124 (dk_at dksX1_trace_3 1 rfl rfl)
theorem dX1_trace_76 : decode cX1_trace 76 = .ok (.getfield 313, 3) := dk_180 1 57 (dk_at dksX1_trace_3 4 rfl rfl)
theorem dX1_trace_79 : decode cX1_trace 79 = .ok (.iload_n 2, 1) := dk_28 (dk_at dksX1_trace_3 7 rfl rfl)
theorem dX1_trace_80 : decode cX1_trace 80 = .ok (.invokevirtual 154, 3) := dk_182 0 154 (dk_at dksX1_trace_3 8 rfl rfl)
theorem dX1_trace_83 : decode cX1_trace 83 = .ok (.checkcast 62, 3) := dk_192 0 62 (dk_at dksX1_trace_3 11 rfl rfl)
theorem dX1_trace_86 : decode cX1_trace 86 = .ok (.invokestatic 310, 3) := dk_184 1 54 (dk_at dksX1_trace_3 14 rfl rfl)
theorem dX1_trace_89 : decode cX1_trace 89 = .ok (.ireturn, 1) := dk_172 (dk_at dksX1_trace_3 17 rfl rfl)
abbrev cX1_lifeAnew : ByteArray := prog_1_method_41_code
def yX1_lifeAnew : MethodName := ⟨RX1, "lifeAnew", "(I)I"⟩
def dkwX1_lifeAnew_6 : List UInt8 := [167, 255, 160, 29, 172]
abbrev dktX1_lifeAnew_6 : List UInt8 := dkwX1_lifeAnew_6 ++ []
def dkwX1_lifeAnew_5 : List UInt8 := [21, 6, 25, 5, 180, 1, 66, 180, 0, 88, 160, 0, 11, 25, 5, 180, 1, 63, 167, 0, 4, 3, 96, 62]
abbrev dktX1_lifeAnew_5 : List UInt8 := dkwX1_lifeAnew_5 ++ dktX1_lifeAnew_6
def dkwX1_lifeAnew_4 : List UInt8 := [167, 0, 48, 27, 54, 6, 44, 21, 6, 46, 2, 159, 0, 12, 44, 21, 6, 46, 54, 6, 167, 255, 242, 29]
abbrev dktX1_lifeAnew_4 : List UInt8 := dkwX1_lifeAnew_4 ++ dktX1_lifeAnew_5
def dkwX1_lifeAnew_3 : List UInt8 := [180, 1, 63, 154, 0, 24, 44, 25, 5, 180, 1, 66, 180, 0, 88, 25, 5, 180, 1, 69, 184, 1, 54, 79]
abbrev dktX1_lifeAnew_3 : List UInt8 := dkwX1_lifeAnew_3 ++ dktX1_lifeAnew_4
def dkwX1_lifeAnew_2 : List UInt8 := [185, 0, 198, 1, 0, 153, 0, 92, 25, 4, 185, 0, 203, 1, 0, 192, 0, 141, 58, 5, 25, 5]
abbrev dktX1_lifeAnew_2 : List UInt8 := dkwX1_lifeAnew_2 ++ dktX1_lifeAnew_3
def dkwX1_lifeAnew_1 : List UInt8 := [2, 79, 132, 3, 1, 167, 255, 243, 3, 62, 42, 180, 0, 29, 182, 0, 194, 58, 4, 25, 4]
abbrev dktX1_lifeAnew_1 : List UInt8 := dkwX1_lifeAnew_1 ++ dktX1_lifeAnew_2
def dkwX1_lifeAnew_0 : List UInt8 := [42, 180, 0, 10, 27, 182, 0, 58, 87, 16, 60, 188, 10, 77, 3, 62, 29, 16, 60, 162, 0, 13, 44, 29]
abbrev dktX1_lifeAnew_0 : List UInt8 := dkwX1_lifeAnew_0 ++ dktX1_lifeAnew_1
theorem dksX1_lifeAnew_0 : cX1_lifeAnew.data.toList.drop 0 = dktX1_lifeAnew_0 := by decide +kernel
theorem dksX1_lifeAnew_1 : cX1_lifeAnew.data.toList.drop 24 = dktX1_lifeAnew_1 := dk_seg dksX1_lifeAnew_0 24 rfl rfl
theorem dksX1_lifeAnew_2 : cX1_lifeAnew.data.toList.drop 45 = dktX1_lifeAnew_2 := dk_seg dksX1_lifeAnew_1 21 rfl rfl
theorem dksX1_lifeAnew_3 : cX1_lifeAnew.data.toList.drop 67 = dktX1_lifeAnew_3 := dk_seg dksX1_lifeAnew_2 22 rfl rfl
theorem dksX1_lifeAnew_4 : cX1_lifeAnew.data.toList.drop 91 = dktX1_lifeAnew_4 := dk_seg dksX1_lifeAnew_3 24 rfl rfl
theorem dksX1_lifeAnew_5 : cX1_lifeAnew.data.toList.drop 115 = dktX1_lifeAnew_5 := dk_seg dksX1_lifeAnew_4 24 rfl rfl
theorem dksX1_lifeAnew_6 : cX1_lifeAnew.data.toList.drop 139 = dktX1_lifeAnew_6 := dk_seg dksX1_lifeAnew_5 24 rfl rfl
theorem dX1_lifeAnew_0 : decode cX1_lifeAnew 0 = .ok (.aload_n 0, 1) := dk_42 (dk_at dksX1_lifeAnew_0 0 rfl rfl)
theorem dX1_lifeAnew_1 : decode cX1_lifeAnew 1 = .ok (.getfield 10, 3) := dk_180 0 10 (dk_at dksX1_lifeAnew_0 1 rfl rfl)
theorem dX1_lifeAnew_4 : decode cX1_lifeAnew 4 = .ok (.iload_n 1, 1) := dk_27 (dk_at dksX1_lifeAnew_0 4 rfl rfl)
theorem dX1_lifeAnew_5 : decode cX1_lifeAnew 5 = .ok (.invokevirtual 58, 3) := dk_182 0 58 (dk_at dksX1_lifeAnew_0 5 rfl rfl)
theorem dX1_lifeAnew_8 : decode cX1_lifeAnew 8 = .ok (.pop, 1) := dk_87 (dk_at dksX1_lifeAnew_0 8 rfl rfl)
theorem dX1_lifeAnew_9 : decode cX1_lifeAnew 9 = .ok (.bipush 60, 2) := dk_16 60 (dk_at dksX1_lifeAnew_0 9 rfl rfl)
theorem dX1_lifeAnew_11 : decode cX1_lifeAnew 11 = .ok (.newarray .int, 2) := dk_188_10 (dk_at dksX1_lifeAnew_0 11 rfl rfl)
theorem dX1_lifeAnew_13 : decode cX1_lifeAnew 13 = .ok (.astore_n 2, 1) := dk_77 (dk_at dksX1_lifeAnew_0 13 rfl rfl)
theorem dX1_lifeAnew_14 : decode cX1_lifeAnew 14 = .ok (.iconst 0, 1) := dk_3 (dk_at dksX1_lifeAnew_0 14 rfl rfl)
theorem dX1_lifeAnew_15 : decode cX1_lifeAnew 15 = .ok (.istore_n 3, 1) := dk_62 (dk_at dksX1_lifeAnew_0 15 rfl rfl)
theorem dX1_lifeAnew_16 : decode cX1_lifeAnew 16 = .ok (.iload_n 3, 1) := dk_29 (dk_at dksX1_lifeAnew_0 16 rfl rfl)
theorem dX1_lifeAnew_17 : decode cX1_lifeAnew 17 = .ok (.bipush 60, 2) := dk_16 60 (dk_at dksX1_lifeAnew_0 17 rfl rfl)
theorem dX1_lifeAnew_19 : decode cX1_lifeAnew 19 = .ok (.if_icmp .ge 13, 3) := dk_162 0 13 (dk_at dksX1_lifeAnew_0 19 rfl rfl)
theorem dX1_lifeAnew_22 : decode cX1_lifeAnew 22 = .ok (.aload_n 2, 1) := dk_44 (dk_at dksX1_lifeAnew_0 22 rfl rfl)
theorem dX1_lifeAnew_23 : decode cX1_lifeAnew 23 = .ok (.iload_n 3, 1) := dk_29 (dk_at dksX1_lifeAnew_0 23 rfl rfl)
theorem dX1_lifeAnew_24 : decode cX1_lifeAnew 24 = .ok (.iconst (-1), 1) := dk_2 (dk_at dksX1_lifeAnew_1 0 rfl rfl)
theorem dX1_lifeAnew_25 : decode cX1_lifeAnew 25 = .ok (.iastore, 1) := dk_79 (dk_at dksX1_lifeAnew_1 1 rfl rfl)
theorem dX1_lifeAnew_26 : decode cX1_lifeAnew 26 = .ok (.iinc 3 1, 3) := dk_132 3 1 (dk_at dksX1_lifeAnew_1 2 rfl rfl)
theorem dX1_lifeAnew_29 : decode cX1_lifeAnew 29 = .ok (.goto (-13), 3) := dk_167 255 243 (dk_at dksX1_lifeAnew_1 5 rfl rfl)
theorem dX1_lifeAnew_32 : decode cX1_lifeAnew 32 = .ok (.iconst 0, 1) := dk_3 (dk_at dksX1_lifeAnew_1 8 rfl rfl)
theorem dX1_lifeAnew_33 : decode cX1_lifeAnew 33 = .ok (.istore_n 3, 1) := dk_62 (dk_at dksX1_lifeAnew_1 9 rfl rfl)
theorem dX1_lifeAnew_34 : decode cX1_lifeAnew 34 = .ok (.aload_n 0, 1) := dk_42 (dk_at dksX1_lifeAnew_1 10 rfl rfl)
theorem dX1_lifeAnew_35 : decode cX1_lifeAnew 35 = .ok (.getfield 29, 3) := dk_180 0 29 (dk_at dksX1_lifeAnew_1 11 rfl rfl)
theorem dX1_lifeAnew_38 : decode cX1_lifeAnew 38 = .ok (.invokevirtual 194, 3) := dk_182 0 194 (dk_at dksX1_lifeAnew_1 14 rfl rfl)
theorem dX1_lifeAnew_41 : decode cX1_lifeAnew 41 = .ok (.astore 4, 2) := dk_58 4 (dk_at dksX1_lifeAnew_1 17 rfl rfl)
theorem dX1_lifeAnew_43 : decode cX1_lifeAnew 43 = .ok (.aload 4, 2) := dk_25 4 (dk_at dksX1_lifeAnew_1 19 rfl rfl)
theorem dX1_lifeAnew_45 : decode cX1_lifeAnew 45 = .ok (.invokeinterface 198 1, 5) := by decide +kernel
theorem dX1_lifeAnew_50 : decode cX1_lifeAnew 50 = .ok (.ifCond .eq 92, 3) := dk_153 0 92 (dk_at dksX1_lifeAnew_2 5 rfl rfl)
theorem dX1_lifeAnew_53 : decode cX1_lifeAnew 53 = .ok (.aload 4, 2) := dk_25 4 (dk_at dksX1_lifeAnew_2 8 rfl rfl)
theorem dX1_lifeAnew_55 : decode cX1_lifeAnew 55 = .ok (.invokeinterface 203 1, 5) := by decide +kernel
theorem dX1_lifeAnew_60 : decode cX1_lifeAnew 60 = .ok (.checkcast 141, 3) := dk_192 0 141 (dk_at dksX1_lifeAnew_2 15 rfl rfl)
theorem dX1_lifeAnew_63 : decode cX1_lifeAnew 63 = .ok (.astore 5, 2) := dk_58 5 (dk_at dksX1_lifeAnew_2 18 rfl rfl)
theorem dX1_lifeAnew_65 : decode cX1_lifeAnew 65 = .ok (.aload 5, 2) := dk_25 5 (dk_at dksX1_lifeAnew_2 20 rfl rfl)
theorem dX1_lifeAnew_67 : decode cX1_lifeAnew 67 = .ok (.getfield 319, 3) := dk_180 1 63 (dk_at dksX1_lifeAnew_3 0 rfl rfl)
theorem dX1_lifeAnew_70 : decode cX1_lifeAnew 70 = .ok (.ifCond .ne 24, 3) := dk_154 0 24 (dk_at dksX1_lifeAnew_3 3 rfl rfl)
theorem dX1_lifeAnew_73 : decode cX1_lifeAnew 73 = .ok (.aload_n 2, 1) := dk_44 (dk_at dksX1_lifeAnew_3 6 rfl rfl)
theorem dX1_lifeAnew_74 : decode cX1_lifeAnew 74 = .ok (.aload 5, 2) := dk_25 5 (dk_at dksX1_lifeAnew_3 7 rfl rfl)
theorem dX1_lifeAnew_76 : decode cX1_lifeAnew 76 = .ok (.getfield 322, 3) := dk_180 1 66 (dk_at dksX1_lifeAnew_3 9 rfl rfl)
theorem dX1_lifeAnew_79 : decode cX1_lifeAnew 79 = .ok (.getfield 88, 3) := dk_180 0 88 (dk_at dksX1_lifeAnew_3 12 rfl rfl)
theorem dX1_lifeAnew_82 : decode cX1_lifeAnew 82 = .ok (.aload 5, 2) := dk_25 5 (dk_at dksX1_lifeAnew_3 15 rfl rfl)
theorem dX1_lifeAnew_84 : decode cX1_lifeAnew 84 = .ok (.getfield 325, 3) := dk_180 1 69 (dk_at dksX1_lifeAnew_3 17 rfl rfl)
theorem dX1_lifeAnew_87 : decode cX1_lifeAnew 87 = .ok (.invokestatic 310, 3) := dk_184 1 54 (dk_at dksX1_lifeAnew_3 20 rfl rfl)
theorem dX1_lifeAnew_90 : decode cX1_lifeAnew 90 = .ok (.iastore, 1) := dk_79 (dk_at dksX1_lifeAnew_3 23 rfl rfl)
theorem dX1_lifeAnew_91 : decode cX1_lifeAnew 91 = .ok (.goto 48, 3) := dk_167 0 48 (dk_at dksX1_lifeAnew_4 0 rfl rfl)
theorem dX1_lifeAnew_94 : decode cX1_lifeAnew 94 = .ok (.iload_n 1, 1) := dk_27 (dk_at dksX1_lifeAnew_4 3 rfl rfl)
theorem dX1_lifeAnew_95 : decode cX1_lifeAnew 95 = .ok (.istore 6, 2) := dk_54 6 (dk_at dksX1_lifeAnew_4 4 rfl rfl)
theorem dX1_lifeAnew_97 : decode cX1_lifeAnew 97 = .ok (.aload_n 2, 1) := dk_44 (dk_at dksX1_lifeAnew_4 6 rfl rfl)
theorem dX1_lifeAnew_98 : decode cX1_lifeAnew 98 = .ok (.iload 6, 2) := dk_21 6 (dk_at dksX1_lifeAnew_4 7 rfl rfl)
theorem dX1_lifeAnew_100 : decode cX1_lifeAnew 100 = .ok (.iaload, 1) := dk_46 (dk_at dksX1_lifeAnew_4 9 rfl rfl)
theorem dX1_lifeAnew_101 : decode cX1_lifeAnew 101 = .ok (.iconst (-1), 1) := dk_2 (dk_at dksX1_lifeAnew_4 10 rfl rfl)
theorem dX1_lifeAnew_102 : decode cX1_lifeAnew 102 = .ok (.if_icmp .eq 12, 3) := dk_159 0 12 (dk_at dksX1_lifeAnew_4 11 rfl rfl)
theorem dX1_lifeAnew_105 : decode cX1_lifeAnew 105 = .ok (.aload_n 2, 1) := dk_44 (dk_at dksX1_lifeAnew_4 14 rfl rfl)
theorem dX1_lifeAnew_106 : decode cX1_lifeAnew 106 = .ok (.iload 6, 2) := dk_21 6 (dk_at dksX1_lifeAnew_4 15 rfl rfl)
theorem dX1_lifeAnew_108 : decode cX1_lifeAnew 108 = .ok (.iaload, 1) := dk_46 (dk_at dksX1_lifeAnew_4 17 rfl rfl)
theorem dX1_lifeAnew_109 : decode cX1_lifeAnew 109 = .ok (.istore 6, 2) := dk_54 6 (dk_at dksX1_lifeAnew_4 18 rfl rfl)
theorem dX1_lifeAnew_111 : decode cX1_lifeAnew 111 = .ok (.goto (-14), 3) := dk_167 255 242 (dk_at dksX1_lifeAnew_4 20 rfl rfl)
theorem dX1_lifeAnew_114 : decode cX1_lifeAnew 114 = .ok (.iload_n 3, 1) := dk_29 (dk_at dksX1_lifeAnew_4 23 rfl rfl)
theorem dX1_lifeAnew_115 : decode cX1_lifeAnew 115 = .ok (.iload 6, 2) := dk_21 6 (dk_at dksX1_lifeAnew_5 0 rfl rfl)
theorem dX1_lifeAnew_117 : decode cX1_lifeAnew 117 = .ok (.aload 5, 2) := dk_25 5 (dk_at dksX1_lifeAnew_5 2 rfl rfl)
theorem dX1_lifeAnew_119 : decode cX1_lifeAnew 119 = .ok (.getfield 322, 3) := dk_180 1 66 (dk_at dksX1_lifeAnew_5 4 rfl rfl)
theorem dX1_lifeAnew_122 : decode cX1_lifeAnew 122 = .ok (.getfield 88, 3) := dk_180 0 88 (dk_at dksX1_lifeAnew_5 7 rfl rfl)
theorem dX1_lifeAnew_125 : decode cX1_lifeAnew 125 = .ok (.if_icmp .ne 11, 3) := dk_160 0 11 (dk_at dksX1_lifeAnew_5 10 rfl rfl)
theorem dX1_lifeAnew_128 : decode cX1_lifeAnew 128 = .ok (.aload 5, 2) := dk_25 5 (dk_at dksX1_lifeAnew_5 13 rfl rfl)
theorem dX1_lifeAnew_130 : decode cX1_lifeAnew 130 = .ok (.getfield 319, 3) := dk_180 1 63 (dk_at dksX1_lifeAnew_5 15 rfl rfl)
theorem dX1_lifeAnew_133 : decode cX1_lifeAnew 133 = .ok (.goto 4, 3) := dk_167 0 4 (dk_at dksX1_lifeAnew_5 18 rfl rfl)
theorem dX1_lifeAnew_136 : decode cX1_lifeAnew 136 = .ok (.iconst 0, 1) := dk_3 (dk_at dksX1_lifeAnew_5 21 rfl rfl)
theorem dX1_lifeAnew_137 : decode cX1_lifeAnew 137 = .ok (.iadd, 1) := dk_96 (dk_at dksX1_lifeAnew_5 22 rfl rfl)
theorem dX1_lifeAnew_138 : decode cX1_lifeAnew 138 = .ok (.istore_n 3, 1) := dk_62 (dk_at dksX1_lifeAnew_5 23 rfl rfl)
theorem dX1_lifeAnew_139 : decode cX1_lifeAnew 139 = .ok (.goto (-96), 3) := dk_167 255 160 (dk_at dksX1_lifeAnew_6 0 rfl rfl)
theorem dX1_lifeAnew_142 : decode cX1_lifeAnew 142 = .ok (.iload_n 3, 1) := dk_29 (dk_at dksX1_lifeAnew_6 3 rfl rfl)
theorem dX1_lifeAnew_143 : decode cX1_lifeAnew 143 = .ok (.ireturn, 1) := dk_172 (dk_at dksX1_lifeAnew_6 4 rfl rfl)
abbrev cX1_wheel : ByteArray := prog_1_method_42_code
def yX1_wheel : MethodName := ⟨RX1, "wheel", "(II)I"⟩
def dkwX1_wheel_1 : List UInt8 := [167, 0, 19, 28, 4, 160, 0, 10, 45, 180, 0, 216, 167, 0, 7, 45, 180, 0, 219, 172]
abbrev dktX1_wheel_1 : List UInt8 := dkwX1_wheel_1 ++ []
def dkwX1_wheel_0 : List UInt8 := [42, 27, 6, 182, 0, 171, 78, 28, 3, 5, 184, 0, 71, 184, 0, 68, 28, 154, 0, 10, 45, 180, 0, 214]
abbrev dktX1_wheel_0 : List UInt8 := dkwX1_wheel_0 ++ dktX1_wheel_1
theorem dksX1_wheel_0 : cX1_wheel.data.toList.drop 0 = dktX1_wheel_0 := by decide +kernel
theorem dksX1_wheel_1 : cX1_wheel.data.toList.drop 24 = dktX1_wheel_1 := dk_seg dksX1_wheel_0 24 rfl rfl
theorem dX1_wheel_0 : decode cX1_wheel 0 = .ok (.aload_n 0, 1) := dk_42 (dk_at dksX1_wheel_0 0 rfl rfl)
theorem dX1_wheel_1 : decode cX1_wheel 1 = .ok (.iload_n 1, 1) := dk_27 (dk_at dksX1_wheel_0 1 rfl rfl)
theorem dX1_wheel_2 : decode cX1_wheel 2 = .ok (.iconst 3, 1) := dk_6 (dk_at dksX1_wheel_0 2 rfl rfl)
theorem dX1_wheel_3 : decode cX1_wheel 3 = .ok (.invokevirtual 171, 3) := dk_182 0 171 (dk_at dksX1_wheel_0 3 rfl rfl)
theorem dX1_wheel_6 : decode cX1_wheel 6 = .ok (.astore_n 3, 1) := dk_78 (dk_at dksX1_wheel_0 6 rfl rfl)
theorem dX1_wheel_7 : decode cX1_wheel 7 = .ok (.iload_n 2, 1) := dk_28 (dk_at dksX1_wheel_0 7 rfl rfl)
theorem dX1_wheel_8 : decode cX1_wheel 8 = .ok (.iconst 0, 1) := dk_3 (dk_at dksX1_wheel_0 8 rfl rfl)
theorem dX1_wheel_9 : decode cX1_wheel 9 = .ok (.iconst 2, 1) := dk_5 (dk_at dksX1_wheel_0 9 rfl rfl)
theorem dX1_wheel_10 : decode cX1_wheel 10 = .ok (.invokestatic 71, 3) := dk_184 0 71 (dk_at dksX1_wheel_0 10 rfl rfl)
theorem dX1_wheel_13 : decode cX1_wheel 13 = .ok (.invokestatic 68, 3) := dk_184 0 68 (dk_at dksX1_wheel_0 13 rfl rfl)
theorem dX1_wheel_16 : decode cX1_wheel 16 = .ok (.iload_n 2, 1) := dk_28 (dk_at dksX1_wheel_0 16 rfl rfl)
theorem dX1_wheel_17 : decode cX1_wheel 17 = .ok (.ifCond .ne 10, 3) := dk_154 0 10 (dk_at dksX1_wheel_0 17 rfl rfl)
theorem dX1_wheel_20 : decode cX1_wheel 20 = .ok (.aload_n 3, 1) := dk_45 (dk_at dksX1_wheel_0 20 rfl rfl)
theorem dX1_wheel_21 : decode cX1_wheel 21 = .ok (.getfield 214, 3) := dk_180 0 214 (dk_at dksX1_wheel_0 21 rfl rfl)
theorem dX1_wheel_24 : decode cX1_wheel 24 = .ok (.goto 19, 3) := dk_167 0 19 (dk_at dksX1_wheel_1 0 rfl rfl)
theorem dX1_wheel_27 : decode cX1_wheel 27 = .ok (.iload_n 2, 1) := dk_28 (dk_at dksX1_wheel_1 3 rfl rfl)
theorem dX1_wheel_28 : decode cX1_wheel 28 = .ok (.iconst 1, 1) := dk_4 (dk_at dksX1_wheel_1 4 rfl rfl)
theorem dX1_wheel_29 : decode cX1_wheel 29 = .ok (.if_icmp .ne 10, 3) := dk_160 0 10 (dk_at dksX1_wheel_1 5 rfl rfl)
theorem dX1_wheel_32 : decode cX1_wheel 32 = .ok (.aload_n 3, 1) := dk_45 (dk_at dksX1_wheel_1 8 rfl rfl)
theorem dX1_wheel_33 : decode cX1_wheel 33 = .ok (.getfield 216, 3) := dk_180 0 216 (dk_at dksX1_wheel_1 9 rfl rfl)
theorem dX1_wheel_36 : decode cX1_wheel 36 = .ok (.goto 7, 3) := dk_167 0 7 (dk_at dksX1_wheel_1 12 rfl rfl)
theorem dX1_wheel_39 : decode cX1_wheel 39 = .ok (.aload_n 3, 1) := dk_45 (dk_at dksX1_wheel_1 15 rfl rfl)
theorem dX1_wheel_40 : decode cX1_wheel 40 = .ok (.getfield 219, 3) := dk_180 0 219 (dk_at dksX1_wheel_1 16 rfl rfl)
theorem dX1_wheel_43 : decode cX1_wheel 43 = .ok (.ireturn, 1) := dk_172 (dk_at dksX1_wheel_1 19 rfl rfl)
abbrev cX1_foretell : ByteArray := prog_1_method_43_code
def yX1_foretell : MethodName := ⟨RX1, "foretell", "(III)I"⟩
def dkwX1_foretell_3 : List UInt8 := [184, 0, 175, 104, 108, 172]
abbrev dktX1_foretell_3 : List UInt8 := dkwX1_foretell_3 ++ []
def dkwX1_foretell_2 : List UInt8 := [167, 0, 27, 3, 25, 4, 180, 0, 219, 17, 0, 250, 100, 184, 1, 72, 17, 0, 200, 104, 28, 29]
abbrev dktX1_foretell_2 : List UInt8 := dkwX1_foretell_2 ++ dktX1_foretell_3
def dkwX1_foretell_1 : List UInt8 := [184, 0, 71, 153, 0, 7, 4, 167, 0, 4, 3, 184, 0, 68, 25, 4, 180, 0, 219, 2, 160, 0, 7, 2]
abbrev dktX1_foretell_1 : List UInt8 := dkwX1_foretell_1 ++ dktX1_foretell_2
def dkwX1_foretell_0 : List UInt8 := [42, 27, 6, 182, 0, 171, 58, 4, 28, 4, 17, 7, 208, 184, 0, 71, 153, 0, 16, 29, 3, 6]
abbrev dktX1_foretell_0 : List UInt8 := dkwX1_foretell_0 ++ dktX1_foretell_1
theorem dksX1_foretell_0 : cX1_foretell.data.toList.drop 0 = dktX1_foretell_0 := by decide +kernel
theorem dksX1_foretell_1 : cX1_foretell.data.toList.drop 22 = dktX1_foretell_1 := dk_seg dksX1_foretell_0 22 rfl rfl
theorem dksX1_foretell_2 : cX1_foretell.data.toList.drop 46 = dktX1_foretell_2 := dk_seg dksX1_foretell_1 24 rfl rfl
theorem dksX1_foretell_3 : cX1_foretell.data.toList.drop 68 = dktX1_foretell_3 := dk_seg dksX1_foretell_2 22 rfl rfl
theorem dX1_foretell_0 : decode cX1_foretell 0 = .ok (.aload_n 0, 1) := dk_42 (dk_at dksX1_foretell_0 0 rfl rfl)
theorem dX1_foretell_1 : decode cX1_foretell 1 = .ok (.iload_n 1, 1) := dk_27 (dk_at dksX1_foretell_0 1 rfl rfl)
theorem dX1_foretell_2 : decode cX1_foretell 2 = .ok (.iconst 3, 1) := dk_6 (dk_at dksX1_foretell_0 2 rfl rfl)
theorem dX1_foretell_3 : decode cX1_foretell 3 = .ok (.invokevirtual 171, 3) := dk_182 0 171 (dk_at dksX1_foretell_0 3 rfl rfl)
theorem dX1_foretell_6 : decode cX1_foretell 6 = .ok (.astore 4, 2) := dk_58 4 (dk_at dksX1_foretell_0 6 rfl rfl)
theorem dX1_foretell_8 : decode cX1_foretell 8 = .ok (.iload_n 2, 1) := dk_28 (dk_at dksX1_foretell_0 8 rfl rfl)
theorem dX1_foretell_9 : decode cX1_foretell 9 = .ok (.iconst 1, 1) := dk_4 (dk_at dksX1_foretell_0 9 rfl rfl)
theorem dX1_foretell_10 : decode cX1_foretell 10 = .ok (.sipush 2000, 3) := dk_17 7 208 (dk_at dksX1_foretell_0 10 rfl rfl)
theorem dX1_foretell_13 : decode cX1_foretell 13 = .ok (.invokestatic 71, 3) := dk_184 0 71 (dk_at dksX1_foretell_0 13 rfl rfl)
theorem dX1_foretell_16 : decode cX1_foretell 16 = .ok (.ifCond .eq 16, 3) := dk_153 0 16 (dk_at dksX1_foretell_0 16 rfl rfl)
theorem dX1_foretell_19 : decode cX1_foretell 19 = .ok (.iload_n 3, 1) := dk_29 (dk_at dksX1_foretell_0 19 rfl rfl)
theorem dX1_foretell_20 : decode cX1_foretell 20 = .ok (.iconst 0, 1) := dk_3 (dk_at dksX1_foretell_0 20 rfl rfl)
theorem dX1_foretell_21 : decode cX1_foretell 21 = .ok (.iconst 3, 1) := dk_6 (dk_at dksX1_foretell_0 21 rfl rfl)
theorem dX1_foretell_22 : decode cX1_foretell 22 = .ok (.invokestatic 71, 3) := dk_184 0 71 (dk_at dksX1_foretell_1 0 rfl rfl)
theorem dX1_foretell_25 : decode cX1_foretell 25 = .ok (.ifCond .eq 7, 3) := dk_153 0 7 (dk_at dksX1_foretell_1 3 rfl rfl)
theorem dX1_foretell_28 : decode cX1_foretell 28 = .ok (.iconst 1, 1) := dk_4 (dk_at dksX1_foretell_1 6 rfl rfl)
theorem dX1_foretell_29 : decode cX1_foretell 29 = .ok (.goto 4, 3) := dk_167 0 4 (dk_at dksX1_foretell_1 7 rfl rfl)
theorem dX1_foretell_32 : decode cX1_foretell 32 = .ok (.iconst 0, 1) := dk_3 (dk_at dksX1_foretell_1 10 rfl rfl)
theorem dX1_foretell_33 : decode cX1_foretell 33 = .ok (.invokestatic 68, 3) := dk_184 0 68 (dk_at dksX1_foretell_1 11 rfl rfl)
theorem dX1_foretell_36 : decode cX1_foretell 36 = .ok (.aload 4, 2) := dk_25 4 (dk_at dksX1_foretell_1 14 rfl rfl)
theorem dX1_foretell_38 : decode cX1_foretell 38 = .ok (.getfield 219, 3) := dk_180 0 219 (dk_at dksX1_foretell_1 16 rfl rfl)
theorem dX1_foretell_41 : decode cX1_foretell 41 = .ok (.iconst (-1), 1) := dk_2 (dk_at dksX1_foretell_1 19 rfl rfl)
theorem dX1_foretell_42 : decode cX1_foretell 42 = .ok (.if_icmp .ne 7, 3) := dk_160 0 7 (dk_at dksX1_foretell_1 20 rfl rfl)
theorem dX1_foretell_45 : decode cX1_foretell 45 = .ok (.iconst (-1), 1) := dk_2 (dk_at dksX1_foretell_1 23 rfl rfl)
theorem dX1_foretell_46 : decode cX1_foretell 46 = .ok (.goto 27, 3) := dk_167 0 27 (dk_at dksX1_foretell_2 0 rfl rfl)
theorem dX1_foretell_49 : decode cX1_foretell 49 = .ok (.iconst 0, 1) := dk_3 (dk_at dksX1_foretell_2 3 rfl rfl)
theorem dX1_foretell_50 : decode cX1_foretell 50 = .ok (.aload 4, 2) := dk_25 4 (dk_at dksX1_foretell_2 4 rfl rfl)
theorem dX1_foretell_52 : decode cX1_foretell 52 = .ok (.getfield 219, 3) := dk_180 0 219 (dk_at dksX1_foretell_2 6 rfl rfl)
theorem dX1_foretell_55 : decode cX1_foretell 55 = .ok (.sipush 250, 3) := dk_17 0 250 (dk_at dksX1_foretell_2 9 rfl rfl)
theorem dX1_foretell_58 : decode cX1_foretell 58 = .ok (.isub, 1) := dk_100 (dk_at dksX1_foretell_2 12 rfl rfl)
theorem dX1_foretell_59 : decode cX1_foretell 59 = .ok (.invokestatic 328, 3) := dk_184 1 72 (dk_at dksX1_foretell_2 13 rfl rfl)
theorem dX1_foretell_62 : decode cX1_foretell 62 = .ok (.sipush 200, 3) := dk_17 0 200 (dk_at dksX1_foretell_2 16 rfl rfl)
theorem dX1_foretell_65 : decode cX1_foretell 65 = .ok (.imul, 1) := dk_104 (dk_at dksX1_foretell_2 19 rfl rfl)
theorem dX1_foretell_66 : decode cX1_foretell 66 = .ok (.iload_n 2, 1) := dk_28 (dk_at dksX1_foretell_2 20 rfl rfl)
theorem dX1_foretell_67 : decode cX1_foretell 67 = .ok (.iload_n 3, 1) := dk_29 (dk_at dksX1_foretell_2 21 rfl rfl)
theorem dX1_foretell_68 : decode cX1_foretell 68 = .ok (.invokestatic 175, 3) := dk_184 0 175 (dk_at dksX1_foretell_3 0 rfl rfl)
theorem dX1_foretell_71 : decode cX1_foretell 71 = .ok (.imul, 1) := dk_104 (dk_at dksX1_foretell_3 3 rfl rfl)
theorem dX1_foretell_72 : decode cX1_foretell 72 = .ok (.idiv, 1) := dk_108 (dk_at dksX1_foretell_3 4 rfl rfl)
theorem dX1_foretell_73 : decode cX1_foretell 73 = .ok (.ireturn, 1) := dk_172 (dk_at dksX1_foretell_3 5 rfl rfl)
abbrev cX1_bars : ByteArray := prog_1_method_44_code
def yX1_bars : MethodName := ⟨RX1, "bars", "(I)I"⟩
def dkwX1_bars_0 : List UInt8 := [42, 42, 27, 3, 182, 0, 171, 182, 1, 12, 172]
abbrev dktX1_bars_0 : List UInt8 := dkwX1_bars_0 ++ []
theorem dksX1_bars_0 : cX1_bars.data.toList.drop 0 = dktX1_bars_0 := by decide +kernel
theorem dX1_bars_0 : decode cX1_bars 0 = .ok (.aload_n 0, 1) := dk_42 (dk_at dksX1_bars_0 0 rfl rfl)
theorem dX1_bars_1 : decode cX1_bars 1 = .ok (.aload_n 0, 1) := dk_42 (dk_at dksX1_bars_0 1 rfl rfl)
theorem dX1_bars_2 : decode cX1_bars 2 = .ok (.iload_n 1, 1) := dk_27 (dk_at dksX1_bars_0 2 rfl rfl)
theorem dX1_bars_3 : decode cX1_bars 3 = .ok (.iconst 0, 1) := dk_3 (dk_at dksX1_bars_0 3 rfl rfl)
theorem dX1_bars_4 : decode cX1_bars 4 = .ok (.invokevirtual 171, 3) := dk_182 0 171 (dk_at dksX1_bars_0 4 rfl rfl)
theorem dX1_bars_7 : decode cX1_bars 7 = .ok (.invokevirtual 268, 3) := dk_182 1 12 (dk_at dksX1_bars_0 7 rfl rfl)
theorem dX1_bars_10 : decode cX1_bars 10 = .ok (.ireturn, 1) := dk_172 (dk_at dksX1_bars_0 10 rfl rfl)
abbrev cX1_barredBy : ByteArray := prog_1_method_45_code
def yX1_barredBy : MethodName := ⟨RX1, "barredBy", "(I)I"⟩
def dkwX1_barredBy_1 : List UInt8 := [182, 1, 8, 180, 0, 88, 172]
abbrev dktX1_barredBy_1 : List UInt8 := dkwX1_barredBy_1 ++ []
def dkwX1_barredBy_0 : List UInt8 := [42, 27, 3, 182, 0, 171, 77, 42, 44, 182, 1, 12, 62, 29, 154, 0, 7, 2, 167, 0, 12, 42, 44, 29]
abbrev dktX1_barredBy_0 : List UInt8 := dkwX1_barredBy_0 ++ dktX1_barredBy_1
theorem dksX1_barredBy_0 : cX1_barredBy.data.toList.drop 0 = dktX1_barredBy_0 := by decide +kernel
theorem dksX1_barredBy_1 : cX1_barredBy.data.toList.drop 24 = dktX1_barredBy_1 := dk_seg dksX1_barredBy_0 24 rfl rfl
theorem dX1_barredBy_0 : decode cX1_barredBy 0 = .ok (.aload_n 0, 1) := dk_42 (dk_at dksX1_barredBy_0 0 rfl rfl)
theorem dX1_barredBy_1 : decode cX1_barredBy 1 = .ok (.iload_n 1, 1) := dk_27 (dk_at dksX1_barredBy_0 1 rfl rfl)
theorem dX1_barredBy_2 : decode cX1_barredBy 2 = .ok (.iconst 0, 1) := dk_3 (dk_at dksX1_barredBy_0 2 rfl rfl)
theorem dX1_barredBy_3 : decode cX1_barredBy 3 = .ok (.invokevirtual 171, 3) := dk_182 0 171 (dk_at dksX1_barredBy_0 3 rfl rfl)
theorem dX1_barredBy_6 : decode cX1_barredBy 6 = .ok (.astore_n 2, 1) := dk_77 (dk_at dksX1_barredBy_0 6 rfl rfl)
theorem dX1_barredBy_7 : decode cX1_barredBy 7 = .ok (.aload_n 0, 1) := dk_42 (dk_at dksX1_barredBy_0 7 rfl rfl)
theorem dX1_barredBy_8 : decode cX1_barredBy 8 = .ok (.aload_n 2, 1) := dk_44 (dk_at dksX1_barredBy_0 8 rfl rfl)
theorem dX1_barredBy_9 : decode cX1_barredBy 9 = .ok (.invokevirtual 268, 3) := dk_182 1 12 (dk_at dksX1_barredBy_0 9 rfl rfl)
theorem dX1_barredBy_12 : decode cX1_barredBy 12 = .ok (.istore_n 3, 1) := dk_62 (dk_at dksX1_barredBy_0 12 rfl rfl)
theorem dX1_barredBy_13 : decode cX1_barredBy 13 = .ok (.iload_n 3, 1) := dk_29 (dk_at dksX1_barredBy_0 13 rfl rfl)
theorem dX1_barredBy_14 : decode cX1_barredBy 14 = .ok (.ifCond .ne 7, 3) := dk_154 0 7 (dk_at dksX1_barredBy_0 14 rfl rfl)
theorem dX1_barredBy_17 : decode cX1_barredBy 17 = .ok (.iconst (-1), 1) := dk_2 (dk_at dksX1_barredBy_0 17 rfl rfl)
theorem dX1_barredBy_18 : decode cX1_barredBy 18 = .ok (.goto 12, 3) := dk_167 0 12 (dk_at dksX1_barredBy_0 18 rfl rfl)
theorem dX1_barredBy_21 : decode cX1_barredBy 21 = .ok (.aload_n 0, 1) := dk_42 (dk_at dksX1_barredBy_0 21 rfl rfl)
theorem dX1_barredBy_22 : decode cX1_barredBy 22 = .ok (.aload_n 2, 1) := dk_44 (dk_at dksX1_barredBy_0 22 rfl rfl)
theorem dX1_barredBy_23 : decode cX1_barredBy 23 = .ok (.iload_n 3, 1) := dk_29 (dk_at dksX1_barredBy_0 23 rfl rfl)
theorem dX1_barredBy_24 : decode cX1_barredBy 24 = .ok (.invokevirtual 264, 3) := dk_182 1 8 (dk_at dksX1_barredBy_1 0 rfl rfl)
theorem dX1_barredBy_27 : decode cX1_barredBy 27 = .ok (.getfield 88, 3) := dk_180 0 88 (dk_at dksX1_barredBy_1 3 rfl rfl)
theorem dX1_barredBy_30 : decode cX1_barredBy 30 = .ok (.ireturn, 1) := dk_172 (dk_at dksX1_barredBy_1 6 rfl rfl)
abbrev cX1_isReleased : ByteArray := prog_1_method_46_code
def yX1_isReleased : MethodName := ⟨RX1, "isReleased", "(I)Z"⟩
def dkwX1_isReleased_0 : List UInt8 := [42, 27, 3, 182, 0, 171, 180, 0, 138, 172]
abbrev dktX1_isReleased_0 : List UInt8 := dkwX1_isReleased_0 ++ []
theorem dksX1_isReleased_0 : cX1_isReleased.data.toList.drop 0 = dktX1_isReleased_0 := by decide +kernel
theorem dX1_isReleased_0 : decode cX1_isReleased 0 = .ok (.aload_n 0, 1) := dk_42 (dk_at dksX1_isReleased_0 0 rfl rfl)
theorem dX1_isReleased_1 : decode cX1_isReleased 1 = .ok (.iload_n 1, 1) := dk_27 (dk_at dksX1_isReleased_0 1 rfl rfl)
theorem dX1_isReleased_2 : decode cX1_isReleased 2 = .ok (.iconst 0, 1) := dk_3 (dk_at dksX1_isReleased_0 2 rfl rfl)
theorem dX1_isReleased_3 : decode cX1_isReleased 3 = .ok (.invokevirtual 171, 3) := dk_182 0 171 (dk_at dksX1_isReleased_0 3 rfl rfl)
theorem dX1_isReleased_6 : decode cX1_isReleased 6 = .ok (.getfield 138, 3) := dk_180 0 138 (dk_at dksX1_isReleased_0 6 rfl rfl)
theorem dX1_isReleased_9 : decode cX1_isReleased 9 = .ok (.ireturn, 1) := dk_172 (dk_at dksX1_isReleased_0 9 rfl rfl)
abbrev cX1_road : ByteArray := prog_1_method_49_code
def yX1_road : MethodName := ⟨RX1, "road", "(II)I"⟩
def dkwX1_road_2 : List UInt8 := [192, 0, 158, 180, 0, 160, 180, 0, 88, 167, 0, 4, 2, 172]
abbrev dktX1_road_2 : List UInt8 := dkwX1_road_2 ++ []
def dkwX1_road_1 : List UInt8 := [180, 0, 36, 27, 182, 0, 154, 192, 0, 26, 78, 28, 45, 182, 0, 146, 162, 0, 20, 45, 28, 182, 0, 154]
abbrev dktX1_road_1 : List UInt8 := dkwX1_road_1 ++ dktX1_road_2
def dkwX1_road_0 : List UInt8 := [27, 3, 5, 184, 0, 71, 153, 0, 11, 28, 155, 0, 7, 4, 167, 0, 4, 3, 184, 1, 60, 42]
abbrev dktX1_road_0 : List UInt8 := dkwX1_road_0 ++ dktX1_road_1
theorem dksX1_road_0 : cX1_road.data.toList.drop 0 = dktX1_road_0 := by decide +kernel
theorem dksX1_road_1 : cX1_road.data.toList.drop 22 = dktX1_road_1 := dk_seg dksX1_road_0 22 rfl rfl
theorem dksX1_road_2 : cX1_road.data.toList.drop 46 = dktX1_road_2 := dk_seg dksX1_road_1 24 rfl rfl
theorem dX1_road_0 : decode cX1_road 0 = .ok (.iload_n 1, 1) := dk_27 (dk_at dksX1_road_0 0 rfl rfl)
theorem dX1_road_1 : decode cX1_road 1 = .ok (.iconst 0, 1) := dk_3 (dk_at dksX1_road_0 1 rfl rfl)
theorem dX1_road_2 : decode cX1_road 2 = .ok (.iconst 2, 1) := dk_5 (dk_at dksX1_road_0 2 rfl rfl)
theorem dX1_road_3 : decode cX1_road 3 = .ok (.invokestatic 71, 3) := dk_184 0 71 (dk_at dksX1_road_0 3 rfl rfl)
theorem dX1_road_6 : decode cX1_road 6 = .ok (.ifCond .eq 11, 3) := dk_153 0 11 (dk_at dksX1_road_0 6 rfl rfl)
theorem dX1_road_9 : decode cX1_road 9 = .ok (.iload_n 2, 1) := dk_28 (dk_at dksX1_road_0 9 rfl rfl)
theorem dX1_road_10 : decode cX1_road 10 = .ok (.ifCond .lt 7, 3) := dk_155 0 7 (dk_at dksX1_road_0 10 rfl rfl)
theorem dX1_road_13 : decode cX1_road 13 = .ok (.iconst 1, 1) := dk_4 (dk_at dksX1_road_0 13 rfl rfl)
theorem dX1_road_14 : decode cX1_road 14 = .ok (.goto 4, 3) := dk_167 0 4 (dk_at dksX1_road_0 14 rfl rfl)
theorem dX1_road_17 : decode cX1_road 17 = .ok (.iconst 0, 1) := dk_3 (dk_at dksX1_road_0 17 rfl rfl)
theorem dX1_road_18 : decode cX1_road 18 = .ok (.invokestatic 316, 3) := dk_184 1 60 (dk_at dksX1_road_0 18 rfl rfl)
theorem dX1_road_21 : decode cX1_road 21 = .ok (.aload_n 0, 1) := dk_42 (dk_at dksX1_road_0 21 rfl rfl)
theorem dX1_road_22 : decode cX1_road 22 = .ok (.getfield 36, 3) := dk_180 0 36 (dk_at dksX1_road_1 0 rfl rfl)
theorem dX1_road_25 : decode cX1_road 25 = .ok (.iload_n 1, 1) := dk_27 (dk_at dksX1_road_1 3 rfl rfl)
theorem dX1_road_26 : decode cX1_road 26 = .ok (.invokevirtual 154, 3) := dk_182 0 154 (dk_at dksX1_road_1 4 rfl rfl)
theorem dX1_road_29 : decode cX1_road 29 = .ok (.checkcast 26, 3) := dk_192 0 26 (dk_at dksX1_road_1 7 rfl rfl)
theorem dX1_road_32 : decode cX1_road 32 = .ok (.astore_n 3, 1) := dk_78 (dk_at dksX1_road_1 10 rfl rfl)
theorem dX1_road_33 : decode cX1_road 33 = .ok (.iload_n 2, 1) := dk_28 (dk_at dksX1_road_1 11 rfl rfl)
theorem dX1_road_34 : decode cX1_road 34 = .ok (.aload_n 3, 1) := dk_45 (dk_at dksX1_road_1 12 rfl rfl)
theorem dX1_road_35 : decode cX1_road 35 = .ok (.invokevirtual 146, 3) := dk_182 0 146 (dk_at dksX1_road_1 13 rfl rfl)
theorem dX1_road_38 : decode cX1_road 38 = .ok (.if_icmp .ge 20, 3) := dk_162 0 20 (dk_at dksX1_road_1 16 rfl rfl)
theorem dX1_road_41 : decode cX1_road 41 = .ok (.aload_n 3, 1) := dk_45 (dk_at dksX1_road_1 19 rfl rfl)
theorem dX1_road_42 : decode cX1_road 42 = .ok (.iload_n 2, 1) := dk_28 (dk_at dksX1_road_1 20 rfl rfl)
theorem dX1_road_43 : decode cX1_road 43 = .ok (.invokevirtual 154, 3) := dk_182 0 154 (dk_at dksX1_road_1 21 rfl rfl)
theorem dX1_road_46 : decode cX1_road 46 = .ok (.checkcast 158, 3) := dk_192 0 158 (dk_at dksX1_road_2 0 rfl rfl)
theorem dX1_road_49 : decode cX1_road 49 = .ok (.getfield 160, 3) := dk_180 0 160 (dk_at dksX1_road_2 3 rfl rfl)
theorem dX1_road_52 : decode cX1_road 52 = .ok (.getfield 88, 3) := dk_180 0 88 (dk_at dksX1_road_2 6 rfl rfl)
theorem dX1_road_55 : decode cX1_road 55 = .ok (.goto 4, 3) := dk_167 0 4 (dk_at dksX1_road_2 9 rfl rfl)
theorem dX1_road_58 : decode cX1_road 58 = .ok (.iconst (-1), 1) := dk_2 (dk_at dksX1_road_2 12 rfl rfl)
theorem dX1_road_59 : decode cX1_road 59 = .ok (.ireturn, 1) := dk_172 (dk_at dksX1_road_2 13 rfl rfl)
theorem q39 : (Jvm.Cond.initialized "WheelWorks") ∈ lw_all := lw_g (lw_at lw_m1 1 rfl) rfl
theorem q67 : (Jvm.Cond.instantiable "WheelWorks" (10 : Nat)) ∈ lw_all := lw_g (lw_at lw_m1 29 rfl) rfl
theorem q69 : (Jvm.Cond.instanceMethod ({ cls := "WheelWorks", name := "<init>", desc := "()V" } : Jvm.MethodName)) ∈ lw_all := lw_g (lw_at lw_m1 31 rfl) rfl
theorem q70 : (Jvm.Cond.code ({ cls := "WheelWorks", name := "<init>", desc := "()V" } : Jvm.MethodName) prog_1_method_2_code (2 : Nat) (Option.none : Option Jvm.ClassFile.FieldType)) ∈ lw_all := lw_g (lw_at lw_m1 32 rfl) rfl
theorem q71 : (Jvm.Cond.methodLink "WheelWorks" (1 : Nat) ({ cls := "java/lang/Object", name := "<init>", desc := "()V" } : Jvm.MethodName)) ∈ lw_all := lw_g (lw_at lw_m1 33 rfl) rfl
theorem q74 : (Jvm.Cond.classLink "WheelWorks" (7 : Nat) "WheelWorks$Rack") ∈ lw_all := lw_g (lw_at lw_m1 36 rfl) rfl
theorem q76 : (Jvm.Cond.methodLinkNest "WheelWorks" (9 : Nat) ({ cls := "WheelWorks$Rack", name := "<init>", desc := "()V" } : Jvm.MethodName) "WheelWorks") ∈ lw_tbl := lw_at lw_m1 38 rfl
theorem q113 : (Jvm.Cond.classLink "WheelWorks" (26 : Nat) "java/util/ArrayList") ∈ lw_all := lw_g (lw_at lw_m1 75 rfl) rfl
theorem q114 : (Jvm.Cond.methodLink "WheelWorks" (28 : Nat) ({ cls := "java/util/ArrayList", name := "<init>", desc := "()V" } : Jvm.MethodName)) ∈ lw_all := lw_g (lw_at lw_m1 76 rfl) rfl
theorem q115 : (Jvm.Cond.methodLink "WheelWorks" (45 : Nat) ({ cls := "java/util/ArrayList", name := "add", desc := "(Ljava/lang/Object;)Z" } : Jvm.MethodName)) ∈ lw_all := lw_g (lw_at lw_m1 77 rfl) rfl
theorem q147 : (Jvm.Cond.selects "WheelWorks" ({ cls := "java/lang/Object", name := "getClass", desc := "()Ljava/lang/Class;" } : Jvm.MethodName) ({ cls := "java/lang/Object", name := "getClass", desc := "()Ljava/lang/Class;" } : Jvm.MethodName)) ∈ lw_all := lw_g (lw_at lw_m1 109 rfl) rfl
theorem q177 : (Jvm.Cond.fieldLink "WheelWorks" (10 : Nat) "WheelWorks" "rack" "LWheelWorks$Rack;") ∈ lw_all := lw_g (lw_at lw_m1 139 rfl) rfl
theorem q178 : (Jvm.Cond.fieldLink "WheelWorks" (16 : Nat) "WheelWorks" "lives" "[I") ∈ lw_all := lw_g (lw_at lw_m1 140 rfl) rfl
theorem q179 : (Jvm.Cond.fieldLink "WheelWorks" (20 : Nat) "WheelWorks" "intervals" "[I") ∈ lw_all := lw_g (lw_at lw_m1 141 rfl) rfl
theorem q180 : (Jvm.Cond.fieldLink "WheelWorks" (23 : Nat) "WheelWorks" "windows" "[I") ∈ lw_all := lw_g (lw_at lw_m1 142 rfl) rfl
theorem q181 : (Jvm.Cond.fieldLink "WheelWorks" (29 : Nat) "WheelWorks" "log" "Ljava/util/ArrayList;") ∈ lw_all := lw_g (lw_at lw_m1 143 rfl) rfl
theorem q182 : (Jvm.Cond.fieldLink "WheelWorks" (33 : Nat) "WheelWorks" "waiting" "Ljava/util/ArrayList;") ∈ lw_all := lw_g (lw_at lw_m1 144 rfl) rfl
theorem q183 : (Jvm.Cond.fieldLink "WheelWorks" (36 : Nat) "WheelWorks" "roads" "Ljava/util/ArrayList;") ∈ lw_all := lw_g (lw_at lw_m1 145 rfl) rfl
theorem q184 : (Jvm.Cond.fieldLink "WheelWorks" (39 : Nat) "WheelWorks" "tried" "[I") ∈ lw_all := lw_g (lw_at lw_m1 146 rfl) rfl
theorem q185 : (Jvm.Cond.fieldLink "WheelWorks" (42 : Nat) "WheelWorks" "best" "[I") ∈ lw_all := lw_g (lw_at lw_m1 147 rfl) rfl
theorem q186 : (Jvm.Cond.fieldLink "WheelWorks" (285 : Nat) "WheelWorks" "fewest" "I") ∈ lw_all := lw_g (lw_at lw_m1 148 rfl) rfl
theorem q187 : (Jvm.Cond.laysFinal "WheelWorks" "WheelWorks" "rack" "LWheelWorks$Rack;") ∈ lw_all := lw_g (lw_at lw_m1 149 rfl) rfl
theorem q188 : (Jvm.Cond.soleField "WheelWorks" "rack") ∈ lw_all := lw_g (lw_at lw_m1 150 rfl) rfl
theorem q189 : (Jvm.Cond.laysFinal "WheelWorks" "WheelWorks" "lives" "[I") ∈ lw_all := lw_g (lw_at lw_m1 151 rfl) rfl
theorem q190 : (Jvm.Cond.soleField "WheelWorks" "lives") ∈ lw_all := lw_g (lw_at lw_m1 152 rfl) rfl
theorem q191 : (Jvm.Cond.laysFinal "WheelWorks" "WheelWorks" "intervals" "[I") ∈ lw_all := lw_g (lw_at lw_m1 153 rfl) rfl
theorem q192 : (Jvm.Cond.soleField "WheelWorks" "intervals") ∈ lw_all := lw_g (lw_at lw_m1 154 rfl) rfl
theorem q193 : (Jvm.Cond.laysFinal "WheelWorks" "WheelWorks" "windows" "[I") ∈ lw_all := lw_g (lw_at lw_m1 155 rfl) rfl
theorem q194 : (Jvm.Cond.soleField "WheelWorks" "windows") ∈ lw_all := lw_g (lw_at lw_m1 156 rfl) rfl
theorem q195 : (Jvm.Cond.laysFinal "WheelWorks" "WheelWorks" "log" "Ljava/util/ArrayList;") ∈ lw_all := lw_g (lw_at lw_m1 157 rfl) rfl
theorem q196 : (Jvm.Cond.soleField "WheelWorks" "log") ∈ lw_all := lw_g (lw_at lw_m1 158 rfl) rfl
theorem q197 : (Jvm.Cond.lays "WheelWorks" "WheelWorks" "waiting" "Ljava/util/ArrayList;") ∈ lw_all := lw_g (lw_at lw_m1 159 rfl) rfl
theorem q198 : (Jvm.Cond.soleField "WheelWorks" "waiting") ∈ lw_all := lw_g (lw_at lw_m1 160 rfl) rfl
theorem q199 : (Jvm.Cond.laysFinal "WheelWorks" "WheelWorks" "roads" "Ljava/util/ArrayList;") ∈ lw_all := lw_g (lw_at lw_m1 161 rfl) rfl
theorem q200 : (Jvm.Cond.soleField "WheelWorks" "roads") ∈ lw_all := lw_g (lw_at lw_m1 162 rfl) rfl
theorem q201 : (Jvm.Cond.laysFinal "WheelWorks" "WheelWorks" "tried" "[I") ∈ lw_all := lw_g (lw_at lw_m1 163 rfl) rfl
theorem q202 : (Jvm.Cond.soleField "WheelWorks" "tried") ∈ lw_all := lw_g (lw_at lw_m1 164 rfl) rfl
theorem q203 : (Jvm.Cond.laysFinal "WheelWorks" "WheelWorks" "best" "[I") ∈ lw_all := lw_g (lw_at lw_m1 165 rfl) rfl
theorem q204 : (Jvm.Cond.soleField "WheelWorks" "best") ∈ lw_all := lw_g (lw_at lw_m1 166 rfl) rfl
theorem q205 : (Jvm.Cond.lays "WheelWorks" "WheelWorks" "fewest" "I") ∈ lw_all := lw_g (lw_at lw_m1 167 rfl) rfl
theorem q206 : (Jvm.Cond.soleField "WheelWorks" "fewest") ∈ lw_all := lw_g (lw_at lw_m1 168 rfl) rfl
theorem q207 : (Jvm.Cond.superclass "WheelWorks" "java/lang/Object") ∈ lw_all := lw_g (lw_at lw_m1 169 rfl) rfl
theorem q210 : (Jvm.Cond.instanceMethod ({ cls := "WheelWorks", name := "plan", desc := "()I" } : Jvm.MethodName)) ∈ lw_all := lw_g (lw_at lw_m1 172 rfl) rfl
theorem q211 : (Jvm.Cond.selects "WheelWorks" ({ cls := "WheelWorks", name := "plan", desc := "()I" } : Jvm.MethodName) ({ cls := "WheelWorks", name := "plan", desc := "()I" } : Jvm.MethodName)) ∈ lw_all := lw_g (lw_at lw_m1 173 rfl) rfl
theorem q212 : (Jvm.Cond.code ({ cls := "WheelWorks", name := "plan", desc := "()I" } : Jvm.MethodName) prog_1_method_47_code (1 : Nat) (Option.some Jvm.ClassFile.FieldType.int)) ∈ lw_all := lw_g (lw_at lw_m1 174 rfl) rfl
theorem q213 : (Jvm.Cond.methodLink "WheelWorks" (164 : Nat) ({ cls := "java/util/ArrayList", name := "isEmpty", desc := "()Z" } : Jvm.MethodName)) ∈ lw_all := lw_g (lw_at lw_m1 175 rfl) rfl
theorem q217 : (Jvm.Cond.methodLink "WheelWorks" (303 : Nat) ({ cls := "WheelWorks", name := "search", desc := "(Z)I" } : Jvm.MethodName)) ∈ lw_all := lw_g (lw_at lw_m1 179 rfl) rfl
theorem q218 : (Jvm.Cond.privateMethod ({ cls := "WheelWorks", name := "search", desc := "(Z)I" } : Jvm.MethodName)) ∈ lw_tbl := lw_at lw_m1 180 rfl
theorem q219 : (Jvm.Cond.instanceMethod ({ cls := "WheelWorks", name := "search", desc := "(Z)I" } : Jvm.MethodName)) ∈ lw_all := lw_g (lw_at lw_m1 181 rfl) rfl
theorem q220 : (Jvm.Cond.code ({ cls := "WheelWorks", name := "search", desc := "(Z)I" } : Jvm.MethodName) prog_1_method_32_code (2 : Nat) (Option.some Jvm.ClassFile.FieldType.int)) ∈ lw_all := lw_g (lw_at lw_m1 182 rfl) rfl
theorem q221 : (Jvm.Cond.methodLink "WheelWorks" (298 : Nat) ({ cls := "WheelWorks", name := "give", desc := "(IIZ)V" } : Jvm.MethodName)) ∈ lw_all := lw_g (lw_at lw_m1 183 rfl) rfl
theorem q222 : (Jvm.Cond.privateMethod ({ cls := "WheelWorks", name := "give", desc := "(IIZ)V" } : Jvm.MethodName)) ∈ lw_tbl := lw_at lw_m1 184 rfl
theorem q223 : (Jvm.Cond.instanceMethod ({ cls := "WheelWorks", name := "give", desc := "(IIZ)V" } : Jvm.MethodName)) ∈ lw_all := lw_g (lw_at lw_m1 185 rfl) rfl
theorem q224 : (Jvm.Cond.code ({ cls := "WheelWorks", name := "give", desc := "(IIZ)V" } : Jvm.MethodName) prog_1_method_31_code (6 : Nat) (Option.none : Option Jvm.ClassFile.FieldType)) ∈ lw_all := lw_g (lw_at lw_m1 186 rfl) rfl
theorem q225 : (Jvm.Cond.methodLink "WheelWorks" (146 : Nat) ({ cls := "java/util/ArrayList", name := "size", desc := "()I" } : Jvm.MethodName)) ∈ lw_all := lw_g (lw_at lw_m1 187 rfl) rfl
theorem q229 : (Jvm.Cond.methodLink "WheelWorks" (288 : Nat) ({ cls := "java/lang/System", name := "arraycopy", desc := "(Ljava/lang/Object;ILjava/lang/Object;II)V" } : Jvm.MethodName)) ∈ lw_all := lw_g (lw_at lw_m1 191 rfl) rfl
theorem q230 : (Jvm.Cond.methodLink "WheelWorks" (294 : Nat) ({ cls := "WheelWorks", name := "moves", desc := "(II)I" } : Jvm.MethodName)) ∈ lw_all := lw_g (lw_at lw_m1 192 rfl) rfl
theorem q231 : (Jvm.Cond.privateMethod ({ cls := "WheelWorks", name := "moves", desc := "(II)I" } : Jvm.MethodName)) ∈ lw_tbl := lw_at lw_m1 193 rfl
theorem q232 : (Jvm.Cond.instanceMethod ({ cls := "WheelWorks", name := "moves", desc := "(II)I" } : Jvm.MethodName)) ∈ lw_all := lw_g (lw_at lw_m1 194 rfl) rfl
theorem q233 : (Jvm.Cond.code ({ cls := "WheelWorks", name := "moves", desc := "(II)I" } : Jvm.MethodName) prog_1_method_30_code (6 : Nat) (Option.some Jvm.ClassFile.FieldType.int)) ∈ lw_all := lw_g (lw_at lw_m1 195 rfl) rfl
theorem q234 : (Jvm.Cond.methodLink "WheelWorks" (154 : Nat) ({ cls := "java/util/ArrayList", name := "get", desc := "(I)Ljava/lang/Object;" } : Jvm.MethodName)) ∈ lw_all := lw_g (lw_at lw_m1 196 rfl) rfl
theorem q248 : (Jvm.Cond.classLink "WheelWorks" (158 : Nat) "WheelWorks$Coming") ∈ lw_all := lw_g (lw_at lw_m1 210 rfl) rfl
theorem q250 : (Jvm.Cond.instanceMethod ({ cls := "WheelWorks", name := "planAnew", desc := "()I" } : Jvm.MethodName)) ∈ lw_all := lw_g (lw_at lw_m1 212 rfl) rfl
theorem q251 : (Jvm.Cond.selects "WheelWorks" ({ cls := "WheelWorks", name := "planAnew", desc := "()I" } : Jvm.MethodName) ({ cls := "WheelWorks", name := "planAnew", desc := "()I" } : Jvm.MethodName)) ∈ lw_all := lw_g (lw_at lw_m1 213 rfl) rfl
theorem q252 : (Jvm.Cond.code ({ cls := "WheelWorks", name := "planAnew", desc := "()I" } : Jvm.MethodName) prog_1_method_48_code (1 : Nat) (Option.some Jvm.ClassFile.FieldType.int)) ∈ lw_all := lw_g (lw_at lw_m1 214 rfl) rfl
theorem q259 : (Jvm.Cond.instanceMethod ({ cls := "WheelWorks", name := "part", desc := "(III)I" } : Jvm.MethodName)) ∈ lw_all := lw_g (lw_at lw_m1 221 rfl) rfl
theorem q260 : (Jvm.Cond.selects "WheelWorks" ({ cls := "WheelWorks", name := "part", desc := "(III)I" } : Jvm.MethodName) ({ cls := "WheelWorks", name := "part", desc := "(III)I" } : Jvm.MethodName)) ∈ lw_all := lw_g (lw_at lw_m1 222 rfl) rfl
theorem q261 : (Jvm.Cond.code ({ cls := "WheelWorks", name := "part", desc := "(III)I" } : Jvm.MethodName) prog_1_method_8_code (4 : Nat) (Option.some Jvm.ClassFile.FieldType.int)) ∈ lw_all := lw_g (lw_at lw_m1 223 rfl) rfl
theorem q262 : (Jvm.Cond.methodLink "WheelWorks" (71 : Nat) ({ cls := "WheelWorks", name := "in", desc := "(III)Z" } : Jvm.MethodName)) ∈ lw_all := lw_g (lw_at lw_m1 224 rfl) rfl
theorem q263 : (Jvm.Cond.static ({ cls := "WheelWorks", name := "in", desc := "(III)Z" } : Jvm.MethodName)) ∈ lw_all := lw_g (lw_at lw_m1 225 rfl) rfl
theorem q264 : (Jvm.Cond.code ({ cls := "WheelWorks", name := "in", desc := "(III)Z" } : Jvm.MethodName) prog_1_method_3_code (3 : Nat) (Option.some Jvm.ClassFile.FieldType.boolean)) ∈ lw_all := lw_g (lw_at lw_m1 226 rfl) rfl
theorem q265 : (Jvm.Cond.methodLink "WheelWorks" (68 : Nat) ({ cls := "WheelWorks", name := "need", desc := "(Z)V" } : Jvm.MethodName)) ∈ lw_all := lw_g (lw_at lw_m1 227 rfl) rfl
theorem q266 : (Jvm.Cond.static ({ cls := "WheelWorks", name := "need", desc := "(Z)V" } : Jvm.MethodName)) ∈ lw_all := lw_g (lw_at lw_m1 228 rfl) rfl
theorem q267 : (Jvm.Cond.code ({ cls := "WheelWorks", name := "need", desc := "(Z)V" } : Jvm.MethodName) prog_1_method_5_code (1 : Nat) (Option.none : Option Jvm.ClassFile.FieldType)) ∈ lw_all := lw_g (lw_at lw_m1 229 rfl) rfl
theorem q268 : (Jvm.Cond.classLink "WheelWorks" (52 : Nat) "java/lang/IllegalArgumentException") ∈ lw_all := lw_g (lw_at lw_m1 230 rfl) rfl
theorem q310 : (Jvm.Cond.methodLink "WheelWorks" (54 : Nat) ({ cls := "java/lang/IllegalArgumentException", name := "<init>", desc := "()V" } : Jvm.MethodName)) ∈ lw_all := lw_g (lw_at lw_m2 32 rfl) rfl
theorem q333 : (Jvm.Cond.methodLink "WheelWorks" (75 : Nat) ({ cls := "WheelWorks$Rack", name := "size", desc := "()I" } : Jvm.MethodName)) ∈ lw_all := lw_g (lw_at lw_m2 55 rfl) rfl
theorem q338 : (Jvm.Cond.methodLink "WheelWorks" (79 : Nat) ({ cls := "WheelWorks", name := "needState", desc := "(Z)V" } : Jvm.MethodName)) ∈ lw_all := lw_g (lw_at lw_m2 60 rfl) rfl
theorem q339 : (Jvm.Cond.static ({ cls := "WheelWorks", name := "needState", desc := "(Z)V" } : Jvm.MethodName)) ∈ lw_all := lw_g (lw_at lw_m2 61 rfl) rfl
theorem q340 : (Jvm.Cond.code ({ cls := "WheelWorks", name := "needState", desc := "(Z)V" } : Jvm.MethodName) prog_1_method_6_code (1 : Nat) (Option.none : Option Jvm.ClassFile.FieldType)) ∈ lw_all := lw_g (lw_at lw_m2 62 rfl) rfl
theorem q341 : (Jvm.Cond.classLink "WheelWorks" (55 : Nat) "java/lang/IllegalStateException") ∈ lw_all := lw_g (lw_at lw_m2 63 rfl) rfl
theorem q350 : (Jvm.Cond.methodLink "WheelWorks" (57 : Nat) ({ cls := "java/lang/IllegalStateException", name := "<init>", desc := "()V" } : Jvm.MethodName)) ∈ lw_all := lw_g (lw_at lw_m2 72 rfl) rfl
theorem q356 : (Jvm.Cond.classLink "WheelWorks" (62 : Nat) "WheelWorks$Part") ∈ lw_all := lw_g (lw_at lw_m2 78 rfl) rfl
theorem q358 : (Jvm.Cond.methodLink "WheelWorks" (82 : Nat) ({ cls := "WheelWorks$Part", name := "<init>", desc := "(IIII)V" } : Jvm.MethodName)) ∈ lw_all := lw_g (lw_at lw_m2 80 rfl) rfl
theorem q371 : (Jvm.Cond.fieldLinkNest "WheelWorks" (313 : Nat) "WheelWorks$Trail" "all" "Ljava/util/ArrayList;" "WheelWorks") ∈ lw_tbl := lw_at lw_m2 93 rfl
theorem q374 : (Jvm.Cond.fieldLinkNest "WheelWorks" (147 : Nat) "WheelWorks$Trail" "now" "Ljava/lang/Object;" "WheelWorks") ∈ lw_tbl := lw_at lw_m2 96 rfl
theorem q383 : (Jvm.Cond.fieldLinkNest "WheelWorks" (88 : Nat) "WheelWorks$Part" "number" "I" "WheelWorks") ∈ lw_tbl := lw_at lw_m2 105 rfl
theorem q385 : (Jvm.Cond.fieldLinkNest "WheelWorks" (64 : Nat) "WheelWorks$Part" "kind" "I" "WheelWorks") ∈ lw_tbl := lw_at lw_m2 107 rfl
theorem q387 : (Jvm.Cond.fieldLinkNest "WheelWorks" (244 : Nat) "WheelWorks$Part" "melt" "I" "WheelWorks") ∈ lw_tbl := lw_at lw_m2 109 rfl
theorem q389 : (Jvm.Cond.fieldLinkNest "WheelWorks" (113 : Nat) "WheelWorks$Part" "mod" "I" "WheelWorks") ∈ lw_tbl := lw_at lw_m2 111 rfl
theorem q391 : (Jvm.Cond.fieldLinkNest "WheelWorks" (124 : Nat) "WheelWorks$Part" "hosts" "LWheelWorks$Trail;" "WheelWorks") ∈ lw_tbl := lw_at lw_m2 113 rfl
theorem q393 : (Jvm.Cond.fieldLinkNest "WheelWorks" (121 : Nat) "WheelWorks$Part" "parts" "Ljava/util/ArrayList;" "WheelWorks") ∈ lw_tbl := lw_at lw_m2 115 rfl
theorem q395 : (Jvm.Cond.fieldLinkNest "WheelWorks" (104 : Nat) "WheelWorks$Part" "isScrapped" "Z" "WheelWorks") ∈ lw_tbl := lw_at lw_m2 117 rfl
theorem q397 : (Jvm.Cond.fieldLinkNest "WheelWorks" (231 : Nat) "WheelWorks$Part" "life" "I" "WheelWorks") ∈ lw_tbl := lw_at lw_m2 119 rfl
theorem q399 : (Jvm.Cond.fieldLinkNest "WheelWorks" (222 : Nat) "WheelWorks$Part" "since" "I" "WheelWorks") ∈ lw_tbl := lw_at lw_m2 121 rfl
theorem q400 : (Jvm.Cond.fieldLinkNest "WheelWorks" (225 : Nat) "WheelWorks$Part" "waived" "I" "WheelWorks") ∈ lw_tbl := lw_at lw_m2 122 rfl
theorem q401 : (Jvm.Cond.fieldLinkNest "WheelWorks" (100 : Nat) "WheelWorks$Part" "isQuarantined" "Z" "WheelWorks") ∈ lw_tbl := lw_at lw_m2 123 rfl
theorem q403 : (Jvm.Cond.fieldLinkNest "WheelWorks" (240 : Nat) "WheelWorks$Part" "isRecalled" "Z" "WheelWorks") ∈ lw_tbl := lw_at lw_m2 125 rfl
theorem q406 : (Jvm.Cond.fieldLinkNest "WheelWorks" (228 : Nat) "WheelWorks$Part" "flaw" "I" "WheelWorks") ∈ lw_tbl := lw_at lw_m2 128 rfl
theorem q408 : (Jvm.Cond.fieldLinkNest "WheelWorks" (234 : Nat) "WheelWorks$Part" "flawLife" "I" "WheelWorks") ∈ lw_tbl := lw_at lw_m2 130 rfl
theorem q410 : (Jvm.Cond.fieldLinkNest "WheelWorks" (214 : Nat) "WheelWorks$Part" "diameter" "I" "WheelWorks") ∈ lw_tbl := lw_at lw_m2 132 rfl
theorem q412 : (Jvm.Cond.fieldLinkNest "WheelWorks" (216 : Nat) "WheelWorks$Part" "flange" "I" "WheelWorks") ∈ lw_tbl := lw_at lw_m2 134 rfl
theorem q415 : (Jvm.Cond.fieldLinkNest "WheelWorks" (219 : Nat) "WheelWorks$Part" "gate" "I" "WheelWorks") ∈ lw_tbl := lw_at lw_m2 137 rfl
theorem q416 : (Jvm.Cond.fieldLinkNest "WheelWorks" (138 : Nat) "WheelWorks$Part" "isReleased" "Z" "WheelWorks") ∈ lw_tbl := lw_at lw_m2 138 rfl
theorem q419 : (Jvm.Cond.fieldLinkNest "WheelWorks" (279 : Nat) "WheelWorks$Part" "stands" "Z" "WheelWorks") ∈ lw_tbl := lw_at lw_m2 141 rfl
theorem q461 : (Jvm.Cond.methodLink "WheelWorks" (85 : Nat) ({ cls := "WheelWorks$Rack", name := "add", desc := "(LWheelWorks$Numbered;)LWheelWorks$Numbered;" } : Jvm.MethodName)) ∈ lw_all := lw_g (lw_at lw_m2 183 rfl) rfl
theorem q470 : (Jvm.Cond.instanceMethod ({ cls := "WheelWorks", name := "limits", desc := "(IIII)I" } : Jvm.MethodName)) ∈ lw_all := lw_g (lw_at lw_m2 192 rfl) rfl
theorem q471 : (Jvm.Cond.selects "WheelWorks" ({ cls := "WheelWorks", name := "limits", desc := "(IIII)I" } : Jvm.MethodName) ({ cls := "WheelWorks", name := "limits", desc := "(IIII)I" } : Jvm.MethodName)) ∈ lw_all := lw_g (lw_at lw_m2 193 rfl) rfl
theorem q472 : (Jvm.Cond.code ({ cls := "WheelWorks", name := "limits", desc := "(IIII)I" } : Jvm.MethodName) prog_1_method_9_code (6 : Nat) (Option.some Jvm.ClassFile.FieldType.int)) ∈ lw_all := lw_g (lw_at lw_m2 194 rfl) rfl
theorem q473 : (Jvm.Cond.constant "WheelWorks" (91 : Nat) (99999 : Int32)) ∈ lw_all := lw_g (lw_at lw_m2 195 rfl) rfl
theorem q511 : (Jvm.Cond.instanceMethod ({ cls := "WheelWorks", name := "fit", desc := "(II)I" } : Jvm.MethodName)) ∈ lw_all := lw_g (lw_at lw_m2 233 rfl) rfl
theorem q512 : (Jvm.Cond.selects "WheelWorks" ({ cls := "WheelWorks", name := "fit", desc := "(II)I" } : Jvm.MethodName) ({ cls := "WheelWorks", name := "fit", desc := "(II)I" } : Jvm.MethodName)) ∈ lw_all := lw_g (lw_at lw_m2 234 rfl) rfl
theorem q513 : (Jvm.Cond.code ({ cls := "WheelWorks", name := "fit", desc := "(II)I" } : Jvm.MethodName) prog_1_method_10_code (5 : Nat) (Option.some Jvm.ClassFile.FieldType.int)) ∈ lw_all := lw_g (lw_at lw_m2 235 rfl) rfl
theorem q514 : (Jvm.Cond.methodLink "WheelWorks" (58 : Nat) ({ cls := "WheelWorks$Rack", name := "need", desc := "(I)LWheelWorks$Numbered;" } : Jvm.MethodName)) ∈ lw_all := lw_g (lw_at lw_m2 236 rfl) rfl
theorem q520 : (Jvm.Cond.static ({ cls := "WheelWorks", name := "needIndex", desc := "(Z)V" } : Jvm.MethodName)) ∈ lw_all := lw_g (lw_at lw_m3 2 rfl) rfl
theorem q521 : (Jvm.Cond.code ({ cls := "WheelWorks", name := "needIndex", desc := "(Z)V" } : Jvm.MethodName) prog_1_method_4_code (1 : Nat) (Option.none : Option Jvm.ClassFile.FieldType)) ∈ lw_all := lw_g (lw_at lw_m3 3 rfl) rfl
theorem q522 : (Jvm.Cond.classLink "WheelWorks" (49 : Nat) "java/lang/IndexOutOfBoundsException") ∈ lw_all := lw_g (lw_at lw_m3 4 rfl) rfl
theorem q531 : (Jvm.Cond.methodLink "WheelWorks" (51 : Nat) ({ cls := "java/lang/IndexOutOfBoundsException", name := "<init>", desc := "()V" } : Jvm.MethodName)) ∈ lw_all := lw_g (lw_at lw_m3 13 rfl) rfl
theorem q539 : (Jvm.Cond.methodLink "WheelWorks" (92 : Nat) ({ cls := "WheelWorks$Part", name := "places", desc := "(I)I" } : Jvm.MethodName)) ∈ lw_all := lw_g (lw_at lw_m3 21 rfl) rfl
theorem q543 : (Jvm.Cond.methodLink "WheelWorks" (96 : Nat) ({ cls := "WheelWorks$Part", name := "isInStore", desc := "()Z" } : Jvm.MethodName)) ∈ lw_all := lw_g (lw_at lw_m3 25 rfl) rfl
theorem q547 : (Jvm.Cond.methodLink "WheelWorks" (107 : Nat) ({ cls := "WheelWorks$Part", name := "isBound", desc := "()Z" } : Jvm.MethodName)) ∈ lw_all := lw_g (lw_at lw_m3 29 rfl) rfl
theorem q556 : (Jvm.Cond.methodLink "WheelWorks" (110 : Nat) ({ cls := "WheelWorks$Part", name := "count", desc := "(I)I" } : Jvm.MethodName)) ∈ lw_all := lw_g (lw_at lw_m3 38 rfl) rfl
theorem q562 : (Jvm.Cond.methodLink "WheelWorks" (116 : Nat) ({ cls := "java/lang/Math", name := "abs", desc := "(I)I" } : Jvm.MethodName)) ∈ lw_all := lw_g (lw_at lw_m3 44 rfl) rfl
theorem q565 : (Jvm.Cond.methodLink "WheelWorks" (128 : Nat) ({ cls := "WheelWorks$Trail", name := "become", desc := "(Ljava/lang/Object;)V" } : Jvm.MethodName)) ∈ lw_all := lw_g (lw_at lw_m3 47 rfl) rfl
theorem q570 : (Jvm.Cond.methodLink "WheelWorks" (134 : Nat) ({ cls := "WheelWorks$Part", name := "head", desc := "()LWheelWorks$Part;" } : Jvm.MethodName)) ∈ lw_all := lw_g (lw_at lw_m3 52 rfl) rfl
theorem q571 : (Jvm.Cond.classLink "WheelWorks" (141 : Nat) "WheelWorks$Work") ∈ lw_all := lw_g (lw_at lw_m3 53 rfl) rfl
theorem q573 : (Jvm.Cond.methodLink "WheelWorks" (143 : Nat) ({ cls := "WheelWorks$Work", name := "<init>", desc := "(LWheelWorks$Part;LWheelWorks$Part;I)V" } : Jvm.MethodName)) ∈ lw_all := lw_g (lw_at lw_m3 55 rfl) rfl
theorem q578 : (Jvm.Cond.fieldLinkNest "WheelWorks" (322 : Nat) "WheelWorks$Work" "part" "LWheelWorks$Part;" "WheelWorks") ∈ lw_tbl := lw_at lw_m3 60 rfl
theorem q580 : (Jvm.Cond.fieldLinkNest "WheelWorks" (325 : Nat) "WheelWorks$Work" "host" "LWheelWorks$Part;" "WheelWorks") ∈ lw_tbl := lw_at lw_m3 62 rfl
theorem q582 : (Jvm.Cond.fieldLinkNest "WheelWorks" (319 : Nat) "WheelWorks$Work" "kilometres" "I" "WheelWorks") ∈ lw_tbl := lw_at lw_m3 64 rfl
theorem q594 : (Jvm.Cond.instanceMethod ({ cls := "WheelWorks", name := "take", desc := "(I)I" } : Jvm.MethodName)) ∈ lw_all := lw_g (lw_at lw_m3 76 rfl) rfl
theorem q595 : (Jvm.Cond.selects "WheelWorks" ({ cls := "WheelWorks", name := "take", desc := "(I)I" } : Jvm.MethodName) ({ cls := "WheelWorks", name := "take", desc := "(I)I" } : Jvm.MethodName)) ∈ lw_all := lw_g (lw_at lw_m3 77 rfl) rfl
theorem q596 : (Jvm.Cond.code ({ cls := "WheelWorks", name := "take", desc := "(I)I" } : Jvm.MethodName) prog_1_method_11_code (4 : Nat) (Option.some Jvm.ClassFile.FieldType.int)) ∈ lw_all := lw_g (lw_at lw_m3 78 rfl) rfl
theorem q597 : (Jvm.Cond.methodLink "WheelWorks" (151 : Nat) ({ cls := "java/util/ArrayList", name := "remove", desc := "(Ljava/lang/Object;)Z" } : Jvm.MethodName)) ∈ lw_all := lw_g (lw_at lw_m3 79 rfl) rfl
theorem q605 : (Jvm.Cond.selects "WheelWorks" ({ cls := "java/lang/Object", name := "equals", desc := "(Ljava/lang/Object;)Z" } : Jvm.MethodName) ({ cls := "java/lang/Object", name := "equals", desc := "(Ljava/lang/Object;)Z" } : Jvm.MethodName)) ∈ lw_all := lw_g (lw_at lw_m3 87 rfl) rfl
theorem q628 : (Jvm.Cond.instanceMethod ({ cls := "WheelWorks", name := "scrap", desc := "(I)V" } : Jvm.MethodName)) ∈ lw_all := lw_g (lw_at lw_m3 110 rfl) rfl
theorem q629 : (Jvm.Cond.selects "WheelWorks" ({ cls := "WheelWorks", name := "scrap", desc := "(I)V" } : Jvm.MethodName) ({ cls := "WheelWorks", name := "scrap", desc := "(I)V" } : Jvm.MethodName)) ∈ lw_all := lw_g (lw_at lw_m3 111 rfl) rfl
theorem q630 : (Jvm.Cond.code ({ cls := "WheelWorks", name := "scrap", desc := "(I)V" } : Jvm.MethodName) prog_1_method_13_code (3 : Nat) (Option.none : Option Jvm.ClassFile.FieldType)) ∈ lw_all := lw_g (lw_at lw_m3 112 rfl) rfl
theorem q631 : (Jvm.Cond.methodLink "WheelWorks" (167 : Nat) ({ cls := "WheelWorks", name := "waits", desc := "(LWheelWorks$Part;)Z" } : Jvm.MethodName)) ∈ lw_all := lw_g (lw_at lw_m3 113 rfl) rfl
theorem q632 : (Jvm.Cond.privateMethod ({ cls := "WheelWorks", name := "waits", desc := "(LWheelWorks$Part;)Z" } : Jvm.MethodName)) ∈ lw_tbl := lw_at lw_m3 114 rfl
theorem q633 : (Jvm.Cond.instanceMethod ({ cls := "WheelWorks", name := "waits", desc := "(LWheelWorks$Part;)Z" } : Jvm.MethodName)) ∈ lw_all := lw_g (lw_at lw_m3 115 rfl) rfl
theorem q634 : (Jvm.Cond.code ({ cls := "WheelWorks", name := "waits", desc := "(LWheelWorks$Part;)Z" } : Jvm.MethodName) prog_1_method_12_code (4 : Nat) (Option.some Jvm.ClassFile.FieldType.boolean)) ∈ lw_all := lw_g (lw_at lw_m3 116 rfl) rfl
theorem q639 : (Jvm.Cond.instanceMethod ({ cls := "WheelWorks", name := "run", desc := "(III)I" } : Jvm.MethodName)) ∈ lw_all := lw_g (lw_at lw_m3 121 rfl) rfl
theorem q640 : (Jvm.Cond.selects "WheelWorks" ({ cls := "WheelWorks", name := "run", desc := "(III)I" } : Jvm.MethodName) ({ cls := "WheelWorks", name := "run", desc := "(III)I" } : Jvm.MethodName)) ∈ lw_all := lw_g (lw_at lw_m3 122 rfl) rfl
theorem q641 : (Jvm.Cond.code ({ cls := "WheelWorks", name := "run", desc := "(III)I" } : Jvm.MethodName) prog_1_method_14_code (6 : Nat) (Option.some Jvm.ClassFile.FieldType.int)) ∈ lw_all := lw_g (lw_at lw_m3 123 rfl) rfl
theorem q642 : (Jvm.Cond.methodLink "WheelWorks" (171 : Nat) ({ cls := "WheelWorks", name := "needKind", desc := "(II)LWheelWorks$Part;" } : Jvm.MethodName)) ∈ lw_all := lw_g (lw_at lw_m3 124 rfl) rfl
theorem q643 : (Jvm.Cond.privateMethod ({ cls := "WheelWorks", name := "needKind", desc := "(II)LWheelWorks$Part;" } : Jvm.MethodName)) ∈ lw_tbl := lw_at lw_m3 125 rfl
theorem q644 : (Jvm.Cond.instanceMethod ({ cls := "WheelWorks", name := "needKind", desc := "(II)LWheelWorks$Part;" } : Jvm.MethodName)) ∈ lw_all := lw_g (lw_at lw_m3 126 rfl) rfl
theorem q645 : (Jvm.Cond.code ({ cls := "WheelWorks", name := "needKind", desc := "(II)LWheelWorks$Part;" } : Jvm.MethodName) prog_1_method_7_code (4 : Nat) (Option.some (Jvm.ClassFile.FieldType.object "WheelWorks$Part"))) ∈ lw_all := lw_g (lw_at lw_m3 127 rfl) rfl
theorem q646 : (Jvm.Cond.methodLink "WheelWorks" (175 : Nat) ({ cls := "WheelWorks", name := "factor", desc := "(I)I" } : Jvm.MethodName)) ∈ lw_all := lw_g (lw_at lw_m3 128 rfl) rfl
theorem q647 : (Jvm.Cond.static ({ cls := "WheelWorks", name := "factor", desc := "(I)I" } : Jvm.MethodName)) ∈ lw_all := lw_g (lw_at lw_m3 129 rfl) rfl
theorem q648 : (Jvm.Cond.code ({ cls := "WheelWorks", name := "factor", desc := "(I)I" } : Jvm.MethodName) prog_1_method_1_code (1 : Nat) (Option.some Jvm.ClassFile.FieldType.int)) ∈ lw_all := lw_g (lw_at lw_m3 130 rfl) rfl
theorem q649 : (Jvm.Cond.methodLink "WheelWorks" (178 : Nat) ({ cls := "WheelWorks$Part", name := "go", desc := "(II)V" } : Jvm.MethodName)) ∈ lw_all := lw_g (lw_at lw_m3 131 rfl) rfl
theorem q654 : (Jvm.Cond.classLink "WheelWorks" (182 : Nat) "WheelWorks$1") ∈ lw_all := lw_g (lw_at lw_m3 136 rfl) rfl
theorem q656 : (Jvm.Cond.methodLink "WheelWorks" (184 : Nat) ({ cls := "WheelWorks$1", name := "<init>", desc := "(LWheelWorks;LWheelWorks$Part;)V" } : Jvm.MethodName)) ∈ lw_all := lw_g (lw_at lw_m3 138 rfl) rfl
theorem q667 : (Jvm.Cond.methodLink "WheelWorks" (187 : Nat) ({ cls := "WheelWorks$Rack", name := "lowest", desc := "(LWheelWorks$Test;)LWheelWorks$Numbered;" } : Jvm.MethodName)) ∈ lw_all := lw_g (lw_at lw_m3 149 rfl) rfl
theorem q700 : (Jvm.Cond.privateMethod ({ cls := "WheelWorks", name := "isBar", desc := "(LWheelWorks$Part;I)Z" } : Jvm.MethodName)) ∈ lw_tbl := lw_at lw_m3 182 rfl
theorem q701 : (Jvm.Cond.instanceMethod ({ cls := "WheelWorks", name := "isBar", desc := "(LWheelWorks$Part;I)Z" } : Jvm.MethodName)) ∈ lw_all := lw_g (lw_at lw_m3 183 rfl) rfl
theorem q702 : (Jvm.Cond.code ({ cls := "WheelWorks", name := "isBar", desc := "(LWheelWorks$Part;I)Z" } : Jvm.MethodName) prog_1_method_24_code (3 : Nat) (Option.some Jvm.ClassFile.FieldType.boolean)) ∈ lw_all := lw_g (lw_at lw_m3 184 rfl) rfl
theorem q703 : (Jvm.Cond.methodLink "WheelWorks" (247 : Nat) ({ cls := "WheelWorks$Part", name := "lacks", desc := "()Z" } : Jvm.MethodName)) ∈ lw_all := lw_g (lw_at lw_m3 185 rfl) rfl
theorem q709 : (Jvm.Cond.methodLink "WheelWorks" (250 : Nat) ({ cls := "WheelWorks$Part", name := "isWorn", desc := "()Z" } : Jvm.MethodName)) ∈ lw_all := lw_g (lw_at lw_m3 191 rfl) rfl
theorem q713 : (Jvm.Cond.methodLink "WheelWorks" (253 : Nat) ({ cls := "WheelWorks$Part", name := "isUnlike", desc := "()Z" } : Jvm.MethodName)) ∈ lw_all := lw_g (lw_at lw_m3 195 rfl) rfl
theorem q725 : (Jvm.Cond.methodLink "WheelWorks" (256 : Nat) ({ cls := "WheelWorks", name := "isDue", desc := "(LWheelWorks$Part;)Z" } : Jvm.MethodName)) ∈ lw_all := lw_g (lw_at lw_m3 207 rfl) rfl
theorem q726 : (Jvm.Cond.privateMethod ({ cls := "WheelWorks", name := "isDue", desc := "(LWheelWorks$Part;)Z" } : Jvm.MethodName)) ∈ lw_tbl := lw_at lw_m3 208 rfl
theorem q727 : (Jvm.Cond.instanceMethod ({ cls := "WheelWorks", name := "isDue", desc := "(LWheelWorks$Part;)Z" } : Jvm.MethodName)) ∈ lw_all := lw_g (lw_at lw_m3 209 rfl) rfl
theorem q728 : (Jvm.Cond.code ({ cls := "WheelWorks", name := "isDue", desc := "(LWheelWorks$Part;)Z" } : Jvm.MethodName) prog_1_method_23_code (2 : Nat) (Option.some Jvm.ClassFile.FieldType.boolean)) ∈ lw_all := lw_g (lw_at lw_m3 210 rfl) rfl
theorem q729 : (Jvm.Cond.methodLink "WheelWorks" (191 : Nat) ({ cls := "WheelWorks$Part", name := "quarantineAll", desc := "()V" } : Jvm.MethodName)) ∈ lw_all := lw_g (lw_at lw_m3 211 rfl) rfl
theorem q742 : (Jvm.Cond.instanceMethod ({ cls := "WheelWorks", name := "turn", desc := "(I)I" } : Jvm.MethodName)) ∈ lw_all := lw_g (lw_at lw_m3 224 rfl) rfl
theorem q743 : (Jvm.Cond.selects "WheelWorks" ({ cls := "WheelWorks", name := "turn", desc := "(I)I" } : Jvm.MethodName) ({ cls := "WheelWorks", name := "turn", desc := "(I)I" } : Jvm.MethodName)) ∈ lw_all := lw_g (lw_at lw_m3 225 rfl) rfl
theorem q744 : (Jvm.Cond.code ({ cls := "WheelWorks", name := "turn", desc := "(I)I" } : Jvm.MethodName) prog_1_method_15_code (7 : Nat) (Option.some Jvm.ClassFile.FieldType.int)) ∈ lw_all := lw_g (lw_at lw_m3 226 rfl) rfl
theorem q745 : (Jvm.Cond.methodLink "WheelWorks" (194 : Nat) ({ cls := "java/util/ArrayList", name := "iterator", desc := "()Ljava/util/Iterator;" } : Jvm.MethodName)) ∈ lw_all := lw_g (lw_at lw_m3 227 rfl) rfl
theorem q768 : (Jvm.Cond.interfaceEntry "WheelWorks" (198 : Nat)) ∈ lw_tbl := lw_at lw_m4 10 rfl
theorem q769 : (Jvm.Cond.methodLink "WheelWorks" (198 : Nat) ({ cls := "java/util/Iterator", name := "hasNext", desc := "()Z" } : Jvm.MethodName)) ∈ lw_all := lw_g (lw_at lw_m4 11 rfl) rfl
theorem q778 : (Jvm.Cond.interfaceEntry "WheelWorks" (203 : Nat)) ∈ lw_tbl := lw_at lw_m4 20 rfl
theorem q779 : (Jvm.Cond.methodLink "WheelWorks" (203 : Nat) ({ cls := "java/util/Iterator", name := "next", desc := "()Ljava/lang/Object;" } : Jvm.MethodName)) ∈ lw_all := lw_g (lw_at lw_m4 21 rfl) rfl
theorem q791 : (Jvm.Cond.methodLink "WheelWorks" (207 : Nat) ({ cls := "WheelWorks$Part", name := "turn", desc := "()I" } : Jvm.MethodName)) ∈ lw_all := lw_g (lw_at lw_m4 33 rfl) rfl
theorem q795 : (Jvm.Cond.methodLink "WheelWorks" (210 : Nat) ({ cls := "WheelWorks$Part", name := "diameter", desc := "(Z)I" } : Jvm.MethodName)) ∈ lw_all := lw_g (lw_at lw_m4 37 rfl) rfl
theorem q800 : (Jvm.Cond.instanceMethod ({ cls := "WheelWorks", name := "gate", desc := "(II)I" } : Jvm.MethodName)) ∈ lw_all := lw_g (lw_at lw_m4 42 rfl) rfl
theorem q801 : (Jvm.Cond.selects "WheelWorks" ({ cls := "WheelWorks", name := "gate", desc := "(II)I" } : Jvm.MethodName) ({ cls := "WheelWorks", name := "gate", desc := "(II)I" } : Jvm.MethodName)) ∈ lw_all := lw_g (lw_at lw_m4 43 rfl) rfl
theorem q802 : (Jvm.Cond.code ({ cls := "WheelWorks", name := "gate", desc := "(II)I" } : Jvm.MethodName) prog_1_method_16_code (4 : Nat) (Option.some Jvm.ClassFile.FieldType.int)) ∈ lw_all := lw_g (lw_at lw_m4 44 rfl) rfl
theorem q807 : (Jvm.Cond.instanceMethod ({ cls := "WheelWorks", name := "examine", desc := "(I)I" } : Jvm.MethodName)) ∈ lw_all := lw_g (lw_at lw_m4 49 rfl) rfl
theorem q808 : (Jvm.Cond.selects "WheelWorks" ({ cls := "WheelWorks", name := "examine", desc := "(I)I" } : Jvm.MethodName) ({ cls := "WheelWorks", name := "examine", desc := "(I)I" } : Jvm.MethodName)) ∈ lw_all := lw_g (lw_at lw_m4 50 rfl) rfl
theorem q809 : (Jvm.Cond.code ({ cls := "WheelWorks", name := "examine", desc := "(I)I" } : Jvm.MethodName) prog_1_method_17_code (5 : Nat) (Option.some Jvm.ClassFile.FieldType.int)) ∈ lw_all := lw_g (lw_at lw_m4 51 rfl) rfl
theorem q814 : (Jvm.Cond.instanceMethod ({ cls := "WheelWorks", name := "waive", desc := "(II)V" } : Jvm.MethodName)) ∈ lw_all := lw_g (lw_at lw_m4 56 rfl) rfl
theorem q815 : (Jvm.Cond.selects "WheelWorks" ({ cls := "WheelWorks", name := "waive", desc := "(II)V" } : Jvm.MethodName) ({ cls := "WheelWorks", name := "waive", desc := "(II)V" } : Jvm.MethodName)) ∈ lw_all := lw_g (lw_at lw_m4 57 rfl) rfl
theorem q816 : (Jvm.Cond.code ({ cls := "WheelWorks", name := "waive", desc := "(II)V" } : Jvm.MethodName) prog_1_method_18_code (4 : Nat) (Option.none : Option Jvm.ClassFile.FieldType)) ∈ lw_all := lw_g (lw_at lw_m4 58 rfl) rfl
theorem q821 : (Jvm.Cond.instanceMethod ({ cls := "WheelWorks", name := "flaw", desc := "(II)I" } : Jvm.MethodName)) ∈ lw_all := lw_g (lw_at lw_m4 63 rfl) rfl
theorem q822 : (Jvm.Cond.selects "WheelWorks" ({ cls := "WheelWorks", name := "flaw", desc := "(II)I" } : Jvm.MethodName) ({ cls := "WheelWorks", name := "flaw", desc := "(II)I" } : Jvm.MethodName)) ∈ lw_all := lw_g (lw_at lw_m4 64 rfl) rfl
theorem q823 : (Jvm.Cond.code ({ cls := "WheelWorks", name := "flaw", desc := "(II)I" } : Jvm.MethodName) prog_1_method_19_code (5 : Nat) (Option.some Jvm.ClassFile.FieldType.int)) ∈ lw_all := lw_g (lw_at lw_m4 65 rfl) rfl
theorem q828 : (Jvm.Cond.instanceMethod ({ cls := "WheelWorks", name := "look", desc := "(IZ)I" } : Jvm.MethodName)) ∈ lw_all := lw_g (lw_at lw_m4 70 rfl) rfl
theorem q829 : (Jvm.Cond.selects "WheelWorks" ({ cls := "WheelWorks", name := "look", desc := "(IZ)I" } : Jvm.MethodName) ({ cls := "WheelWorks", name := "look", desc := "(IZ)I" } : Jvm.MethodName)) ∈ lw_all := lw_g (lw_at lw_m4 71 rfl) rfl
theorem q830 : (Jvm.Cond.code ({ cls := "WheelWorks", name := "look", desc := "(IZ)I" } : Jvm.MethodName) prog_1_method_20_code (4 : Nat) (Option.some Jvm.ClassFile.FieldType.int)) ∈ lw_all := lw_g (lw_at lw_m4 72 rfl) rfl
theorem q831 : (Jvm.Cond.methodLink "WheelWorks" (237 : Nat) ({ cls := "WheelWorks$Part", name := "quarantine", desc := "()V" } : Jvm.MethodName)) ∈ lw_all := lw_g (lw_at lw_m4 73 rfl) rfl
theorem q836 : (Jvm.Cond.instanceMethod ({ cls := "WheelWorks", name := "clear", desc := "(I)I" } : Jvm.MethodName)) ∈ lw_all := lw_g (lw_at lw_m4 78 rfl) rfl
theorem q837 : (Jvm.Cond.selects "WheelWorks" ({ cls := "WheelWorks", name := "clear", desc := "(I)I" } : Jvm.MethodName) ({ cls := "WheelWorks", name := "clear", desc := "(I)I" } : Jvm.MethodName)) ∈ lw_all := lw_g (lw_at lw_m4 79 rfl) rfl
theorem q838 : (Jvm.Cond.code ({ cls := "WheelWorks", name := "clear", desc := "(I)I" } : Jvm.MethodName) prog_1_method_21_code (4 : Nat) (Option.some Jvm.ClassFile.FieldType.int)) ∈ lw_all := lw_g (lw_at lw_m4 80 rfl) rfl
theorem q843 : (Jvm.Cond.instanceMethod ({ cls := "WheelWorks", name := "recall", desc := "(I)I" } : Jvm.MethodName)) ∈ lw_all := lw_g (lw_at lw_m4 85 rfl) rfl
theorem q844 : (Jvm.Cond.selects "WheelWorks" ({ cls := "WheelWorks", name := "recall", desc := "(I)I" } : Jvm.MethodName) ({ cls := "WheelWorks", name := "recall", desc := "(I)I" } : Jvm.MethodName)) ∈ lw_all := lw_g (lw_at lw_m4 86 rfl) rfl
theorem q845 : (Jvm.Cond.code ({ cls := "WheelWorks", name := "recall", desc := "(I)I" } : Jvm.MethodName) prog_1_method_22_code (5 : Nat) (Option.some Jvm.ClassFile.FieldType.int)) ∈ lw_all := lw_g (lw_at lw_m4 87 rfl) rfl
theorem q846 : (Jvm.Cond.methodLink "WheelWorks" (243 : Nat) ({ cls := "WheelWorks$Rack", name := "iterator", desc := "()Ljava/util/Iterator;" } : Jvm.MethodName)) ∈ lw_all := lw_g (lw_at lw_m4 88 rfl) rfl
theorem q855 : (Jvm.Cond.instanceMethod ({ cls := "WheelWorks", name := "release", desc := "(I)I" } : Jvm.MethodName)) ∈ lw_all := lw_g (lw_at lw_m4 97 rfl) rfl
theorem q856 : (Jvm.Cond.selects "WheelWorks" ({ cls := "WheelWorks", name := "release", desc := "(I)I" } : Jvm.MethodName) ({ cls := "WheelWorks", name := "release", desc := "(I)I" } : Jvm.MethodName)) ∈ lw_all := lw_g (lw_at lw_m4 98 rfl) rfl
theorem q857 : (Jvm.Cond.code ({ cls := "WheelWorks", name := "release", desc := "(I)I" } : Jvm.MethodName) prog_1_method_27_code (4 : Nat) (Option.some Jvm.ClassFile.FieldType.int)) ∈ lw_all := lw_g (lw_at lw_m4 99 rfl) rfl
theorem q858 : (Jvm.Cond.methodLink "WheelWorks" (268 : Nat) ({ cls := "WheelWorks", name := "reasonOf", desc := "(LWheelWorks$Part;)I" } : Jvm.MethodName)) ∈ lw_all := lw_g (lw_at lw_m4 100 rfl) rfl
theorem q859 : (Jvm.Cond.privateMethod ({ cls := "WheelWorks", name := "reasonOf", desc := "(LWheelWorks$Part;)I" } : Jvm.MethodName)) ∈ lw_tbl := lw_at lw_m4 101 rfl
theorem q860 : (Jvm.Cond.instanceMethod ({ cls := "WheelWorks", name := "reasonOf", desc := "(LWheelWorks$Part;)I" } : Jvm.MethodName)) ∈ lw_all := lw_g (lw_at lw_m4 102 rfl) rfl
theorem q861 : (Jvm.Cond.code ({ cls := "WheelWorks", name := "reasonOf", desc := "(LWheelWorks$Part;)I" } : Jvm.MethodName) prog_1_method_26_code (3 : Nat) (Option.some Jvm.ClassFile.FieldType.int)) ∈ lw_all := lw_g (lw_at lw_m4 103 rfl) rfl
theorem q862 : (Jvm.Cond.methodLink "WheelWorks" (264 : Nat) ({ cls := "WheelWorks", name := "barring", desc := "(LWheelWorks$Part;I)LWheelWorks$Part;" } : Jvm.MethodName)) ∈ lw_all := lw_g (lw_at lw_m4 104 rfl) rfl
theorem q863 : (Jvm.Cond.privateMethod ({ cls := "WheelWorks", name := "barring", desc := "(LWheelWorks$Part;I)LWheelWorks$Part;" } : Jvm.MethodName)) ∈ lw_tbl := lw_at lw_m4 105 rfl
theorem q864 : (Jvm.Cond.instanceMethod ({ cls := "WheelWorks", name := "barring", desc := "(LWheelWorks$Part;I)LWheelWorks$Part;" } : Jvm.MethodName)) ∈ lw_all := lw_g (lw_at lw_m4 106 rfl) rfl
theorem q865 : (Jvm.Cond.code ({ cls := "WheelWorks", name := "barring", desc := "(LWheelWorks$Part;I)LWheelWorks$Part;" } : Jvm.MethodName) prog_1_method_25_code (3 : Nat) (Option.some (Jvm.ClassFile.FieldType.object "WheelWorks$Part"))) ∈ lw_all := lw_g (lw_at lw_m4 107 rfl) rfl
theorem q866 : (Jvm.Cond.classLink "WheelWorks" (259 : Nat) "WheelWorks$2") ∈ lw_all := lw_g (lw_at lw_m4 108 rfl) rfl
theorem q868 : (Jvm.Cond.methodLink "WheelWorks" (261 : Nat) ({ cls := "WheelWorks$2", name := "<init>", desc := "(LWheelWorks;LWheelWorks$Part;I)V" } : Jvm.MethodName)) ∈ lw_all := lw_g (lw_at lw_m4 110 rfl) rfl
theorem q886 : (Jvm.Cond.instanceMethod ({ cls := "WheelWorks", name := "comes", desc := "(II)I" } : Jvm.MethodName)) ∈ lw_all := lw_g (lw_at lw_m4 128 rfl) rfl
theorem q887 : (Jvm.Cond.selects "WheelWorks" ({ cls := "WheelWorks", name := "comes", desc := "(II)I" } : Jvm.MethodName) ({ cls := "WheelWorks", name := "comes", desc := "(II)I" } : Jvm.MethodName)) ∈ lw_all := lw_g (lw_at lw_m4 129 rfl) rfl
theorem q888 : (Jvm.Cond.code ({ cls := "WheelWorks", name := "comes", desc := "(II)I" } : Jvm.MethodName) prog_1_method_29_code (4 : Nat) (Option.some Jvm.ClassFile.FieldType.int)) ∈ lw_all := lw_g (lw_at lw_m4 130 rfl) rfl
theorem q889 : (Jvm.Cond.methodLink "WheelWorks" (275 : Nat) ({ cls := "WheelWorks", name := "hasTime", desc := "(I)Z" } : Jvm.MethodName)) ∈ lw_all := lw_g (lw_at lw_m4 131 rfl) rfl
theorem q890 : (Jvm.Cond.privateMethod ({ cls := "WheelWorks", name := "hasTime", desc := "(I)Z" } : Jvm.MethodName)) ∈ lw_tbl := lw_at lw_m4 132 rfl
theorem q891 : (Jvm.Cond.instanceMethod ({ cls := "WheelWorks", name := "hasTime", desc := "(I)Z" } : Jvm.MethodName)) ∈ lw_all := lw_g (lw_at lw_m4 133 rfl) rfl
theorem q892 : (Jvm.Cond.code ({ cls := "WheelWorks", name := "hasTime", desc := "(I)Z" } : Jvm.MethodName) prog_1_method_28_code (4 : Nat) (Option.some Jvm.ClassFile.FieldType.boolean)) ∈ lw_all := lw_g (lw_at lw_m4 134 rfl) rfl
theorem q894 : (Jvm.Cond.methodLink "WheelWorks" (282 : Nat) ({ cls := "WheelWorks$Coming", name := "<init>", desc := "(LWheelWorks$Part;I)V" } : Jvm.MethodName)) ∈ lw_all := lw_g (lw_at lw_m4 136 rfl) rfl
theorem q899 : (Jvm.Cond.fieldLinkNest "WheelWorks" (160 : Nat) "WheelWorks$Coming" "train" "LWheelWorks$Part;" "WheelWorks") ∈ lw_tbl := lw_at lw_m4 141 rfl
theorem q901 : (Jvm.Cond.fieldLinkNest "WheelWorks" (272 : Nat) "WheelWorks$Coming" "time" "I" "WheelWorks") ∈ lw_tbl := lw_at lw_m4 143 rfl
theorem q911 : (Jvm.Cond.instanceMethod ({ cls := "WheelWorks", name := "night", desc := "()I" } : Jvm.MethodName)) ∈ lw_all := lw_g (lw_at lw_m4 153 rfl) rfl
theorem q912 : (Jvm.Cond.selects "WheelWorks" ({ cls := "WheelWorks", name := "night", desc := "()I" } : Jvm.MethodName) ({ cls := "WheelWorks", name := "night", desc := "()I" } : Jvm.MethodName)) ∈ lw_all := lw_g (lw_at lw_m4 154 rfl) rfl
theorem q913 : (Jvm.Cond.code ({ cls := "WheelWorks", name := "night", desc := "()I" } : Jvm.MethodName) prog_1_method_34_code (3 : Nat) (Option.some Jvm.ClassFile.FieldType.int)) ∈ lw_all := lw_g (lw_at lw_m4 155 rfl) rfl
theorem q914 : (Jvm.Cond.methodLink "WheelWorks" (302 : Nat) ({ cls := "WheelWorks", name := "isEmpty", desc := "()Z" } : Jvm.MethodName)) ∈ lw_all := lw_g (lw_at lw_m4 156 rfl) rfl
theorem q915 : (Jvm.Cond.privateMethod ({ cls := "WheelWorks", name := "isEmpty", desc := "()Z" } : Jvm.MethodName)) ∈ lw_tbl := lw_at lw_m4 157 rfl
theorem q916 : (Jvm.Cond.instanceMethod ({ cls := "WheelWorks", name := "isEmpty", desc := "()Z" } : Jvm.MethodName)) ∈ lw_all := lw_g (lw_at lw_m4 158 rfl) rfl
theorem q917 : (Jvm.Cond.code ({ cls := "WheelWorks", name := "isEmpty", desc := "()Z" } : Jvm.MethodName) prog_1_method_33_code (3 : Nat) (Option.some Jvm.ClassFile.FieldType.boolean)) ∈ lw_all := lw_g (lw_at lw_m4 159 rfl) rfl
theorem q922 : (Jvm.Cond.instanceMethod ({ cls := "WheelWorks", name := "out", desc := "()I" } : Jvm.MethodName)) ∈ lw_all := lw_g (lw_at lw_m4 164 rfl) rfl
theorem q923 : (Jvm.Cond.selects "WheelWorks" ({ cls := "WheelWorks", name := "out", desc := "()I" } : Jvm.MethodName) ({ cls := "WheelWorks", name := "out", desc := "()I" } : Jvm.MethodName)) ∈ lw_all := lw_g (lw_at lw_m4 165 rfl) rfl
theorem q924 : (Jvm.Cond.code ({ cls := "WheelWorks", name := "out", desc := "()I" } : Jvm.MethodName) prog_1_method_35_code (8 : Nat) (Option.some Jvm.ClassFile.FieldType.int)) ∈ lw_all := lw_g (lw_at lw_m4 166 rfl) rfl
theorem q925 : (Jvm.Cond.methodLink "WheelWorks" (306 : Nat) ({ cls := "java/util/ArrayList", name := "indexOf", desc := "(Ljava/lang/Object;)I" } : Jvm.MethodName)) ∈ lw_all := lw_g (lw_at lw_m4 167 rfl) rfl
theorem q937 : (Jvm.Cond.instanceMethod ({ cls := "WheelWorks", name := "host", desc := "(I)I" } : Jvm.MethodName)) ∈ lw_all := lw_g (lw_at lw_m4 179 rfl) rfl
theorem q938 : (Jvm.Cond.selects "WheelWorks" ({ cls := "WheelWorks", name := "host", desc := "(I)I" } : Jvm.MethodName) ({ cls := "WheelWorks", name := "host", desc := "(I)I" } : Jvm.MethodName)) ∈ lw_all := lw_g (lw_at lw_m4 180 rfl) rfl
theorem q939 : (Jvm.Cond.code ({ cls := "WheelWorks", name := "host", desc := "(I)I" } : Jvm.MethodName) prog_1_method_37_code (3 : Nat) (Option.some Jvm.ClassFile.FieldType.int)) ∈ lw_all := lw_g (lw_at lw_m4 181 rfl) rfl
theorem q940 : (Jvm.Cond.methodLink "WheelWorks" (310 : Nat) ({ cls := "WheelWorks", name := "numberOf", desc := "(LWheelWorks$Part;)I" } : Jvm.MethodName)) ∈ lw_all := lw_g (lw_at lw_m4 182 rfl) rfl
theorem q941 : (Jvm.Cond.static ({ cls := "WheelWorks", name := "numberOf", desc := "(LWheelWorks$Part;)I" } : Jvm.MethodName)) ∈ lw_all := lw_g (lw_at lw_m4 183 rfl) rfl
theorem q942 : (Jvm.Cond.code ({ cls := "WheelWorks", name := "numberOf", desc := "(LWheelWorks$Part;)I" } : Jvm.MethodName) prog_1_method_36_code (1 : Nat) (Option.some Jvm.ClassFile.FieldType.int)) ∈ lw_all := lw_g (lw_at lw_m4 184 rfl) rfl
theorem q947 : (Jvm.Cond.instanceMethod ({ cls := "WheelWorks", name := "head", desc := "(I)I" } : Jvm.MethodName)) ∈ lw_all := lw_g (lw_at lw_m4 189 rfl) rfl
theorem q948 : (Jvm.Cond.selects "WheelWorks" ({ cls := "WheelWorks", name := "head", desc := "(I)I" } : Jvm.MethodName) ({ cls := "WheelWorks", name := "head", desc := "(I)I" } : Jvm.MethodName)) ∈ lw_all := lw_g (lw_at lw_m4 190 rfl) rfl
theorem q949 : (Jvm.Cond.code ({ cls := "WheelWorks", name := "head", desc := "(I)I" } : Jvm.MethodName) prog_1_method_38_code (2 : Nat) (Option.some Jvm.ClassFile.FieldType.int)) ∈ lw_all := lw_g (lw_at lw_m4 191 rfl) rfl
theorem q954 : (Jvm.Cond.instanceMethod ({ cls := "WheelWorks", name := "ofPart", desc := "(II)I" } : Jvm.MethodName)) ∈ lw_all := lw_g (lw_at lw_m4 196 rfl) rfl
theorem q955 : (Jvm.Cond.selects "WheelWorks" ({ cls := "WheelWorks", name := "ofPart", desc := "(II)I" } : Jvm.MethodName) ({ cls := "WheelWorks", name := "ofPart", desc := "(II)I" } : Jvm.MethodName)) ∈ lw_all := lw_g (lw_at lw_m4 197 rfl) rfl
theorem q956 : (Jvm.Cond.code ({ cls := "WheelWorks", name := "ofPart", desc := "(II)I" } : Jvm.MethodName) prog_1_method_39_code (4 : Nat) (Option.some Jvm.ClassFile.FieldType.int)) ∈ lw_all := lw_g (lw_at lw_m4 198 rfl) rfl
theorem q961 : (Jvm.Cond.instanceMethod ({ cls := "WheelWorks", name := "trace", desc := "(II)I" } : Jvm.MethodName)) ∈ lw_all := lw_g (lw_at lw_m4 203 rfl) rfl
theorem q962 : (Jvm.Cond.selects "WheelWorks" ({ cls := "WheelWorks", name := "trace", desc := "(II)I" } : Jvm.MethodName) ({ cls := "WheelWorks", name := "trace", desc := "(II)I" } : Jvm.MethodName)) ∈ lw_all := lw_g (lw_at lw_m4 204 rfl) rfl
theorem q963 : (Jvm.Cond.code ({ cls := "WheelWorks", name := "trace", desc := "(II)I" } : Jvm.MethodName) prog_1_method_40_code (5 : Nat) (Option.some Jvm.ClassFile.FieldType.int)) ∈ lw_all := lw_g (lw_at lw_m4 205 rfl) rfl
theorem q964 : (Jvm.Cond.methodLink "WheelWorks" (316 : Nat) ({ cls := "WheelWorks", name := "needIndex", desc := "(Z)V" } : Jvm.MethodName)) ∈ lw_all := lw_g (lw_at lw_m4 206 rfl) rfl
theorem q969 : (Jvm.Cond.instanceMethod ({ cls := "WheelWorks", name := "lifeAnew", desc := "(I)I" } : Jvm.MethodName)) ∈ lw_all := lw_g (lw_at lw_m4 211 rfl) rfl
theorem q970 : (Jvm.Cond.selects "WheelWorks" ({ cls := "WheelWorks", name := "lifeAnew", desc := "(I)I" } : Jvm.MethodName) ({ cls := "WheelWorks", name := "lifeAnew", desc := "(I)I" } : Jvm.MethodName)) ∈ lw_all := lw_g (lw_at lw_m4 212 rfl) rfl
theorem q971 : (Jvm.Cond.code ({ cls := "WheelWorks", name := "lifeAnew", desc := "(I)I" } : Jvm.MethodName) prog_1_method_41_code (7 : Nat) (Option.some Jvm.ClassFile.FieldType.int)) ∈ lw_all := lw_g (lw_at lw_m4 213 rfl) rfl
theorem q976 : (Jvm.Cond.instanceMethod ({ cls := "WheelWorks", name := "wheel", desc := "(II)I" } : Jvm.MethodName)) ∈ lw_all := lw_g (lw_at lw_m4 218 rfl) rfl
theorem q977 : (Jvm.Cond.selects "WheelWorks" ({ cls := "WheelWorks", name := "wheel", desc := "(II)I" } : Jvm.MethodName) ({ cls := "WheelWorks", name := "wheel", desc := "(II)I" } : Jvm.MethodName)) ∈ lw_all := lw_g (lw_at lw_m4 219 rfl) rfl
theorem q978 : (Jvm.Cond.code ({ cls := "WheelWorks", name := "wheel", desc := "(II)I" } : Jvm.MethodName) prog_1_method_42_code (4 : Nat) (Option.some Jvm.ClassFile.FieldType.int)) ∈ lw_all := lw_g (lw_at lw_m4 220 rfl) rfl
theorem q983 : (Jvm.Cond.instanceMethod ({ cls := "WheelWorks", name := "foretell", desc := "(III)I" } : Jvm.MethodName)) ∈ lw_all := lw_g (lw_at lw_m4 225 rfl) rfl
theorem q984 : (Jvm.Cond.selects "WheelWorks" ({ cls := "WheelWorks", name := "foretell", desc := "(III)I" } : Jvm.MethodName) ({ cls := "WheelWorks", name := "foretell", desc := "(III)I" } : Jvm.MethodName)) ∈ lw_all := lw_g (lw_at lw_m4 226 rfl) rfl
theorem q985 : (Jvm.Cond.code ({ cls := "WheelWorks", name := "foretell", desc := "(III)I" } : Jvm.MethodName) prog_1_method_43_code (5 : Nat) (Option.some Jvm.ClassFile.FieldType.int)) ∈ lw_all := lw_g (lw_at lw_m4 227 rfl) rfl
theorem q986 : (Jvm.Cond.methodLink "WheelWorks" (328 : Nat) ({ cls := "java/lang/Math", name := "max", desc := "(II)I" } : Jvm.MethodName)) ∈ lw_all := lw_g (lw_at lw_m4 228 rfl) rfl
theorem q991 : (Jvm.Cond.instanceMethod ({ cls := "WheelWorks", name := "bars", desc := "(I)I" } : Jvm.MethodName)) ∈ lw_all := lw_g (lw_at lw_m4 233 rfl) rfl
theorem q992 : (Jvm.Cond.selects "WheelWorks" ({ cls := "WheelWorks", name := "bars", desc := "(I)I" } : Jvm.MethodName) ({ cls := "WheelWorks", name := "bars", desc := "(I)I" } : Jvm.MethodName)) ∈ lw_all := lw_g (lw_at lw_m4 234 rfl) rfl
theorem q993 : (Jvm.Cond.code ({ cls := "WheelWorks", name := "bars", desc := "(I)I" } : Jvm.MethodName) prog_1_method_44_code (2 : Nat) (Option.some Jvm.ClassFile.FieldType.int)) ∈ lw_all := lw_g (lw_at lw_m4 235 rfl) rfl
theorem q998 : (Jvm.Cond.instanceMethod ({ cls := "WheelWorks", name := "barredBy", desc := "(I)I" } : Jvm.MethodName)) ∈ lw_all := lw_g (lw_at lw_m5 0 rfl) rfl
theorem q999 : (Jvm.Cond.selects "WheelWorks" ({ cls := "WheelWorks", name := "barredBy", desc := "(I)I" } : Jvm.MethodName) ({ cls := "WheelWorks", name := "barredBy", desc := "(I)I" } : Jvm.MethodName)) ∈ lw_all := lw_g (lw_at lw_m5 1 rfl) rfl
theorem q1000 : (Jvm.Cond.code ({ cls := "WheelWorks", name := "barredBy", desc := "(I)I" } : Jvm.MethodName) prog_1_method_45_code (4 : Nat) (Option.some Jvm.ClassFile.FieldType.int)) ∈ lw_all := lw_g (lw_at lw_m5 2 rfl) rfl
theorem q1005 : (Jvm.Cond.instanceMethod ({ cls := "WheelWorks", name := "isReleased", desc := "(I)Z" } : Jvm.MethodName)) ∈ lw_all := lw_g (lw_at lw_m5 7 rfl) rfl
theorem q1006 : (Jvm.Cond.selects "WheelWorks" ({ cls := "WheelWorks", name := "isReleased", desc := "(I)Z" } : Jvm.MethodName) ({ cls := "WheelWorks", name := "isReleased", desc := "(I)Z" } : Jvm.MethodName)) ∈ lw_all := lw_g (lw_at lw_m5 8 rfl) rfl
theorem q1007 : (Jvm.Cond.code ({ cls := "WheelWorks", name := "isReleased", desc := "(I)Z" } : Jvm.MethodName) prog_1_method_46_code (2 : Nat) (Option.some Jvm.ClassFile.FieldType.boolean)) ∈ lw_all := lw_g (lw_at lw_m5 9 rfl) rfl
theorem q1012 : (Jvm.Cond.instanceMethod ({ cls := "WheelWorks", name := "road", desc := "(II)I" } : Jvm.MethodName)) ∈ lw_all := lw_g (lw_at lw_m5 14 rfl) rfl
theorem q1013 : (Jvm.Cond.selects "WheelWorks" ({ cls := "WheelWorks", name := "road", desc := "(II)I" } : Jvm.MethodName) ({ cls := "WheelWorks", name := "road", desc := "(II)I" } : Jvm.MethodName)) ∈ lw_all := lw_g (lw_at lw_m5 15 rfl) rfl
theorem q1014 : (Jvm.Cond.code ({ cls := "WheelWorks", name := "road", desc := "(II)I" } : Jvm.MethodName) prog_1_method_49_code (4 : Nat) (Option.some Jvm.ClassFile.FieldType.int)) ∈ lw_all := lw_g (lw_at lw_m5 16 rfl) rfl
theorem q1355 : (Jvm.Cond.castable "WheelWorks" "java/lang/Object") ∈ lw_tbl := lw_at lw_m6 117 rfl
theorem in_X1 : ∀ w ∈ wsX10, w ∈ lw_all := lw_in wsX10 [187, 189, 191, 193, 195, 197, 199, 201, 203, 205] (by decide +kernel) (by decide +kernel)
