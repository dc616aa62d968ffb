/-! WheelWorks$Rack -/
set_option maxRecDepth 100000
def RX2 : String := "WheelWorks$Rack"
def TX2 : u_T := fun k => match k with
  | _ => ("WheelWorks$Rack", "things", "Ljava/util/ArrayList;", true)
def tyX2 : Nat → FieldType := fun k => match k with
  | _ => .object "java/util/ArrayList"
abbrev wsX20 : List Cond := u_ws RX2 TX2 1
theorem nmX2 : ∀ a, a < 1 → ∀ b, b < 1 → a ≠ b → (TX2 a).2.1 ≠ (TX2 b).2.1 := by decide +kernel
theorem tyX2_ok : ∀ k, k < 1 → parseFieldDescriptor (TX2 k).2.2.1 = some (tyX2 k) := by decide +kernel
abbrev cX2_init : ByteArray := prog_7_method_1_code
def yX2_init : MethodName := ⟨RX2, "<init>", "()V"⟩
def dkwX2_init_0 : List UInt8 := [42, 183, 0, 1, 42, 187, 0, 7, 89, 183, 0, 9, 181, 0, 10, 177]
abbrev dktX2_init_0 : List UInt8 := dkwX2_init_0 ++ []
theorem dksX2_init_0 : cX2_init.data.toList.drop 0 = dktX2_init_0 := by decide +kernel
theorem dX2_init_0 : decode cX2_init 0 = .ok (.aload_n 0, 1) := dk_42 (dk_at dksX2_init_0 0 rfl rfl)
theorem dX2_init_1 : decode cX2_init 1 = .ok (.invokespecial 1, 3) := dk_183 0 1 (dk_at dksX2_init_0 1 rfl rfl)
theorem dX2_init_4 : decode cX2_init 4 = .ok (.aload_n 0, 1) := dk_42 (dk_at dksX2_init_0 4 rfl rfl)
theorem dX2_init_5 : decode cX2_init 5 = .ok (.new 7, 3) := dk_187 0 7 (dk_at dksX2_init_0 5 rfl rfl)
theorem dX2_init_8 : decode cX2_init 8 = .ok (.dup, 1) := dk_89 (dk_at dksX2_init_0 8 rfl rfl)
theorem dX2_init_9 : decode cX2_init 9 = .ok (.invokespecial 9, 3) := dk_183 0 9 (dk_at dksX2_init_0 9 rfl rfl)
theorem dX2_init_12 : decode cX2_init 12 = .ok (.putfield 10, 3) := dk_181 0 10 (dk_at dksX2_init_0 12 rfl rfl)
theorem dX2_init_15 : decode cX2_init 15 = .ok (.return_, 1) := dk_177 (dk_at dksX2_init_0 15 rfl rfl)
abbrev cX2_size : ByteArray := prog_7_method_2_code
def yX2_size : MethodName := ⟨RX2, "size", "()I"⟩
def dkwX2_size_0 : List UInt8 := [42, 180, 0, 10, 182, 0, 16, 172]
abbrev dktX2_size_0 : List UInt8 := dkwX2_size_0 ++ []
theorem dksX2_size_0 : cX2_size.data.toList.drop 0 = dktX2_size_0 := by decide +kernel
theorem dX2_size_0 : decode cX2_size 0 = .ok (.aload_n 0, 1) := dk_42 (dk_at dksX2_size_0 0 rfl rfl)
theorem dX2_size_1 : decode cX2_size 1 = .ok (.getfield 10, 3) := dk_180 0 10 (dk_at dksX2_size_0 1 rfl rfl)
theorem dX2_size_4 : decode cX2_size 4 = .ok (.invokevirtual 16, 3) := dk_182 0 16 (dk_at dksX2_size_0 4 rfl rfl)
theorem dX2_size_7 : decode cX2_size 7 = .ok (.ireturn, 1) := dk_172 (dk_at dksX2_size_0 7 rfl rfl)
abbrev cX2_add : ByteArray := prog_7_method_3_code
def yX2_add : MethodName := ⟨RX2, "add", "(LWheelWorks$Numbered;)LWheelWorks$Numbered;"⟩
def dkwX2_add_0 : List UInt8 := [42, 180, 0, 10, 43, 182, 0, 20, 87, 43, 176]
abbrev dktX2_add_0 : List UInt8 := dkwX2_add_0 ++ []
theorem dksX2_add_0 : cX2_add.data.toList.drop 0 = dktX2_add_0 := by decide +kernel
theorem dX2_add_0 : decode cX2_add 0 = .ok (.aload_n 0, 1) := dk_42 (dk_at dksX2_add_0 0 rfl rfl)
theorem dX2_add_1 : decode cX2_add 1 = .ok (.getfield 10, 3) := dk_180 0 10 (dk_at dksX2_add_0 1 rfl rfl)
theorem dX2_add_4 : decode cX2_add 4 = .ok (.aload_n 1, 1) := dk_43 (dk_at dksX2_add_0 4 rfl rfl)
theorem dX2_add_5 : decode cX2_add 5 = .ok (.invokevirtual 20, 3) := dk_182 0 20 (dk_at dksX2_add_0 5 rfl rfl)
theorem dX2_add_8 : decode cX2_add 8 = .ok (.pop, 1) := dk_87 (dk_at dksX2_add_0 8 rfl rfl)
theorem dX2_add_9 : decode cX2_add 9 = .ok (.aload_n 1, 1) := dk_43 (dk_at dksX2_add_0 9 rfl rfl)
theorem dX2_add_10 : decode cX2_add 10 = .ok (.areturn, 1) := dk_176 (dk_at dksX2_add_0 10 rfl rfl)
abbrev cX2_need : ByteArray := prog_7_method_4_code
def yX2_need : MethodName := ⟨RX2, "need", "(I)LWheelWorks$Numbered;"⟩
def dkwX2_need_1 : List UInt8 := [182, 0, 34, 192, 0, 38, 176]
abbrev dktX2_need_1 : List UInt8 := dkwX2_need_1 ++ []
def dkwX2_need_0 : List UInt8 := [27, 3, 42, 180, 0, 10, 182, 0, 16, 4, 100, 184, 0, 24, 184, 0, 30, 42, 180, 0, 10, 27]
abbrev dktX2_need_0 : List UInt8 := dkwX2_need_0 ++ dktX2_need_1
theorem dksX2_need_0 : cX2_need.data.toList.drop 0 = dktX2_need_0 := by decide +kernel
theorem dksX2_need_1 : cX2_need.data.toList.drop 22 = dktX2_need_1 := dk_seg dksX2_need_0 22 rfl rfl
theorem dX2_need_0 : decode cX2_need 0 = .ok (.iload_n 1, 1) := dk_27 (dk_at dksX2_need_0 0 rfl rfl)
theorem dX2_need_1 : decode cX2_need 1 = .ok (.iconst 0, 1) := dk_3 (dk_at dksX2_need_0 1 rfl rfl)
theorem dX2_need_2 : decode cX2_need 2 = .ok (.aload_n 0, 1) := dk_42 (dk_at dksX2_need_0 2 rfl rfl)
theorem dX2_need_3 : decode cX2_need 3 = .ok (.getfield 10, 3) := dk_180 0 10 (dk_at dksX2_need_0 3 rfl rfl)
theorem dX2_need_6 : decode cX2_need 6 = .ok (.invokevirtual 16, 3) := dk_182 0 16 (dk_at dksX2_need_0 6 rfl rfl)
theorem dX2_need_9 : decode cX2_need 9 = .ok (.iconst 1, 1) := dk_4 (dk_at dksX2_need_0 9 rfl rfl)
theorem dX2_need_10 : decode cX2_need 10 = .ok (.isub, 1) := dk_100 (dk_at dksX2_need_0 10 rfl rfl)
theorem dX2_need_11 : decode cX2_need 11 = .ok (.invokestatic 24, 3) := dk_184 0 24 (dk_at dksX2_need_0 11 rfl rfl)
theorem dX2_need_14 : decode cX2_need 14 = .ok (.invokestatic 30, 3) := dk_184 0 30 (dk_at dksX2_need_0 14 rfl rfl)
theorem dX2_need_17 : decode cX2_need 17 = .ok (.aload_n 0, 1) := dk_42 (dk_at dksX2_need_0 17 rfl rfl)
theorem dX2_need_18 : decode cX2_need 18 = .ok (.getfield 10, 3) := dk_180 0 10 (dk_at dksX2_need_0 18 rfl rfl)
theorem dX2_need_21 : decode cX2_need 21 = .ok (.iload_n 1, 1) := dk_27 (dk_at dksX2_need_0 21 rfl rfl)
theorem dX2_need_22 : decode cX2_need 22 = .ok (.invokevirtual 34, 3) := dk_182 0 34 (dk_at dksX2_need_1 0 rfl rfl)
theorem dX2_need_25 : decode cX2_need 25 = .ok (.checkcast 38, 3) := dk_192 0 38 (dk_at dksX2_need_1 3 rfl rfl)
theorem dX2_need_28 : decode cX2_need 28 = .ok (.areturn, 1) := dk_176 (dk_at dksX2_need_1 6 rfl rfl)
abbrev cX2_lowest : ByteArray := prog_7_method_7_code
def yX2_lowest : MethodName := ⟨RX2, "lowest", "(LWheelWorks$Test;)LWheelWorks$Numbered;"⟩
def dkwX2_lowest_2 : List UInt8 := [167, 255, 213, 1, 176]
abbrev dktX2_lowest_2 : List UInt8 := dkwX2_lowest_2 ++ []
def dkwX2_lowest_1 : List UInt8 := [185, 0, 44, 2, 0, 153, 0, 15, 42, 180, 0, 10, 28, 182, 0, 34, 192, 0, 38, 176, 132, 2, 1]
abbrev dktX2_lowest_1 : List UInt8 := dkwX2_lowest_1 ++ dktX2_lowest_2
def dkwX2_lowest_0 : List UInt8 := [3, 61, 28, 42, 180, 0, 10, 182, 0, 16, 162, 0, 38, 43, 42, 180, 0, 10, 28, 182, 0, 34]
abbrev dktX2_lowest_0 : List UInt8 := dkwX2_lowest_0 ++ dktX2_lowest_1
theorem dksX2_lowest_0 : cX2_lowest.data.toList.drop 0 = dktX2_lowest_0 := by decide +kernel
theorem dksX2_lowest_1 : cX2_lowest.data.toList.drop 22 = dktX2_lowest_1 := dk_seg dksX2_lowest_0 22 rfl rfl
theorem dksX2_lowest_2 : cX2_lowest.data.toList.drop 45 = dktX2_lowest_2 := dk_seg dksX2_lowest_1 23 rfl rfl
theorem dX2_lowest_0 : decode cX2_lowest 0 = .ok (.iconst 0, 1) := dk_3 (dk_at dksX2_lowest_0 0 rfl rfl)
theorem dX2_lowest_1 : decode cX2_lowest 1 = .ok (.istore_n 2, 1) := dk_61 (dk_at dksX2_lowest_0 1 rfl rfl)
theorem dX2_lowest_2 : decode cX2_lowest 2 = .ok (.iload_n 2, 1) := dk_28 (dk_at dksX2_lowest_0 2 rfl rfl)
theorem dX2_lowest_3 : decode cX2_lowest 3 = .ok (.aload_n 0, 1) := dk_42 (dk_at dksX2_lowest_0 3 rfl rfl)
theorem dX2_lowest_4 : decode cX2_lowest 4 = .ok (.getfield 10, 3) := dk_180 0 10 (dk_at dksX2_lowest_0 4 rfl rfl)
theorem dX2_lowest_7 : decode cX2_lowest 7 = .ok (.invokevirtual 16, 3) := dk_182 0 16 (dk_at dksX2_lowest_0 7 rfl rfl)
theorem dX2_lowest_10 : decode cX2_lowest 10 = .ok (.if_icmp .ge 38, 3) := dk_162 0 38 (dk_at dksX2_lowest_0 10 rfl rfl)
theorem dX2_lowest_13 : decode cX2_lowest 13 = .ok (.aload_n 1, 1) := dk_43 (dk_at dksX2_lowest_0 13 rfl rfl)
theorem dX2_lowest_14 : decode cX2_lowest 14 = .ok (.aload_n 0, 1) := dk_42 (dk_at dksX2_lowest_0 14 rfl rfl)
theorem dX2_lowest_15 : decode cX2_lowest 15 = .ok (.getfield 10, 3) := dk_180 0 10 (dk_at dksX2_lowest_0 15 rfl rfl)
theorem dX2_lowest_18 : decode cX2_lowest 18 = .ok (.iload_n 2, 1) := dk_28 (dk_at dksX2_lowest_0 18 rfl rfl)
theorem dX2_lowest_19 : decode cX2_lowest 19 = .ok (.invokevirtual 34, 3) := dk_182 0 34 (dk_at dksX2_lowest_0 19 rfl rfl)
theorem dX2_lowest_22 : decode cX2_lowest 22 = .ok (.invokeinterface 44 2, 5) := by decide +kernel
theorem dX2_lowest_27 : decode cX2_lowest 27 = .ok (.ifCond .eq 15, 3) := dk_153 0 15 (dk_at dksX2_lowest_1 5 rfl rfl)
theorem dX2_lowest_30 : decode cX2_lowest 30 = .ok (.aload_n 0, 1) := dk_42 (dk_at dksX2_lowest_1 8 rfl rfl)
theorem dX2_lowest_31 : decode cX2_lowest 31 = .ok (.getfield 10, 3) := dk_180 0 10 (dk_at dksX2_lowest_1 9 rfl rfl)
theorem dX2_lowest_34 : decode cX2_lowest 34 = .ok (.iload_n 2, 1) := dk_28 (dk_at dksX2_lowest_1 12 rfl rfl)
theorem dX2_lowest_35 : decode cX2_lowest 35 = .ok (.invokevirtual 34, 3) := dk_182 0 34 (dk_at dksX2_lowest_1 13 rfl rfl)
theorem dX2_lowest_38 : decode cX2_lowest 38 = .ok (.checkcast 38, 3) := dk_192 0 38 (dk_at dksX2_lowest_1 16 rfl rfl)
theorem dX2_lowest_41 : decode cX2_lowest 41 = .ok (.areturn, 1) := dk_176 (dk_at dksX2_lowest_1 19 rfl rfl)
theorem dX2_lowest_42 : decode cX2_lowest 42 = .ok (.iinc 2 1, 3) := dk_132 2 1 (dk_at dksX2_lowest_1 20 rfl rfl)
theorem dX2_lowest_45 : decode cX2_lowest 45 = .ok (.goto (-43), 3) := dk_167 255 213 (dk_at dksX2_lowest_2 0 rfl rfl)
theorem dX2_lowest_48 : decode cX2_lowest 48 = .ok (.aconst_null, 1) := dk_1 (dk_at dksX2_lowest_2 3 rfl rfl)
theorem dX2_lowest_49 : decode cX2_lowest 49 = .ok (.areturn, 1) := dk_176 (dk_at dksX2_lowest_2 4 rfl rfl)
abbrev cX2_iterator : ByteArray := prog_7_method_6_code
def yX2_iterator : MethodName := ⟨RX2, "iterator", "()Ljava/util/Iterator;"⟩
def dkwX2_iterator_0 : List UInt8 := [42, 180, 0, 10, 182, 0, 40, 176]
abbrev dktX2_iterator_0 : List UInt8 := dkwX2_iterator_0 ++ []
theorem dksX2_iterator_0 : cX2_iterator.data.toList.drop 0 = dktX2_iterator_0 := by decide +kernel
theorem dX2_iterator_0 : decode cX2_iterator 0 = .ok (.aload_n 0, 1) := dk_42 (dk_at dksX2_iterator_0 0 rfl rfl)
theorem dX2_iterator_1 : decode cX2_iterator 1 = .ok (.getfield 10, 3) := dk_180 0 10 (dk_at dksX2_iterator_0 1 rfl rfl)
theorem dX2_iterator_4 : decode cX2_iterator 4 = .ok (.invokevirtual 40, 3) := dk_182 0 40 (dk_at dksX2_iterator_0 4 rfl rfl)
theorem dX2_iterator_7 : decode cX2_iterator 7 = .ok (.areturn, 1) := dk_176 (dk_at dksX2_iterator_0 7 rfl rfl)
theorem q40 : (Jvm.Cond.initialized "WheelWorks$Rack") ∈ lw_all := lw_g (lw_at lw_m1 2 rfl) rfl
theorem q75 : (Jvm.Cond.instantiable "WheelWorks$Rack" (1 : Nat)) ∈ lw_all := lw_g (lw_at lw_m1 37 rfl) rfl
theorem q77 : (Jvm.Cond.instanceMethod ({ cls := "WheelWorks$Rack", name := "<init>", desc := "()V" } : Jvm.MethodName)) ∈ lw_all := lw_g (lw_at lw_m1 39 rfl) rfl
theorem q78 : (Jvm.Cond.code ({ cls := "WheelWorks$Rack", name := "<init>", desc := "()V" } : Jvm.MethodName) prog_7_method_1_code (1 : Nat) (Option.none : Option Jvm.ClassFile.FieldType)) ∈ lw_all := lw_g (lw_at lw_m1 40 rfl) rfl
theorem q79 : (Jvm.Cond.methodLink "WheelWorks$Rack" (1 : Nat) ({ cls := "java/lang/Object", name := "<init>", desc := "()V" } : Jvm.MethodName)) ∈ lw_all := lw_g (lw_at lw_m1 41 rfl) rfl
theorem q80 : (Jvm.Cond.classLink "WheelWorks$Rack" (7 : Nat) "java/util/ArrayList") ∈ lw_all := lw_g (lw_at lw_m1 42 rfl) rfl
theorem q82 : (Jvm.Cond.methodLink "WheelWorks$Rack" (9 : Nat) ({ cls := "java/util/ArrayList", name := "<init>", desc := "()V" } : Jvm.MethodName)) ∈ lw_all := lw_g (lw_at lw_m1 44 rfl) rfl
theorem q109 : (Jvm.Cond.fieldLink "WheelWorks$Rack" (10 : Nat) "WheelWorks$Rack" "things" "Ljava/util/ArrayList;") ∈ lw_all := lw_g (lw_at lw_m1 71 rfl) rfl
theorem q110 : (Jvm.Cond.laysFinal "WheelWorks$Rack" "WheelWorks$Rack" "things" "Ljava/util/ArrayList;") ∈ lw_all := lw_g (lw_at lw_m1 72 rfl) rfl
theorem q111 : (Jvm.Cond.soleField "WheelWorks$Rack" "things") ∈ lw_all := lw_g (lw_at lw_m1 73 rfl) rfl
theorem q112 : (Jvm.Cond.superclass "WheelWorks$Rack" "java/lang/Object") ∈ lw_all := lw_g (lw_at lw_m1 74 rfl) rfl
theorem q152 : (Jvm.Cond.selects "WheelWorks$Rack" ({ cls := "java/lang/Object", name := "getClass", desc := "()Ljava/lang/Class;" } : Jvm.MethodName) ({ cls := "java/lang/Object", name := "getClass", desc := "()Ljava/lang/Class;" } : Jvm.MethodName)) ∈ lw_all := lw_g (lw_at lw_m1 114 rfl) rfl
theorem q334 : (Jvm.Cond.instanceMethod ({ cls := "WheelWorks$Rack", name := "size", desc := "()I" } : Jvm.MethodName)) ∈ lw_all := lw_g (lw_at lw_m2 56 rfl) rfl
theorem q335 : (Jvm.Cond.selects "WheelWorks$Rack" ({ cls := "WheelWorks$Rack", name := "size", desc := "()I" } : Jvm.MethodName) ({ cls := "WheelWorks$Rack", name := "size", desc := "()I" } : Jvm.MethodName)) ∈ lw_all := lw_g (lw_at lw_m2 57 rfl) rfl
theorem q336 : (Jvm.Cond.code ({ cls := "WheelWorks$Rack", name := "size", desc := "()I" } : Jvm.MethodName) prog_7_method_2_code (1 : Nat) (Option.some Jvm.ClassFile.FieldType.int)) ∈ lw_all := lw_g (lw_at lw_m2 58 rfl) rfl
theorem q337 : (Jvm.Cond.methodLink "WheelWorks$Rack" (16 : Nat) ({ cls := "java/util/ArrayList", name := "size", desc := "()I" } : Jvm.MethodName)) ∈ lw_all := lw_g (lw_at lw_m2 59 rfl) rfl
theorem q462 : (Jvm.Cond.instanceMethod ({ cls := "WheelWorks$Rack", name := "add", desc := "(LWheelWorks$Numbered;)LWheelWorks$Numbered;" } : Jvm.MethodName)) ∈ lw_all := lw_g (lw_at lw_m2 184 rfl) rfl
theorem q463 : (Jvm.Cond.selects "WheelWorks$Rack" ({ cls := "WheelWorks$Rack", name := "add", desc := "(LWheelWorks$Numbered;)LWheelWorks$Numbered;" } : Jvm.MethodName) ({ cls := "WheelWorks$Rack", name := "add", desc := "(LWheelWorks$Numbered;)LWheelWorks$Numbered;" } : Jvm.MethodName)) ∈ lw_all := lw_g (lw_at lw_m2 185 rfl) rfl
theorem q464 : (Jvm.Cond.code ({ cls := "WheelWorks$Rack", name := "add", desc := "(LWheelWorks$Numbered;)LWheelWorks$Numbered;" } : Jvm.MethodName) prog_7_method_3_code (2 : Nat) (Option.some (Jvm.ClassFile.FieldType.object "WheelWorks$Numbered"))) ∈ lw_all := lw_g (lw_at lw_m2 186 rfl) rfl
theorem q465 : (Jvm.Cond.methodLink "WheelWorks$Rack" (20 : Nat) ({ cls := "java/util/ArrayList", name := "add", desc := "(Ljava/lang/Object;)Z" } : Jvm.MethodName)) ∈ lw_all := lw_g (lw_at lw_m2 187 rfl) rfl
theorem q515 : (Jvm.Cond.instanceMethod ({ cls := "WheelWorks$Rack", name := "need", desc := "(I)LWheelWorks$Numbered;" } : Jvm.MethodName)) ∈ lw_all := lw_g (lw_at lw_m2 237 rfl) rfl
theorem q516 : (Jvm.Cond.selects "WheelWorks$Rack" ({ cls := "WheelWorks$Rack", name := "need", desc := "(I)LWheelWorks$Numbered;" } : Jvm.MethodName) ({ cls := "WheelWorks$Rack", name := "need", desc := "(I)LWheelWorks$Numbered;" } : Jvm.MethodName)) ∈ lw_all := lw_g (lw_at lw_m2 238 rfl) rfl
theorem q517 : (Jvm.Cond.code ({ cls := "WheelWorks$Rack", name := "need", desc := "(I)LWheelWorks$Numbered;" } : Jvm.MethodName) prog_7_method_4_code (2 : Nat) (Option.some (Jvm.ClassFile.FieldType.object "WheelWorks$Numbered"))) ∈ lw_all := lw_g (lw_at lw_m2 239 rfl) rfl
theorem q518 : (Jvm.Cond.methodLinkNest "WheelWorks$Rack" (24 : Nat) ({ cls := "WheelWorks", name := "in", desc := "(III)Z" } : Jvm.MethodName) "WheelWorks") ∈ lw_tbl := lw_at lw_m3 0 rfl
theorem q519 : (Jvm.Cond.methodLinkNest "WheelWorks$Rack" (30 : Nat) ({ cls := "WheelWorks", name := "needIndex", desc := "(Z)V" } : Jvm.MethodName) "WheelWorks") ∈ lw_tbl := lw_at lw_m3 1 rfl
theorem q537 : (Jvm.Cond.methodLink "WheelWorks$Rack" (34 : Nat) ({ cls := "java/util/ArrayList", name := "get", desc := "(I)Ljava/lang/Object;" } : Jvm.MethodName)) ∈ lw_all := lw_g (lw_at lw_m3 19 rfl) rfl
theorem q538 : (Jvm.Cond.classLink "WheelWorks$Rack" (38 : Nat) "WheelWorks$Numbered") ∈ lw_all := lw_g (lw_at lw_m3 20 rfl) rfl
theorem q610 : (Jvm.Cond.selects "WheelWorks$Rack" ({ cls := "java/lang/Object", name := "equals", desc := "(Ljava/lang/Object;)Z" } : Jvm.MethodName) ({ cls := "java/lang/Object", name := "equals", desc := "(Ljava/lang/Object;)Z" } : Jvm.MethodName)) ∈ lw_all := lw_g (lw_at lw_m3 92 rfl) rfl
theorem q668 : (Jvm.Cond.instanceMethod ({ cls := "WheelWorks$Rack", name := "lowest", desc := "(LWheelWorks$Test;)LWheelWorks$Numbered;" } : Jvm.MethodName)) ∈ lw_all := lw_g (lw_at lw_m3 150 rfl) rfl
theorem q669 : (Jvm.Cond.selects "WheelWorks$Rack" ({ cls := "WheelWorks$Rack", name := "lowest", desc := "(LWheelWorks$Test;)LWheelWorks$Numbered;" } : Jvm.MethodName) ({ cls := "WheelWorks$Rack", name := "lowest", desc := "(LWheelWorks$Test;)LWheelWorks$Numbered;" } : Jvm.MethodName)) ∈ lw_all := lw_g (lw_at lw_m3 151 rfl) rfl
theorem q670 : (Jvm.Cond.code ({ cls := "WheelWorks$Rack", name := "lowest", desc := "(LWheelWorks$Test;)LWheelWorks$Numbered;" } : Jvm.MethodName) prog_7_method_7_code (3 : Nat) (Option.some (Jvm.ClassFile.FieldType.object "WheelWorks$Numbered"))) ∈ lw_all := lw_g (lw_at lw_m3 152 rfl) rfl
theorem q671 : (Jvm.Cond.interfaceEntry "WheelWorks$Rack" (44 : Nat)) ∈ lw_tbl := lw_at lw_m3 153 rfl
theorem q672 : (Jvm.Cond.methodLink "WheelWorks$Rack" (44 : Nat) ({ cls := "WheelWorks$Test", name := "is", desc := "(Ljava/lang/Object;)Z" } : Jvm.MethodName)) ∈ lw_all := lw_g (lw_at lw_m3 154 rfl) rfl
theorem q847 : (Jvm.Cond.instanceMethod ({ cls := "WheelWorks$Rack", name := "iterator", desc := "()Ljava/util/Iterator;" } : Jvm.MethodName)) ∈ lw_all := lw_g (lw_at lw_m4 89 rfl) rfl
theorem q848 : (Jvm.Cond.selects "WheelWorks$Rack" ({ cls := "WheelWorks$Rack", name := "iterator", desc := "()Ljava/util/Iterator;" } : Jvm.MethodName) ({ cls := "WheelWorks$Rack", name := "iterator", desc := "()Ljava/util/Iterator;" } : Jvm.MethodName)) ∈ lw_all := lw_g (lw_at lw_m4 90 rfl) rfl
theorem q849 : (Jvm.Cond.code ({ cls := "WheelWorks$Rack", name := "iterator", desc := "()Ljava/util/Iterator;" } : Jvm.MethodName) prog_7_method_6_code (1 : Nat) (Option.some (Jvm.ClassFile.FieldType.object "java/util/Iterator"))) ∈ lw_all := lw_g (lw_at lw_m4 91 rfl) rfl
theorem q850 : (Jvm.Cond.methodLink "WheelWorks$Rack" (40 : Nat) ({ cls := "java/util/ArrayList", name := "iterator", desc := "()Ljava/util/Iterator;" } : Jvm.MethodName)) ∈ lw_all := lw_g (lw_at lw_m4 92 rfl) rfl
theorem q1356 : (Jvm.Cond.castable "WheelWorks$Rack" "java/lang/Object") ∈ lw_tbl := lw_at lw_m6 118 rfl
theorem in_X2 : ∀ w ∈ wsX20, w ∈ lw_all := lw_in wsX20 [110] (by decide +kernel) (by decide +kernel)

/-! WheelWorks$Part -/
set_option maxRecDepth 100000
def RX4 : String := "WheelWorks$Part"
def TX4 : u_T := fun k => match k with
  | 0 => ("WheelWorks$Part", "number", "I", true)
  | 1 => ("WheelWorks$Part", "kind", "I", true)
  | 2 => ("WheelWorks$Part", "melt", "I", true)
  | 3 => ("WheelWorks$Part", "mod", "I", true)
  | 4 => ("WheelWorks$Part", "hosts", "LWheelWorks$Trail;", true)
  | 5 => ("WheelWorks$Part", "parts", "Ljava/util/ArrayList;", true)
  | 6 => ("WheelWorks$Part", "isScrapped", "Z", false)
  | 7 => ("WheelWorks$Part", "life", "I", false)
  | 8 => ("WheelWorks$Part", "since", "I", false)
  | 9 => ("WheelWorks$Part", "waived", "I", false)
  | 10 => ("WheelWorks$Part", "isQuarantined", "Z", false)
  | 11 => ("WheelWorks$Part", "isRecalled", "Z", false)
  | 12 => ("WheelWorks$Part", "flaw", "I", false)
  | 13 => ("WheelWorks$Part", "flawLife", "I", false)
  | 14 => ("WheelWorks$Part", "diameter", "I", false)
  | 15 => ("WheelWorks$Part", "flange", "I", false)
  | 16 => ("WheelWorks$Part", "rubbed", "I", false)
  | 17 => ("WheelWorks$Part", "gate", "I", false)
  | 18 => ("WheelWorks$Part", "isReleased", "Z", false)
  | _ => ("WheelWorks$Part", "stands", "Z", false)
def tyX4 : Nat → FieldType := fun k => match k with
  | 0 => .int
  | 1 => .int
  | 2 => .int
  | 3 => .int
  | 4 => .object "WheelWorks$Trail"
  | 5 => .object "java/util/ArrayList"
  | 6 => .boolean
  | 7 => .int
  | 8 => .int
  | 9 => .int
  | 10 => .boolean
  | 11 => .boolean
  | 12 => .int
  | 13 => .int
  | 14 => .int
  | 15 => .int
  | 16 => .int
  | 17 => .int
  | 18 => .boolean
  | _ => .boolean
abbrev wsX40 : List Cond := u_ws RX4 TX4 20
set_option maxRecDepth 100000 in
theorem nmX4 : ∀ a, a < 20 → ∀ b, b < 20 → a ≠ b → (TX4 a).2.1 ≠ (TX4 b).2.1 := by decide +kernel
set_option maxRecDepth 100000 in
theorem tyX4_ok : ∀ k, k < 20 → parseFieldDescriptor (TX4 k).2.2.1 = some (tyX4 k) := by decide +kernel
abbrev cX4_init : ByteArray := prog_6_method_1_code
def yX4_init : MethodName := ⟨RX4, "<init>", "(IIII)V"⟩
def dkwX4_init_2 : List UInt8 := [181, 0, 37, 42, 28, 181, 0, 40, 42, 29, 181, 0, 43, 42, 21, 4, 181, 0, 46, 177]
abbrev dktX4_init_2 : List UInt8 := dkwX4_init_2 ++ []
def dkwX4_init_1 : List UInt8 := [181, 0, 23, 42, 17, 35, 40, 181, 0, 27, 42, 17, 1, 44, 181, 0, 31, 42, 2, 181, 0, 34, 42, 27]
abbrev dktX4_init_1 : List UInt8 := dkwX4_init_1 ++ dktX4_init_2
def dkwX4_init_0 : List UInt8 := [42, 183, 0, 3, 42, 187, 0, 9, 89, 1, 183, 0, 11, 181, 0, 14, 42, 187, 0, 20, 89, 183, 0, 22]
abbrev dktX4_init_0 : List UInt8 := dkwX4_init_0 ++ dktX4_init_1
theorem dksX4_init_0 : cX4_init.data.toList.drop 0 = dktX4_init_0 := by decide +kernel
theorem dksX4_init_1 : cX4_init.data.toList.drop 24 = dktX4_init_1 := dk_seg dksX4_init_0 24 rfl rfl
theorem dksX4_init_2 : cX4_init.data.toList.drop 48 = dktX4_init_2 := dk_seg dksX4_init_1 24 rfl rfl
theorem dX4_init_0 : decode cX4_init 0 = .ok (.aload_n 0, 1) := dk_42 (dk_at dksX4_init_0 0 rfl rfl)
theorem dX4_init_1 : decode cX4_init 1 = .ok (.invokespecial 3, 3) := dk_183 0 3 (dk_at dksX4_init_0 1 rfl rfl)
theorem dX4_init_4 : decode cX4_init 4 = .ok (.aload_n 0, 1) := dk_42 (dk_at dksX4_init_0 4 rfl rfl)
theorem dX4_init_5 : decode cX4_init 5 = .ok (.new 9, 3) := dk_187 0 9 (dk_at dksX4_init_0 5 rfl rfl)
theorem dX4_init_8 : decode cX4_init 8 = .ok (.dup, 1) := dk_89 (dk_at dksX4_init_0 8 rfl rfl)
theorem dX4_init_9 : decode cX4_init 9 = .ok (.aconst_null, 1) := dk_1 (dk_at dksX4_init_0 9 rfl rfl)
theorem dX4_init_10 : decode cX4_init 10 = .ok (.invokespecial 11, 3) := dk_183 0 11 (dk_at dksX4_init_0 10 rfl rfl)
theorem dX4_init_13 : decode cX4_init 13 = .ok (.putfield 14, 3) := dk_181 0 14 (dk_at dksX4_init_0 13 rfl rfl)
theorem dX4_init_16 : decode cX4_init 16 = .ok (.aload_n 0, 1) := dk_42 (dk_at dksX4_init_0 16 rfl rfl)
theorem dX4_init_17 : decode cX4_init 17 = .ok (.new 20, 3) := dk_187 0 20 (dk_at dksX4_init_0 17 rfl rfl)
theorem dX4_init_20 : decode cX4_init 20 = .ok (.dup, 1) := dk_89 (dk_at dksX4_init_0 20 rfl rfl)
theorem dX4_init_21 : decode cX4_init 21 = .ok (.invokespecial 22, 3) := dk_183 0 22 (dk_at dksX4_init_0 21 rfl rfl)
theorem dX4_init_24 : decode cX4_init 24 = .ok (.putfield 23, 3) := dk_181 0 23 (dk_at dksX4_init_1 0 rfl rfl)
theorem dX4_init_27 : decode cX4_init 27 = .ok (.aload_n 0, 1) := dk_42 (dk_at dksX4_init_1 3 rfl rfl)
theorem dX4_init_28 : decode cX4_init 28 = .ok (.sipush 9000, 3) := dk_17 35 40 (dk_at dksX4_init_1 4 rfl rfl)
theorem dX4_init_31 : decode cX4_init 31 = .ok (.putfield 27, 3) := dk_181 0 27 (dk_at dksX4_init_1 7 rfl rfl)
theorem dX4_init_34 : decode cX4_init 34 = .ok (.aload_n 0, 1) := dk_42 (dk_at dksX4_init_1 10 rfl rfl)
theorem dX4_init_35 : decode cX4_init 35 = .ok (.sipush 300, 3) := dk_17 1 44 (dk_at dksX4_init_1 11 rfl rfl)
theorem dX4_init_38 : decode cX4_init 38 = .ok (.putfield 31, 3) := dk_181 0 31 (dk_at dksX4_init_1 14 rfl rfl)
theorem dX4_init_41 : decode cX4_init 41 = .ok (.aload_n 0, 1) := dk_42 (dk_at dksX4_init_1 17 rfl rfl)
theorem dX4_init_42 : decode cX4_init 42 = .ok (.iconst (-1), 1) := dk_2 (dk_at dksX4_init_1 18 rfl rfl)
theorem dX4_init_43 : decode cX4_init 43 = .ok (.putfield 34, 3) := dk_181 0 34 (dk_at dksX4_init_1 19 rfl rfl)
theorem dX4_init_46 : decode cX4_init 46 = .ok (.aload_n 0, 1) := dk_42 (dk_at dksX4_init_1 22 rfl rfl)
theorem dX4_init_47 : decode cX4_init 47 = .ok (.iload_n 1, 1) := dk_27 (dk_at dksX4_init_1 23 rfl rfl)
theorem dX4_init_48 : decode cX4_init 48 = .ok (.putfield 37, 3) := dk_181 0 37 (dk_at dksX4_init_2 0 rfl rfl)
theorem dX4_init_51 : decode cX4_init 51 = .ok (.aload_n 0, 1) := dk_42 (dk_at dksX4_init_2 3 rfl rfl)
theorem dX4_init_52 : decode cX4_init 52 = .ok (.iload_n 2, 1) := dk_28 (dk_at dksX4_init_2 4 rfl rfl)
theorem dX4_init_53 : decode cX4_init 53 = .ok (.putfield 40, 3) := dk_181 0 40 (dk_at dksX4_init_2 5 rfl rfl)
theorem dX4_init_56 : decode cX4_init 56 = .ok (.aload_n 0, 1) := dk_42 (dk_at dksX4_init_2 8 rfl rfl)
theorem dX4_init_57 : decode cX4_init 57 = .ok (.iload_n 3, 1) := dk_29 (dk_at dksX4_init_2 9 rfl rfl)
theorem dX4_init_58 : decode cX4_init 58 = .ok (.putfield 43, 3) := dk_181 0 43 (dk_at dksX4_init_2 10 rfl rfl)
theorem dX4_init_61 : decode cX4_init 61 = .ok (.aload_n 0, 1) := dk_42 (dk_at dksX4_init_2 13 rfl rfl)
theorem dX4_init_62 : decode cX4_init 62 = .ok (.iload 4, 2) := dk_21 4 (dk_at dksX4_init_2 14 rfl rfl)
theorem dX4_init_64 : decode cX4_init 64 = .ok (.putfield 46, 3) := dk_181 0 46 (dk_at dksX4_init_2 16 rfl rfl)
theorem dX4_init_67 : decode cX4_init 67 = .ok (.return_, 1) := dk_177 (dk_at dksX4_init_2 19 rfl rfl)
abbrev cX4_places : ByteArray := prog_6_method_3_code
def yX4_places : MethodName := ⟨RX4, "places", "(I)I"⟩
def dkwX4_places_4 : List UInt8 := [167, 0, 4, 3, 172]
abbrev dktX4_places_4 : List UInt8 := dkwX4_places_4 ++ []
def dkwX4_places_3 : List UInt8 := [167, 0, 26, 27, 6, 160, 0, 7, 5, 167, 0, 17, 27, 7, 160, 0, 7, 4, 167, 0, 8, 3]
abbrev dktX4_places_3 : List UInt8 := dkwX4_places_3 ++ dktX4_places_4
def dkwX4_places_2 : List UInt8 := [27, 4, 160, 0, 7, 5, 167, 0, 43, 3, 167, 0, 39, 27, 5, 160, 0, 7, 5, 167, 0, 30, 3]
abbrev dktX4_places_2 : List UInt8 := dkwX4_places_2 ++ dktX4_places_3
def dkwX4_places_1 : List UInt8 := [170, 0, 0, 0, 0, 0, 0, 76, 0, 0, 0, 0, 0, 0, 0, 2, 0, 0, 0, 28, 0, 0, 0, 41, 0, 0, 0, 54]
abbrev dktX4_places_1 : List UInt8 := dkwX4_places_1 ++ dktX4_places_2
def dkwX4_places_0 : List UInt8 := [42, 180, 0, 40]
abbrev dktX4_places_0 : List UInt8 := dkwX4_places_0 ++ dktX4_places_1
theorem dksX4_places_0 : cX4_places.data.toList.drop 0 = dktX4_places_0 := by decide +kernel
theorem dksX4_places_1 : cX4_places.data.toList.drop 4 = dktX4_places_1 := dk_seg dksX4_places_0 4 rfl rfl
theorem dksX4_places_2 : cX4_places.data.toList.drop 32 = dktX4_places_2 := dk_seg dksX4_places_1 28 rfl rfl
theorem dksX4_places_3 : cX4_places.data.toList.drop 55 = dktX4_places_3 := dk_seg dksX4_places_2 23 rfl rfl
theorem dksX4_places_4 : cX4_places.data.toList.drop 77 = dktX4_places_4 := dk_seg dksX4_places_3 22 rfl rfl
theorem dX4_places_0 : decode cX4_places 0 = .ok (.aload_n 0, 1) := dk_42 (dk_at dksX4_places_0 0 rfl rfl)
theorem dX4_places_1 : decode cX4_places 1 = .ok (.getfield 40, 3) := dk_180 0 40 (dk_at dksX4_places_0 1 rfl rfl)
theorem dX4_places_4 : decode cX4_places 4 = .ok (.tableswitch 76 0 2 #[28, 41, 54], 28) := by decide +kernel
theorem dX4_places_32 : decode cX4_places 32 = .ok (.iload_n 1, 1) := dk_27 (dk_at dksX4_places_2 0 rfl rfl)
theorem dX4_places_33 : decode cX4_places 33 = .ok (.iconst 1, 1) := dk_4 (dk_at dksX4_places_2 1 rfl rfl)
theorem dX4_places_34 : decode cX4_places 34 = .ok (.if_icmp .ne 7, 3) := dk_160 0 7 (dk_at dksX4_places_2 2 rfl rfl)
theorem dX4_places_37 : decode cX4_places 37 = .ok (.iconst 2, 1) := dk_5 (dk_at dksX4_places_2 5 rfl rfl)
theorem dX4_places_38 : decode cX4_places 38 = .ok (.goto 43, 3) := dk_167 0 43 (dk_at dksX4_places_2 6 rfl rfl)
theorem dX4_places_41 : decode cX4_places 41 = .ok (.iconst 0, 1) := dk_3 (dk_at dksX4_places_2 9 rfl rfl)
theorem dX4_places_42 : decode cX4_places 42 = .ok (.goto 39, 3) := dk_167 0 39 (dk_at dksX4_places_2 10 rfl rfl)
theorem dX4_places_45 : decode cX4_places 45 = .ok (.iload_n 1, 1) := dk_27 (dk_at dksX4_places_2 13 rfl rfl)
theorem dX4_places_46 : decode cX4_places 46 = .ok (.iconst 2, 1) := dk_5 (dk_at dksX4_places_2 14 rfl rfl)
theorem dX4_places_47 : decode cX4_places 47 = .ok (.if_icmp .ne 7, 3) := dk_160 0 7 (dk_at dksX4_places_2 15 rfl rfl)
theorem dX4_places_50 : decode cX4_places 50 = .ok (.iconst 2, 1) := dk_5 (dk_at dksX4_places_2 18 rfl rfl)
theorem dX4_places_51 : decode cX4_places 51 = .ok (.goto 30, 3) := dk_167 0 30 (dk_at dksX4_places_2 19 rfl rfl)
theorem dX4_places_54 : decode cX4_places 54 = .ok (.iconst 0, 1) := dk_3 (dk_at dksX4_places_2 22 rfl rfl)
theorem dX4_places_55 : decode cX4_places 55 = .ok (.goto 26, 3) := dk_167 0 26 (dk_at dksX4_places_3 0 rfl rfl)
theorem dX4_places_58 : decode cX4_places 58 = .ok (.iload_n 1, 1) := dk_27 (dk_at dksX4_places_3 3 rfl rfl)
theorem dX4_places_59 : decode cX4_places 59 = .ok (.iconst 3, 1) := dk_6 (dk_at dksX4_places_3 4 rfl rfl)
theorem dX4_places_60 : decode cX4_places 60 = .ok (.if_icmp .ne 7, 3) := dk_160 0 7 (dk_at dksX4_places_3 5 rfl rfl)
theorem dX4_places_63 : decode cX4_places 63 = .ok (.iconst 2, 1) := dk_5 (dk_at dksX4_places_3 8 rfl rfl)
theorem dX4_places_64 : decode cX4_places 64 = .ok (.goto 17, 3) := dk_167 0 17 (dk_at dksX4_places_3 9 rfl rfl)
theorem dX4_places_67 : decode cX4_places 67 = .ok (.iload_n 1, 1) := dk_27 (dk_at dksX4_places_3 12 rfl rfl)
theorem dX4_places_68 : decode cX4_places 68 = .ok (.iconst 4, 1) := dk_7 (dk_at dksX4_places_3 13 rfl rfl)
theorem dX4_places_69 : decode cX4_places 69 = .ok (.if_icmp .ne 7, 3) := dk_160 0 7 (dk_at dksX4_places_3 14 rfl rfl)
theorem dX4_places_72 : decode cX4_places 72 = .ok (.iconst 1, 1) := dk_4 (dk_at dksX4_places_3 17 rfl rfl)
theorem dX4_places_73 : decode cX4_places 73 = .ok (.goto 8, 3) := dk_167 0 8 (dk_at dksX4_places_3 18 rfl rfl)
theorem dX4_places_76 : decode cX4_places 76 = .ok (.iconst 0, 1) := dk_3 (dk_at dksX4_places_3 21 rfl rfl)
theorem dX4_places_77 : decode cX4_places 77 = .ok (.goto 4, 3) := dk_167 0 4 (dk_at dksX4_places_4 0 rfl rfl)
theorem dX4_places_80 : decode cX4_places 80 = .ok (.iconst 0, 1) := dk_3 (dk_at dksX4_places_4 3 rfl rfl)
theorem dX4_places_81 : decode cX4_places 81 = .ok (.ireturn, 1) := dk_172 (dk_at dksX4_places_4 4 rfl rfl)
abbrev cX4_isInStore : ByteArray := prog_6_method_7_code
def yX4_isInStore : MethodName := ⟨RX4, "isInStore", "()Z"⟩
def dkwX4_isInStore_0 : List UInt8 := [42, 180, 0, 14, 180, 0, 57, 199, 0, 14, 42, 180, 0, 69, 154, 0, 7, 4, 167, 0, 4, 3, 172]
abbrev dktX4_isInStore_0 : List UInt8 := dkwX4_isInStore_0 ++ []
theorem dksX4_isInStore_0 : cX4_isInStore.data.toList.drop 0 = dktX4_isInStore_0 := by decide +kernel
theorem dX4_isInStore_0 : decode cX4_isInStore 0 = .ok (.aload_n 0, 1) := dk_42 (dk_at dksX4_isInStore_0 0 rfl rfl)
theorem dX4_isInStore_1 : decode cX4_isInStore 1 = .ok (.getfield 14, 3) := dk_180 0 14 (dk_at dksX4_isInStore_0 1 rfl rfl)
theorem dX4_isInStore_4 : decode cX4_isInStore 4 = .ok (.getfield 57, 3) := dk_180 0 57 (dk_at dksX4_isInStore_0 4 rfl rfl)
theorem dX4_isInStore_7 : decode cX4_isInStore 7 = .ok (.ifnonnull 14, 3) := dk_199 0 14 (dk_at dksX4_isInStore_0 7 rfl rfl)
theorem dX4_isInStore_10 : decode cX4_isInStore 10 = .ok (.aload_n 0, 1) := dk_42 (dk_at dksX4_isInStore_0 10 rfl rfl)
theorem dX4_isInStore_11 : decode cX4_isInStore 11 = .ok (.getfield 69, 3) := dk_180 0 69 (dk_at dksX4_isInStore_0 11 rfl rfl)
theorem dX4_isInStore_14 : decode cX4_isInStore 14 = .ok (.ifCond .ne 7, 3) := dk_154 0 7 (dk_at dksX4_isInStore_0 14 rfl rfl)
theorem dX4_isInStore_17 : decode cX4_isInStore 17 = .ok (.iconst 1, 1) := dk_4 (dk_at dksX4_isInStore_0 17 rfl rfl)
theorem dX4_isInStore_18 : decode cX4_isInStore 18 = .ok (.goto 4, 3) := dk_167 0 4 (dk_at dksX4_isInStore_0 18 rfl rfl)
theorem dX4_isInStore_21 : decode cX4_isInStore 21 = .ok (.iconst 0, 1) := dk_3 (dk_at dksX4_isInStore_0 21 rfl rfl)
theorem dX4_isInStore_22 : decode cX4_isInStore 22 = .ok (.ireturn, 1) := dk_172 (dk_at dksX4_isInStore_0 22 rfl rfl)
abbrev cX4_isBound : ByteArray := prog_6_method_6_code
def yX4_isBound : MethodName := ⟨RX4, "isBound", "()Z"⟩
def dkwX4_isBound_0 : List UInt8 := [42, 182, 0, 61, 180, 0, 65, 172]
abbrev dktX4_isBound_0 : List UInt8 := dkwX4_isBound_0 ++ []
theorem dksX4_isBound_0 : cX4_isBound.data.toList.drop 0 = dktX4_isBound_0 := by decide +kernel
theorem dX4_isBound_0 : decode cX4_isBound 0 = .ok (.aload_n 0, 1) := dk_42 (dk_at dksX4_isBound_0 0 rfl rfl)
theorem dX4_isBound_1 : decode cX4_isBound 1 = .ok (.invokevirtual 61, 3) := dk_182 0 61 (dk_at dksX4_isBound_0 1 rfl rfl)
theorem dX4_isBound_4 : decode cX4_isBound 4 = .ok (.getfield 65, 3) := dk_180 0 65 (dk_at dksX4_isBound_0 4 rfl rfl)
theorem dX4_isBound_7 : decode cX4_isBound 7 = .ok (.ireturn, 1) := dk_172 (dk_at dksX4_isBound_0 7 rfl rfl)
abbrev cX4_head : ByteArray := prog_6_method_5_code
def yX4_head : MethodName := ⟨RX4, "head", "()LWheelWorks$Part;"⟩
def dkwX4_head_1 : List UInt8 := [167, 255, 235, 43, 176]
abbrev dktX4_head_1 : List UInt8 := dkwX4_head_1 ++ []
def dkwX4_head_0 : List UInt8 := [42, 76, 43, 180, 0, 14, 180, 0, 57, 198, 0, 17, 43, 180, 0, 14, 180, 0, 57, 192, 0, 15, 76]
abbrev dktX4_head_0 : List UInt8 := dkwX4_head_0 ++ dktX4_head_1
theorem dksX4_head_0 : cX4_head.data.toList.drop 0 = dktX4_head_0 := by decide +kernel
theorem dksX4_head_1 : cX4_head.data.toList.drop 23 = dktX4_head_1 := dk_seg dksX4_head_0 23 rfl rfl
theorem dX4_head_0 : decode cX4_head 0 = .ok (.aload_n 0, 1) := dk_42 (dk_at dksX4_head_0 0 rfl rfl)
theorem dX4_head_1 : decode cX4_head 1 = .ok (.astore_n 1, 1) := dk_76 (dk_at dksX4_head_0 1 rfl rfl)
theorem dX4_head_2 : decode cX4_head 2 = .ok (.aload_n 1, 1) := dk_43 (dk_at dksX4_head_0 2 rfl rfl)
theorem dX4_head_3 : decode cX4_head 3 = .ok (.getfield 14, 3) := dk_180 0 14 (dk_at dksX4_head_0 3 rfl rfl)
theorem dX4_head_6 : decode cX4_head 6 = .ok (.getfield 57, 3) := dk_180 0 57 (dk_at dksX4_head_0 6 rfl rfl)
theorem dX4_head_9 : decode cX4_head 9 = .ok (.ifnull 17, 3) := dk_198 0 17 (dk_at dksX4_head_0 9 rfl rfl)
theorem dX4_head_12 : decode cX4_head 12 = .ok (.aload_n 1, 1) := dk_43 (dk_at dksX4_head_0 12 rfl rfl)
theorem dX4_head_13 : decode cX4_head 13 = .ok (.getfield 14, 3) := dk_180 0 14 (dk_at dksX4_head_0 13 rfl rfl)
theorem dX4_head_16 : decode cX4_head 16 = .ok (.getfield 57, 3) := dk_180 0 57 (dk_at dksX4_head_0 16 rfl rfl)
theorem dX4_head_19 : decode cX4_head 19 = .ok (.checkcast 15, 3) := dk_192 0 15 (dk_at dksX4_head_0 19 rfl rfl)
theorem dX4_head_22 : decode cX4_head 22 = .ok (.astore_n 1, 1) := dk_76 (dk_at dksX4_head_0 22 rfl rfl)
theorem dX4_head_23 : decode cX4_head 23 = .ok (.goto (-21), 3) := dk_167 255 235 (dk_at dksX4_head_1 0 rfl rfl)
theorem dX4_head_26 : decode cX4_head 26 = .ok (.aload_n 1, 1) := dk_43 (dk_at dksX4_head_1 3 rfl rfl)
theorem dX4_head_27 : decode cX4_head 27 = .ok (.areturn, 1) := dk_176 (dk_at dksX4_head_1 4 rfl rfl)
abbrev cX4_count : ByteArray := prog_6_method_4_code
def yX4_count : MethodName := ⟨RX4, "count", "(I)I"⟩
def dkwX4_count_2 : List UInt8 := [172]
abbrev dktX4_count_2 : List UInt8 := dkwX4_count_2 ++ []
def dkwX4_count_1 : List UInt8 := [192, 0, 15, 180, 0, 40, 27, 160, 0, 7, 4, 167, 0, 4, 3, 96, 61, 132, 3, 1, 167, 255, 216, 28]
abbrev dktX4_count_1 : List UInt8 := dkwX4_count_1 ++ dktX4_count_2
def dkwX4_count_0 : List UInt8 := [3, 61, 3, 62, 29, 42, 180, 0, 23, 182, 0, 49, 162, 0, 35, 28, 42, 180, 0, 23, 29, 182, 0, 53]
abbrev dktX4_count_0 : List UInt8 := dkwX4_count_0 ++ dktX4_count_1
theorem dksX4_count_0 : cX4_count.data.toList.drop 0 = dktX4_count_0 := by decide +kernel
theorem dksX4_count_1 : cX4_count.data.toList.drop 24 = dktX4_count_1 := dk_seg dksX4_count_0 24 rfl rfl
theorem dksX4_count_2 : cX4_count.data.toList.drop 48 = dktX4_count_2 := dk_seg dksX4_count_1 24 rfl rfl
theorem dX4_count_0 : decode cX4_count 0 = .ok (.iconst 0, 1) := dk_3 (dk_at dksX4_count_0 0 rfl rfl)
theorem dX4_count_1 : decode cX4_count 1 = .ok (.istore_n 2, 1) := dk_61 (dk_at dksX4_count_0 1 rfl rfl)
theorem dX4_count_2 : decode cX4_count 2 = .ok (.iconst 0, 1) := dk_3 (dk_at dksX4_count_0 2 rfl rfl)
theorem dX4_count_3 : decode cX4_count 3 = .ok (.istore_n 3, 1) := dk_62 (dk_at dksX4_count_0 3 rfl rfl)
theorem dX4_count_4 : decode cX4_count 4 = .ok (.iload_n 3, 1) := dk_29 (dk_at dksX4_count_0 4 rfl rfl)
theorem dX4_count_5 : decode cX4_count 5 = .ok (.aload_n 0, 1) := dk_42 (dk_at dksX4_count_0 5 rfl rfl)
theorem dX4_count_6 : decode cX4_count 6 = .ok (.getfield 23, 3) := dk_180 0 23 (dk_at dksX4_count_0 6 rfl rfl)
theorem dX4_count_9 : decode cX4_count 9 = .ok (.invokevirtual 49, 3) := dk_182 0 49 (dk_at dksX4_count_0 9 rfl rfl)
theorem dX4_count_12 : decode cX4_count 12 = .ok (.if_icmp .ge 35, 3) := dk_162 0 35 (dk_at dksX4_count_0 12 rfl rfl)
theorem dX4_count_15 : decode cX4_count 15 = .ok (.iload_n 2, 1) := dk_28 (dk_at dksX4_count_0 15 rfl rfl)
theorem dX4_count_16 : decode cX4_count 16 = .ok (.aload_n 0, 1) := dk_42 (dk_at dksX4_count_0 16 rfl rfl)
theorem dX4_count_17 : decode cX4_count 17 = .ok (.getfield 23, 3) := dk_180 0 23 (dk_at dksX4_count_0 17 rfl rfl)
theorem dX4_count_20 : decode cX4_count 20 = .ok (.iload_n 3, 1) := dk_29 (dk_at dksX4_count_0 20 rfl rfl)
theorem dX4_count_21 : decode cX4_count 21 = .ok (.invokevirtual 53, 3) := dk_182 0 53 (dk_at dksX4_count_0 21 rfl rfl)
theorem dX4_count_24 : decode cX4_count 24 = .ok (.checkcast 15, 3) := dk_192 0 15 (dk_at dksX4_count_1 0 rfl rfl)
theorem dX4_count_27 : decode cX4_count 27 = .ok (.getfield 40, 3) := dk_180 0 40 (dk_at dksX4_count_1 3 rfl rfl)
theorem dX4_count_30 : decode cX4_count 30 = .ok (.iload_n 1, 1) := dk_27 (dk_at dksX4_count_1 6 rfl rfl)
theorem dX4_count_31 : decode cX4_count 31 = .ok (.if_icmp .ne 7, 3) := dk_160 0 7 (dk_at dksX4_count_1 7 rfl rfl)
theorem dX4_count_34 : decode cX4_count 34 = .ok (.iconst 1, 1) := dk_4 (dk_at dksX4_count_1 10 rfl rfl)
theorem dX4_count_35 : decode cX4_count 35 = .ok (.goto 4, 3) := dk_167 0 4 (dk_at dksX4_count_1 11 rfl rfl)
theorem dX4_count_38 : decode cX4_count 38 = .ok (.iconst 0, 1) := dk_3 (dk_at dksX4_count_1 14 rfl rfl)
theorem dX4_count_39 : decode cX4_count 39 = .ok (.iadd, 1) := dk_96 (dk_at dksX4_count_1 15 rfl rfl)
theorem dX4_count_40 : decode cX4_count 40 = .ok (.istore_n 2, 1) := dk_61 (dk_at dksX4_count_1 16 rfl rfl)
theorem dX4_count_41 : decode cX4_count 41 = .ok (.iinc 3 1, 3) := dk_132 3 1 (dk_at dksX4_count_1 17 rfl rfl)
theorem dX4_count_44 : decode cX4_count 44 = .ok (.goto (-40), 3) := dk_167 255 216 (dk_at dksX4_count_1 20 rfl rfl)
theorem dX4_count_47 : decode cX4_count 47 = .ok (.iload_n 2, 1) := dk_28 (dk_at dksX4_count_1 23 rfl rfl)
theorem dX4_count_48 : decode cX4_count 48 = .ok (.ireturn, 1) := dk_172 (dk_at dksX4_count_2 0 rfl rfl)
abbrev cX4_go : ByteArray := prog_6_method_12_code
def yX4_go : MethodName := ⟨RX4, "go", "(II)V"⟩
def dkwX4_go_8 : List UInt8 := [192, 0, 15, 27, 28, 182, 0, 110, 132, 5, 1, 167, 255, 224, 177]
abbrev dktX4_go_8 : List UInt8 := dkwX4_go_8 ++ []
def dkwX4_go_7 : List UInt8 := [3, 54, 5, 21, 5, 42, 180, 0, 23, 182, 0, 49, 162, 0, 26, 42, 180, 0, 23, 21, 5, 182, 0, 53]
abbrev dktX4_go_7 : List UInt8 := dkwX4_go_7 ++ dktX4_go_8
def dkwX4_go_6 : List UInt8 := [42, 89, 180, 0, 107, 4, 42, 180, 0, 107, 16, 10, 108, 96, 96, 181, 0, 107, 132, 5, 1, 167, 255, 221]
abbrev dktX4_go_6 : List UInt8 := dkwX4_go_6 ++ dktX4_go_7
def dkwX4_go_5 : List UInt8 := [17, 1, 244, 108, 100, 54, 4, 3, 54, 5, 21, 5, 21, 4, 162, 0, 34, 42, 180, 0, 107, 158, 0, 27]
abbrev dktX4_go_5 : List UInt8 := dkwX4_go_5 ++ dktX4_go_6
def dkwX4_go_4 : List UInt8 := [181, 0, 31, 42, 180, 0, 95, 42, 180, 0, 104, 100, 17, 1, 244, 108, 29, 42, 180, 0, 104, 100]
abbrev dktX4_go_4 : List UInt8 := dkwX4_go_4 ++ dktX4_go_5
def dkwX4_go_3 : List UInt8 := [181, 0, 101, 42, 89, 180, 0, 31, 42, 180, 0, 101, 17, 0, 200, 108, 21, 4, 17, 0, 200, 108, 100, 100]
abbrev dktX4_go_3 : List UInt8 := dkwX4_go_3 ++ dktX4_go_4
def dkwX4_go_2 : List UInt8 := [16, 100, 108, 100, 100, 181, 0, 27, 42, 180, 0, 101, 54, 4, 42, 89, 180, 0, 101, 27, 28, 104, 96]
abbrev dktX4_go_2 : List UInt8 := dkwX4_go_2 ++ dktX4_go_3
def dkwX4_go_1 : List UInt8 := [181, 0, 98, 42, 180, 0, 40, 6, 160, 0, 66, 42, 89, 180, 0, 27, 42, 180, 0, 95, 16, 100, 108, 29]
abbrev dktX4_go_1 : List UInt8 := dkwX4_go_1 ++ dktX4_go_2
def dkwX4_go_0 : List UInt8 := [42, 180, 0, 95, 62, 42, 89, 180, 0, 95, 27, 96, 181, 0, 95, 42, 89, 180, 0, 98, 27, 96]
abbrev dktX4_go_0 : List UInt8 := dkwX4_go_0 ++ dktX4_go_1
theorem dksX4_go_0 : cX4_go.data.toList.drop 0 = dktX4_go_0 := by decide +kernel
theorem dksX4_go_1 : cX4_go.data.toList.drop 22 = dktX4_go_1 := dk_seg dksX4_go_0 22 rfl rfl
theorem dksX4_go_2 : cX4_go.data.toList.drop 46 = dktX4_go_2 := dk_seg dksX4_go_1 24 rfl rfl
theorem dksX4_go_3 : cX4_go.data.toList.drop 69 = dktX4_go_3 := dk_seg dksX4_go_2 23 rfl rfl
theorem dksX4_go_4 : cX4_go.data.toList.drop 93 = dktX4_go_4 := dk_seg dksX4_go_3 24 rfl rfl
theorem dksX4_go_5 : cX4_go.data.toList.drop 115 = dktX4_go_5 := dk_seg dksX4_go_4 22 rfl rfl
theorem dksX4_go_6 : cX4_go.data.toList.drop 139 = dktX4_go_6 := dk_seg dksX4_go_5 24 rfl rfl
theorem dksX4_go_7 : cX4_go.data.toList.drop 163 = dktX4_go_7 := dk_seg dksX4_go_6 24 rfl rfl
theorem dksX4_go_8 : cX4_go.data.toList.drop 187 = dktX4_go_8 := dk_seg dksX4_go_7 24 rfl rfl
theorem dX4_go_0 : decode cX4_go 0 = .ok (.aload_n 0, 1) := dk_42 (dk_at dksX4_go_0 0 rfl rfl)
theorem dX4_go_1 : decode cX4_go 1 = .ok (.getfield 95, 3) := dk_180 0 95 (dk_at dksX4_go_0 1 rfl rfl)
theorem dX4_go_4 : decode cX4_go 4 = .ok (.istore_n 3, 1) := dk_62 (dk_at dksX4_go_0 4 rfl rfl)
theorem dX4_go_5 : decode cX4_go 5 = .ok (.aload_n 0, 1) := dk_42 (dk_at dksX4_go_0 5 rfl rfl)
theorem dX4_go_6 : decode cX4_go 6 = .ok (.dup, 1) := dk_89 (dk_at dksX4_go_0 6 rfl rfl)
theorem dX4_go_7 : decode cX4_go 7 = .ok (.getfield 95, 3) := dk_180 0 95 (dk_at dksX4_go_0 7 rfl rfl)
theorem dX4_go_10 : decode cX4_go 10 = .ok (.iload_n 1, 1) := dk_27 (dk_at dksX4_go_0 10 rfl rfl)
theorem dX4_go_11 : decode cX4_go 11 = .ok (.iadd, 1) := dk_96 (dk_at dksX4_go_0 11 rfl rfl)
theorem dX4_go_12 : decode cX4_go 12 = .ok (.putfield 95, 3) := dk_181 0 95 (dk_at dksX4_go_0 12 rfl rfl)
theorem dX4_go_15 : decode cX4_go 15 = .ok (.aload_n 0, 1) := dk_42 (dk_at dksX4_go_0 15 rfl rfl)
theorem dX4_go_16 : decode cX4_go 16 = .ok (.dup, 1) := dk_89 (dk_at dksX4_go_0 16 rfl rfl)
theorem dX4_go_17 : decode cX4_go 17 = .ok (.getfield 98, 3) := dk_180 0 98 (dk_at dksX4_go_0 17 rfl rfl)
theorem dX4_go_20 : decode cX4_go 20 = .ok (.iload_n 1, 1) := dk_27 (dk_at dksX4_go_0 20 rfl rfl)
theorem dX4_go_21 : decode cX4_go 21 = .ok (.iadd, 1) := dk_96 (dk_at dksX4_go_0 21 rfl rfl)
theorem dX4_go_22 : decode cX4_go 22 = .ok (.putfield 98, 3) := dk_181 0 98 (dk_at dksX4_go_1 0 rfl rfl)
theorem dX4_go_25 : decode cX4_go 25 = .ok (.aload_n 0, 1) := dk_42 (dk_at dksX4_go_1 3 rfl rfl)
theorem dX4_go_26 : decode cX4_go 26 = .ok (.getfield 40, 3) := dk_180 0 40 (dk_at dksX4_go_1 4 rfl rfl)
theorem dX4_go_29 : decode cX4_go 29 = .ok (.iconst 3, 1) := dk_6 (dk_at dksX4_go_1 7 rfl rfl)
theorem dX4_go_30 : decode cX4_go 30 = .ok (.if_icmp .ne 66, 3) := dk_160 0 66 (dk_at dksX4_go_1 8 rfl rfl)
theorem dX4_go_33 : decode cX4_go 33 = .ok (.aload_n 0, 1) := dk_42 (dk_at dksX4_go_1 11 rfl rfl)
theorem dX4_go_34 : decode cX4_go 34 = .ok (.dup, 1) := dk_89 (dk_at dksX4_go_1 12 rfl rfl)
theorem dX4_go_35 : decode cX4_go 35 = .ok (.getfield 27, 3) := dk_180 0 27 (dk_at dksX4_go_1 13 rfl rfl)
theorem dX4_go_38 : decode cX4_go 38 = .ok (.aload_n 0, 1) := dk_42 (dk_at dksX4_go_1 16 rfl rfl)
theorem dX4_go_39 : decode cX4_go 39 = .ok (.getfield 95, 3) := dk_180 0 95 (dk_at dksX4_go_1 17 rfl rfl)
theorem dX4_go_42 : decode cX4_go 42 = .ok (.bipush 100, 2) := dk_16 100 (dk_at dksX4_go_1 20 rfl rfl)
theorem dX4_go_44 : decode cX4_go 44 = .ok (.idiv, 1) := dk_108 (dk_at dksX4_go_1 22 rfl rfl)
theorem dX4_go_45 : decode cX4_go 45 = .ok (.iload_n 3, 1) := dk_29 (dk_at dksX4_go_1 23 rfl rfl)
theorem dX4_go_46 : decode cX4_go 46 = .ok (.bipush 100, 2) := dk_16 100 (dk_at dksX4_go_2 0 rfl rfl)
theorem dX4_go_48 : decode cX4_go 48 = .ok (.idiv, 1) := dk_108 (dk_at dksX4_go_2 2 rfl rfl)
theorem dX4_go_49 : decode cX4_go 49 = .ok (.isub, 1) := dk_100 (dk_at dksX4_go_2 3 rfl rfl)
theorem dX4_go_50 : decode cX4_go 50 = .ok (.isub, 1) := dk_100 (dk_at dksX4_go_2 4 rfl rfl)
theorem dX4_go_51 : decode cX4_go 51 = .ok (.putfield 27, 3) := dk_181 0 27 (dk_at dksX4_go_2 5 rfl rfl)
theorem dX4_go_54 : decode cX4_go 54 = .ok (.aload_n 0, 1) := dk_42 (dk_at dksX4_go_2 8 rfl rfl)
theorem dX4_go_55 : decode cX4_go 55 = .ok (.getfield 101, 3) := dk_180 0 101 (dk_at dksX4_go_2 9 rfl rfl)
theorem dX4_go_58 : decode cX4_go 58 = .ok (.istore 4, 2) := dk_54 4 (dk_at dksX4_go_2 12 rfl rfl)
theorem dX4_go_60 : decode cX4_go 60 = .ok (.aload_n 0, 1) := dk_42 (dk_at dksX4_go_2 14 rfl rfl)
theorem dX4_go_61 : decode cX4_go 61 = .ok (.dup, 1) := dk_89 (dk_at dksX4_go_2 15 rfl rfl)
theorem dX4_go_62 : decode cX4_go 62 = .ok (.getfield 101, 3) := dk_180 0 101 (dk_at dksX4_go_2 16 rfl rfl)
theorem dX4_go_65 : decode cX4_go 65 = .ok (.iload_n 1, 1) := dk_27 (dk_at dksX4_go_2 19 rfl rfl)
theorem dX4_go_66 : decode cX4_go 66 = .ok (.iload_n 2, 1) := dk_28 (dk_at dksX4_go_2 20 rfl rfl)
theorem dX4_go_67 : decode cX4_go 67 = .ok (.imul, 1) := dk_104 (dk_at dksX4_go_2 21 rfl rfl)
theorem dX4_go_68 : decode cX4_go 68 = .ok (.iadd, 1) := dk_96 (dk_at dksX4_go_2 22 rfl rfl)
theorem dX4_go_69 : decode cX4_go 69 = .ok (.putfield 101, 3) := dk_181 0 101 (dk_at dksX4_go_3 0 rfl rfl)
theorem dX4_go_72 : decode cX4_go 72 = .ok (.aload_n 0, 1) := dk_42 (dk_at dksX4_go_3 3 rfl rfl)
theorem dX4_go_73 : decode cX4_go 73 = .ok (.dup, 1) := dk_89 (dk_at dksX4_go_3 4 rfl rfl)
theorem dX4_go_74 : decode cX4_go 74 = .ok (.getfield 31, 3) := dk_180 0 31 (dk_at dksX4_go_3 5 rfl rfl)
theorem dX4_go_77 : decode cX4_go 77 = .ok (.aload_n 0, 1) := dk_42 (dk_at dksX4_go_3 8 rfl rfl)
theorem dX4_go_78 : decode cX4_go 78 = .ok (.getfield 101, 3) := dk_180 0 101 (dk_at dksX4_go_3 9 rfl rfl)
theorem dX4_go_81 : decode cX4_go 81 = .ok (.sipush 200, 3) := dk_17 0 200 (dk_at dksX4_go_3 12 rfl rfl)
theorem dX4_go_84 : decode cX4_go 84 = .ok (.idiv, 1) := dk_108 (dk_at dksX4_go_3 15 rfl rfl)
theorem dX4_go_85 : decode cX4_go 85 = .ok (.iload 4, 2) := dk_21 4 (dk_at dksX4_go_3 16 rfl rfl)
theorem dX4_go_87 : decode cX4_go 87 = .ok (.sipush 200, 3) := dk_17 0 200 (dk_at dksX4_go_3 18 rfl rfl)
theorem dX4_go_90 : decode cX4_go 90 = .ok (.idiv, 1) := dk_108 (dk_at dksX4_go_3 21 rfl rfl)
theorem dX4_go_91 : decode cX4_go 91 = .ok (.isub, 1) := dk_100 (dk_at dksX4_go_3 22 rfl rfl)
theorem dX4_go_92 : decode cX4_go 92 = .ok (.isub, 1) := dk_100 (dk_at dksX4_go_3 23 rfl rfl)
theorem dX4_go_93 : decode cX4_go 93 = .ok (.putfield 31, 3) := dk_181 0 31 (dk_at dksX4_go_4 0 rfl rfl)
theorem dX4_go_96 : decode cX4_go 96 = .ok (.aload_n 0, 1) := dk_42 (dk_at dksX4_go_4 3 rfl rfl)
theorem dX4_go_97 : decode cX4_go 97 = .ok (.getfield 95, 3) := dk_180 0 95 (dk_at dksX4_go_4 4 rfl rfl)
theorem dX4_go_100 : decode cX4_go 100 = .ok (.aload_n 0, 1) := dk_42 (dk_at dksX4_go_4 7 rfl rfl)
theorem dX4_go_101 : decode cX4_go 101 = .ok (.getfield 104, 3) := dk_180 0 104 (dk_at dksX4_go_4 8 rfl rfl)
theorem dX4_go_104 : decode cX4_go 104 = .ok (.isub, 1) := dk_100 (dk_at dksX4_go_4 11 rfl rfl)
theorem dX4_go_105 : decode cX4_go 105 = .ok (.sipush 500, 3) := dk_17 1 244 (dk_at dksX4_go_4 12 rfl rfl)
theorem dX4_go_108 : decode cX4_go 108 = .ok (.idiv, 1) := dk_108 (dk_at dksX4_go_4 15 rfl rfl)
theorem dX4_go_109 : decode cX4_go 109 = .ok (.iload_n 3, 1) := dk_29 (dk_at dksX4_go_4 16 rfl rfl)
theorem dX4_go_110 : decode cX4_go 110 = .ok (.aload_n 0, 1) := dk_42 (dk_at dksX4_go_4 17 rfl rfl)
theorem dX4_go_111 : decode cX4_go 111 = .ok (.getfield 104, 3) := dk_180 0 104 (dk_at dksX4_go_4 18 rfl rfl)
theorem dX4_go_114 : decode cX4_go 114 = .ok (.isub, 1) := dk_100 (dk_at dksX4_go_4 21 rfl rfl)
theorem dX4_go_115 : decode cX4_go 115 = .ok (.sipush 500, 3) := dk_17 1 244 (dk_at dksX4_go_5 0 rfl rfl)
theorem dX4_go_118 : decode cX4_go 118 = .ok (.idiv, 1) := dk_108 (dk_at dksX4_go_5 3 rfl rfl)
theorem dX4_go_119 : decode cX4_go 119 = .ok (.isub, 1) := dk_100 (dk_at dksX4_go_5 4 rfl rfl)
theorem dX4_go_120 : decode cX4_go 120 = .ok (.istore 4, 2) := dk_54 4 (dk_at dksX4_go_5 5 rfl rfl)
theorem dX4_go_122 : decode cX4_go 122 = .ok (.iconst 0, 1) := dk_3 (dk_at dksX4_go_5 7 rfl rfl)
theorem dX4_go_123 : decode cX4_go 123 = .ok (.istore 5, 2) := dk_54 5 (dk_at dksX4_go_5 8 rfl rfl)
theorem dX4_go_125 : decode cX4_go 125 = .ok (.iload 5, 2) := dk_21 5 (dk_at dksX4_go_5 10 rfl rfl)
theorem dX4_go_127 : decode cX4_go 127 = .ok (.iload 4, 2) := dk_21 4 (dk_at dksX4_go_5 12 rfl rfl)
theorem dX4_go_129 : decode cX4_go 129 = .ok (.if_icmp .ge 34, 3) := dk_162 0 34 (dk_at dksX4_go_5 14 rfl rfl)
theorem dX4_go_132 : decode cX4_go 132 = .ok (.aload_n 0, 1) := dk_42 (dk_at dksX4_go_5 17 rfl rfl)
theorem dX4_go_133 : decode cX4_go 133 = .ok (.getfield 107, 3) := dk_180 0 107 (dk_at dksX4_go_5 18 rfl rfl)
theorem dX4_go_136 : decode cX4_go 136 = .ok (.ifCond .le 27, 3) := dk_158 0 27 (dk_at dksX4_go_5 21 rfl rfl)
theorem dX4_go_139 : decode cX4_go 139 = .ok (.aload_n 0, 1) := dk_42 (dk_at dksX4_go_6 0 rfl rfl)
theorem dX4_go_140 : decode cX4_go 140 = .ok (.dup, 1) := dk_89 (dk_at dksX4_go_6 1 rfl rfl)
theorem dX4_go_141 : decode cX4_go 141 = .ok (.getfield 107, 3) := dk_180 0 107 (dk_at dksX4_go_6 2 rfl rfl)
theorem dX4_go_144 : decode cX4_go 144 = .ok (.iconst 1, 1) := dk_4 (dk_at dksX4_go_6 5 rfl rfl)
theorem dX4_go_145 : decode cX4_go 145 = .ok (.aload_n 0, 1) := dk_42 (dk_at dksX4_go_6 6 rfl rfl)
theorem dX4_go_146 : decode cX4_go 146 = .ok (.getfield 107, 3) := dk_180 0 107 (dk_at dksX4_go_6 7 rfl rfl)
theorem dX4_go_149 : decode cX4_go 149 = .ok (.bipush 10, 2) := dk_16 10 (dk_at dksX4_go_6 10 rfl rfl)
theorem dX4_go_151 : decode cX4_go 151 = .ok (.idiv, 1) := dk_108 (dk_at dksX4_go_6 12 rfl rfl)
theorem dX4_go_152 : decode cX4_go 152 = .ok (.iadd, 1) := dk_96 (dk_at dksX4_go_6 13 rfl rfl)
theorem dX4_go_153 : decode cX4_go 153 = .ok (.iadd, 1) := dk_96 (dk_at dksX4_go_6 14 rfl rfl)
theorem dX4_go_154 : decode cX4_go 154 = .ok (.putfield 107, 3) := dk_181 0 107 (dk_at dksX4_go_6 15 rfl rfl)
theorem dX4_go_157 : decode cX4_go 157 = .ok (.iinc 5 1, 3) := dk_132 5 1 (dk_at dksX4_go_6 18 rfl rfl)
theorem dX4_go_160 : decode cX4_go 160 = .ok (.goto (-35), 3) := dk_167 255 221 (dk_at dksX4_go_6 21 rfl rfl)
theorem dX4_go_163 : decode cX4_go 163 = .ok (.iconst 0, 1) := dk_3 (dk_at dksX4_go_7 0 rfl rfl)
theorem dX4_go_164 : decode cX4_go 164 = .ok (.istore 5, 2) := dk_54 5 (dk_at dksX4_go_7 1 rfl rfl)
theorem dX4_go_166 : decode cX4_go 166 = .ok (.iload 5, 2) := dk_21 5 (dk_at dksX4_go_7 3 rfl rfl)
theorem dX4_go_168 : decode cX4_go 168 = .ok (.aload_n 0, 1) := dk_42 (dk_at dksX4_go_7 5 rfl rfl)
theorem dX4_go_169 : decode cX4_go 169 = .ok (.getfield 23, 3) := dk_180 0 23 (dk_at dksX4_go_7 6 rfl rfl)
theorem dX4_go_172 : decode cX4_go 172 = .ok (.invokevirtual 49, 3) := dk_182 0 49 (dk_at dksX4_go_7 9 rfl rfl)
theorem dX4_go_175 : decode cX4_go 175 = .ok (.if_icmp .ge 26, 3) := dk_162 0 26 (dk_at dksX4_go_7 12 rfl rfl)
theorem dX4_go_178 : decode cX4_go 178 = .ok (.aload_n 0, 1) := dk_42 (dk_at dksX4_go_7 15 rfl rfl)
theorem dX4_go_179 : decode cX4_go 179 = .ok (.getfield 23, 3) := dk_180 0 23 (dk_at dksX4_go_7 16 rfl rfl)
theorem dX4_go_182 : decode cX4_go 182 = .ok (.iload 5, 2) := dk_21 5 (dk_at dksX4_go_7 19 rfl rfl)
theorem dX4_go_184 : decode cX4_go 184 = .ok (.invokevirtual 53, 3) := dk_182 0 53 (dk_at dksX4_go_7 21 rfl rfl)
theorem dX4_go_187 : decode cX4_go 187 = .ok (.checkcast 15, 3) := dk_192 0 15 (dk_at dksX4_go_8 0 rfl rfl)
theorem dX4_go_190 : decode cX4_go 190 = .ok (.iload_n 1, 1) := dk_27 (dk_at dksX4_go_8 3 rfl rfl)
theorem dX4_go_191 : decode cX4_go 191 = .ok (.iload_n 2, 1) := dk_28 (dk_at dksX4_go_8 4 rfl rfl)
theorem dX4_go_192 : decode cX4_go 192 = .ok (.invokevirtual 110, 3) := dk_182 0 110 (dk_at dksX4_go_8 5 rfl rfl)
theorem dX4_go_195 : decode cX4_go 195 = .ok (.iinc 5 1, 3) := dk_132 5 1 (dk_at dksX4_go_8 8 rfl rfl)
theorem dX4_go_198 : decode cX4_go 198 = .ok (.goto (-32), 3) := dk_167 255 224 (dk_at dksX4_go_8 11 rfl rfl)
theorem dX4_go_201 : decode cX4_go 201 = .ok (.return_, 1) := dk_177 (dk_at dksX4_go_8 14 rfl rfl)
abbrev cX4_lacks : ByteArray := prog_6_method_8_code
def yX4_lacks : MethodName := ⟨RX4, "lacks", "()Z"⟩
def dkwX4_lacks_1 : List UInt8 := [167, 0, 4, 3, 128, 60, 132, 2, 1, 167, 255, 227, 27, 172]
abbrev dktX4_lacks_1 : List UInt8 := dkwX4_lacks_1 ++ []
def dkwX4_lacks_0 : List UInt8 := [3, 60, 3, 61, 28, 8, 162, 0, 30, 27, 42, 28, 182, 0, 72, 42, 28, 182, 0, 76, 162, 0, 7, 4]
abbrev dktX4_lacks_0 : List UInt8 := dkwX4_lacks_0 ++ dktX4_lacks_1
theorem dksX4_lacks_0 : cX4_lacks.data.toList.drop 0 = dktX4_lacks_0 := by decide +kernel
theorem dksX4_lacks_1 : cX4_lacks.data.toList.drop 24 = dktX4_lacks_1 := dk_seg dksX4_lacks_0 24 rfl rfl
theorem dX4_lacks_0 : decode cX4_lacks 0 = .ok (.iconst 0, 1) := dk_3 (dk_at dksX4_lacks_0 0 rfl rfl)
theorem dX4_lacks_1 : decode cX4_lacks 1 = .ok (.istore_n 1, 1) := dk_60 (dk_at dksX4_lacks_0 1 rfl rfl)
theorem dX4_lacks_2 : decode cX4_lacks 2 = .ok (.iconst 0, 1) := dk_3 (dk_at dksX4_lacks_0 2 rfl rfl)
theorem dX4_lacks_3 : decode cX4_lacks 3 = .ok (.istore_n 2, 1) := dk_61 (dk_at dksX4_lacks_0 3 rfl rfl)
theorem dX4_lacks_4 : decode cX4_lacks 4 = .ok (.iload_n 2, 1) := dk_28 (dk_at dksX4_lacks_0 4 rfl rfl)
theorem dX4_lacks_5 : decode cX4_lacks 5 = .ok (.iconst 5, 1) := dk_8 (dk_at dksX4_lacks_0 5 rfl rfl)
theorem dX4_lacks_6 : decode cX4_lacks 6 = .ok (.if_icmp .ge 30, 3) := dk_162 0 30 (dk_at dksX4_lacks_0 6 rfl rfl)
theorem dX4_lacks_9 : decode cX4_lacks 9 = .ok (.iload_n 1, 1) := dk_27 (dk_at dksX4_lacks_0 9 rfl rfl)
theorem dX4_lacks_10 : decode cX4_lacks 10 = .ok (.aload_n 0, 1) := dk_42 (dk_at dksX4_lacks_0 10 rfl rfl)
theorem dX4_lacks_11 : decode cX4_lacks 11 = .ok (.iload_n 2, 1) := dk_28 (dk_at dksX4_lacks_0 11 rfl rfl)
theorem dX4_lacks_12 : decode cX4_lacks 12 = .ok (.invokevirtual 72, 3) := dk_182 0 72 (dk_at dksX4_lacks_0 12 rfl rfl)
theorem dX4_lacks_15 : decode cX4_lacks 15 = .ok (.aload_n 0, 1) := dk_42 (dk_at dksX4_lacks_0 15 rfl rfl)
theorem dX4_lacks_16 : decode cX4_lacks 16 = .ok (.iload_n 2, 1) := dk_28 (dk_at dksX4_lacks_0 16 rfl rfl)
theorem dX4_lacks_17 : decode cX4_lacks 17 = .ok (.invokevirtual 76, 3) := dk_182 0 76 (dk_at dksX4_lacks_0 17 rfl rfl)
theorem dX4_lacks_20 : decode cX4_lacks 20 = .ok (.if_icmp .ge 7, 3) := dk_162 0 7 (dk_at dksX4_lacks_0 20 rfl rfl)
theorem dX4_lacks_23 : decode cX4_lacks 23 = .ok (.iconst 1, 1) := dk_4 (dk_at dksX4_lacks_0 23 rfl rfl)
theorem dX4_lacks_24 : decode cX4_lacks 24 = .ok (.goto 4, 3) := dk_167 0 4 (dk_at dksX4_lacks_1 0 rfl rfl)
theorem dX4_lacks_27 : decode cX4_lacks 27 = .ok (.iconst 0, 1) := dk_3 (dk_at dksX4_lacks_1 3 rfl rfl)
theorem dX4_lacks_28 : decode cX4_lacks 28 = .ok (.ior, 1) := dk_128 (dk_at dksX4_lacks_1 4 rfl rfl)
theorem dX4_lacks_29 : decode cX4_lacks 29 = .ok (.istore_n 1, 1) := dk_60 (dk_at dksX4_lacks_1 5 rfl rfl)
theorem dX4_lacks_30 : decode cX4_lacks 30 = .ok (.iinc 2 1, 3) := dk_132 2 1 (dk_at dksX4_lacks_1 6 rfl rfl)
theorem dX4_lacks_33 : decode cX4_lacks 33 = .ok (.goto (-29), 3) := dk_167 255 227 (dk_at dksX4_lacks_1 9 rfl rfl)
theorem dX4_lacks_36 : decode cX4_lacks 36 = .ok (.iload_n 1, 1) := dk_27 (dk_at dksX4_lacks_1 12 rfl rfl)
theorem dX4_lacks_37 : decode cX4_lacks 37 = .ok (.ireturn, 1) := dk_172 (dk_at dksX4_lacks_1 13 rfl rfl)
abbrev cX4_isWorn : ByteArray := prog_6_method_11_code
def yX4_isWorn : MethodName := ⟨RX4, "isWorn", "()Z"⟩
def dkwX4_isWorn_1 : List UInt8 := [17, 0, 250, 162, 0, 7, 4, 167, 0, 4, 3, 172]
abbrev dktX4_isWorn_1 : List UInt8 := dkwX4_isWorn_1 ++ []
def dkwX4_isWorn_0 : List UInt8 := [42, 180, 0, 40, 6, 160, 0, 27, 42, 180, 0, 27, 17, 33, 52, 161, 0, 13, 42, 180, 0, 31]
abbrev dktX4_isWorn_0 : List UInt8 := dkwX4_isWorn_0 ++ dktX4_isWorn_1
theorem dksX4_isWorn_0 : cX4_isWorn.data.toList.drop 0 = dktX4_isWorn_0 := by decide +kernel
theorem dksX4_isWorn_1 : cX4_isWorn.data.toList.drop 22 = dktX4_isWorn_1 := dk_seg dksX4_isWorn_0 22 rfl rfl
theorem dX4_isWorn_0 : decode cX4_isWorn 0 = .ok (.aload_n 0, 1) := dk_42 (dk_at dksX4_isWorn_0 0 rfl rfl)
theorem dX4_isWorn_1 : decode cX4_isWorn 1 = .ok (.getfield 40, 3) := dk_180 0 40 (dk_at dksX4_isWorn_0 1 rfl rfl)
theorem dX4_isWorn_4 : decode cX4_isWorn 4 = .ok (.iconst 3, 1) := dk_6 (dk_at dksX4_isWorn_0 4 rfl rfl)
theorem dX4_isWorn_5 : decode cX4_isWorn 5 = .ok (.if_icmp .ne 27, 3) := dk_160 0 27 (dk_at dksX4_isWorn_0 5 rfl rfl)
theorem dX4_isWorn_8 : decode cX4_isWorn 8 = .ok (.aload_n 0, 1) := dk_42 (dk_at dksX4_isWorn_0 8 rfl rfl)
theorem dX4_isWorn_9 : decode cX4_isWorn 9 = .ok (.getfield 27, 3) := dk_180 0 27 (dk_at dksX4_isWorn_0 9 rfl rfl)
theorem dX4_isWorn_12 : decode cX4_isWorn 12 = .ok (.sipush 8500, 3) := dk_17 33 52 (dk_at dksX4_isWorn_0 12 rfl rfl)
theorem dX4_isWorn_15 : decode cX4_isWorn 15 = .ok (.if_icmp .lt 13, 3) := dk_161 0 13 (dk_at dksX4_isWorn_0 15 rfl rfl)
theorem dX4_isWorn_18 : decode cX4_isWorn 18 = .ok (.aload_n 0, 1) := dk_42 (dk_at dksX4_isWorn_0 18 rfl rfl)
theorem dX4_isWorn_19 : decode cX4_isWorn 19 = .ok (.getfield 31, 3) := dk_180 0 31 (dk_at dksX4_isWorn_0 19 rfl rfl)
theorem dX4_isWorn_22 : decode cX4_isWorn 22 = .ok (.sipush 250, 3) := dk_17 0 250 (dk_at dksX4_isWorn_1 0 rfl rfl)
theorem dX4_isWorn_25 : decode cX4_isWorn 25 = .ok (.if_icmp .ge 7, 3) := dk_162 0 7 (dk_at dksX4_isWorn_1 3 rfl rfl)
theorem dX4_isWorn_28 : decode cX4_isWorn 28 = .ok (.iconst 1, 1) := dk_4 (dk_at dksX4_isWorn_1 6 rfl rfl)
theorem dX4_isWorn_29 : decode cX4_isWorn 29 = .ok (.goto 4, 3) := dk_167 0 4 (dk_at dksX4_isWorn_1 7 rfl rfl)
theorem dX4_isWorn_32 : decode cX4_isWorn 32 = .ok (.iconst 0, 1) := dk_3 (dk_at dksX4_isWorn_1 10 rfl rfl)
theorem dX4_isWorn_33 : decode cX4_isWorn 33 = .ok (.ireturn, 1) := dk_172 (dk_at dksX4_isWorn_1 11 rfl rfl)
abbrev cX4_isUnlike : ByteArray := prog_6_method_10_code
def yX4_isUnlike : MethodName := ⟨RX4, "isUnlike", "()Z"⟩
def dkwX4_isUnlike_2 : List UInt8 := [167, 0, 4, 3, 172]
abbrev dktX4_isUnlike_2 : List UInt8 := dkwX4_isUnlike_2 ++ []
def dkwX4_isUnlike_1 : List UInt8 := [167, 0, 5, 18, 94, 60, 42, 4, 182, 0, 82, 42, 3, 182, 0, 82, 100, 27, 164, 0, 7, 4]
abbrev dktX4_isUnlike_1 : List UInt8 := dkwX4_isUnlike_1 ++ dktX4_isUnlike_2
def dkwX4_isUnlike_0 : List UInt8 := [42, 180, 0, 40, 5, 160, 0, 8, 16, 20, 167, 0, 18, 42, 180, 0, 40, 4, 160, 0, 8, 16, 60]
abbrev dktX4_isUnlike_0 : List UInt8 := dkwX4_isUnlike_0 ++ dktX4_isUnlike_1
theorem dksX4_isUnlike_0 : cX4_isUnlike.data.toList.drop 0 = dktX4_isUnlike_0 := by decide +kernel
theorem dksX4_isUnlike_1 : cX4_isUnlike.data.toList.drop 23 = dktX4_isUnlike_1 := dk_seg dksX4_isUnlike_0 23 rfl rfl
theorem dksX4_isUnlike_2 : cX4_isUnlike.data.toList.drop 45 = dktX4_isUnlike_2 := dk_seg dksX4_isUnlike_1 22 rfl rfl
theorem dX4_isUnlike_0 : decode cX4_isUnlike 0 = .ok (.aload_n 0, 1) := dk_42 (dk_at dksX4_isUnlike_0 0 rfl rfl)
theorem dX4_isUnlike_1 : decode cX4_isUnlike 1 = .ok (.getfield 40, 3) := dk_180 0 40 (dk_at dksX4_isUnlike_0 1 rfl rfl)
theorem dX4_isUnlike_4 : decode cX4_isUnlike 4 = .ok (.iconst 2, 1) := dk_5 (dk_at dksX4_isUnlike_0 4 rfl rfl)
theorem dX4_isUnlike_5 : decode cX4_isUnlike 5 = .ok (.if_icmp .ne 8, 3) := dk_160 0 8 (dk_at dksX4_isUnlike_0 5 rfl rfl)
theorem dX4_isUnlike_8 : decode cX4_isUnlike 8 = .ok (.bipush 20, 2) := dk_16 20 (dk_at dksX4_isUnlike_0 8 rfl rfl)
theorem dX4_isUnlike_10 : decode cX4_isUnlike 10 = .ok (.goto 18, 3) := dk_167 0 18 (dk_at dksX4_isUnlike_0 10 rfl rfl)
theorem dX4_isUnlike_13 : decode cX4_isUnlike 13 = .ok (.aload_n 0, 1) := dk_42 (dk_at dksX4_isUnlike_0 13 rfl rfl)
theorem dX4_isUnlike_14 : decode cX4_isUnlike 14 = .ok (.getfield 40, 3) := dk_180 0 40 (dk_at dksX4_isUnlike_0 14 rfl rfl)
theorem dX4_isUnlike_17 : decode cX4_isUnlike 17 = .ok (.iconst 1, 1) := dk_4 (dk_at dksX4_isUnlike_0 17 rfl rfl)
theorem dX4_isUnlike_18 : decode cX4_isUnlike 18 = .ok (.if_icmp .ne 8, 3) := dk_160 0 8 (dk_at dksX4_isUnlike_0 18 rfl rfl)
theorem dX4_isUnlike_21 : decode cX4_isUnlike 21 = .ok (.bipush 60, 2) := dk_16 60 (dk_at dksX4_isUnlike_0 21 rfl rfl)
theorem dX4_isUnlike_23 : decode cX4_isUnlike 23 = .ok (.goto 5, 3) := dk_167 0 5 (dk_at dksX4_isUnlike_1 0 rfl rfl)
theorem dX4_isUnlike_26 : decode cX4_isUnlike 26 = .ok (.ldc 94, 2) := dk_18 94 (dk_at dksX4_isUnlike_1 3 rfl rfl)
theorem dX4_isUnlike_28 : decode cX4_isUnlike 28 = .ok (.istore_n 1, 1) := dk_60 (dk_at dksX4_isUnlike_1 5 rfl rfl)
theorem dX4_isUnlike_29 : decode cX4_isUnlike 29 = .ok (.aload_n 0, 1) := dk_42 (dk_at dksX4_isUnlike_1 6 rfl rfl)
theorem dX4_isUnlike_30 : decode cX4_isUnlike 30 = .ok (.iconst 1, 1) := dk_4 (dk_at dksX4_isUnlike_1 7 rfl rfl)
theorem dX4_isUnlike_31 : decode cX4_isUnlike 31 = .ok (.invokevirtual 82, 3) := dk_182 0 82 (dk_at dksX4_isUnlike_1 8 rfl rfl)
theorem dX4_isUnlike_34 : decode cX4_isUnlike 34 = .ok (.aload_n 0, 1) := dk_42 (dk_at dksX4_isUnlike_1 11 rfl rfl)
theorem dX4_isUnlike_35 : decode cX4_isUnlike 35 = .ok (.iconst 0, 1) := dk_3 (dk_at dksX4_isUnlike_1 12 rfl rfl)
theorem dX4_isUnlike_36 : decode cX4_isUnlike 36 = .ok (.invokevirtual 82, 3) := dk_182 0 82 (dk_at dksX4_isUnlike_1 13 rfl rfl)
theorem dX4_isUnlike_39 : decode cX4_isUnlike 39 = .ok (.isub, 1) := dk_100 (dk_at dksX4_isUnlike_1 16 rfl rfl)
theorem dX4_isUnlike_40 : decode cX4_isUnlike 40 = .ok (.iload_n 1, 1) := dk_27 (dk_at dksX4_isUnlike_1 17 rfl rfl)
theorem dX4_isUnlike_41 : decode cX4_isUnlike 41 = .ok (.if_icmp .le 7, 3) := dk_164 0 7 (dk_at dksX4_isUnlike_1 18 rfl rfl)
theorem dX4_isUnlike_44 : decode cX4_isUnlike 44 = .ok (.iconst 1, 1) := dk_4 (dk_at dksX4_isUnlike_1 21 rfl rfl)
theorem dX4_isUnlike_45 : decode cX4_isUnlike 45 = .ok (.goto 4, 3) := dk_167 0 4 (dk_at dksX4_isUnlike_2 0 rfl rfl)
theorem dX4_isUnlike_48 : decode cX4_isUnlike 48 = .ok (.iconst 0, 1) := dk_3 (dk_at dksX4_isUnlike_2 3 rfl rfl)
theorem dX4_isUnlike_49 : decode cX4_isUnlike 49 = .ok (.ireturn, 1) := dk_172 (dk_at dksX4_isUnlike_2 4 rfl rfl)
abbrev cX4_diameter : ByteArray := prog_6_method_9_code
def yX4_diameter : MethodName := ⟨RX4, "diameter", "(Z)I"⟩
def dkwX4_diameter_4 : List UInt8 := [184, 0, 91, 61, 132, 3, 1, 167, 255, 183, 28, 172]
abbrev dktX4_diameter_4 : List UInt8 := dkwX4_diameter_4 ++ []
def dkwX4_diameter_3 : List UInt8 := [160, 0, 7, 28, 167, 0, 22, 27, 153, 0, 12, 28, 21, 4, 184, 0, 85, 167, 0, 9, 28, 21, 4]
abbrev dktX4_diameter_3 : List UInt8 := dkwX4_diameter_3 ++ dktX4_diameter_4
def dkwX4_diameter_2 : List UInt8 := [192, 0, 15, 27, 182, 0, 82, 54, 4, 42, 180, 0, 23, 29, 182, 0, 53, 192, 0, 15, 180, 0, 40, 7]
abbrev dktX4_diameter_2 : List UInt8 := dkwX4_diameter_2 ++ dktX4_diameter_3
def dkwX4_diameter_1 : List UInt8 := [18, 81, 61, 3, 62, 29, 42, 180, 0, 23, 182, 0, 49, 162, 0, 68, 42, 180, 0, 23, 29, 182, 0, 53]
abbrev dktX4_diameter_1 : List UInt8 := dkwX4_diameter_1 ++ dktX4_diameter_2
def dkwX4_diameter_0 : List UInt8 := [42, 180, 0, 40, 6, 160, 0, 10, 42, 180, 0, 27, 167, 0, 13, 27, 153, 0, 7, 3, 167, 0, 5]
abbrev dktX4_diameter_0 : List UInt8 := dkwX4_diameter_0 ++ dktX4_diameter_1
theorem dksX4_diameter_0 : cX4_diameter.data.toList.drop 0 = dktX4_diameter_0 := by decide +kernel
theorem dksX4_diameter_1 : cX4_diameter.data.toList.drop 23 = dktX4_diameter_1 := dk_seg dksX4_diameter_0 23 rfl rfl
theorem dksX4_diameter_2 : cX4_diameter.data.toList.drop 47 = dktX4_diameter_2 := dk_seg dksX4_diameter_1 24 rfl rfl
theorem dksX4_diameter_3 : cX4_diameter.data.toList.drop 71 = dktX4_diameter_3 := dk_seg dksX4_diameter_2 24 rfl rfl
theorem dksX4_diameter_4 : cX4_diameter.data.toList.drop 94 = dktX4_diameter_4 := dk_seg dksX4_diameter_3 23 rfl rfl
theorem dX4_diameter_0 : decode cX4_diameter 0 = .ok (.aload_n 0, 1) := dk_42 (dk_at dksX4_diameter_0 0 rfl rfl)
theorem dX4_diameter_1 : decode cX4_diameter 1 = .ok (.getfield 40, 3) := dk_180 0 40 (dk_at dksX4_diameter_0 1 rfl rfl)
theorem dX4_diameter_4 : decode cX4_diameter 4 = .ok (.iconst 3, 1) := dk_6 (dk_at dksX4_diameter_0 4 rfl rfl)
theorem dX4_diameter_5 : decode cX4_diameter 5 = .ok (.if_icmp .ne 10, 3) := dk_160 0 10 (dk_at dksX4_diameter_0 5 rfl rfl)
theorem dX4_diameter_8 : decode cX4_diameter 8 = .ok (.aload_n 0, 1) := dk_42 (dk_at dksX4_diameter_0 8 rfl rfl)
theorem dX4_diameter_9 : decode cX4_diameter 9 = .ok (.getfield 27, 3) := dk_180 0 27 (dk_at dksX4_diameter_0 9 rfl rfl)
theorem dX4_diameter_12 : decode cX4_diameter 12 = .ok (.goto 13, 3) := dk_167 0 13 (dk_at dksX4_diameter_0 12 rfl rfl)
theorem dX4_diameter_15 : decode cX4_diameter 15 = .ok (.iload_n 1, 1) := dk_27 (dk_at dksX4_diameter_0 15 rfl rfl)
theorem dX4_diameter_16 : decode cX4_diameter 16 = .ok (.ifCond .eq 7, 3) := dk_153 0 7 (dk_at dksX4_diameter_0 16 rfl rfl)
theorem dX4_diameter_19 : decode cX4_diameter 19 = .ok (.iconst 0, 1) := dk_3 (dk_at dksX4_diameter_0 19 rfl rfl)
theorem dX4_diameter_20 : decode cX4_diameter 20 = .ok (.goto 5, 3) := dk_167 0 5 (dk_at dksX4_diameter_0 20 rfl rfl)
theorem dX4_diameter_23 : decode cX4_diameter 23 = .ok (.ldc 81, 2) := dk_18 81 (dk_at dksX4_diameter_1 0 rfl rfl)
theorem dX4_diameter_25 : decode cX4_diameter 25 = .ok (.istore_n 2, 1) := dk_61 (dk_at dksX4_diameter_1 2 rfl rfl)
theorem dX4_diameter_26 : decode cX4_diameter 26 = .ok (.iconst 0, 1) := dk_3 (dk_at dksX4_diameter_1 3 rfl rfl)
theorem dX4_diameter_27 : decode cX4_diameter 27 = .ok (.istore_n 3, 1) := dk_62 (dk_at dksX4_diameter_1 4 rfl rfl)
theorem dX4_diameter_28 : decode cX4_diameter 28 = .ok (.iload_n 3, 1) := dk_29 (dk_at dksX4_diameter_1 5 rfl rfl)
theorem dX4_diameter_29 : decode cX4_diameter 29 = .ok (.aload_n 0, 1) := dk_42 (dk_at dksX4_diameter_1 6 rfl rfl)
theorem dX4_diameter_30 : decode cX4_diameter 30 = .ok (.getfield 23, 3) := dk_180 0 23 (dk_at dksX4_diameter_1 7 rfl rfl)
theorem dX4_diameter_33 : decode cX4_diameter 33 = .ok (.invokevirtual 49, 3) := dk_182 0 49 (dk_at dksX4_diameter_1 10 rfl rfl)
theorem dX4_diameter_36 : decode cX4_diameter 36 = .ok (.if_icmp .ge 68, 3) := dk_162 0 68 (dk_at dksX4_diameter_1 13 rfl rfl)
theorem dX4_diameter_39 : decode cX4_diameter 39 = .ok (.aload_n 0, 1) := dk_42 (dk_at dksX4_diameter_1 16 rfl rfl)
theorem dX4_diameter_40 : decode cX4_diameter 40 = .ok (.getfield 23, 3) := dk_180 0 23 (dk_at dksX4_diameter_1 17 rfl rfl)
theorem dX4_diameter_43 : decode cX4_diameter 43 = .ok (.iload_n 3, 1) := dk_29 (dk_at dksX4_diameter_1 20 rfl rfl)
theorem dX4_diameter_44 : decode cX4_diameter 44 = .ok (.invokevirtual 53, 3) := dk_182 0 53 (dk_at dksX4_diameter_1 21 rfl rfl)
theorem dX4_diameter_47 : decode cX4_diameter 47 = .ok (.checkcast 15, 3) := dk_192 0 15 (dk_at dksX4_diameter_2 0 rfl rfl)
theorem dX4_diameter_50 : decode cX4_diameter 50 = .ok (.iload_n 1, 1) := dk_27 (dk_at dksX4_diameter_2 3 rfl rfl)
theorem dX4_diameter_51 : decode cX4_diameter 51 = .ok (.invokevirtual 82, 3) := dk_182 0 82 (dk_at dksX4_diameter_2 4 rfl rfl)
theorem dX4_diameter_54 : decode cX4_diameter 54 = .ok (.istore 4, 2) := dk_54 4 (dk_at dksX4_diameter_2 7 rfl rfl)
theorem dX4_diameter_56 : decode cX4_diameter 56 = .ok (.aload_n 0, 1) := dk_42 (dk_at dksX4_diameter_2 9 rfl rfl)
theorem dX4_diameter_57 : decode cX4_diameter 57 = .ok (.getfield 23, 3) := dk_180 0 23 (dk_at dksX4_diameter_2 10 rfl rfl)
theorem dX4_diameter_60 : decode cX4_diameter 60 = .ok (.iload_n 3, 1) := dk_29 (dk_at dksX4_diameter_2 13 rfl rfl)
theorem dX4_diameter_61 : decode cX4_diameter 61 = .ok (.invokevirtual 53, 3) := dk_182 0 53 (dk_at dksX4_diameter_2 14 rfl rfl)
theorem dX4_diameter_64 : decode cX4_diameter 64 = .ok (.checkcast 15, 3) := dk_192 0 15 (dk_at dksX4_diameter_2 17 rfl rfl)
theorem dX4_diameter_67 : decode cX4_diameter 67 = .ok (.getfield 40, 3) := dk_180 0 40 (dk_at dksX4_diameter_2 20 rfl rfl)
theorem dX4_diameter_70 : decode cX4_diameter 70 = .ok (.iconst 4, 1) := dk_7 (dk_at dksX4_diameter_2 23 rfl rfl)
theorem dX4_diameter_71 : decode cX4_diameter 71 = .ok (.if_icmp .ne 7, 3) := dk_160 0 7 (dk_at dksX4_diameter_3 0 rfl rfl)
theorem dX4_diameter_74 : decode cX4_diameter 74 = .ok (.iload_n 2, 1) := dk_28 (dk_at dksX4_diameter_3 3 rfl rfl)
theorem dX4_diameter_75 : decode cX4_diameter 75 = .ok (.goto 22, 3) := dk_167 0 22 (dk_at dksX4_diameter_3 4 rfl rfl)
theorem dX4_diameter_78 : decode cX4_diameter 78 = .ok (.iload_n 1, 1) := dk_27 (dk_at dksX4_diameter_3 7 rfl rfl)
theorem dX4_diameter_79 : decode cX4_diameter 79 = .ok (.ifCond .eq 12, 3) := dk_153 0 12 (dk_at dksX4_diameter_3 8 rfl rfl)
theorem dX4_diameter_82 : decode cX4_diameter 82 = .ok (.iload_n 2, 1) := dk_28 (dk_at dksX4_diameter_3 11 rfl rfl)
theorem dX4_diameter_83 : decode cX4_diameter 83 = .ok (.iload 4, 2) := dk_21 4 (dk_at dksX4_diameter_3 12 rfl rfl)
theorem dX4_diameter_85 : decode cX4_diameter 85 = .ok (.invokestatic 85, 3) := dk_184 0 85 (dk_at dksX4_diameter_3 14 rfl rfl)
theorem dX4_diameter_88 : decode cX4_diameter 88 = .ok (.goto 9, 3) := dk_167 0 9 (dk_at dksX4_diameter_3 17 rfl rfl)
theorem dX4_diameter_91 : decode cX4_diameter 91 = .ok (.iload_n 2, 1) := dk_28 (dk_at dksX4_diameter_3 20 rfl rfl)
theorem dX4_diameter_92 : decode cX4_diameter 92 = .ok (.iload 4, 2) := dk_21 4 (dk_at dksX4_diameter_3 21 rfl rfl)
theorem dX4_diameter_94 : decode cX4_diameter 94 = .ok (.invokestatic 91, 3) := dk_184 0 91 (dk_at dksX4_diameter_4 0 rfl rfl)
theorem dX4_diameter_97 : decode cX4_diameter 97 = .ok (.istore_n 2, 1) := dk_61 (dk_at dksX4_diameter_4 3 rfl rfl)
theorem dX4_diameter_98 : decode cX4_diameter 98 = .ok (.iinc 3 1, 3) := dk_132 3 1 (dk_at dksX4_diameter_4 4 rfl rfl)
theorem dX4_diameter_101 : decode cX4_diameter 101 = .ok (.goto (-73), 3) := dk_167 255 183 (dk_at dksX4_diameter_4 7 rfl rfl)
theorem dX4_diameter_104 : decode cX4_diameter 104 = .ok (.iload_n 2, 1) := dk_28 (dk_at dksX4_diameter_4 10 rfl rfl)
theorem dX4_diameter_105 : decode cX4_diameter 105 = .ok (.ireturn, 1) := dk_172 (dk_at dksX4_diameter_4 11 rfl rfl)
abbrev cX4_quarantineAll : ByteArray := prog_6_method_14_code
def yX4_quarantineAll : MethodName := ⟨RX4, "quarantineAll", "()V"⟩
def dkwX4_quarantineAll_1 : List UInt8 := [182, 0, 53, 192, 0, 15, 182, 0, 123, 132, 1, 1, 167, 255, 228, 177]
abbrev dktX4_quarantineAll_1 : List UInt8 := dkwX4_quarantineAll_1 ++ []
def dkwX4_quarantineAll_0 : List UInt8 := [42, 182, 0, 120, 3, 60, 27, 42, 180, 0, 23, 182, 0, 49, 162, 0, 23, 42, 180, 0, 23, 27]
abbrev dktX4_quarantineAll_0 : List UInt8 := dkwX4_quarantineAll_0 ++ dktX4_quarantineAll_1
theorem dksX4_quarantineAll_0 : cX4_quarantineAll.data.toList.drop 0 = dktX4_quarantineAll_0 := by decide +kernel
theorem dksX4_quarantineAll_1 : cX4_quarantineAll.data.toList.drop 22 = dktX4_quarantineAll_1 := dk_seg dksX4_quarantineAll_0 22 rfl rfl
theorem dX4_quarantineAll_0 : decode cX4_quarantineAll 0 = .ok (.aload_n 0, 1) := dk_42 (dk_at dksX4_quarantineAll_0 0 rfl rfl)
theorem dX4_quarantineAll_1 : decode cX4_quarantineAll 1 = .ok (.invokevirtual 120, 3) := dk_182 0 120 (dk_at dksX4_quarantineAll_0 1 rfl rfl)
theorem dX4_quarantineAll_4 : decode cX4_quarantineAll 4 = .ok (.iconst 0, 1) := dk_3 (dk_at dksX4_quarantineAll_0 4 rfl rfl)
theorem dX4_quarantineAll_5 : decode cX4_quarantineAll 5 = .ok (.istore_n 1, 1) := dk_60 (dk_at dksX4_quarantineAll_0 5 rfl rfl)
theorem dX4_quarantineAll_6 : decode cX4_quarantineAll 6 = .ok (.iload_n 1, 1) := dk_27 (dk_at dksX4_quarantineAll_0 6 rfl rfl)
theorem dX4_quarantineAll_7 : decode cX4_quarantineAll 7 = .ok (.aload_n 0, 1) := dk_42 (dk_at dksX4_quarantineAll_0 7 rfl rfl)
theorem dX4_quarantineAll_8 : decode cX4_quarantineAll 8 = .ok (.getfield 23, 3) := dk_180 0 23 (dk_at dksX4_quarantineAll_0 8 rfl rfl)
theorem dX4_quarantineAll_11 : decode cX4_quarantineAll 11 = .ok (.invokevirtual 49, 3) := dk_182 0 49 (dk_at dksX4_quarantineAll_0 11 rfl rfl)
theorem dX4_quarantineAll_14 : decode cX4_quarantineAll 14 = .ok (.if_icmp .ge 23, 3) := dk_162 0 23 (dk_at dksX4_quarantineAll_0 14 rfl rfl)
theorem dX4_quarantineAll_17 : decode cX4_quarantineAll 17 = .ok (.aload_n 0, 1) := dk_42 (dk_at dksX4_quarantineAll_0 17 rfl rfl)
theorem dX4_quarantineAll_18 : decode cX4_quarantineAll 18 = .ok (.getfield 23, 3) := dk_180 0 23 (dk_at dksX4_quarantineAll_0 18 rfl rfl)
theorem dX4_quarantineAll_21 : decode cX4_quarantineAll 21 = .ok (.iload_n 1, 1) := dk_27 (dk_at dksX4_quarantineAll_0 21 rfl rfl)
theorem dX4_quarantineAll_22 : decode cX4_quarantineAll 22 = .ok (.invokevirtual 53, 3) := dk_182 0 53 (dk_at dksX4_quarantineAll_1 0 rfl rfl)
theorem dX4_quarantineAll_25 : decode cX4_quarantineAll 25 = .ok (.checkcast 15, 3) := dk_192 0 15 (dk_at dksX4_quarantineAll_1 3 rfl rfl)
theorem dX4_quarantineAll_28 : decode cX4_quarantineAll 28 = .ok (.invokevirtual 123, 3) := dk_182 0 123 (dk_at dksX4_quarantineAll_1 6 rfl rfl)
theorem dX4_quarantineAll_31 : decode cX4_quarantineAll 31 = .ok (.iinc 1 1, 3) := dk_132 1 1 (dk_at dksX4_quarantineAll_1 9 rfl rfl)
theorem dX4_quarantineAll_34 : decode cX4_quarantineAll 34 = .ok (.goto (-28), 3) := dk_167 255 228 (dk_at dksX4_quarantineAll_1 12 rfl rfl)
theorem dX4_quarantineAll_37 : decode cX4_quarantineAll 37 = .ok (.return_, 1) := dk_177 (dk_at dksX4_quarantineAll_1 15 rfl rfl)
abbrev cX4_quarantine : ByteArray := prog_6_method_13_code
def yX4_quarantine : MethodName := ⟨RX4, "quarantine", "()V"⟩
def dkwX4_quarantine_0 : List UInt8 := [42, 4, 181, 0, 114, 42, 182, 0, 61, 3, 181, 0, 117, 177]
abbrev dktX4_quarantine_0 : List UInt8 := dkwX4_quarantine_0 ++ []
theorem dksX4_quarantine_0 : cX4_quarantine.data.toList.drop 0 = dktX4_quarantine_0 := by decide +kernel
theorem dX4_quarantine_0 : decode cX4_quarantine 0 = .ok (.aload_n 0, 1) := dk_42 (dk_at dksX4_quarantine_0 0 rfl rfl)
theorem dX4_quarantine_1 : decode cX4_quarantine 1 = .ok (.iconst 1, 1) := dk_4 (dk_at dksX4_quarantine_0 1 rfl rfl)
theorem dX4_quarantine_2 : decode cX4_quarantine 2 = .ok (.putfield 114, 3) := dk_181 0 114 (dk_at dksX4_quarantine_0 2 rfl rfl)
theorem dX4_quarantine_5 : decode cX4_quarantine 5 = .ok (.aload_n 0, 1) := dk_42 (dk_at dksX4_quarantine_0 5 rfl rfl)
theorem dX4_quarantine_6 : decode cX4_quarantine 6 = .ok (.invokevirtual 61, 3) := dk_182 0 61 (dk_at dksX4_quarantine_0 6 rfl rfl)
theorem dX4_quarantine_9 : decode cX4_quarantine 9 = .ok (.iconst 0, 1) := dk_3 (dk_at dksX4_quarantine_0 9 rfl rfl)
theorem dX4_quarantine_10 : decode cX4_quarantine 10 = .ok (.putfield 117, 3) := dk_181 0 117 (dk_at dksX4_quarantine_0 10 rfl rfl)
theorem dX4_quarantine_13 : decode cX4_quarantine 13 = .ok (.return_, 1) := dk_177 (dk_at dksX4_quarantine_0 13 rfl rfl)
abbrev cX4_turn : ByteArray := prog_6_method_15_code
def yX4_turn : MethodName := ⟨RX4, "turn", "()I"⟩
def dkwX4_turn_1 : List UInt8 := [17, 1, 44, 181, 0, 31, 27, 172]
abbrev dktX4_turn_1 : List UInt8 := dkwX4_turn_1 ++ []
def dkwX4_turn_0 : List UInt8 := [5, 17, 1, 44, 42, 180, 0, 31, 100, 104, 60, 42, 89, 180, 0, 27, 27, 100, 181, 0, 27, 42]
abbrev dktX4_turn_0 : List UInt8 := dkwX4_turn_0 ++ dktX4_turn_1
theorem dksX4_turn_0 : cX4_turn.data.toList.drop 0 = dktX4_turn_0 := by decide +kernel
theorem dksX4_turn_1 : cX4_turn.data.toList.drop 22 = dktX4_turn_1 := dk_seg dksX4_turn_0 22 rfl rfl
theorem dX4_turn_0 : decode cX4_turn 0 = .ok (.iconst 2, 1) := dk_5 (dk_at dksX4_turn_0 0 rfl rfl)
theorem dX4_turn_1 : decode cX4_turn 1 = .ok (.sipush 300, 3) := dk_17 1 44 (dk_at dksX4_turn_0 1 rfl rfl)
theorem dX4_turn_4 : decode cX4_turn 4 = .ok (.aload_n 0, 1) := dk_42 (dk_at dksX4_turn_0 4 rfl rfl)
theorem dX4_turn_5 : decode cX4_turn 5 = .ok (.getfield 31, 3) := dk_180 0 31 (dk_at dksX4_turn_0 5 rfl rfl)
theorem dX4_turn_8 : decode cX4_turn 8 = .ok (.isub, 1) := dk_100 (dk_at dksX4_turn_0 8 rfl rfl)
theorem dX4_turn_9 : decode cX4_turn 9 = .ok (.imul, 1) := dk_104 (dk_at dksX4_turn_0 9 rfl rfl)
theorem dX4_turn_10 : decode cX4_turn 10 = .ok (.istore_n 1, 1) := dk_60 (dk_at dksX4_turn_0 10 rfl rfl)
theorem dX4_turn_11 : decode cX4_turn 11 = .ok (.aload_n 0, 1) := dk_42 (dk_at dksX4_turn_0 11 rfl rfl)
theorem dX4_turn_12 : decode cX4_turn 12 = .ok (.dup, 1) := dk_89 (dk_at dksX4_turn_0 12 rfl rfl)
theorem dX4_turn_13 : decode cX4_turn 13 = .ok (.getfield 27, 3) := dk_180 0 27 (dk_at dksX4_turn_0 13 rfl rfl)
theorem dX4_turn_16 : decode cX4_turn 16 = .ok (.iload_n 1, 1) := dk_27 (dk_at dksX4_turn_0 16 rfl rfl)
theorem dX4_turn_17 : decode cX4_turn 17 = .ok (.isub, 1) := dk_100 (dk_at dksX4_turn_0 17 rfl rfl)
theorem dX4_turn_18 : decode cX4_turn 18 = .ok (.putfield 27, 3) := dk_181 0 27 (dk_at dksX4_turn_0 18 rfl rfl)
theorem dX4_turn_21 : decode cX4_turn 21 = .ok (.aload_n 0, 1) := dk_42 (dk_at dksX4_turn_0 21 rfl rfl)
theorem dX4_turn_22 : decode cX4_turn 22 = .ok (.sipush 300, 3) := dk_17 1 44 (dk_at dksX4_turn_1 0 rfl rfl)
theorem dX4_turn_25 : decode cX4_turn 25 = .ok (.putfield 31, 3) := dk_181 0 31 (dk_at dksX4_turn_1 3 rfl rfl)
theorem dX4_turn_28 : decode cX4_turn 28 = .ok (.iload_n 1, 1) := dk_27 (dk_at dksX4_turn_1 6 rfl rfl)
theorem dX4_turn_29 : decode cX4_turn 29 = .ok (.ireturn, 1) := dk_172 (dk_at dksX4_turn_1 7 rfl rfl)
theorem q54 : (Jvm.Cond.initialized "WheelWorks$Part") ∈ lw_all := lw_g (lw_at lw_m1 16 rfl) rfl
theorem q151 : (Jvm.Cond.selects "WheelWorks$Part" ({ cls := "java/lang/Object", name := "getClass", desc := "()Ljava/lang/Class;" } : Jvm.MethodName) ({ cls := "java/lang/Object", name := "getClass", desc := "()Ljava/lang/Class;" } : Jvm.MethodName)) ∈ lw_all := lw_g (lw_at lw_m1 113 rfl) rfl
theorem q357 : (Jvm.Cond.instantiable "WheelWorks$Part" (20 : Nat)) ∈ lw_all := lw_g (lw_at lw_m2 79 rfl) rfl
theorem q359 : (Jvm.Cond.instanceMethod ({ cls := "WheelWorks$Part", name := "<init>", desc := "(IIII)V" } : Jvm.MethodName)) ∈ lw_all := lw_g (lw_at lw_m2 81 rfl) rfl
theorem q360 : (Jvm.Cond.code ({ cls := "WheelWorks$Part", name := "<init>", desc := "(IIII)V" } : Jvm.MethodName) prog_6_method_1_code (5 : Nat) (Option.none : Option Jvm.ClassFile.FieldType)) ∈ lw_all := lw_g (lw_at lw_m2 82 rfl) rfl
theorem q361 : (Jvm.Cond.methodLink "WheelWorks$Part" (3 : Nat) ({ cls := "java/lang/Object", name := "<init>", desc := "()V" } : Jvm.MethodName)) ∈ lw_all := lw_g (lw_at lw_m2 83 rfl) rfl
theorem q362 : (Jvm.Cond.classLink "WheelWorks$Part" (9 : Nat) "WheelWorks$Trail") ∈ lw_all := lw_g (lw_at lw_m2 84 rfl) rfl
theorem q364 : (Jvm.Cond.methodLink "WheelWorks$Part" (11 : Nat) ({ cls := "WheelWorks$Trail", name := "<init>", desc := "(Ljava/lang/Object;)V" } : Jvm.MethodName)) ∈ lw_all := lw_g (lw_at lw_m2 86 rfl) rfl
theorem q373 : (Jvm.Cond.fieldLinkNest "WheelWorks$Part" (57 : Nat) "WheelWorks$Trail" "now" "Ljava/lang/Object;" "WheelWorks") ∈ lw_tbl := lw_at lw_m2 95 rfl
theorem q380 : (Jvm.Cond.classLink "WheelWorks$Part" (20 : Nat) "java/util/ArrayList") ∈ lw_all := lw_g (lw_at lw_m2 102 rfl) rfl
theorem q381 : (Jvm.Cond.methodLink "WheelWorks$Part" (22 : Nat) ({ cls := "java/util/ArrayList", name := "<init>", desc := "()V" } : Jvm.MethodName)) ∈ lw_all := lw_g (lw_at lw_m2 103 rfl) rfl
theorem q382 : (Jvm.Cond.fieldLink "WheelWorks$Part" (37 : Nat) "WheelWorks$Part" "number" "I") ∈ lw_all := lw_g (lw_at lw_m2 104 rfl) rfl
theorem q384 : (Jvm.Cond.fieldLink "WheelWorks$Part" (40 : Nat) "WheelWorks$Part" "kind" "I") ∈ lw_all := lw_g (lw_at lw_m2 106 rfl) rfl
theorem q386 : (Jvm.Cond.fieldLink "WheelWorks$Part" (43 : Nat) "WheelWorks$Part" "melt" "I") ∈ lw_all := lw_g (lw_at lw_m2 108 rfl) rfl
theorem q388 : (Jvm.Cond.fieldLink "WheelWorks$Part" (46 : Nat) "WheelWorks$Part" "mod" "I") ∈ lw_all := lw_g (lw_at lw_m2 110 rfl) rfl
theorem q390 : (Jvm.Cond.fieldLink "WheelWorks$Part" (14 : Nat) "WheelWorks$Part" "hosts" "LWheelWorks$Trail;") ∈ lw_all := lw_g (lw_at lw_m2 112 rfl) rfl
theorem q392 : (Jvm.Cond.fieldLink "WheelWorks$Part" (23 : Nat) "WheelWorks$Part" "parts" "Ljava/util/ArrayList;") ∈ lw_all := lw_g (lw_at lw_m2 114 rfl) rfl
theorem q394 : (Jvm.Cond.fieldLink "WheelWorks$Part" (69 : Nat) "WheelWorks$Part" "isScrapped" "Z") ∈ lw_all := lw_g (lw_at lw_m2 116 rfl) rfl
theorem q396 : (Jvm.Cond.fieldLink "WheelWorks$Part" (95 : Nat) "WheelWorks$Part" "life" "I") ∈ lw_all := lw_g (lw_at lw_m2 118 rfl) rfl
theorem q398 : (Jvm.Cond.fieldLink "WheelWorks$Part" (98 : Nat) "WheelWorks$Part" "since" "I") ∈ lw_all := lw_g (lw_at lw_m2 120 rfl) rfl
theorem q402 : (Jvm.Cond.fieldLink "WheelWorks$Part" (114 : Nat) "WheelWorks$Part" "isQuarantined" "Z") ∈ lw_all := lw_g (lw_at lw_m2 124 rfl) rfl
theorem q405 : (Jvm.Cond.fieldLink "WheelWorks$Part" (107 : Nat) "WheelWorks$Part" "flaw" "I") ∈ lw_all := lw_g (lw_at lw_m2 127 rfl) rfl
theorem q407 : (Jvm.Cond.fieldLink "WheelWorks$Part" (104 : Nat) "WheelWorks$Part" "flawLife" "I") ∈ lw_all := lw_g (lw_at lw_m2 129 rfl) rfl
theorem q409 : (Jvm.Cond.fieldLink "WheelWorks$Part" (27 : Nat) "WheelWorks$Part" "diameter" "I") ∈ lw_all := lw_g (lw_at lw_m2 131 rfl) rfl
theorem q411 : (Jvm.Cond.fieldLink "WheelWorks$Part" (31 : Nat) "WheelWorks$Part" "flange" "I") ∈ lw_all := lw_g (lw_at lw_m2 133 rfl) rfl
theorem q413 : (Jvm.Cond.fieldLink "WheelWorks$Part" (101 : Nat) "WheelWorks$Part" "rubbed" "I") ∈ lw_all := lw_g (lw_at lw_m2 135 rfl) rfl
theorem q414 : (Jvm.Cond.fieldLink "WheelWorks$Part" (34 : Nat) "WheelWorks$Part" "gate" "I") ∈ lw_all := lw_g (lw_at lw_m2 136 rfl) rfl
theorem q417 : (Jvm.Cond.fieldLink "WheelWorks$Part" (117 : Nat) "WheelWorks$Part" "isReleased" "Z") ∈ lw_all := lw_g (lw_at lw_m2 139 rfl) rfl
theorem q418 : (Jvm.Cond.fieldLink "WheelWorks$Part" (65 : Nat) "WheelWorks$Part" "stands" "Z") ∈ lw_all := lw_g (lw_at lw_m2 140 rfl) rfl
theorem q420 : (Jvm.Cond.laysFinal "WheelWorks$Part" "WheelWorks$Part" "number" "I") ∈ lw_all := lw_g (lw_at lw_m2 142 rfl) rfl
theorem q421 : (Jvm.Cond.soleField "WheelWorks$Part" "number") ∈ lw_all := lw_g (lw_at lw_m2 143 rfl) rfl
theorem q422 : (Jvm.Cond.laysFinal "WheelWorks$Part" "WheelWorks$Part" "kind" "I") ∈ lw_all := lw_g (lw_at lw_m2 144 rfl) rfl
theorem q423 : (Jvm.Cond.soleField "WheelWorks$Part" "kind") ∈ lw_all := lw_g (lw_at lw_m2 145 rfl) rfl
theorem q424 : (Jvm.Cond.laysFinal "WheelWorks$Part" "WheelWorks$Part" "melt" "I") ∈ lw_all := lw_g (lw_at lw_m2 146 rfl) rfl
theorem q425 : (Jvm.Cond.soleField "WheelWorks$Part" "melt") ∈ lw_all := lw_g (lw_at lw_m2 147 rfl) rfl
theorem q426 : (Jvm.Cond.laysFinal "WheelWorks$Part" "WheelWorks$Part" "mod" "I") ∈ lw_all := lw_g (lw_at lw_m2 148 rfl) rfl
theorem q427 : (Jvm.Cond.soleField "WheelWorks$Part" "mod") ∈ lw_all := lw_g (lw_at lw_m2 149 rfl) rfl
theorem q428 : (Jvm.Cond.laysFinal "WheelWorks$Part" "WheelWorks$Part" "hosts" "LWheelWorks$Trail;") ∈ lw_all := lw_g (lw_at lw_m2 150 rfl) rfl
theorem q429 : (Jvm.Cond.soleField "WheelWorks$Part" "hosts") ∈ lw_all := lw_g (lw_at lw_m2 151 rfl) rfl
theorem q430 : (Jvm.Cond.laysFinal "WheelWorks$Part" "WheelWorks$Part" "parts" "Ljava/util/ArrayList;") ∈ lw_all := lw_g (lw_at lw_m2 152 rfl) rfl
theorem q431 : (Jvm.Cond.soleField "WheelWorks$Part" "parts") ∈ lw_all := lw_g (lw_at lw_m2 153 rfl) rfl
theorem q432 : (Jvm.Cond.lays "WheelWorks$Part" "WheelWorks$Part" "isScrapped" "Z") ∈ lw_all := lw_g (lw_at lw_m2 154 rfl) rfl
theorem q433 : (Jvm.Cond.soleField "WheelWorks$Part" "isScrapped") ∈ lw_all := lw_g (lw_at lw_m2 155 rfl) rfl
theorem q434 : (Jvm.Cond.lays "WheelWorks$Part" "WheelWorks$Part" "life" "I") ∈ lw_all := lw_g (lw_at lw_m2 156 rfl) rfl
theorem q435 : (Jvm.Cond.soleField "WheelWorks$Part" "life") ∈ lw_all := lw_g (lw_at lw_m2 157 rfl) rfl
theorem q436 : (Jvm.Cond.lays "WheelWorks$Part" "WheelWorks$Part" "since" "I") ∈ lw_all := lw_g (lw_at lw_m2 158 rfl) rfl
theorem q437 : (Jvm.Cond.soleField "WheelWorks$Part" "since") ∈ lw_all := lw_g (lw_at lw_m2 159 rfl) rfl
theorem q438 : (Jvm.Cond.lays "WheelWorks$Part" "WheelWorks$Part" "waived" "I") ∈ lw_all := lw_g (lw_at lw_m2 160 rfl) rfl
theorem q439 : (Jvm.Cond.soleField "WheelWorks$Part" "waived") ∈ lw_all := lw_g (lw_at lw_m2 161 rfl) rfl
theorem q440 : (Jvm.Cond.lays "WheelWorks$Part" "WheelWorks$Part" "isQuarantined" "Z") ∈ lw_all := lw_g (lw_at lw_m2 162 rfl) rfl
theorem q441 : (Jvm.Cond.soleField "WheelWorks$Part" "isQuarantined") ∈ lw_all := lw_g (lw_at lw_m2 163 rfl) rfl
theorem q442 : (Jvm.Cond.lays "WheelWorks$Part" "WheelWorks$Part" "isRecalled" "Z") ∈ lw_all := lw_g (lw_at lw_m2 164 rfl) rfl
theorem q443 : (Jvm.Cond.soleField "WheelWorks$Part" "isRecalled") ∈ lw_all := lw_g (lw_at lw_m2 165 rfl) rfl
theorem q444 : (Jvm.Cond.lays "WheelWorks$Part" "WheelWorks$Part" "flaw" "I") ∈ lw_all := lw_g (lw_at lw_m2 166 rfl) rfl
theorem q445 : (Jvm.Cond.soleField "WheelWorks$Part" "flaw") ∈ lw_all := lw_g (lw_at lw_m2 167 rfl) rfl
theorem q446 : (Jvm.Cond.lays "WheelWorks$Part" "WheelWorks$Part" "flawLife" "I") ∈ lw_all := lw_g (lw_at lw_m2 168 rfl) rfl
theorem q447 : (Jvm.Cond.soleField "WheelWorks$Part" "flawLife") ∈ lw_all := lw_g (lw_at lw_m2 169 rfl) rfl
theorem q448 : (Jvm.Cond.lays "WheelWorks$Part" "WheelWorks$Part" "diameter" "I") ∈ lw_all := lw_g (lw_at lw_m2 170 rfl) rfl
theorem q449 : (Jvm.Cond.soleField "WheelWorks$Part" "diameter") ∈ lw_all := lw_g (lw_at lw_m2 171 rfl) rfl
theorem q450 : (Jvm.Cond.lays "WheelWorks$Part" "WheelWorks$Part" "flange" "I") ∈ lw_all := lw_g (lw_at lw_m2 172 rfl) rfl
theorem q451 : (Jvm.Cond.soleField "WheelWorks$Part" "flange") ∈ lw_all := lw_g (lw_at lw_m2 173 rfl) rfl
theorem q452 : (Jvm.Cond.lays "WheelWorks$Part" "WheelWorks$Part" "rubbed" "I") ∈ lw_all := lw_g (lw_at lw_m2 174 rfl) rfl
theorem q453 : (Jvm.Cond.soleField "WheelWorks$Part" "rubbed") ∈ lw_all := lw_g (lw_at lw_m2 175 rfl) rfl
theorem q454 : (Jvm.Cond.lays "WheelWorks$Part" "WheelWorks$Part" "gate" "I") ∈ lw_all := lw_g (lw_at lw_m2 176 rfl) rfl
theorem q455 : (Jvm.Cond.soleField "WheelWorks$Part" "gate") ∈ lw_all := lw_g (lw_at lw_m2 177 rfl) rfl
theorem q456 : (Jvm.Cond.lays "WheelWorks$Part" "WheelWorks$Part" "isReleased" "Z") ∈ lw_all := lw_g (lw_at lw_m2 178 rfl) rfl
theorem q457 : (Jvm.Cond.soleField "WheelWorks$Part" "isReleased") ∈ lw_all := lw_g (lw_at lw_m2 179 rfl) rfl
theorem q458 : (Jvm.Cond.lays "WheelWorks$Part" "WheelWorks$Part" "stands" "Z") ∈ lw_all := lw_g (lw_at lw_m2 180 rfl) rfl
theorem q459 : (Jvm.Cond.soleField "WheelWorks$Part" "stands") ∈ lw_all := lw_g (lw_at lw_m2 181 rfl) rfl
theorem q460 : (Jvm.Cond.superclass "WheelWorks$Part" "java/lang/Object") ∈ lw_all := lw_g (lw_at lw_m2 182 rfl) rfl
theorem q540 : (Jvm.Cond.instanceMethod ({ cls := "WheelWorks$Part", name := "places", desc := "(I)I" } : Jvm.MethodName)) ∈ lw_all := lw_g (lw_at lw_m3 22 rfl) rfl
theorem q541 : (Jvm.Cond.selects "WheelWorks$Part" ({ cls := "WheelWorks$Part", name := "places", desc := "(I)I" } : Jvm.MethodName) ({ cls := "WheelWorks$Part", name := "places", desc := "(I)I" } : Jvm.MethodName)) ∈ lw_all := lw_g (lw_at lw_m3 23 rfl) rfl
theorem q542 : (Jvm.Cond.code ({ cls := "WheelWorks$Part", name := "places", desc := "(I)I" } : Jvm.MethodName) prog_6_method_3_code (2 : Nat) (Option.some Jvm.ClassFile.FieldType.int)) ∈ lw_all := lw_g (lw_at lw_m3 24 rfl) rfl
theorem q544 : (Jvm.Cond.instanceMethod ({ cls := "WheelWorks$Part", name := "isInStore", desc := "()Z" } : Jvm.MethodName)) ∈ lw_all := lw_g (lw_at lw_m3 26 rfl) rfl
theorem q545 : (Jvm.Cond.selects "WheelWorks$Part" ({ cls := "WheelWorks$Part", name := "isInStore", desc := "()Z" } : Jvm.MethodName) ({ cls := "WheelWorks$Part", name := "isInStore", desc := "()Z" } : Jvm.MethodName)) ∈ lw_all := lw_g (lw_at lw_m3 27 rfl) rfl
theorem q546 : (Jvm.Cond.code ({ cls := "WheelWorks$Part", name := "isInStore", desc := "()Z" } : Jvm.MethodName) prog_6_method_7_code (1 : Nat) (Option.some Jvm.ClassFile.FieldType.boolean)) ∈ lw_all := lw_g (lw_at lw_m3 28 rfl) rfl
theorem q548 : (Jvm.Cond.instanceMethod ({ cls := "WheelWorks$Part", name := "isBound", desc := "()Z" } : Jvm.MethodName)) ∈ lw_all := lw_g (lw_at lw_m3 30 rfl) rfl
theorem q549 : (Jvm.Cond.selects "WheelWorks$Part" ({ cls := "WheelWorks$Part", name := "isBound", desc := "()Z" } : Jvm.MethodName) ({ cls := "WheelWorks$Part", name := "isBound", desc := "()Z" } : Jvm.MethodName)) ∈ lw_all := lw_g (lw_at lw_m3 31 rfl) rfl
theorem q550 : (Jvm.Cond.code ({ cls := "WheelWorks$Part", name := "isBound", desc := "()Z" } : Jvm.MethodName) prog_6_method_6_code (1 : Nat) (Option.some Jvm.ClassFile.FieldType.boolean)) ∈ lw_all := lw_g (lw_at lw_m3 32 rfl) rfl
theorem q551 : (Jvm.Cond.methodLink "WheelWorks$Part" (61 : Nat) ({ cls := "WheelWorks$Part", name := "head", desc := "()LWheelWorks$Part;" } : Jvm.MethodName)) ∈ lw_all := lw_g (lw_at lw_m3 33 rfl) rfl
theorem q552 : (Jvm.Cond.instanceMethod ({ cls := "WheelWorks$Part", name := "head", desc := "()LWheelWorks$Part;" } : Jvm.MethodName)) ∈ lw_all := lw_g (lw_at lw_m3 34 rfl) rfl
theorem q553 : (Jvm.Cond.selects "WheelWorks$Part" ({ cls := "WheelWorks$Part", name := "head", desc := "()LWheelWorks$Part;" } : Jvm.MethodName) ({ cls := "WheelWorks$Part", name := "head", desc := "()LWheelWorks$Part;" } : Jvm.MethodName)) ∈ lw_all := lw_g (lw_at lw_m3 35 rfl) rfl
theorem q554 : (Jvm.Cond.code ({ cls := "WheelWorks$Part", name := "head", desc := "()LWheelWorks$Part;" } : Jvm.MethodName) prog_6_method_5_code (2 : Nat) (Option.some (Jvm.ClassFile.FieldType.object "WheelWorks$Part"))) ∈ lw_all := lw_g (lw_at lw_m3 36 rfl) rfl
theorem q555 : (Jvm.Cond.classLink "WheelWorks$Part" (15 : Nat) "WheelWorks$Part") ∈ lw_all := lw_g (lw_at lw_m3 37 rfl) rfl
theorem q557 : (Jvm.Cond.instanceMethod ({ cls := "WheelWorks$Part", name := "count", desc := "(I)I" } : Jvm.MethodName)) ∈ lw_all := lw_g (lw_at lw_m3 39 rfl) rfl
theorem q558 : (Jvm.Cond.selects "WheelWorks$Part" ({ cls := "WheelWorks$Part", name := "count", desc := "(I)I" } : Jvm.MethodName) ({ cls := "WheelWorks$Part", name := "count", desc := "(I)I" } : Jvm.MethodName)) ∈ lw_all := lw_g (lw_at lw_m3 40 rfl) rfl
theorem q559 : (Jvm.Cond.code ({ cls := "WheelWorks$Part", name := "count", desc := "(I)I" } : Jvm.MethodName) prog_6_method_4_code (4 : Nat) (Option.some Jvm.ClassFile.FieldType.int)) ∈ lw_all := lw_g (lw_at lw_m3 41 rfl) rfl
theorem q560 : (Jvm.Cond.methodLink "WheelWorks$Part" (49 : Nat) ({ cls := "java/util/ArrayList", name := "size", desc := "()I" } : Jvm.MethodName)) ∈ lw_all := lw_g (lw_at lw_m3 42 rfl) rfl
theorem q561 : (Jvm.Cond.methodLink "WheelWorks$Part" (53 : Nat) ({ cls := "java/util/ArrayList", name := "get", desc := "(I)Ljava/lang/Object;" } : Jvm.MethodName)) ∈ lw_all := lw_g (lw_at lw_m3 43 rfl) rfl
theorem q609 : (Jvm.Cond.selects "WheelWorks$Part" ({ cls := "java/lang/Object", name := "equals", desc := "(Ljava/lang/Object;)Z" } : Jvm.MethodName) ({ cls := "java/lang/Object", name := "equals", desc := "(Ljava/lang/Object;)Z" } : Jvm.MethodName)) ∈ lw_all := lw_g (lw_at lw_m3 91 rfl) rfl
theorem q650 : (Jvm.Cond.instanceMethod ({ cls := "WheelWorks$Part", name := "go", desc := "(II)V" } : Jvm.MethodName)) ∈ lw_all := lw_g (lw_at lw_m3 132 rfl) rfl
theorem q651 : (Jvm.Cond.selects "WheelWorks$Part" ({ cls := "WheelWorks$Part", name := "go", desc := "(II)V" } : Jvm.MethodName) ({ cls := "WheelWorks$Part", name := "go", desc := "(II)V" } : Jvm.MethodName)) ∈ lw_all := lw_g (lw_at lw_m3 133 rfl) rfl
theorem q652 : (Jvm.Cond.code ({ cls := "WheelWorks$Part", name := "go", desc := "(II)V" } : Jvm.MethodName) prog_6_method_12_code (6 : Nat) (Option.none : Option Jvm.ClassFile.FieldType)) ∈ lw_all := lw_g (lw_at lw_m3 134 rfl) rfl
theorem q653 : (Jvm.Cond.methodLink "WheelWorks$Part" (110 : Nat) ({ cls := "WheelWorks$Part", name := "go", desc := "(II)V" } : Jvm.MethodName)) ∈ lw_all := lw_g (lw_at lw_m3 135 rfl) rfl
theorem q704 : (Jvm.Cond.instanceMethod ({ cls := "WheelWorks$Part", name := "lacks", desc := "()Z" } : Jvm.MethodName)) ∈ lw_all := lw_g (lw_at lw_m3 186 rfl) rfl
theorem q705 : (Jvm.Cond.selects "WheelWorks$Part" ({ cls := "WheelWorks$Part", name := "lacks", desc := "()Z" } : Jvm.MethodName) ({ cls := "WheelWorks$Part", name := "lacks", desc := "()Z" } : Jvm.MethodName)) ∈ lw_all := lw_g (lw_at lw_m3 187 rfl) rfl
theorem q706 : (Jvm.Cond.code ({ cls := "WheelWorks$Part", name := "lacks", desc := "()Z" } : Jvm.MethodName) prog_6_method_8_code (3 : Nat) (Option.some Jvm.ClassFile.FieldType.boolean)) ∈ lw_all := lw_g (lw_at lw_m3 188 rfl) rfl
theorem q707 : (Jvm.Cond.methodLink "WheelWorks$Part" (72 : Nat) ({ cls := "WheelWorks$Part", name := "count", desc := "(I)I" } : Jvm.MethodName)) ∈ lw_all := lw_g (lw_at lw_m3 189 rfl) rfl
theorem q708 : (Jvm.Cond.methodLink "WheelWorks$Part" (76 : Nat) ({ cls := "WheelWorks$Part", name := "places", desc := "(I)I" } : Jvm.MethodName)) ∈ lw_all := lw_g (lw_at lw_m3 190 rfl) rfl
theorem q710 : (Jvm.Cond.instanceMethod ({ cls := "WheelWorks$Part", name := "isWorn", desc := "()Z" } : Jvm.MethodName)) ∈ lw_all := lw_g (lw_at lw_m3 192 rfl) rfl
theorem q711 : (Jvm.Cond.selects "WheelWorks$Part" ({ cls := "WheelWorks$Part", name := "isWorn", desc := "()Z" } : Jvm.MethodName) ({ cls := "WheelWorks$Part", name := "isWorn", desc := "()Z" } : Jvm.MethodName)) ∈ lw_all := lw_g (lw_at lw_m3 193 rfl) rfl
theorem q712 : (Jvm.Cond.code ({ cls := "WheelWorks$Part", name := "isWorn", desc := "()Z" } : Jvm.MethodName) prog_6_method_11_code (1 : Nat) (Option.some Jvm.ClassFile.FieldType.boolean)) ∈ lw_all := lw_g (lw_at lw_m3 194 rfl) rfl
theorem q714 : (Jvm.Cond.instanceMethod ({ cls := "WheelWorks$Part", name := "isUnlike", desc := "()Z" } : Jvm.MethodName)) ∈ lw_all := lw_g (lw_at lw_m3 196 rfl) rfl
theorem q715 : (Jvm.Cond.selects "WheelWorks$Part" ({ cls := "WheelWorks$Part", name := "isUnlike", desc := "()Z" } : Jvm.MethodName) ({ cls := "WheelWorks$Part", name := "isUnlike", desc := "()Z" } : Jvm.MethodName)) ∈ lw_all := lw_g (lw_at lw_m3 197 rfl) rfl
theorem q716 : (Jvm.Cond.code ({ cls := "WheelWorks$Part", name := "isUnlike", desc := "()Z" } : Jvm.MethodName) prog_6_method_10_code (2 : Nat) (Option.some Jvm.ClassFile.FieldType.boolean)) ∈ lw_all := lw_g (lw_at lw_m3 198 rfl) rfl
theorem q717 : (Jvm.Cond.constant "WheelWorks$Part" (94 : Nat) (99999 : Int32)) ∈ lw_all := lw_g (lw_at lw_m3 199 rfl) rfl
theorem q718 : (Jvm.Cond.methodLink "WheelWorks$Part" (82 : Nat) ({ cls := "WheelWorks$Part", name := "diameter", desc := "(Z)I" } : Jvm.MethodName)) ∈ lw_all := lw_g (lw_at lw_m3 200 rfl) rfl
theorem q719 : (Jvm.Cond.instanceMethod ({ cls := "WheelWorks$Part", name := "diameter", desc := "(Z)I" } : Jvm.MethodName)) ∈ lw_all := lw_g (lw_at lw_m3 201 rfl) rfl
theorem q720 : (Jvm.Cond.selects "WheelWorks$Part" ({ cls := "WheelWorks$Part", name := "diameter", desc := "(Z)I" } : Jvm.MethodName) ({ cls := "WheelWorks$Part", name := "diameter", desc := "(Z)I" } : Jvm.MethodName)) ∈ lw_all := lw_g (lw_at lw_m3 202 rfl) rfl
theorem q721 : (Jvm.Cond.code ({ cls := "WheelWorks$Part", name := "diameter", desc := "(Z)I" } : Jvm.MethodName) prog_6_method_9_code (5 : Nat) (Option.some Jvm.ClassFile.FieldType.int)) ∈ lw_all := lw_g (lw_at lw_m3 203 rfl) rfl
theorem q722 : (Jvm.Cond.constant "WheelWorks$Part" (81 : Nat) (2147483647 : Int32)) ∈ lw_all := lw_g (lw_at lw_m3 204 rfl) rfl
theorem q723 : (Jvm.Cond.methodLink "WheelWorks$Part" (85 : Nat) ({ cls := "java/lang/Math", name := "max", desc := "(II)I" } : Jvm.MethodName)) ∈ lw_all := lw_g (lw_at lw_m3 205 rfl) rfl
theorem q724 : (Jvm.Cond.methodLink "WheelWorks$Part" (91 : Nat) ({ cls := "java/lang/Math", name := "min", desc := "(II)I" } : Jvm.MethodName)) ∈ lw_all := lw_g (lw_at lw_m3 206 rfl) rfl
theorem q730 : (Jvm.Cond.instanceMethod ({ cls := "WheelWorks$Part", name := "quarantineAll", desc := "()V" } : Jvm.MethodName)) ∈ lw_all := lw_g (lw_at lw_m3 212 rfl) rfl
theorem q731 : (Jvm.Cond.selects "WheelWorks$Part" ({ cls := "WheelWorks$Part", name := "quarantineAll", desc := "()V" } : Jvm.MethodName) ({ cls := "WheelWorks$Part", name := "quarantineAll", desc := "()V" } : Jvm.MethodName)) ∈ lw_all := lw_g (lw_at lw_m3 213 rfl) rfl
theorem q732 : (Jvm.Cond.code ({ cls := "WheelWorks$Part", name := "quarantineAll", desc := "()V" } : Jvm.MethodName) prog_6_method_14_code (2 : Nat) (Option.none : Option Jvm.ClassFile.FieldType)) ∈ lw_all := lw_g (lw_at lw_m3 214 rfl) rfl
theorem q733 : (Jvm.Cond.methodLink "WheelWorks$Part" (120 : Nat) ({ cls := "WheelWorks$Part", name := "quarantine", desc := "()V" } : Jvm.MethodName)) ∈ lw_all := lw_g (lw_at lw_m3 215 rfl) rfl
theorem q734 : (Jvm.Cond.instanceMethod ({ cls := "WheelWorks$Part", name := "quarantine", desc := "()V" } : Jvm.MethodName)) ∈ lw_all := lw_g (lw_at lw_m3 216 rfl) rfl
theorem q735 : (Jvm.Cond.selects "WheelWorks$Part" ({ cls := "WheelWorks$Part", name := "quarantine", desc := "()V" } : Jvm.MethodName) ({ cls := "WheelWorks$Part", name := "quarantine", desc := "()V" } : Jvm.MethodName)) ∈ lw_all := lw_g (lw_at lw_m3 217 rfl) rfl
theorem q736 : (Jvm.Cond.code ({ cls := "WheelWorks$Part", name := "quarantine", desc := "()V" } : Jvm.MethodName) prog_6_method_13_code (1 : Nat) (Option.none : Option Jvm.ClassFile.FieldType)) ∈ lw_all := lw_g (lw_at lw_m3 218 rfl) rfl
theorem q737 : (Jvm.Cond.methodLink "WheelWorks$Part" (123 : Nat) ({ cls := "WheelWorks$Part", name := "quarantineAll", desc := "()V" } : Jvm.MethodName)) ∈ lw_all := lw_g (lw_at lw_m3 219 rfl) rfl
theorem q792 : (Jvm.Cond.instanceMethod ({ cls := "WheelWorks$Part", name := "turn", desc := "()I" } : Jvm.MethodName)) ∈ lw_all := lw_g (lw_at lw_m4 34 rfl) rfl
theorem q793 : (Jvm.Cond.selects "WheelWorks$Part" ({ cls := "WheelWorks$Part", name := "turn", desc := "()I" } : Jvm.MethodName) ({ cls := "WheelWorks$Part", name := "turn", desc := "()I" } : Jvm.MethodName)) ∈ lw_all := lw_g (lw_at lw_m4 35 rfl) rfl
theorem q794 : (Jvm.Cond.code ({ cls := "WheelWorks$Part", name := "turn", desc := "()I" } : Jvm.MethodName) prog_6_method_15_code (2 : Nat) (Option.some Jvm.ClassFile.FieldType.int)) ∈ lw_all := lw_g (lw_at lw_m4 36 rfl) rfl
theorem q1354 : (Jvm.Cond.castable "WheelWorks$Part" "WheelWorks$Numbered") ∈ lw_tbl := lw_at lw_m6 116 rfl
theorem q1361 : (Jvm.Cond.castable "WheelWorks$Part" "java/lang/Object") ∈ lw_tbl := lw_at lw_m6 123 rfl
theorem in_X4 : ∀ w ∈ wsX40, w ∈ lw_all := lw_in wsX40 [420, 422, 424, 426, 428, 430, 432, 434, 436, 438, 440, 442, 444, 446, 448, 450, 452, 454, 456, 458] (by decide +kernel) (by decide +kernel)

/-! WheelWorks$Trail -/
set_option maxRecDepth 100000
def RX5 : String := "WheelWorks$Trail"
def TX5 : u_T := fun k => match k with
  | 0 => ("WheelWorks$Trail", "all", "Ljava/util/ArrayList;", true)
  | _ => ("WheelWorks$Trail", "now", "Ljava/lang/Object;", false)
def tyX5 : Nat → FieldType := fun k => match k with
  | 0 => .object "java/util/ArrayList"
  | _ => .object "java/lang/Object"
abbrev wsX50 : List Cond := u_ws RX5 TX5 2
theorem nmX5 : ∀ a, a < 2 → ∀ b, b < 2 → a ≠ b → (TX5 a).2.1 ≠ (TX5 b).2.1 := by decide +kernel
theorem tyX5_ok : ∀ k, k < 2 → parseFieldDescriptor (TX5 k).2.2.1 = some (tyX5 k) := by decide +kernel
abbrev cX5_init : ByteArray := prog_9_method_1_code
def yX5_init : MethodName := ⟨RX5, "<init>", "(Ljava/lang/Object;)V"⟩
def dkwX5_init_0 : List UInt8 := [42, 183, 0, 1, 42, 187, 0, 7, 89, 183, 0, 9, 181, 0, 10, 42, 43, 181, 0, 16, 177]
abbrev dktX5_init_0 : List UInt8 := dkwX5_init_0 ++ []
theorem dksX5_init_0 : cX5_init.data.toList.drop 0 = dktX5_init_0 := by decide +kernel
theorem dX5_init_0 : decode cX5_init 0 = .ok (.aload_n 0, 1) := dk_42 (dk_at dksX5_init_0 0 rfl rfl)
theorem dX5_init_1 : decode cX5_init 1 = .ok (.invokespecial 1, 3) := dk_183 0 1 (dk_at dksX5_init_0 1 rfl rfl)
theorem dX5_init_4 : decode cX5_init 4 = .ok (.aload_n 0, 1) := dk_42 (dk_at dksX5_init_0 4 rfl rfl)
theorem dX5_init_5 : decode cX5_init 5 = .ok (.new 7, 3) := dk_187 0 7 (dk_at dksX5_init_0 5 rfl rfl)
theorem dX5_init_8 : decode cX5_init 8 = .ok (.dup, 1) := dk_89 (dk_at dksX5_init_0 8 rfl rfl)
theorem dX5_init_9 : decode cX5_init 9 = .ok (.invokespecial 9, 3) := dk_183 0 9 (dk_at dksX5_init_0 9 rfl rfl)
theorem dX5_init_12 : decode cX5_init 12 = .ok (.putfield 10, 3) := dk_181 0 10 (dk_at dksX5_init_0 12 rfl rfl)
theorem dX5_init_15 : decode cX5_init 15 = .ok (.aload_n 0, 1) := dk_42 (dk_at dksX5_init_0 15 rfl rfl)
theorem dX5_init_16 : decode cX5_init 16 = .ok (.aload_n 1, 1) := dk_43 (dk_at dksX5_init_0 16 rfl rfl)
theorem dX5_init_17 : decode cX5_init 17 = .ok (.putfield 16, 3) := dk_181 0 16 (dk_at dksX5_init_0 17 rfl rfl)
theorem dX5_init_20 : decode cX5_init 20 = .ok (.return_, 1) := dk_177 (dk_at dksX5_init_0 20 rfl rfl)
abbrev cX5_become : ByteArray := prog_9_method_2_code
def yX5_become : MethodName := ⟨RX5, "become", "(Ljava/lang/Object;)V"⟩
def dkwX5_become_0 : List UInt8 := [42, 43, 181, 0, 16, 42, 180, 0, 10, 43, 182, 0, 20, 87, 177]
abbrev dktX5_become_0 : List UInt8 := dkwX5_become_0 ++ []
theorem dksX5_become_0 : cX5_become.data.toList.drop 0 = dktX5_become_0 := by decide +kernel
theorem dX5_become_0 : decode cX5_become 0 = .ok (.aload_n 0, 1) := dk_42 (dk_at dksX5_become_0 0 rfl rfl)
theorem dX5_become_1 : decode cX5_become 1 = .ok (.aload_n 1, 1) := dk_43 (dk_at dksX5_become_0 1 rfl rfl)
theorem dX5_become_2 : decode cX5_become 2 = .ok (.putfield 16, 3) := dk_181 0 16 (dk_at dksX5_become_0 2 rfl rfl)
theorem dX5_become_5 : decode cX5_become 5 = .ok (.aload_n 0, 1) := dk_42 (dk_at dksX5_become_0 5 rfl rfl)
theorem dX5_become_6 : decode cX5_become 6 = .ok (.getfield 10, 3) := dk_180 0 10 (dk_at dksX5_become_0 6 rfl rfl)
theorem dX5_become_9 : decode cX5_become 9 = .ok (.aload_n 1, 1) := dk_43 (dk_at dksX5_become_0 9 rfl rfl)
theorem dX5_become_10 : decode cX5_become 10 = .ok (.invokevirtual 20, 3) := dk_182 0 20 (dk_at dksX5_become_0 10 rfl rfl)
theorem dX5_become_13 : decode cX5_become 13 = .ok (.pop, 1) := dk_87 (dk_at dksX5_become_0 13 rfl rfl)
theorem dX5_become_14 : decode cX5_become 14 = .ok (.return_, 1) := dk_177 (dk_at dksX5_become_0 14 rfl rfl)
theorem q55 : (Jvm.Cond.initialized "WheelWorks$Trail") ∈ lw_all := lw_g (lw_at lw_m1 17 rfl) rfl
theorem q153 : (Jvm.Cond.selects "WheelWorks$Trail" ({ cls := "java/lang/Object", name := "getClass", desc := "()Ljava/lang/Class;" } : Jvm.MethodName) ({ cls := "java/lang/Object", name := "getClass", desc := "()Ljava/lang/Class;" } : Jvm.MethodName)) ∈ lw_all := lw_g (lw_at lw_m1 115 rfl) rfl
theorem q363 : (Jvm.Cond.instantiable "WheelWorks$Trail" (2 : Nat)) ∈ lw_all := lw_g (lw_at lw_m2 85 rfl) rfl
theorem q365 : (Jvm.Cond.instanceMethod ({ cls := "WheelWorks$Trail", name := "<init>", desc := "(Ljava/lang/Object;)V" } : Jvm.MethodName)) ∈ lw_all := lw_g (lw_at lw_m2 87 rfl) rfl
theorem q366 : (Jvm.Cond.code ({ cls := "WheelWorks$Trail", name := "<init>", desc := "(Ljava/lang/Object;)V" } : Jvm.MethodName) prog_9_method_1_code (2 : Nat) (Option.none : Option Jvm.ClassFile.FieldType)) ∈ lw_all := lw_g (lw_at lw_m2 88 rfl) rfl
theorem q367 : (Jvm.Cond.methodLink "WheelWorks$Trail" (1 : Nat) ({ cls := "java/lang/Object", name := "<init>", desc := "()V" } : Jvm.MethodName)) ∈ lw_all := lw_g (lw_at lw_m2 89 rfl) rfl
theorem q368 : (Jvm.Cond.classLink "WheelWorks$Trail" (7 : Nat) "java/util/ArrayList") ∈ lw_all := lw_g (lw_at lw_m2 90 rfl) rfl
theorem q369 : (Jvm.Cond.methodLink "WheelWorks$Trail" (9 : Nat) ({ cls := "java/util/ArrayList", name := "<init>", desc := "()V" } : Jvm.MethodName)) ∈ lw_all := lw_g (lw_at lw_m2 91 rfl) rfl
theorem q370 : (Jvm.Cond.fieldLink "WheelWorks$Trail" (10 : Nat) "WheelWorks$Trail" "all" "Ljava/util/ArrayList;") ∈ lw_all := lw_g (lw_at lw_m2 92 rfl) rfl
theorem q372 : (Jvm.Cond.fieldLink "WheelWorks$Trail" (16 : Nat) "WheelWorks$Trail" "now" "Ljava/lang/Object;") ∈ lw_all := lw_g (lw_at lw_m2 94 rfl) rfl
theorem q375 : (Jvm.Cond.laysFinal "WheelWorks$Trail" "WheelWorks$Trail" "all" "Ljava/util/ArrayList;") ∈ lw_all := lw_g (lw_at lw_m2 97 rfl) rfl
theorem q376 : (Jvm.Cond.soleField "WheelWorks$Trail" "all") ∈ lw_all := lw_g (lw_at lw_m2 98 rfl) rfl
theorem q377 : (Jvm.Cond.lays "WheelWorks$Trail" "WheelWorks$Trail" "now" "Ljava/lang/Object;") ∈ lw_all := lw_g (lw_at lw_m2 99 rfl) rfl
theorem q378 : (Jvm.Cond.soleField "WheelWorks$Trail" "now") ∈ lw_all := lw_g (lw_at lw_m2 100 rfl) rfl
theorem q379 : (Jvm.Cond.superclass "WheelWorks$Trail" "java/lang/Object") ∈ lw_all := lw_g (lw_at lw_m2 101 rfl) rfl
theorem q566 : (Jvm.Cond.instanceMethod ({ cls := "WheelWorks$Trail", name := "become", desc := "(Ljava/lang/Object;)V" } : Jvm.MethodName)) ∈ lw_all := lw_g (lw_at lw_m3 48 rfl) rfl
theorem q567 : (Jvm.Cond.selects "WheelWorks$Trail" ({ cls := "WheelWorks$Trail", name := "become", desc := "(Ljava/lang/Object;)V" } : Jvm.MethodName) ({ cls := "WheelWorks$Trail", name := "become", desc := "(Ljava/lang/Object;)V" } : Jvm.MethodName)) ∈ lw_all := lw_g (lw_at lw_m3 49 rfl) rfl
theorem q568 : (Jvm.Cond.code ({ cls := "WheelWorks$Trail", name := "become", desc := "(Ljava/lang/Object;)V" } : Jvm.MethodName) prog_9_method_2_code (2 : Nat) (Option.none : Option Jvm.ClassFile.FieldType)) ∈ lw_all := lw_g (lw_at lw_m3 50 rfl) rfl
theorem q569 : (Jvm.Cond.methodLink "WheelWorks$Trail" (20 : Nat) ({ cls := "java/util/ArrayList", name := "add", desc := "(Ljava/lang/Object;)Z" } : Jvm.MethodName)) ∈ lw_all := lw_g (lw_at lw_m3 51 rfl) rfl
theorem q611 : (Jvm.Cond.selects "WheelWorks$Trail" ({ cls := "java/lang/Object", name := "equals", desc := "(Ljava/lang/Object;)Z" } : Jvm.MethodName) ({ cls := "java/lang/Object", name := "equals", desc := "(Ljava/lang/Object;)Z" } : Jvm.MethodName)) ∈ lw_all := lw_g (lw_at lw_m3 93 rfl) rfl
theorem q1362 : (Jvm.Cond.castable "WheelWorks$Trail" "java/lang/Object") ∈ lw_tbl := lw_at lw_m6 124 rfl
theorem in_X5 : ∀ w ∈ wsX50, w ∈ lw_all := lw_in wsX50 [375, 377] (by decide +kernel) (by decide +kernel)

/-! WheelWorks$Work -/
set_option maxRecDepth 100000
def RX6 : String := "WheelWorks$Work"
def TX6 : u_T := fun k => match k with
  | 0 => ("WheelWorks$Work", "part", "LWheelWorks$Part;", true)
  | 1 => ("WheelWorks$Work", "host", "LWheelWorks$Part;", true)
  | _ => ("WheelWorks$Work", "kilometres", "I", true)
def tyX6 : Nat → FieldType := fun k => match k with
  | 0 => .object "WheelWorks$Part"
  | 1 => .object "WheelWorks$Part"
  | _ => .int
abbrev wsX60 : List Cond := u_ws RX6 TX6 3
theorem nmX6 : ∀ a, a < 3 → ∀ b, b < 3 → a ≠ b → (TX6 a).2.1 ≠ (TX6 b).2.1 := by decide +kernel
theorem tyX6_ok : ∀ k, k < 3 → parseFieldDescriptor (TX6 k).2.2.1 = some (tyX6 k) := by decide +kernel
abbrev cX6_init : ByteArray := prog_10_method_1_code
def yX6_init : MethodName := ⟨RX6, "<init>", "(LWheelWorks$Part;LWheelWorks$Part;I)V"⟩
def dkwX6_init_0 : List UInt8 := [42, 183, 0, 1, 42, 43, 181, 0, 7, 42, 44, 181, 0, 13, 42, 29, 181, 0, 16, 177]
abbrev dktX6_init_0 : List UInt8 := dkwX6_init_0 ++ []
theorem dksX6_init_0 : cX6_init.data.toList.drop 0 = dktX6_init_0 := by decide +kernel
theorem dX6_init_0 : decode cX6_init 0 = .ok (.aload_n 0, 1) := dk_42 (dk_at dksX6_init_0 0 rfl rfl)
theorem dX6_init_1 : decode cX6_init 1 = .ok (.invokespecial 1, 3) := dk_183 0 1 (dk_at dksX6_init_0 1 rfl rfl)
theorem dX6_init_4 : decode cX6_init 4 = .ok (.aload_n 0, 1) := dk_42 (dk_at dksX6_init_0 4 rfl rfl)
theorem dX6_init_5 : decode cX6_init 5 = .ok (.aload_n 1, 1) := dk_43 (dk_at dksX6_init_0 5 rfl rfl)
theorem dX6_init_6 : decode cX6_init 6 = .ok (.putfield 7, 3) := dk_181 0 7 (dk_at dksX6_init_0 6 rfl rfl)
theorem dX6_init_9 : decode cX6_init 9 = .ok (.aload_n 0, 1) := dk_42 (dk_at dksX6_init_0 9 rfl rfl)
theorem dX6_init_10 : decode cX6_init 10 = .ok (.aload_n 2, 1) := dk_44 (dk_at dksX6_init_0 10 rfl rfl)
theorem dX6_init_11 : decode cX6_init 11 = .ok (.putfield 13, 3) := dk_181 0 13 (dk_at dksX6_init_0 11 rfl rfl)
theorem dX6_init_14 : decode cX6_init 14 = .ok (.aload_n 0, 1) := dk_42 (dk_at dksX6_init_0 14 rfl rfl)
theorem dX6_init_15 : decode cX6_init 15 = .ok (.iload_n 3, 1) := dk_29 (dk_at dksX6_init_0 15 rfl rfl)
theorem dX6_init_16 : decode cX6_init 16 = .ok (.putfield 16, 3) := dk_181 0 16 (dk_at dksX6_init_0 16 rfl rfl)
theorem dX6_init_19 : decode cX6_init 19 = .ok (.return_, 1) := dk_177 (dk_at dksX6_init_0 19 rfl rfl)
theorem q61 : (Jvm.Cond.initialized "WheelWorks$Work") ∈ lw_all := lw_g (lw_at lw_m1 23 rfl) rfl
theorem q154 : (Jvm.Cond.selects "WheelWorks$Work" ({ cls := "java/lang/Object", name := "getClass", desc := "()Ljava/lang/Class;" } : Jvm.MethodName) ({ cls := "java/lang/Object", name := "getClass", desc := "()Ljava/lang/Class;" } : Jvm.MethodName)) ∈ lw_all := lw_g (lw_at lw_m1 116 rfl) rfl
theorem q572 : (Jvm.Cond.instantiable "WheelWorks$Work" (3 : Nat)) ∈ lw_all := lw_g (lw_at lw_m3 54 rfl) rfl
theorem q574 : (Jvm.Cond.instanceMethod ({ cls := "WheelWorks$Work", name := "<init>", desc := "(LWheelWorks$Part;LWheelWorks$Part;I)V" } : Jvm.MethodName)) ∈ lw_all := lw_g (lw_at lw_m3 56 rfl) rfl
theorem q575 : (Jvm.Cond.code ({ cls := "WheelWorks$Work", name := "<init>", desc := "(LWheelWorks$Part;LWheelWorks$Part;I)V" } : Jvm.MethodName) prog_10_method_1_code (4 : Nat) (Option.none : Option Jvm.ClassFile.FieldType)) ∈ lw_all := lw_g (lw_at lw_m3 57 rfl) rfl
theorem q576 : (Jvm.Cond.methodLink "WheelWorks$Work" (1 : Nat) ({ cls := "java/lang/Object", name := "<init>", desc := "()V" } : Jvm.MethodName)) ∈ lw_all := lw_g (lw_at lw_m3 58 rfl) rfl
theorem q577 : (Jvm.Cond.fieldLink "WheelWorks$Work" (7 : Nat) "WheelWorks$Work" "part" "LWheelWorks$Part;") ∈ lw_all := lw_g (lw_at lw_m3 59 rfl) rfl
theorem q579 : (Jvm.Cond.fieldLink "WheelWorks$Work" (13 : Nat) "WheelWorks$Work" "host" "LWheelWorks$Part;") ∈ lw_all := lw_g (lw_at lw_m3 61 rfl) rfl
theorem q581 : (Jvm.Cond.fieldLink "WheelWorks$Work" (16 : Nat) "WheelWorks$Work" "kilometres" "I") ∈ lw_all := lw_g (lw_at lw_m3 63 rfl) rfl
theorem q583 : (Jvm.Cond.laysFinal "WheelWorks$Work" "WheelWorks$Work" "part" "LWheelWorks$Part;") ∈ lw_all := lw_g (lw_at lw_m3 65 rfl) rfl
theorem q584 : (Jvm.Cond.soleField "WheelWorks$Work" "part") ∈ lw_all := lw_g (lw_at lw_m3 66 rfl) rfl
theorem q585 : (Jvm.Cond.laysFinal "WheelWorks$Work" "WheelWorks$Work" "host" "LWheelWorks$Part;") ∈ lw_all := lw_g (lw_at lw_m3 67 rfl) rfl
theorem q586 : (Jvm.Cond.soleField "WheelWorks$Work" "host") ∈ lw_all := lw_g (lw_at lw_m3 68 rfl) rfl
theorem q587 : (Jvm.Cond.laysFinal "WheelWorks$Work" "WheelWorks$Work" "kilometres" "I") ∈ lw_all := lw_g (lw_at lw_m3 69 rfl) rfl
theorem q588 : (Jvm.Cond.soleField "WheelWorks$Work" "kilometres") ∈ lw_all := lw_g (lw_at lw_m3 70 rfl) rfl
theorem q589 : (Jvm.Cond.superclass "WheelWorks$Work" "java/lang/Object") ∈ lw_all := lw_g (lw_at lw_m3 71 rfl) rfl
theorem q612 : (Jvm.Cond.selects "WheelWorks$Work" ({ cls := "java/lang/Object", name := "equals", desc := "(Ljava/lang/Object;)Z" } : Jvm.MethodName) ({ cls := "java/lang/Object", name := "equals", desc := "(Ljava/lang/Object;)Z" } : Jvm.MethodName)) ∈ lw_all := lw_g (lw_at lw_m3 94 rfl) rfl
theorem q1365 : (Jvm.Cond.castable "WheelWorks$Work" "java/lang/Object") ∈ lw_tbl := lw_at lw_m6 127 rfl
theorem in_X6 : ∀ w ∈ wsX60, w ∈ lw_all := lw_in wsX60 [583, 585, 587] (by decide +kernel) (by decide +kernel)

/-! WheelWorks$1 -/
set_option maxRecDepth 100000
def RX7 : String := "WheelWorks$1"
def TX7 : u_T := fun k => match k with
  | 0 => ("WheelWorks$1", "val$its", "LWheelWorks$Part;", true)
  | _ => ("WheelWorks$1", "this$0", "LWheelWorks;", true)
def tyX7 : Nat → FieldType := fun k => match k with
  | 0 => .object "WheelWorks$Part"
  | _ => .object "WheelWorks"
abbrev wsX70 : List Cond := u_ws RX7 TX7 2
theorem nmX7 : ∀ a, a < 2 → ∀ b, b < 2 → a ≠ b → (TX7 a).2.1 ≠ (TX7 b).2.1 := by decide +kernel
theorem tyX7_ok : ∀ k, k < 2 → parseFieldDescriptor (TX7 k).2.2.1 = some (tyX7 k) := by decide +kernel
abbrev cX7_init : ByteArray := prog_2_method_1_code
def yX7_init : MethodName := ⟨RX7, "<init>", "(LWheelWorks;LWheelWorks$Part;)V"⟩
def dkwX7_init_0 : List UInt8 := [42, 43, 181, 0, 3, 42, 44, 181, 0, 9, 42, 183, 0, 13, 177]
abbrev dktX7_init_0 : List UInt8 := dkwX7_init_0 ++ []
theorem dksX7_init_0 : cX7_init.data.toList.drop 0 = dktX7_init_0 := by decide +kernel
theorem dX7_init_0 : decode cX7_init 0 = .ok (.aload_n 0, 1) := dk_42 (dk_at dksX7_init_0 0 rfl rfl)
theorem dX7_init_1 : decode cX7_init 1 = .ok (.aload_n 1, 1) := dk_43 (dk_at dksX7_init_0 1 rfl rfl)
theorem dX7_init_2 : decode cX7_init 2 = .ok (.putfield 3, 3) := dk_181 0 3 (dk_at dksX7_init_0 2 rfl rfl)
theorem dX7_init_5 : decode cX7_init 5 = .ok (.aload_n 0, 1) := dk_42 (dk_at dksX7_init_0 5 rfl rfl)
theorem dX7_init_6 : decode cX7_init 6 = .ok (.aload_n 2, 1) := dk_44 (dk_at dksX7_init_0 6 rfl rfl)
theorem dX7_init_7 : decode cX7_init 7 = .ok (.putfield 9, 3) := dk_181 0 9 (dk_at dksX7_init_0 7 rfl rfl)
theorem dX7_init_10 : decode cX7_init 10 = .ok (.aload_n 0, 1) := dk_42 (dk_at dksX7_init_0 10 rfl rfl)
theorem dX7_init_11 : decode cX7_init 11 = .ok (.invokespecial 13, 3) := dk_183 0 13 (dk_at dksX7_init_0 11 rfl rfl)
theorem dX7_init_14 : decode cX7_init 14 = .ok (.return_, 1) := dk_177 (dk_at dksX7_init_0 14 rfl rfl)
abbrev cX7_is : ByteArray := prog_2_method_3_code
def yX7_is : MethodName := ⟨RX7, "is", "(Ljava/lang/Object;)Z"⟩
def dkwX7_is_0 : List UInt8 := [42, 43, 192, 0, 20, 182, 0, 29, 172]
abbrev dktX7_is_0 : List UInt8 := dkwX7_is_0 ++ []
theorem dksX7_is_0 : cX7_is.data.toList.drop 0 = dktX7_is_0 := by decide +kernel
theorem dX7_is_0 : decode cX7_is 0 = .ok (.aload_n 0, 1) := dk_42 (dk_at dksX7_is_0 0 rfl rfl)
theorem dX7_is_1 : decode cX7_is 1 = .ok (.aload_n 1, 1) := dk_43 (dk_at dksX7_is_0 1 rfl rfl)
theorem dX7_is_2 : decode cX7_is 2 = .ok (.checkcast 20, 3) := dk_192 0 20 (dk_at dksX7_is_0 2 rfl rfl)
theorem dX7_is_5 : decode cX7_is 5 = .ok (.invokevirtual 29, 3) := dk_182 0 29 (dk_at dksX7_is_0 5 rfl rfl)
theorem dX7_is_8 : decode cX7_is 8 = .ok (.ireturn, 1) := dk_172 (dk_at dksX7_is_0 8 rfl rfl)
abbrev cX7_is_2 : ByteArray := prog_2_method_2_code
def yX7_is_2 : MethodName := ⟨RX7, "is", "(LWheelWorks$Part;)Z"⟩
def dkwX7_is_2_1 : List UInt8 := [3, 172]
abbrev dktX7_is_2_1 : List UInt8 := dkwX7_is_2_1 ++ []
def dkwX7_is_2_0 : List UInt8 := [43, 180, 0, 19, 16, 100, 161, 0, 18, 43, 182, 0, 25, 42, 180, 0, 9, 166, 0, 7, 4, 167, 0, 4]
abbrev dktX7_is_2_0 : List UInt8 := dkwX7_is_2_0 ++ dktX7_is_2_1
theorem dksX7_is_2_0 : cX7_is_2.data.toList.drop 0 = dktX7_is_2_0 := by decide +kernel
theorem dksX7_is_2_1 : cX7_is_2.data.toList.drop 24 = dktX7_is_2_1 := dk_seg dksX7_is_2_0 24 rfl rfl
theorem dX7_is_2_0 : decode cX7_is_2 0 = .ok (.aload_n 1, 1) := dk_43 (dk_at dksX7_is_2_0 0 rfl rfl)
theorem dX7_is_2_1 : decode cX7_is_2 1 = .ok (.getfield 19, 3) := dk_180 0 19 (dk_at dksX7_is_2_0 1 rfl rfl)
theorem dX7_is_2_4 : decode cX7_is_2 4 = .ok (.bipush 100, 2) := dk_16 100 (dk_at dksX7_is_2_0 4 rfl rfl)
theorem dX7_is_2_6 : decode cX7_is_2 6 = .ok (.if_icmp .lt 18, 3) := dk_161 0 18 (dk_at dksX7_is_2_0 6 rfl rfl)
theorem dX7_is_2_9 : decode cX7_is_2 9 = .ok (.aload_n 1, 1) := dk_43 (dk_at dksX7_is_2_0 9 rfl rfl)
theorem dX7_is_2_10 : decode cX7_is_2 10 = .ok (.invokevirtual 25, 3) := dk_182 0 25 (dk_at dksX7_is_2_0 10 rfl rfl)
theorem dX7_is_2_13 : decode cX7_is_2 13 = .ok (.aload_n 0, 1) := dk_42 (dk_at dksX7_is_2_0 13 rfl rfl)
theorem dX7_is_2_14 : decode cX7_is_2 14 = .ok (.getfield 9, 3) := dk_180 0 9 (dk_at dksX7_is_2_0 14 rfl rfl)
theorem dX7_is_2_17 : decode cX7_is_2 17 = .ok (.if_acmp .ne 7, 3) := dk_166 0 7 (dk_at dksX7_is_2_0 17 rfl rfl)
theorem dX7_is_2_20 : decode cX7_is_2 20 = .ok (.iconst 1, 1) := dk_4 (dk_at dksX7_is_2_0 20 rfl rfl)
theorem dX7_is_2_21 : decode cX7_is_2 21 = .ok (.goto 4, 3) := dk_167 0 4 (dk_at dksX7_is_2_0 21 rfl rfl)
theorem dX7_is_2_24 : decode cX7_is_2 24 = .ok (.iconst 0, 1) := dk_3 (dk_at dksX7_is_2_1 0 rfl rfl)
theorem dX7_is_2_25 : decode cX7_is_2 25 = .ok (.ireturn, 1) := dk_172 (dk_at dksX7_is_2_1 1 rfl rfl)
theorem q62 : (Jvm.Cond.initialized "WheelWorks$1") ∈ lw_all := lw_g (lw_at lw_m1 24 rfl) rfl
theorem q148 : (Jvm.Cond.selects "WheelWorks$1" ({ cls := "java/lang/Object", name := "getClass", desc := "()Ljava/lang/Class;" } : Jvm.MethodName) ({ cls := "java/lang/Object", name := "getClass", desc := "()Ljava/lang/Class;" } : Jvm.MethodName)) ∈ lw_all := lw_g (lw_at lw_m1 110 rfl) rfl
theorem q404 : (Jvm.Cond.fieldLinkNest "WheelWorks$1" (19 : Nat) "WheelWorks$Part" "flaw" "I" "WheelWorks") ∈ lw_tbl := lw_at lw_m2 126 rfl
theorem q606 : (Jvm.Cond.selects "WheelWorks$1" ({ cls := "java/lang/Object", name := "equals", desc := "(Ljava/lang/Object;)Z" } : Jvm.MethodName) ({ cls := "java/lang/Object", name := "equals", desc := "(Ljava/lang/Object;)Z" } : Jvm.MethodName)) ∈ lw_all := lw_g (lw_at lw_m3 88 rfl) rfl
theorem q655 : (Jvm.Cond.instantiable "WheelWorks$1" (2 : Nat)) ∈ lw_all := lw_g (lw_at lw_m3 137 rfl) rfl
theorem q657 : (Jvm.Cond.instanceMethod ({ cls := "WheelWorks$1", name := "<init>", desc := "(LWheelWorks;LWheelWorks$Part;)V" } : Jvm.MethodName)) ∈ lw_all := lw_g (lw_at lw_m3 139 rfl) rfl
theorem q658 : (Jvm.Cond.code ({ cls := "WheelWorks$1", name := "<init>", desc := "(LWheelWorks;LWheelWorks$Part;)V" } : Jvm.MethodName) prog_2_method_1_code (3 : Nat) (Option.none : Option Jvm.ClassFile.FieldType)) ∈ lw_all := lw_g (lw_at lw_m3 140 rfl) rfl
theorem q659 : (Jvm.Cond.methodLink "WheelWorks$1" (13 : Nat) ({ cls := "java/lang/Object", name := "<init>", desc := "()V" } : Jvm.MethodName)) ∈ lw_all := lw_g (lw_at lw_m3 141 rfl) rfl
theorem q660 : (Jvm.Cond.fieldLink "WheelWorks$1" (9 : Nat) "WheelWorks$1" "val$its" "LWheelWorks$Part;") ∈ lw_all := lw_g (lw_at lw_m3 142 rfl) rfl
theorem q661 : (Jvm.Cond.fieldLink "WheelWorks$1" (3 : Nat) "WheelWorks$1" "this$0" "LWheelWorks;") ∈ lw_all := lw_g (lw_at lw_m3 143 rfl) rfl
theorem q662 : (Jvm.Cond.laysFinal "WheelWorks$1" "WheelWorks$1" "val$its" "LWheelWorks$Part;") ∈ lw_all := lw_g (lw_at lw_m3 144 rfl) rfl
theorem q663 : (Jvm.Cond.soleField "WheelWorks$1" "val$its") ∈ lw_all := lw_g (lw_at lw_m3 145 rfl) rfl
theorem q664 : (Jvm.Cond.laysFinal "WheelWorks$1" "WheelWorks$1" "this$0" "LWheelWorks;") ∈ lw_all := lw_g (lw_at lw_m3 146 rfl) rfl
theorem q665 : (Jvm.Cond.soleField "WheelWorks$1" "this$0") ∈ lw_all := lw_g (lw_at lw_m3 147 rfl) rfl
theorem q666 : (Jvm.Cond.superclass "WheelWorks$1" "java/lang/Object") ∈ lw_all := lw_g (lw_at lw_m3 148 rfl) rfl
theorem q675 : (Jvm.Cond.castable "WheelWorks$1" "WheelWorks$Test") ∈ lw_tbl := lw_at lw_m3 157 rfl
theorem q676 : (Jvm.Cond.selects "WheelWorks$1" ({ cls := "WheelWorks$Test", name := "is", desc := "(Ljava/lang/Object;)Z" } : Jvm.MethodName) ({ cls := "WheelWorks$1", name := "is", desc := "(Ljava/lang/Object;)Z" } : Jvm.MethodName)) ∈ lw_all := lw_g (lw_at lw_m3 158 rfl) rfl
theorem q677 : (Jvm.Cond.unhidden "WheelWorks$1" "is" "(Ljava/lang/Object;)Z") ∈ lw_tbl := lw_at lw_m3 159 rfl
theorem q678 : (Jvm.Cond.instanceMethod ({ cls := "WheelWorks$1", name := "is", desc := "(Ljava/lang/Object;)Z" } : Jvm.MethodName)) ∈ lw_all := lw_g (lw_at lw_m3 160 rfl) rfl
theorem q679 : (Jvm.Cond.publicMethod ({ cls := "WheelWorks$1", name := "is", desc := "(Ljava/lang/Object;)Z" } : Jvm.MethodName)) ∈ lw_tbl := lw_at lw_m3 161 rfl
theorem q680 : (Jvm.Cond.code ({ cls := "WheelWorks$1", name := "is", desc := "(Ljava/lang/Object;)Z" } : Jvm.MethodName) prog_2_method_3_code (2 : Nat) (Option.some Jvm.ClassFile.FieldType.boolean)) ∈ lw_all := lw_g (lw_at lw_m3 162 rfl) rfl
theorem q681 : (Jvm.Cond.classLink "WheelWorks$1" (20 : Nat) "WheelWorks$Part") ∈ lw_all := lw_g (lw_at lw_m3 163 rfl) rfl
theorem q682 : (Jvm.Cond.methodLink "WheelWorks$1" (29 : Nat) ({ cls := "WheelWorks$1", name := "is", desc := "(LWheelWorks$Part;)Z" } : Jvm.MethodName)) ∈ lw_all := lw_g (lw_at lw_m3 164 rfl) rfl
theorem q683 : (Jvm.Cond.instanceMethod ({ cls := "WheelWorks$1", name := "is", desc := "(LWheelWorks$Part;)Z" } : Jvm.MethodName)) ∈ lw_all := lw_g (lw_at lw_m3 165 rfl) rfl
theorem q684 : (Jvm.Cond.selects "WheelWorks$1" ({ cls := "WheelWorks$1", name := "is", desc := "(LWheelWorks$Part;)Z" } : Jvm.MethodName) ({ cls := "WheelWorks$1", name := "is", desc := "(LWheelWorks$Part;)Z" } : Jvm.MethodName)) ∈ lw_all := lw_g (lw_at lw_m3 166 rfl) rfl
theorem q685 : (Jvm.Cond.code ({ cls := "WheelWorks$1", name := "is", desc := "(LWheelWorks$Part;)Z" } : Jvm.MethodName) prog_2_method_2_code (2 : Nat) (Option.some Jvm.ClassFile.FieldType.boolean)) ∈ lw_all := lw_g (lw_at lw_m3 167 rfl) rfl
theorem q686 : (Jvm.Cond.methodLink "WheelWorks$1" (25 : Nat) ({ cls := "WheelWorks$Part", name := "head", desc := "()LWheelWorks$Part;" } : Jvm.MethodName)) ∈ lw_all := lw_g (lw_at lw_m3 168 rfl) rfl
theorem q1366 : (Jvm.Cond.castable "WheelWorks$1" "java/lang/Object") ∈ lw_tbl := lw_at lw_m6 128 rfl
theorem in_X7 : ∀ w ∈ wsX70, w ∈ lw_all := lw_in wsX70 [662, 664] (by decide +kernel) (by decide +kernel)

/-! WheelWorks$2 -/
set_option maxRecDepth 100000
def RX8 : String := "WheelWorks$2"
def TX8 : u_T := fun k => match k with
  | 0 => ("WheelWorks$2", "val$train", "LWheelWorks$Part;", true)
  | 1 => ("WheelWorks$2", "val$reason", "I", true)
  | _ => ("WheelWorks$2", "this$0", "LWheelWorks;", true)
def tyX8 : Nat → FieldType := fun k => match k with
  | 0 => .object "WheelWorks$Part"
  | 1 => .int
  | _ => .object "WheelWorks"
abbrev wsX80 : List Cond := u_ws RX8 TX8 3
theorem nmX8 : ∀ a, a < 3 → ∀ b, b < 3 → a ≠ b → (TX8 a).2.1 ≠ (TX8 b).2.1 := by decide +kernel
theorem tyX8_ok : ∀ k, k < 3 → parseFieldDescriptor (TX8 k).2.2.1 = some (tyX8 k) := by decide +kernel
abbrev cX8_is : ByteArray := prog_3_method_3_code
def yX8_is : MethodName := ⟨RX8, "is", "(Ljava/lang/Object;)Z"⟩
def dkwX8_is_0 : List UInt8 := [42, 43, 192, 0, 22, 182, 0, 33, 172]
abbrev dktX8_is_0 : List UInt8 := dkwX8_is_0 ++ []
theorem dksX8_is_0 : cX8_is.data.toList.drop 0 = dktX8_is_0 := by decide +kernel
theorem dX8_is_0 : decode cX8_is 0 = .ok (.aload_n 0, 1) := dk_42 (dk_at dksX8_is_0 0 rfl rfl)
theorem dX8_is_1 : decode cX8_is 1 = .ok (.aload_n 1, 1) := dk_43 (dk_at dksX8_is_0 1 rfl rfl)
theorem dX8_is_2 : decode cX8_is 2 = .ok (.checkcast 22, 3) := dk_192 0 22 (dk_at dksX8_is_0 2 rfl rfl)
theorem dX8_is_5 : decode cX8_is 5 = .ok (.invokevirtual 33, 3) := dk_182 0 33 (dk_at dksX8_is_0 5 rfl rfl)
theorem dX8_is_8 : decode cX8_is 8 = .ok (.ireturn, 1) := dk_172 (dk_at dksX8_is_0 8 rfl rfl)
abbrev cX8_is_2 : ByteArray := prog_3_method_2_code
def yX8_is_2 : MethodName := ⟨RX8, "is", "(LWheelWorks$Part;)Z"⟩
def dkwX8_is_2_1 : List UInt8 := [153, 0, 7, 4, 167, 0, 4, 3, 172]
abbrev dktX8_is_2_1 : List UInt8 := dkwX8_is_2_1 ++ []
def dkwX8_is_2_0 : List UInt8 := [43, 182, 0, 21, 42, 180, 0, 7, 166, 0, 22, 42, 180, 0, 1, 43, 42, 180, 0, 11, 182, 0, 27]
abbrev dktX8_is_2_0 : List UInt8 := dkwX8_is_2_0 ++ dktX8_is_2_1
theorem dksX8_is_2_0 : cX8_is_2.data.toList.drop 0 = dktX8_is_2_0 := by decide +kernel
theorem dksX8_is_2_1 : cX8_is_2.data.toList.drop 23 = dktX8_is_2_1 := dk_seg dksX8_is_2_0 23 rfl rfl
theorem dX8_is_2_0 : decode cX8_is_2 0 = .ok (.aload_n 1, 1) := dk_43 (dk_at dksX8_is_2_0 0 rfl rfl)
theorem dX8_is_2_1 : decode cX8_is_2 1 = .ok (.invokevirtual 21, 3) := dk_182 0 21 (dk_at dksX8_is_2_0 1 rfl rfl)
theorem dX8_is_2_4 : decode cX8_is_2 4 = .ok (.aload_n 0, 1) := dk_42 (dk_at dksX8_is_2_0 4 rfl rfl)
theorem dX8_is_2_5 : decode cX8_is_2 5 = .ok (.getfield 7, 3) := dk_180 0 7 (dk_at dksX8_is_2_0 5 rfl rfl)
theorem dX8_is_2_8 : decode cX8_is_2 8 = .ok (.if_acmp .ne 22, 3) := dk_166 0 22 (dk_at dksX8_is_2_0 8 rfl rfl)
theorem dX8_is_2_11 : decode cX8_is_2 11 = .ok (.aload_n 0, 1) := dk_42 (dk_at dksX8_is_2_0 11 rfl rfl)
theorem dX8_is_2_12 : decode cX8_is_2 12 = .ok (.getfield 1, 3) := dk_180 0 1 (dk_at dksX8_is_2_0 12 rfl rfl)
theorem dX8_is_2_15 : decode cX8_is_2 15 = .ok (.aload_n 1, 1) := dk_43 (dk_at dksX8_is_2_0 15 rfl rfl)
theorem dX8_is_2_16 : decode cX8_is_2 16 = .ok (.aload_n 0, 1) := dk_42 (dk_at dksX8_is_2_0 16 rfl rfl)
theorem dX8_is_2_17 : decode cX8_is_2 17 = .ok (.getfield 11, 3) := dk_180 0 11 (dk_at dksX8_is_2_0 17 rfl rfl)
theorem dX8_is_2_20 : decode cX8_is_2 20 = .ok (.invokevirtual 27, 3) := dk_182 0 27 (dk_at dksX8_is_2_0 20 rfl rfl)
theorem dX8_is_2_23 : decode cX8_is_2 23 = .ok (.ifCond .eq 7, 3) := dk_153 0 7 (dk_at dksX8_is_2_1 0 rfl rfl)
theorem dX8_is_2_26 : decode cX8_is_2 26 = .ok (.iconst 1, 1) := dk_4 (dk_at dksX8_is_2_1 3 rfl rfl)
theorem dX8_is_2_27 : decode cX8_is_2 27 = .ok (.goto 4, 3) := dk_167 0 4 (dk_at dksX8_is_2_1 4 rfl rfl)
theorem dX8_is_2_30 : decode cX8_is_2 30 = .ok (.iconst 0, 1) := dk_3 (dk_at dksX8_is_2_1 7 rfl rfl)
theorem dX8_is_2_31 : decode cX8_is_2 31 = .ok (.ireturn, 1) := dk_172 (dk_at dksX8_is_2_1 8 rfl rfl)
abbrev cX8_init : ByteArray := prog_3_method_1_code
def yX8_init : MethodName := ⟨RX8, "<init>", "(LWheelWorks;LWheelWorks$Part;I)V"⟩
def dkwX8_init_0 : List UInt8 := [42, 43, 181, 0, 1, 42, 44, 181, 0, 7, 42, 29, 181, 0, 11, 42, 183, 0, 15, 177]
abbrev dktX8_init_0 : List UInt8 := dkwX8_init_0 ++ []
theorem dksX8_init_0 : cX8_init.data.toList.drop 0 = dktX8_init_0 := by decide +kernel
theorem dX8_init_0 : decode cX8_init 0 = .ok (.aload_n 0, 1) := dk_42 (dk_at dksX8_init_0 0 rfl rfl)
theorem dX8_init_1 : decode cX8_init 1 = .ok (.aload_n 1, 1) := dk_43 (dk_at dksX8_init_0 1 rfl rfl)
theorem dX8_init_2 : decode cX8_init 2 = .ok (.putfield 1, 3) := dk_181 0 1 (dk_at dksX8_init_0 2 rfl rfl)
theorem dX8_init_5 : decode cX8_init 5 = .ok (.aload_n 0, 1) := dk_42 (dk_at dksX8_init_0 5 rfl rfl)
theorem dX8_init_6 : decode cX8_init 6 = .ok (.aload_n 2, 1) := dk_44 (dk_at dksX8_init_0 6 rfl rfl)
theorem dX8_init_7 : decode cX8_init 7 = .ok (.putfield 7, 3) := dk_181 0 7 (dk_at dksX8_init_0 7 rfl rfl)
theorem dX8_init_10 : decode cX8_init 10 = .ok (.aload_n 0, 1) := dk_42 (dk_at dksX8_init_0 10 rfl rfl)
theorem dX8_init_11 : decode cX8_init 11 = .ok (.iload_n 3, 1) := dk_29 (dk_at dksX8_init_0 11 rfl rfl)
theorem dX8_init_12 : decode cX8_init 12 = .ok (.putfield 11, 3) := dk_181 0 11 (dk_at dksX8_init_0 12 rfl rfl)
theorem dX8_init_15 : decode cX8_init 15 = .ok (.aload_n 0, 1) := dk_42 (dk_at dksX8_init_0 15 rfl rfl)
theorem dX8_init_16 : decode cX8_init 16 = .ok (.invokespecial 15, 3) := dk_183 0 15 (dk_at dksX8_init_0 16 rfl rfl)
theorem dX8_init_19 : decode cX8_init 19 = .ok (.return_, 1) := dk_177 (dk_at dksX8_init_0 19 rfl rfl)
theorem q64 : (Jvm.Cond.initialized "WheelWorks$2") ∈ lw_all := lw_g (lw_at lw_m1 26 rfl) rfl
theorem q149 : (Jvm.Cond.selects "WheelWorks$2" ({ cls := "java/lang/Object", name := "getClass", desc := "()Ljava/lang/Class;" } : Jvm.MethodName) ({ cls := "java/lang/Object", name := "getClass", desc := "()Ljava/lang/Class;" } : Jvm.MethodName)) ∈ lw_all := lw_g (lw_at lw_m1 111 rfl) rfl
theorem q607 : (Jvm.Cond.selects "WheelWorks$2" ({ cls := "java/lang/Object", name := "equals", desc := "(Ljava/lang/Object;)Z" } : Jvm.MethodName) ({ cls := "java/lang/Object", name := "equals", desc := "(Ljava/lang/Object;)Z" } : Jvm.MethodName)) ∈ lw_all := lw_g (lw_at lw_m3 89 rfl) rfl
theorem q687 : (Jvm.Cond.castable "WheelWorks$2" "WheelWorks$Test") ∈ lw_tbl := lw_at lw_m3 169 rfl
theorem q688 : (Jvm.Cond.selects "WheelWorks$2" ({ cls := "WheelWorks$Test", name := "is", desc := "(Ljava/lang/Object;)Z" } : Jvm.MethodName) ({ cls := "WheelWorks$2", name := "is", desc := "(Ljava/lang/Object;)Z" } : Jvm.MethodName)) ∈ lw_all := lw_g (lw_at lw_m3 170 rfl) rfl
theorem q689 : (Jvm.Cond.unhidden "WheelWorks$2" "is" "(Ljava/lang/Object;)Z") ∈ lw_tbl := lw_at lw_m3 171 rfl
theorem q690 : (Jvm.Cond.instanceMethod ({ cls := "WheelWorks$2", name := "is", desc := "(Ljava/lang/Object;)Z" } : Jvm.MethodName)) ∈ lw_all := lw_g (lw_at lw_m3 172 rfl) rfl
theorem q691 : (Jvm.Cond.publicMethod ({ cls := "WheelWorks$2", name := "is", desc := "(Ljava/lang/Object;)Z" } : Jvm.MethodName)) ∈ lw_tbl := lw_at lw_m3 173 rfl
theorem q692 : (Jvm.Cond.code ({ cls := "WheelWorks$2", name := "is", desc := "(Ljava/lang/Object;)Z" } : Jvm.MethodName) prog_3_method_3_code (2 : Nat) (Option.some Jvm.ClassFile.FieldType.boolean)) ∈ lw_all := lw_g (lw_at lw_m3 174 rfl) rfl
theorem q693 : (Jvm.Cond.classLink "WheelWorks$2" (22 : Nat) "WheelWorks$Part") ∈ lw_all := lw_g (lw_at lw_m3 175 rfl) rfl
theorem q694 : (Jvm.Cond.methodLink "WheelWorks$2" (33 : Nat) ({ cls := "WheelWorks$2", name := "is", desc := "(LWheelWorks$Part;)Z" } : Jvm.MethodName)) ∈ lw_all := lw_g (lw_at lw_m3 176 rfl) rfl
theorem q695 : (Jvm.Cond.instanceMethod ({ cls := "WheelWorks$2", name := "is", desc := "(LWheelWorks$Part;)Z" } : Jvm.MethodName)) ∈ lw_all := lw_g (lw_at lw_m3 177 rfl) rfl
theorem q696 : (Jvm.Cond.selects "WheelWorks$2" ({ cls := "WheelWorks$2", name := "is", desc := "(LWheelWorks$Part;)Z" } : Jvm.MethodName) ({ cls := "WheelWorks$2", name := "is", desc := "(LWheelWorks$Part;)Z" } : Jvm.MethodName)) ∈ lw_all := lw_g (lw_at lw_m3 178 rfl) rfl
theorem q697 : (Jvm.Cond.code ({ cls := "WheelWorks$2", name := "is", desc := "(LWheelWorks$Part;)Z" } : Jvm.MethodName) prog_3_method_2_code (2 : Nat) (Option.some Jvm.ClassFile.FieldType.boolean)) ∈ lw_all := lw_g (lw_at lw_m3 179 rfl) rfl
theorem q698 : (Jvm.Cond.methodLink "WheelWorks$2" (21 : Nat) ({ cls := "WheelWorks$Part", name := "head", desc := "()LWheelWorks$Part;" } : Jvm.MethodName)) ∈ lw_all := lw_g (lw_at lw_m3 180 rfl) rfl
theorem q699 : (Jvm.Cond.methodLinkNest "WheelWorks$2" (27 : Nat) ({ cls := "WheelWorks", name := "isBar", desc := "(LWheelWorks$Part;I)Z" } : Jvm.MethodName) "WheelWorks") ∈ lw_tbl := lw_at lw_m3 181 rfl
theorem q867 : (Jvm.Cond.instantiable "WheelWorks$2" (3 : Nat)) ∈ lw_all := lw_g (lw_at lw_m4 109 rfl) rfl
theorem q869 : (Jvm.Cond.instanceMethod ({ cls := "WheelWorks$2", name := "<init>", desc := "(LWheelWorks;LWheelWorks$Part;I)V" } : Jvm.MethodName)) ∈ lw_all := lw_g (lw_at lw_m4 111 rfl) rfl
theorem q870 : (Jvm.Cond.code ({ cls := "WheelWorks$2", name := "<init>", desc := "(LWheelWorks;LWheelWorks$Part;I)V" } : Jvm.MethodName) prog_3_method_1_code (4 : Nat) (Option.none : Option Jvm.ClassFile.FieldType)) ∈ lw_all := lw_g (lw_at lw_m4 112 rfl) rfl
theorem q871 : (Jvm.Cond.methodLink "WheelWorks$2" (15 : Nat) ({ cls := "java/lang/Object", name := "<init>", desc := "()V" } : Jvm.MethodName)) ∈ lw_all := lw_g (lw_at lw_m4 113 rfl) rfl
theorem q872 : (Jvm.Cond.fieldLink "WheelWorks$2" (7 : Nat) "WheelWorks$2" "val$train" "LWheelWorks$Part;") ∈ lw_all := lw_g (lw_at lw_m4 114 rfl) rfl
theorem q873 : (Jvm.Cond.fieldLink "WheelWorks$2" (11 : Nat) "WheelWorks$2" "val$reason" "I") ∈ lw_all := lw_g (lw_at lw_m4 115 rfl) rfl
theorem q874 : (Jvm.Cond.fieldLink "WheelWorks$2" (1 : Nat) "WheelWorks$2" "this$0" "LWheelWorks;") ∈ lw_all := lw_g (lw_at lw_m4 116 rfl) rfl
theorem q875 : (Jvm.Cond.laysFinal "WheelWorks$2" "WheelWorks$2" "val$train" "LWheelWorks$Part;") ∈ lw_all := lw_g (lw_at lw_m4 117 rfl) rfl
theorem q876 : (Jvm.Cond.soleField "WheelWorks$2" "val$train") ∈ lw_all := lw_g (lw_at lw_m4 118 rfl) rfl
theorem q877 : (Jvm.Cond.laysFinal "WheelWorks$2" "WheelWorks$2" "val$reason" "I") ∈ lw_all := lw_g (lw_at lw_m4 119 rfl) rfl
theorem q878 : (Jvm.Cond.soleField "WheelWorks$2" "val$reason") ∈ lw_all := lw_g (lw_at lw_m4 120 rfl) rfl
theorem q879 : (Jvm.Cond.laysFinal "WheelWorks$2" "WheelWorks$2" "this$0" "LWheelWorks;") ∈ lw_all := lw_g (lw_at lw_m4 121 rfl) rfl
theorem q880 : (Jvm.Cond.soleField "WheelWorks$2" "this$0") ∈ lw_all := lw_g (lw_at lw_m4 122 rfl) rfl
theorem q881 : (Jvm.Cond.superclass "WheelWorks$2" "java/lang/Object") ∈ lw_all := lw_g (lw_at lw_m4 123 rfl) rfl
theorem q1368 : (Jvm.Cond.castable "WheelWorks$2" "java/lang/Object") ∈ lw_tbl := lw_at lw_m6 130 rfl
theorem in_X8 : ∀ w ∈ wsX80, w ∈ lw_all := lw_in wsX80 [875, 877, 879] (by decide +kernel) (by decide +kernel)

/-! WheelWorks$Coming -/
set_option maxRecDepth 100000
def RX9 : String := "WheelWorks$Coming"
def TX9 : u_T := fun k => match k with
  | 0 => ("WheelWorks$Coming", "train", "LWheelWorks$Part;", true)
  | _ => ("WheelWorks$Coming", "time", "I", true)
def tyX9 : Nat → FieldType := fun k => match k with
  | 0 => .object "WheelWorks$Part"
  | _ => .int
abbrev wsX90 : List Cond := u_ws RX9 TX9 2
theorem nmX9 : ∀ a, a < 2 → ∀ b, b < 2 → a ≠ b → (TX9 a).2.1 ≠ (TX9 b).2.1 := by decide +kernel
theorem tyX9_ok : ∀ k, k < 2 → parseFieldDescriptor (TX9 k).2.2.1 = some (tyX9 k) := by decide +kernel
abbrev cX9_init : ByteArray := prog_4_method_1_code
def yX9_init : MethodName := ⟨RX9, "<init>", "(LWheelWorks$Part;I)V"⟩
def dkwX9_init_0 : List UInt8 := [42, 183, 0, 1, 42, 43, 181, 0, 7, 42, 28, 181, 0, 13, 177]
abbrev dktX9_init_0 : List UInt8 := dkwX9_init_0 ++ []
theorem dksX9_init_0 : cX9_init.data.toList.drop 0 = dktX9_init_0 := by decide +kernel
theorem dX9_init_0 : decode cX9_init 0 = .ok (.aload_n 0, 1) := dk_42 (dk_at dksX9_init_0 0 rfl rfl)
theorem dX9_init_1 : decode cX9_init 1 = .ok (.invokespecial 1, 3) := dk_183 0 1 (dk_at dksX9_init_0 1 rfl rfl)
theorem dX9_init_4 : decode cX9_init 4 = .ok (.aload_n 0, 1) := dk_42 (dk_at dksX9_init_0 4 rfl rfl)
theorem dX9_init_5 : decode cX9_init 5 = .ok (.aload_n 1, 1) := dk_43 (dk_at dksX9_init_0 5 rfl rfl)
theorem dX9_init_6 : decode cX9_init 6 = .ok (.putfield 7, 3) := dk_181 0 7 (dk_at dksX9_init_0 6 rfl rfl)
theorem dX9_init_9 : decode cX9_init 9 = .ok (.aload_n 0, 1) := dk_42 (dk_at dksX9_init_0 9 rfl rfl)
theorem dX9_init_10 : decode cX9_init 10 = .ok (.iload_n 2, 1) := dk_28 (dk_at dksX9_init_0 10 rfl rfl)
theorem dX9_init_11 : decode cX9_init 11 = .ok (.putfield 13, 3) := dk_181 0 13 (dk_at dksX9_init_0 11 rfl rfl)
theorem dX9_init_14 : decode cX9_init 14 = .ok (.return_, 1) := dk_177 (dk_at dksX9_init_0 14 rfl rfl)
theorem q65 : (Jvm.Cond.initialized "WheelWorks$Coming") ∈ lw_all := lw_g (lw_at lw_m1 27 rfl) rfl
theorem q150 : (Jvm.Cond.selects "WheelWorks$Coming" ({ cls := "java/lang/Object", name := "getClass", desc := "()Ljava/lang/Class;" } : Jvm.MethodName) ({ cls := "java/lang/Object", name := "getClass", desc := "()Ljava/lang/Class;" } : Jvm.MethodName)) ∈ lw_all := lw_g (lw_at lw_m1 112 rfl) rfl
theorem q608 : (Jvm.Cond.selects "WheelWorks$Coming" ({ cls := "java/lang/Object", name := "equals", desc := "(Ljava/lang/Object;)Z" } : Jvm.MethodName) ({ cls := "java/lang/Object", name := "equals", desc := "(Ljava/lang/Object;)Z" } : Jvm.MethodName)) ∈ lw_all := lw_g (lw_at lw_m3 90 rfl) rfl
theorem q893 : (Jvm.Cond.instantiable "WheelWorks$Coming" (2 : Nat)) ∈ lw_all := lw_g (lw_at lw_m4 135 rfl) rfl
theorem q895 : (Jvm.Cond.instanceMethod ({ cls := "WheelWorks$Coming", name := "<init>", desc := "(LWheelWorks$Part;I)V" } : Jvm.MethodName)) ∈ lw_all := lw_g (lw_at lw_m4 137 rfl) rfl
theorem q896 : (Jvm.Cond.code ({ cls := "WheelWorks$Coming", name := "<init>", desc := "(LWheelWorks$Part;I)V" } : Jvm.MethodName) prog_4_method_1_code (3 : Nat) (Option.none : Option Jvm.ClassFile.FieldType)) ∈ lw_all := lw_g (lw_at lw_m4 138 rfl) rfl
theorem q897 : (Jvm.Cond.methodLink "WheelWorks$Coming" (1 : Nat) ({ cls := "java/lang/Object", name := "<init>", desc := "()V" } : Jvm.MethodName)) ∈ lw_all := lw_g (lw_at lw_m4 139 rfl) rfl
theorem q898 : (Jvm.Cond.fieldLink "WheelWorks$Coming" (7 : Nat) "WheelWorks$Coming" "train" "LWheelWorks$Part;") ∈ lw_all := lw_g (lw_at lw_m4 140 rfl) rfl
theorem q900 : (Jvm.Cond.fieldLink "WheelWorks$Coming" (13 : Nat) "WheelWorks$Coming" "time" "I") ∈ lw_all := lw_g (lw_at lw_m4 142 rfl) rfl
theorem q902 : (Jvm.Cond.laysFinal "WheelWorks$Coming" "WheelWorks$Coming" "train" "LWheelWorks$Part;") ∈ lw_all := lw_g (lw_at lw_m4 144 rfl) rfl
theorem q903 : (Jvm.Cond.soleField "WheelWorks$Coming" "train") ∈ lw_all := lw_g (lw_at lw_m4 145 rfl) rfl
theorem q904 : (Jvm.Cond.laysFinal "WheelWorks$Coming" "WheelWorks$Coming" "time" "I") ∈ lw_all := lw_g (lw_at lw_m4 146 rfl) rfl
theorem q905 : (Jvm.Cond.soleField "WheelWorks$Coming" "time") ∈ lw_all := lw_g (lw_at lw_m4 147 rfl) rfl
theorem q906 : (Jvm.Cond.superclass "WheelWorks$Coming" "java/lang/Object") ∈ lw_all := lw_g (lw_at lw_m4 148 rfl) rfl
theorem q1369 : (Jvm.Cond.castable "WheelWorks$Coming" "java/lang/Object") ∈ lw_tbl := lw_at lw_m6 131 rfl
theorem in_X9 : ∀ w ∈ wsX90, w ∈ lw_all := lw_in wsX90 [902, 904] (by decide +kernel) (by decide +kernel)
