/-! WheelWorksModel -/
set_option maxRecDepth 100000
def RX3 : String := "WheelWorksModel"
def TX3 : u_T := fun k => match k with
  | 0 => ("WheelWorksModel", "thrown", "I", false)
  | 1 => ("WheelWorksModel", "many", "I", false)
  | 2 => ("WheelWorksModel", "kinds", "[I", true)
  | 3 => ("WheelWorksModel", "melts", "[I", true)
  | 4 => ("WheelWorksModel", "mods", "[I", true)
  | 5 => ("WheelWorksModel", "hosts", "[I", true)
  | 6 => ("WheelWorksModel", "lives", "[I", true)
  | 7 => ("WheelWorksModel", "since", "[I", true)
  | 8 => ("WheelWorksModel", "waived", "[I", true)
  | 9 => ("WheelWorksModel", "isHeld", "[Z", true)
  | 10 => ("WheelWorksModel", "isRecalled", "[Z", true)
  | 11 => ("WheelWorksModel", "wasReleased", "[Z", true)
  | 12 => ("WheelWorksModel", "standsOn", "[Z", true)
  | 13 => ("WheelWorksModel", "diameters", "[I", true)
  | 14 => ("WheelWorksModel", "flanges", "[I", true)
  | 15 => ("WheelWorksModel", "rubbed", "[I", true)
  | 16 => ("WheelWorksModel", "told", "[I", true)
  | 17 => ("WheelWorksModel", "wasTold", "[Z", true)
  | 18 => ("WheelWorksModel", "flaws", "[I", true)
  | 19 => ("WheelWorksModel", "flawAt", "[I", true)
  | 20 => ("WheelWorksModel", "lifeOf", "[I", true)
  | 21 => ("WheelWorksModel", "intervals", "[I", true)
  | 22 => ("WheelWorksModel", "windows", "[I", true)
  | 23 => ("WheelWorksModel", "moveMany", "I", false)
  | 24 => ("WheelWorksModel", "moved", "[I", true)
  | 25 => ("WheelWorksModel", "movedTo", "[I", true)
  | 26 => ("WheelWorksModel", "waitMany", "I", false)
  | 27 => ("WheelWorksModel", "waiting", "[I", true)
  | 28 => ("WheelWorksModel", "times", "[I", true)
  | 29 => ("WheelWorksModel", "best", "[I", true)
  | 30 => ("WheelWorksModel", "tried", "[I", true)
  | 31 => ("WheelWorksModel", "roadMany", "[I", true)
  | _ => ("WheelWorksModel", "roads", "[I", true)
def tyX3 : Nat → FieldType := fun k => match k with
  | 0 => .int
  | 1 => .int
  | 2 => .array .int
  | 3 => .array .int
  | 4 => .array .int
  | 5 => .array .int
  | 6 => .array .int
  | 7 => .array .int
  | 8 => .array .int
  | 9 => .array .boolean
  | 10 => .array .boolean
  | 11 => .array .boolean
  | 12 => .array .boolean
  | 13 => .array .int
  | 14 => .array .int
  | 15 => .array .int
  | 16 => .array .int
  | 17 => .array .boolean
  | 18 => .array .int
  | 19 => .array .int
  | 20 => .array .int
  | 21 => .array .int
  | 22 => .array .int
  | 23 => .int
  | 24 => .array .int
  | 25 => .array .int
  | 26 => .int
  | 27 => .array .int
  | 28 => .array .int
  | 29 => .array .int
  | 30 => .array .int
  | 31 => .array .int
  | _ => .array .int
abbrev wsX30 : List Cond := u_ws RX3 TX3 33
set_option maxRecDepth 100000 in
theorem nmX3 : ∀ a, a < 33 → ∀ b, b < 33 → a ≠ b → (TX3 a).2.1 ≠ (TX3 b).2.1 := by decide +kernel
set_option maxRecDepth 100000 in
theorem tyX3_ok : ∀ k, k < 33 → parseFieldDescriptor (TX3 k).2.2.1 = some (tyX3 k) := by decide +kernel
abbrev cX3_init : ByteArray := prog_12_method_1_code
def yX3_init : MethodName := ⟨RX3, "<init>", "()V"⟩
def dkwX3_init_10 : List UInt8 := [181, 0, 98, 177]
abbrev dktX3_init_10 : List UInt8 := dkwX3_init_10 ++ []
def dkwX3_init_9 : List UInt8 := [188, 10, 181, 0, 89, 42, 6, 188, 10, 181, 0, 92, 42, 16, 12, 188, 10, 181, 0, 95, 42, 3]
abbrev dktX3_init_9 : List UInt8 := dkwX3_init_9 ++ dktX3_init_10
def dkwX3_init_8 : List UInt8 := [188, 10, 181, 0, 80, 42, 16, 60, 188, 10, 181, 0, 83, 42, 16, 8, 188, 10, 181, 0, 86, 42, 16, 8]
abbrev dktX3_init_8 : List UInt8 := dkwX3_init_8 ++ dktX3_init_9
def dkwX3_init_7 : List UInt8 := [181, 0, 71, 42, 17, 15, 160, 188, 10, 181, 0, 74, 42, 17, 15, 160, 188, 10, 181, 0, 77, 42, 16, 8]
abbrev dktX3_init_7 : List UInt8 := dkwX3_init_7 ++ dktX3_init_8
def dkwX3_init_6 : List UInt8 := [188, 10, 181, 0, 62, 42, 8, 188, 10, 181, 0, 65, 42, 8, 188, 10, 181, 0, 68, 42, 8, 188, 10]
abbrev dktX3_init_6 : List UInt8 := dkwX3_init_6 ++ dktX3_init_7
def dkwX3_init_5 : List UInt8 := [188, 10, 181, 0, 53, 42, 16, 60, 188, 4, 181, 0, 56, 42, 16, 60, 188, 10, 181, 0, 59, 42, 16, 60]
abbrev dktX3_init_5 : List UInt8 := dkwX3_init_5 ++ dktX3_init_6
def dkwX3_init_4 : List UInt8 := [188, 10, 181, 0, 44, 42, 16, 60, 188, 10, 181, 0, 47, 42, 16, 60, 188, 10, 181, 0, 50, 42, 16, 60]
abbrev dktX3_init_4 : List UInt8 := dkwX3_init_4 ++ dktX3_init_5
def dkwX3_init_3 : List UInt8 := [188, 4, 181, 0, 35, 42, 16, 60, 188, 4, 181, 0, 38, 42, 16, 60, 188, 4, 181, 0, 41, 42, 16, 60]
abbrev dktX3_init_3 : List UInt8 := dkwX3_init_3 ++ dktX3_init_4
def dkwX3_init_2 : List UInt8 := [188, 10, 181, 0, 25, 42, 16, 60, 188, 10, 181, 0, 28, 42, 16, 60, 188, 4, 181, 0, 31, 42, 16, 60]
abbrev dktX3_init_2 : List UInt8 := dkwX3_init_2 ++ dktX3_init_3
def dkwX3_init_1 : List UInt8 := [188, 10, 181, 0, 16, 42, 16, 60, 188, 10, 181, 0, 19, 42, 16, 60, 188, 10, 181, 0, 22, 42, 16, 60]
abbrev dktX3_init_1 : List UInt8 := dkwX3_init_1 ++ dktX3_init_2
def dkwX3_init_0 : List UInt8 := [42, 183, 0, 1, 42, 16, 60, 188, 10, 181, 0, 7, 42, 16, 60, 188, 10, 181, 0, 13, 42, 16, 60]
abbrev dktX3_init_0 : List UInt8 := dkwX3_init_0 ++ dktX3_init_1
theorem dksX3_init_0 : cX3_init.data.toList.drop 0 = dktX3_init_0 := by decide +kernel
theorem dksX3_init_1 : cX3_init.data.toList.drop 23 = dktX3_init_1 := dk_seg dksX3_init_0 23 rfl rfl
theorem dksX3_init_2 : cX3_init.data.toList.drop 47 = dktX3_init_2 := dk_seg dksX3_init_1 24 rfl rfl
theorem dksX3_init_3 : cX3_init.data.toList.drop 71 = dktX3_init_3 := dk_seg dksX3_init_2 24 rfl rfl
theorem dksX3_init_4 : cX3_init.data.toList.drop 95 = dktX3_init_4 := dk_seg dksX3_init_3 24 rfl rfl
theorem dksX3_init_5 : cX3_init.data.toList.drop 119 = dktX3_init_5 := dk_seg dksX3_init_4 24 rfl rfl
theorem dksX3_init_6 : cX3_init.data.toList.drop 143 = dktX3_init_6 := dk_seg dksX3_init_5 24 rfl rfl
theorem dksX3_init_7 : cX3_init.data.toList.drop 166 = dktX3_init_7 := dk_seg dksX3_init_6 23 rfl rfl
theorem dksX3_init_8 : cX3_init.data.toList.drop 190 = dktX3_init_8 := dk_seg dksX3_init_7 24 rfl rfl
theorem dksX3_init_9 : cX3_init.data.toList.drop 214 = dktX3_init_9 := dk_seg dksX3_init_8 24 rfl rfl
theorem dksX3_init_10 : cX3_init.data.toList.drop 236 = dktX3_init_10 := dk_seg dksX3_init_9 22 rfl rfl
theorem dX3_init_0 : decode cX3_init 0 = .ok (.aload_n 0, 1) := dk_42 (dk_at dksX3_init_0 0 rfl rfl)
theorem dX3_init_1 : decode cX3_init 1 = .ok (.invokespecial 1, 3) := dk_183 0 1 (dk_at dksX3_init_0 1 rfl rfl)
theorem dX3_init_4 : decode cX3_init 4 = .ok (.aload_n 0, 1) := dk_42 (dk_at dksX3_init_0 4 rfl rfl)
theorem dX3_init_5 : decode cX3_init 5 = .ok (.bipush 60, 2) := dk_16 60 (dk_at dksX3_init_0 5 rfl rfl)
theorem dX3_init_7 : decode cX3_init 7 = .ok (.newarray .int, 2) := dk_188_10 (dk_at dksX3_init_0 7 rfl rfl)
theorem dX3_init_9 : decode cX3_init 9 = .ok (.putfield 7, 3) := dk_181 0 7 (dk_at dksX3_init_0 9 rfl rfl)
theorem dX3_init_12 : decode cX3_init 12 = .ok (.aload_n 0, 1) := dk_42 (dk_at dksX3_init_0 12 rfl rfl)
theorem dX3_init_13 : decode cX3_init 13 = .ok (.bipush 60, 2) := dk_16 60 (dk_at dksX3_init_0 13 rfl rfl)
theorem dX3_init_15 : decode cX3_init 15 = .ok (.newarray .int, 2) := dk_188_10 (dk_at dksX3_init_0 15 rfl rfl)
theorem dX3_init_17 : decode cX3_init 17 = .ok (.putfield 13, 3) := dk_181 0 13 (dk_at dksX3_init_0 17 rfl rfl)
theorem dX3_init_20 : decode cX3_init 20 = .ok (.aload_n 0, 1) := dk_42 (dk_at dksX3_init_0 20 rfl rfl)
theorem dX3_init_21 : decode cX3_init 21 = .ok (.bipush 60, 2) := dk_16 60 (dk_at dksX3_init_0 21 rfl rfl)
theorem dX3_init_23 : decode cX3_init 23 = .ok (.newarray .int, 2) := dk_188_10 (dk_at dksX3_init_1 0 rfl rfl)
theorem dX3_init_25 : decode cX3_init 25 = .ok (.putfield 16, 3) := dk_181 0 16 (dk_at dksX3_init_1 2 rfl rfl)
theorem dX3_init_28 : decode cX3_init 28 = .ok (.aload_n 0, 1) := dk_42 (dk_at dksX3_init_1 5 rfl rfl)
theorem dX3_init_29 : decode cX3_init 29 = .ok (.bipush 60, 2) := dk_16 60 (dk_at dksX3_init_1 6 rfl rfl)
theorem dX3_init_31 : decode cX3_init 31 = .ok (.newarray .int, 2) := dk_188_10 (dk_at dksX3_init_1 8 rfl rfl)
theorem dX3_init_33 : decode cX3_init 33 = .ok (.putfield 19, 3) := dk_181 0 19 (dk_at dksX3_init_1 10 rfl rfl)
theorem dX3_init_36 : decode cX3_init 36 = .ok (.aload_n 0, 1) := dk_42 (dk_at dksX3_init_1 13 rfl rfl)
theorem dX3_init_37 : decode cX3_init 37 = .ok (.bipush 60, 2) := dk_16 60 (dk_at dksX3_init_1 14 rfl rfl)
theorem dX3_init_39 : decode cX3_init 39 = .ok (.newarray .int, 2) := dk_188_10 (dk_at dksX3_init_1 16 rfl rfl)
theorem dX3_init_41 : decode cX3_init 41 = .ok (.putfield 22, 3) := dk_181 0 22 (dk_at dksX3_init_1 18 rfl rfl)
theorem dX3_init_44 : decode cX3_init 44 = .ok (.aload_n 0, 1) := dk_42 (dk_at dksX3_init_1 21 rfl rfl)
theorem dX3_init_45 : decode cX3_init 45 = .ok (.bipush 60, 2) := dk_16 60 (dk_at dksX3_init_1 22 rfl rfl)
theorem dX3_init_47 : decode cX3_init 47 = .ok (.newarray .int, 2) := dk_188_10 (dk_at dksX3_init_2 0 rfl rfl)
theorem dX3_init_49 : decode cX3_init 49 = .ok (.putfield 25, 3) := dk_181 0 25 (dk_at dksX3_init_2 2 rfl rfl)
theorem dX3_init_52 : decode cX3_init 52 = .ok (.aload_n 0, 1) := dk_42 (dk_at dksX3_init_2 5 rfl rfl)
theorem dX3_init_53 : decode cX3_init 53 = .ok (.bipush 60, 2) := dk_16 60 (dk_at dksX3_init_2 6 rfl rfl)
theorem dX3_init_55 : decode cX3_init 55 = .ok (.newarray .int, 2) := dk_188_10 (dk_at dksX3_init_2 8 rfl rfl)
theorem dX3_init_57 : decode cX3_init 57 = .ok (.putfield 28, 3) := dk_181 0 28 (dk_at dksX3_init_2 10 rfl rfl)
theorem dX3_init_60 : decode cX3_init 60 = .ok (.aload_n 0, 1) := dk_42 (dk_at dksX3_init_2 13 rfl rfl)
theorem dX3_init_61 : decode cX3_init 61 = .ok (.bipush 60, 2) := dk_16 60 (dk_at dksX3_init_2 14 rfl rfl)
theorem dX3_init_63 : decode cX3_init 63 = .ok (.newarray .boolean, 2) := dk_188_4 (dk_at dksX3_init_2 16 rfl rfl)
theorem dX3_init_65 : decode cX3_init 65 = .ok (.putfield 31, 3) := dk_181 0 31 (dk_at dksX3_init_2 18 rfl rfl)
theorem dX3_init_68 : decode cX3_init 68 = .ok (.aload_n 0, 1) := dk_42 (dk_at dksX3_init_2 21 rfl rfl)
theorem dX3_init_69 : decode cX3_init 69 = .ok (.bipush 60, 2) := dk_16 60 (dk_at dksX3_init_2 22 rfl rfl)
theorem dX3_init_71 : decode cX3_init 71 = .ok (.newarray .boolean, 2) := dk_188_4 (dk_at dksX3_init_3 0 rfl rfl)
theorem dX3_init_73 : decode cX3_init 73 = .ok (.putfield 35, 3) := dk_181 0 35 (dk_at dksX3_init_3 2 rfl rfl)
theorem dX3_init_76 : decode cX3_init 76 = .ok (.aload_n 0, 1) := dk_42 (dk_at dksX3_init_3 5 rfl rfl)
theorem dX3_init_77 : decode cX3_init 77 = .ok (.bipush 60, 2) := dk_16 60 (dk_at dksX3_init_3 6 rfl rfl)
theorem dX3_init_79 : decode cX3_init 79 = .ok (.newarray .boolean, 2) := dk_188_4 (dk_at dksX3_init_3 8 rfl rfl)
theorem dX3_init_81 : decode cX3_init 81 = .ok (.putfield 38, 3) := dk_181 0 38 (dk_at dksX3_init_3 10 rfl rfl)
theorem dX3_init_84 : decode cX3_init 84 = .ok (.aload_n 0, 1) := dk_42 (dk_at dksX3_init_3 13 rfl rfl)
theorem dX3_init_85 : decode cX3_init 85 = .ok (.bipush 60, 2) := dk_16 60 (dk_at dksX3_init_3 14 rfl rfl)
theorem dX3_init_87 : decode cX3_init 87 = .ok (.newarray .boolean, 2) := dk_188_4 (dk_at dksX3_init_3 16 rfl rfl)
theorem dX3_init_89 : decode cX3_init 89 = .ok (.putfield 41, 3) := dk_181 0 41 (dk_at dksX3_init_3 18 rfl rfl)
theorem dX3_init_92 : decode cX3_init 92 = .ok (.aload_n 0, 1) := dk_42 (dk_at dksX3_init_3 21 rfl rfl)
theorem dX3_init_93 : decode cX3_init 93 = .ok (.bipush 60, 2) := dk_16 60 (dk_at dksX3_init_3 22 rfl rfl)
theorem dX3_init_95 : decode cX3_init 95 = .ok (.newarray .int, 2) := dk_188_10 (dk_at dksX3_init_4 0 rfl rfl)
theorem dX3_init_97 : decode cX3_init 97 = .ok (.putfield 44, 3) := dk_181 0 44 (dk_at dksX3_init_4 2 rfl rfl)
theorem dX3_init_100 : decode cX3_init 100 = .ok (.aload_n 0, 1) := dk_42 (dk_at dksX3_init_4 5 rfl rfl)
theorem dX3_init_101 : decode cX3_init 101 = .ok (.bipush 60, 2) := dk_16 60 (dk_at dksX3_init_4 6 rfl rfl)
theorem dX3_init_103 : decode cX3_init 103 = .ok (.newarray .int, 2) := dk_188_10 (dk_at dksX3_init_4 8 rfl rfl)
theorem dX3_init_105 : decode cX3_init 105 = .ok (.putfield 47, 3) := dk_181 0 47 (dk_at dksX3_init_4 10 rfl rfl)
theorem dX3_init_108 : decode cX3_init 108 = .ok (.aload_n 0, 1) := dk_42 (dk_at dksX3_init_4 13 rfl rfl)
theorem dX3_init_109 : decode cX3_init 109 = .ok (.bipush 60, 2) := dk_16 60 (dk_at dksX3_init_4 14 rfl rfl)
theorem dX3_init_111 : decode cX3_init 111 = .ok (.newarray .int, 2) := dk_188_10 (dk_at dksX3_init_4 16 rfl rfl)
theorem dX3_init_113 : decode cX3_init 113 = .ok (.putfield 50, 3) := dk_181 0 50 (dk_at dksX3_init_4 18 rfl rfl)
theorem dX3_init_116 : decode cX3_init 116 = .ok (.aload_n 0, 1) := dk_42 (dk_at dksX3_init_4 21 rfl rfl)
theorem dX3_init_117 : decode cX3_init 117 = .ok (.bipush 60, 2) := dk_16 60 (dk_at dksX3_init_4 22 rfl rfl)
theorem dX3_init_119 : decode cX3_init 119 = .ok (.newarray .int, 2) := dk_188_10 (dk_at dksX3_init_5 0 rfl rfl)
theorem dX3_init_121 : decode cX3_init 121 = .ok (.putfield 53, 3) := dk_181 0 53 (dk_at dksX3_init_5 2 rfl rfl)
theorem dX3_init_124 : decode cX3_init 124 = .ok (.aload_n 0, 1) := dk_42 (dk_at dksX3_init_5 5 rfl rfl)
theorem dX3_init_125 : decode cX3_init 125 = .ok (.bipush 60, 2) := dk_16 60 (dk_at dksX3_init_5 6 rfl rfl)
theorem dX3_init_127 : decode cX3_init 127 = .ok (.newarray .boolean, 2) := dk_188_4 (dk_at dksX3_init_5 8 rfl rfl)
theorem dX3_init_129 : decode cX3_init 129 = .ok (.putfield 56, 3) := dk_181 0 56 (dk_at dksX3_init_5 10 rfl rfl)
theorem dX3_init_132 : decode cX3_init 132 = .ok (.aload_n 0, 1) := dk_42 (dk_at dksX3_init_5 13 rfl rfl)
theorem dX3_init_133 : decode cX3_init 133 = .ok (.bipush 60, 2) := dk_16 60 (dk_at dksX3_init_5 14 rfl rfl)
theorem dX3_init_135 : decode cX3_init 135 = .ok (.newarray .int, 2) := dk_188_10 (dk_at dksX3_init_5 16 rfl rfl)
theorem dX3_init_137 : decode cX3_init 137 = .ok (.putfield 59, 3) := dk_181 0 59 (dk_at dksX3_init_5 18 rfl rfl)
theorem dX3_init_140 : decode cX3_init 140 = .ok (.aload_n 0, 1) := dk_42 (dk_at dksX3_init_5 21 rfl rfl)
theorem dX3_init_141 : decode cX3_init 141 = .ok (.bipush 60, 2) := dk_16 60 (dk_at dksX3_init_5 22 rfl rfl)
theorem dX3_init_143 : decode cX3_init 143 = .ok (.newarray .int, 2) := dk_188_10 (dk_at dksX3_init_6 0 rfl rfl)
theorem dX3_init_145 : decode cX3_init 145 = .ok (.putfield 62, 3) := dk_181 0 62 (dk_at dksX3_init_6 2 rfl rfl)
theorem dX3_init_148 : decode cX3_init 148 = .ok (.aload_n 0, 1) := dk_42 (dk_at dksX3_init_6 5 rfl rfl)
theorem dX3_init_149 : decode cX3_init 149 = .ok (.iconst 5, 1) := dk_8 (dk_at dksX3_init_6 6 rfl rfl)
theorem dX3_init_150 : decode cX3_init 150 = .ok (.newarray .int, 2) := dk_188_10 (dk_at dksX3_init_6 7 rfl rfl)
theorem dX3_init_152 : decode cX3_init 152 = .ok (.putfield 65, 3) := dk_181 0 65 (dk_at dksX3_init_6 9 rfl rfl)
theorem dX3_init_155 : decode cX3_init 155 = .ok (.aload_n 0, 1) := dk_42 (dk_at dksX3_init_6 12 rfl rfl)
theorem dX3_init_156 : decode cX3_init 156 = .ok (.iconst 5, 1) := dk_8 (dk_at dksX3_init_6 13 rfl rfl)
theorem dX3_init_157 : decode cX3_init 157 = .ok (.newarray .int, 2) := dk_188_10 (dk_at dksX3_init_6 14 rfl rfl)
theorem dX3_init_159 : decode cX3_init 159 = .ok (.putfield 68, 3) := dk_181 0 68 (dk_at dksX3_init_6 16 rfl rfl)
theorem dX3_init_162 : decode cX3_init 162 = .ok (.aload_n 0, 1) := dk_42 (dk_at dksX3_init_6 19 rfl rfl)
theorem dX3_init_163 : decode cX3_init 163 = .ok (.iconst 5, 1) := dk_8 (dk_at dksX3_init_6 20 rfl rfl)
theorem dX3_init_164 : decode cX3_init 164 = .ok (.newarray .int, 2) := dk_188_10 (dk_at dksX3_init_6 21 rfl rfl)
theorem dX3_init_166 : decode cX3_init 166 = .ok (.putfield 71, 3) := dk_181 0 71 (dk_at dksX3_init_7 0 rfl rfl)
theorem dX3_init_169 : decode cX3_init 169 = .ok (.aload_n 0, 1) := dk_42 (dk_at dksX3_init_7 3 rfl rfl)
theorem dX3_init_170 : decode cX3_init 170 = .ok (.sipush 4000, 3) := dk_17 15 160 (dk_at dksX3_init_7 4 rfl rfl)
theorem dX3_init_173 : decode cX3_init 173 = .ok (.newarray .int, 2) := dk_188_10 (dk_at dksX3_init_7 7 rfl rfl)
theorem dX3_init_175 : decode cX3_init 175 = .ok (.putfield 74, 3) := dk_181 0 74 (dk_at dksX3_init_7 9 rfl rfl)
theorem dX3_init_178 : decode cX3_init 178 = .ok (.aload_n 0, 1) := dk_42 (dk_at dksX3_init_7 12 rfl rfl)
theorem dX3_init_179 : decode cX3_init 179 = .ok (.sipush 4000, 3) := dk_17 15 160 (dk_at dksX3_init_7 13 rfl rfl)
theorem dX3_init_182 : decode cX3_init 182 = .ok (.newarray .int, 2) := dk_188_10 (dk_at dksX3_init_7 16 rfl rfl)
theorem dX3_init_184 : decode cX3_init 184 = .ok (.putfield 77, 3) := dk_181 0 77 (dk_at dksX3_init_7 18 rfl rfl)
theorem dX3_init_187 : decode cX3_init 187 = .ok (.aload_n 0, 1) := dk_42 (dk_at dksX3_init_7 21 rfl rfl)
theorem dX3_init_188 : decode cX3_init 188 = .ok (.bipush 8, 2) := dk_16 8 (dk_at dksX3_init_7 22 rfl rfl)
theorem dX3_init_190 : decode cX3_init 190 = .ok (.newarray .int, 2) := dk_188_10 (dk_at dksX3_init_8 0 rfl rfl)
theorem dX3_init_192 : decode cX3_init 192 = .ok (.putfield 80, 3) := dk_181 0 80 (dk_at dksX3_init_8 2 rfl rfl)
theorem dX3_init_195 : decode cX3_init 195 = .ok (.aload_n 0, 1) := dk_42 (dk_at dksX3_init_8 5 rfl rfl)
theorem dX3_init_196 : decode cX3_init 196 = .ok (.bipush 60, 2) := dk_16 60 (dk_at dksX3_init_8 6 rfl rfl)
theorem dX3_init_198 : decode cX3_init 198 = .ok (.newarray .int, 2) := dk_188_10 (dk_at dksX3_init_8 8 rfl rfl)
theorem dX3_init_200 : decode cX3_init 200 = .ok (.putfield 83, 3) := dk_181 0 83 (dk_at dksX3_init_8 10 rfl rfl)
theorem dX3_init_203 : decode cX3_init 203 = .ok (.aload_n 0, 1) := dk_42 (dk_at dksX3_init_8 13 rfl rfl)
theorem dX3_init_204 : decode cX3_init 204 = .ok (.bipush 8, 2) := dk_16 8 (dk_at dksX3_init_8 14 rfl rfl)
theorem dX3_init_206 : decode cX3_init 206 = .ok (.newarray .int, 2) := dk_188_10 (dk_at dksX3_init_8 16 rfl rfl)
theorem dX3_init_208 : decode cX3_init 208 = .ok (.putfield 86, 3) := dk_181 0 86 (dk_at dksX3_init_8 18 rfl rfl)
theorem dX3_init_211 : decode cX3_init 211 = .ok (.aload_n 0, 1) := dk_42 (dk_at dksX3_init_8 21 rfl rfl)
theorem dX3_init_212 : decode cX3_init 212 = .ok (.bipush 8, 2) := dk_16 8 (dk_at dksX3_init_8 22 rfl rfl)
theorem dX3_init_214 : decode cX3_init 214 = .ok (.newarray .int, 2) := dk_188_10 (dk_at dksX3_init_9 0 rfl rfl)
theorem dX3_init_216 : decode cX3_init 216 = .ok (.putfield 89, 3) := dk_181 0 89 (dk_at dksX3_init_9 2 rfl rfl)
theorem dX3_init_219 : decode cX3_init 219 = .ok (.aload_n 0, 1) := dk_42 (dk_at dksX3_init_9 5 rfl rfl)
theorem dX3_init_220 : decode cX3_init 220 = .ok (.iconst 3, 1) := dk_6 (dk_at dksX3_init_9 6 rfl rfl)
theorem dX3_init_221 : decode cX3_init 221 = .ok (.newarray .int, 2) := dk_188_10 (dk_at dksX3_init_9 7 rfl rfl)
theorem dX3_init_223 : decode cX3_init 223 = .ok (.putfield 92, 3) := dk_181 0 92 (dk_at dksX3_init_9 9 rfl rfl)
theorem dX3_init_226 : decode cX3_init 226 = .ok (.aload_n 0, 1) := dk_42 (dk_at dksX3_init_9 12 rfl rfl)
theorem dX3_init_227 : decode cX3_init 227 = .ok (.bipush 12, 2) := dk_16 12 (dk_at dksX3_init_9 13 rfl rfl)
theorem dX3_init_229 : decode cX3_init 229 = .ok (.newarray .int, 2) := dk_188_10 (dk_at dksX3_init_9 15 rfl rfl)
theorem dX3_init_231 : decode cX3_init 231 = .ok (.putfield 95, 3) := dk_181 0 95 (dk_at dksX3_init_9 17 rfl rfl)
theorem dX3_init_234 : decode cX3_init 234 = .ok (.aload_n 0, 1) := dk_42 (dk_at dksX3_init_9 20 rfl rfl)
theorem dX3_init_235 : decode cX3_init 235 = .ok (.iconst 0, 1) := dk_3 (dk_at dksX3_init_9 21 rfl rfl)
theorem dX3_init_236 : decode cX3_init 236 = .ok (.putfield 98, 3) := dk_181 0 98 (dk_at dksX3_init_10 0 rfl rfl)
theorem dX3_init_239 : decode cX3_init 239 = .ok (.return_, 1) := dk_177 (dk_at dksX3_init_10 3 rfl rfl)
abbrev cX3_thrown : ByteArray := prog_12_method_2_code
def yX3_thrown : MethodName := ⟨RX3, "thrown", "()I"⟩
theorem dX3_thrown_0 : decode cX3_thrown 0 = .ok (.aload_n 0, 1) := by decide +kernel
theorem dX3_thrown_1 : decode cX3_thrown 1 = .ok (.getfield 98, 3) := by decide +kernel
theorem dX3_thrown_4 : decode cX3_thrown 4 = .ok (.ireturn, 1) := by decide +kernel
abbrev cX3_part : ByteArray := prog_12_method_6_code
def yX3_part : MethodName := ⟨RX3, "part", "(III)I"⟩
def dkwX3_part_5 : List UInt8 := [180, 0, 102, 17, 1, 44, 79, 42, 89, 180, 0, 102, 4, 96, 181, 0, 102, 42, 180, 0, 102, 4, 100, 172]
abbrev dktX3_part_5 : List UInt8 := dkwX3_part_5 ++ []
def dkwX3_part_4 : List UInt8 := [180, 0, 102, 2, 79, 42, 180, 0, 44, 42, 180, 0, 102, 17, 35, 40, 79, 42, 180, 0, 47, 42]
abbrev dktX3_part_4 : List UInt8 := dkwX3_part_4 ++ dktX3_part_5
def dkwX3_part_3 : List UInt8 := [180, 0, 13, 42, 180, 0, 102, 28, 79, 42, 180, 0, 16, 42, 180, 0, 102, 29, 79, 42, 180, 0, 19, 42]
abbrev dktX3_part_3 : List UInt8 := dkwX3_part_3 ++ dktX3_part_4
def dkwX3_part_2 : List UInt8 := [181, 0, 98, 42, 180, 0, 98, 158, 0, 5, 3, 172, 42, 180, 0, 7, 42, 180, 0, 102, 27, 79, 42]
abbrev dktX3_part_2 : List UInt8 := dkwX3_part_2 ++ dktX3_part_3
def dkwX3_part_1 : List UInt8 := [184, 0, 105, 154, 0, 7, 4, 167, 0, 17, 42, 180, 0, 102, 16, 60, 160, 0, 7, 5, 167, 0, 4, 3]
abbrev dktX3_part_1 : List UInt8 := dkwX3_part_1 ++ dktX3_part_2
def dkwX3_part_0 : List UInt8 := [42, 27, 3, 7, 184, 0, 105, 153, 0, 22, 28, 3, 16, 9, 184, 0, 105, 153, 0, 12, 29, 3, 6]
abbrev dktX3_part_0 : List UInt8 := dkwX3_part_0 ++ dktX3_part_1
theorem dksX3_part_0 : cX3_part.data.toList.drop 0 = dktX3_part_0 := by decide +kernel
theorem dksX3_part_1 : cX3_part.data.toList.drop 23 = dktX3_part_1 := dk_seg dksX3_part_0 23 rfl rfl
theorem dksX3_part_2 : cX3_part.data.toList.drop 47 = dktX3_part_2 := dk_seg dksX3_part_1 24 rfl rfl
theorem dksX3_part_3 : cX3_part.data.toList.drop 70 = dktX3_part_3 := dk_seg dksX3_part_2 23 rfl rfl
theorem dksX3_part_4 : cX3_part.data.toList.drop 94 = dktX3_part_4 := dk_seg dksX3_part_3 24 rfl rfl
theorem dksX3_part_5 : cX3_part.data.toList.drop 116 = dktX3_part_5 := dk_seg dksX3_part_4 22 rfl rfl
theorem dX3_part_0 : decode cX3_part 0 = .ok (.aload_n 0, 1) := dk_42 (dk_at dksX3_part_0 0 rfl rfl)
theorem dX3_part_1 : decode cX3_part 1 = .ok (.iload_n 1, 1) := dk_27 (dk_at dksX3_part_0 1 rfl rfl)
theorem dX3_part_2 : decode cX3_part 2 = .ok (.iconst 0, 1) := dk_3 (dk_at dksX3_part_0 2 rfl rfl)
theorem dX3_part_3 : decode cX3_part 3 = .ok (.iconst 4, 1) := dk_7 (dk_at dksX3_part_0 3 rfl rfl)
theorem dX3_part_4 : decode cX3_part 4 = .ok (.invokestatic 105, 3) := dk_184 0 105 (dk_at dksX3_part_0 4 rfl rfl)
theorem dX3_part_7 : decode cX3_part 7 = .ok (.ifCond .eq 22, 3) := dk_153 0 22 (dk_at dksX3_part_0 7 rfl rfl)
theorem dX3_part_10 : decode cX3_part 10 = .ok (.iload_n 2, 1) := dk_28 (dk_at dksX3_part_0 10 rfl rfl)
theorem dX3_part_11 : decode cX3_part 11 = .ok (.iconst 0, 1) := dk_3 (dk_at dksX3_part_0 11 rfl rfl)
theorem dX3_part_12 : decode cX3_part 12 = .ok (.bipush 9, 2) := dk_16 9 (dk_at dksX3_part_0 12 rfl rfl)
theorem dX3_part_14 : decode cX3_part 14 = .ok (.invokestatic 105, 3) := dk_184 0 105 (dk_at dksX3_part_0 14 rfl rfl)
theorem dX3_part_17 : decode cX3_part 17 = .ok (.ifCond .eq 12, 3) := dk_153 0 12 (dk_at dksX3_part_0 17 rfl rfl)
theorem dX3_part_20 : decode cX3_part 20 = .ok (.iload_n 3, 1) := dk_29 (dk_at dksX3_part_0 20 rfl rfl)
theorem dX3_part_21 : decode cX3_part 21 = .ok (.iconst 0, 1) := dk_3 (dk_at dksX3_part_0 21 rfl rfl)
theorem dX3_part_22 : decode cX3_part 22 = .ok (.iconst 3, 1) := dk_6 (dk_at dksX3_part_0 22 rfl rfl)
theorem dX3_part_23 : decode cX3_part 23 = .ok (.invokestatic 105, 3) := dk_184 0 105 (dk_at dksX3_part_1 0 rfl rfl)
theorem dX3_part_26 : decode cX3_part 26 = .ok (.ifCond .ne 7, 3) := dk_154 0 7 (dk_at dksX3_part_1 3 rfl rfl)
theorem dX3_part_29 : decode cX3_part 29 = .ok (.iconst 1, 1) := dk_4 (dk_at dksX3_part_1 6 rfl rfl)
theorem dX3_part_30 : decode cX3_part 30 = .ok (.goto 17, 3) := dk_167 0 17 (dk_at dksX3_part_1 7 rfl rfl)
theorem dX3_part_33 : decode cX3_part 33 = .ok (.aload_n 0, 1) := dk_42 (dk_at dksX3_part_1 10 rfl rfl)
theorem dX3_part_34 : decode cX3_part 34 = .ok (.getfield 102, 3) := dk_180 0 102 (dk_at dksX3_part_1 11 rfl rfl)
theorem dX3_part_37 : decode cX3_part 37 = .ok (.bipush 60, 2) := dk_16 60 (dk_at dksX3_part_1 14 rfl rfl)
theorem dX3_part_39 : decode cX3_part 39 = .ok (.if_icmp .ne 7, 3) := dk_160 0 7 (dk_at dksX3_part_1 16 rfl rfl)
theorem dX3_part_42 : decode cX3_part 42 = .ok (.iconst 2, 1) := dk_5 (dk_at dksX3_part_1 19 rfl rfl)
theorem dX3_part_43 : decode cX3_part 43 = .ok (.goto 4, 3) := dk_167 0 4 (dk_at dksX3_part_1 20 rfl rfl)
theorem dX3_part_46 : decode cX3_part 46 = .ok (.iconst 0, 1) := dk_3 (dk_at dksX3_part_1 23 rfl rfl)
theorem dX3_part_47 : decode cX3_part 47 = .ok (.putfield 98, 3) := dk_181 0 98 (dk_at dksX3_part_2 0 rfl rfl)
theorem dX3_part_50 : decode cX3_part 50 = .ok (.aload_n 0, 1) := dk_42 (dk_at dksX3_part_2 3 rfl rfl)
theorem dX3_part_51 : decode cX3_part 51 = .ok (.getfield 98, 3) := dk_180 0 98 (dk_at dksX3_part_2 4 rfl rfl)
theorem dX3_part_54 : decode cX3_part 54 = .ok (.ifCond .le 5, 3) := dk_158 0 5 (dk_at dksX3_part_2 7 rfl rfl)
theorem dX3_part_57 : decode cX3_part 57 = .ok (.iconst 0, 1) := dk_3 (dk_at dksX3_part_2 10 rfl rfl)
theorem dX3_part_58 : decode cX3_part 58 = .ok (.ireturn, 1) := dk_172 (dk_at dksX3_part_2 11 rfl rfl)
theorem dX3_part_59 : decode cX3_part 59 = .ok (.aload_n 0, 1) := dk_42 (dk_at dksX3_part_2 12 rfl rfl)
theorem dX3_part_60 : decode cX3_part 60 = .ok (.getfield 7, 3) := dk_180 0 7 (dk_at dksX3_part_2 13 rfl rfl)
theorem dX3_part_63 : decode cX3_part 63 = .ok (.aload_n 0, 1) := dk_42 (dk_at dksX3_part_2 16 rfl rfl)
theorem dX3_part_64 : decode cX3_part 64 = .ok (.getfield 102, 3) := dk_180 0 102 (dk_at dksX3_part_2 17 rfl rfl)
theorem dX3_part_67 : decode cX3_part 67 = .ok (.iload_n 1, 1) := dk_27 (dk_at dksX3_part_2 20 rfl rfl)
theorem dX3_part_68 : decode cX3_part 68 = .ok (.iastore, 1) := dk_79 (dk_at dksX3_part_2 21 rfl rfl)
theorem dX3_part_69 : decode cX3_part 69 = .ok (.aload_n 0, 1) := dk_42 (dk_at dksX3_part_2 22 rfl rfl)
theorem dX3_part_70 : decode cX3_part 70 = .ok (.getfield 13, 3) := dk_180 0 13 (dk_at dksX3_part_3 0 rfl rfl)
theorem dX3_part_73 : decode cX3_part 73 = .ok (.aload_n 0, 1) := dk_42 (dk_at dksX3_part_3 3 rfl rfl)
theorem dX3_part_74 : decode cX3_part 74 = .ok (.getfield 102, 3) := dk_180 0 102 (dk_at dksX3_part_3 4 rfl rfl)
theorem dX3_part_77 : decode cX3_part 77 = .ok (.iload_n 2, 1) := dk_28 (dk_at dksX3_part_3 7 rfl rfl)
theorem dX3_part_78 : decode cX3_part 78 = .ok (.iastore, 1) := dk_79 (dk_at dksX3_part_3 8 rfl rfl)
theorem dX3_part_79 : decode cX3_part 79 = .ok (.aload_n 0, 1) := dk_42 (dk_at dksX3_part_3 9 rfl rfl)
theorem dX3_part_80 : decode cX3_part 80 = .ok (.getfield 16, 3) := dk_180 0 16 (dk_at dksX3_part_3 10 rfl rfl)
theorem dX3_part_83 : decode cX3_part 83 = .ok (.aload_n 0, 1) := dk_42 (dk_at dksX3_part_3 13 rfl rfl)
theorem dX3_part_84 : decode cX3_part 84 = .ok (.getfield 102, 3) := dk_180 0 102 (dk_at dksX3_part_3 14 rfl rfl)
theorem dX3_part_87 : decode cX3_part 87 = .ok (.iload_n 3, 1) := dk_29 (dk_at dksX3_part_3 17 rfl rfl)
theorem dX3_part_88 : decode cX3_part 88 = .ok (.iastore, 1) := dk_79 (dk_at dksX3_part_3 18 rfl rfl)
theorem dX3_part_89 : decode cX3_part 89 = .ok (.aload_n 0, 1) := dk_42 (dk_at dksX3_part_3 19 rfl rfl)
theorem dX3_part_90 : decode cX3_part 90 = .ok (.getfield 19, 3) := dk_180 0 19 (dk_at dksX3_part_3 20 rfl rfl)
theorem dX3_part_93 : decode cX3_part 93 = .ok (.aload_n 0, 1) := dk_42 (dk_at dksX3_part_3 23 rfl rfl)
theorem dX3_part_94 : decode cX3_part 94 = .ok (.getfield 102, 3) := dk_180 0 102 (dk_at dksX3_part_4 0 rfl rfl)
theorem dX3_part_97 : decode cX3_part 97 = .ok (.iconst (-1), 1) := dk_2 (dk_at dksX3_part_4 3 rfl rfl)
theorem dX3_part_98 : decode cX3_part 98 = .ok (.iastore, 1) := dk_79 (dk_at dksX3_part_4 4 rfl rfl)
theorem dX3_part_99 : decode cX3_part 99 = .ok (.aload_n 0, 1) := dk_42 (dk_at dksX3_part_4 5 rfl rfl)
theorem dX3_part_100 : decode cX3_part 100 = .ok (.getfield 44, 3) := dk_180 0 44 (dk_at dksX3_part_4 6 rfl rfl)
theorem dX3_part_103 : decode cX3_part 103 = .ok (.aload_n 0, 1) := dk_42 (dk_at dksX3_part_4 9 rfl rfl)
theorem dX3_part_104 : decode cX3_part 104 = .ok (.getfield 102, 3) := dk_180 0 102 (dk_at dksX3_part_4 10 rfl rfl)
theorem dX3_part_107 : decode cX3_part 107 = .ok (.sipush 9000, 3) := dk_17 35 40 (dk_at dksX3_part_4 13 rfl rfl)
theorem dX3_part_110 : decode cX3_part 110 = .ok (.iastore, 1) := dk_79 (dk_at dksX3_part_4 16 rfl rfl)
theorem dX3_part_111 : decode cX3_part 111 = .ok (.aload_n 0, 1) := dk_42 (dk_at dksX3_part_4 17 rfl rfl)
theorem dX3_part_112 : decode cX3_part 112 = .ok (.getfield 47, 3) := dk_180 0 47 (dk_at dksX3_part_4 18 rfl rfl)
theorem dX3_part_115 : decode cX3_part 115 = .ok (.aload_n 0, 1) := dk_42 (dk_at dksX3_part_4 21 rfl rfl)
theorem dX3_part_116 : decode cX3_part 116 = .ok (.getfield 102, 3) := dk_180 0 102 (dk_at dksX3_part_5 0 rfl rfl)
theorem dX3_part_119 : decode cX3_part 119 = .ok (.sipush 300, 3) := dk_17 1 44 (dk_at dksX3_part_5 3 rfl rfl)
theorem dX3_part_122 : decode cX3_part 122 = .ok (.iastore, 1) := dk_79 (dk_at dksX3_part_5 6 rfl rfl)
theorem dX3_part_123 : decode cX3_part 123 = .ok (.aload_n 0, 1) := dk_42 (dk_at dksX3_part_5 7 rfl rfl)
theorem dX3_part_124 : decode cX3_part 124 = .ok (.dup, 1) := dk_89 (dk_at dksX3_part_5 8 rfl rfl)
theorem dX3_part_125 : decode cX3_part 125 = .ok (.getfield 102, 3) := dk_180 0 102 (dk_at dksX3_part_5 9 rfl rfl)
theorem dX3_part_128 : decode cX3_part 128 = .ok (.iconst 1, 1) := dk_4 (dk_at dksX3_part_5 12 rfl rfl)
theorem dX3_part_129 : decode cX3_part 129 = .ok (.iadd, 1) := dk_96 (dk_at dksX3_part_5 13 rfl rfl)
theorem dX3_part_130 : decode cX3_part 130 = .ok (.putfield 102, 3) := dk_181 0 102 (dk_at dksX3_part_5 14 rfl rfl)
theorem dX3_part_133 : decode cX3_part 133 = .ok (.aload_n 0, 1) := dk_42 (dk_at dksX3_part_5 17 rfl rfl)
theorem dX3_part_134 : decode cX3_part 134 = .ok (.getfield 102, 3) := dk_180 0 102 (dk_at dksX3_part_5 18 rfl rfl)
theorem dX3_part_137 : decode cX3_part 137 = .ok (.iconst 1, 1) := dk_4 (dk_at dksX3_part_5 21 rfl rfl)
theorem dX3_part_138 : decode cX3_part 138 = .ok (.isub, 1) := dk_100 (dk_at dksX3_part_5 22 rfl rfl)
theorem dX3_part_139 : decode cX3_part 139 = .ok (.ireturn, 1) := dk_172 (dk_at dksX3_part_5 23 rfl rfl)
abbrev cX3_in : ByteArray := prog_12_method_3_code
def yX3_in : MethodName := ⟨RX3, "in", "(III)Z"⟩
def dkwX3_in_0 : List UInt8 := [26, 27, 161, 0, 12, 26, 28, 163, 0, 7, 4, 167, 0, 4, 3, 172]
abbrev dktX3_in_0 : List UInt8 := dkwX3_in_0 ++ []
theorem dksX3_in_0 : cX3_in.data.toList.drop 0 = dktX3_in_0 := by decide +kernel
theorem dX3_in_0 : decode cX3_in 0 = .ok (.iload_n 0, 1) := dk_26 (dk_at dksX3_in_0 0 rfl rfl)
theorem dX3_in_1 : decode cX3_in 1 = .ok (.iload_n 1, 1) := dk_27 (dk_at dksX3_in_0 1 rfl rfl)
theorem dX3_in_2 : decode cX3_in 2 = .ok (.if_icmp .lt 12, 3) := dk_161 0 12 (dk_at dksX3_in_0 2 rfl rfl)
theorem dX3_in_5 : decode cX3_in 5 = .ok (.iload_n 0, 1) := dk_26 (dk_at dksX3_in_0 5 rfl rfl)
theorem dX3_in_6 : decode cX3_in 6 = .ok (.iload_n 2, 1) := dk_28 (dk_at dksX3_in_0 6 rfl rfl)
theorem dX3_in_7 : decode cX3_in 7 = .ok (.if_icmp .gt 7, 3) := dk_163 0 7 (dk_at dksX3_in_0 7 rfl rfl)
theorem dX3_in_10 : decode cX3_in 10 = .ok (.iconst 1, 1) := dk_4 (dk_at dksX3_in_0 10 rfl rfl)
theorem dX3_in_11 : decode cX3_in 11 = .ok (.goto 4, 3) := dk_167 0 4 (dk_at dksX3_in_0 11 rfl rfl)
theorem dX3_in_14 : decode cX3_in 14 = .ok (.iconst 0, 1) := dk_3 (dk_at dksX3_in_0 14 rfl rfl)
theorem dX3_in_15 : decode cX3_in 15 = .ok (.ireturn, 1) := dk_172 (dk_at dksX3_in_0 15 rfl rfl)
abbrev cX3_limits : ByteArray := prog_12_method_7_code
def yX3_limits : MethodName := ⟨RX3, "limits", "(IIII)I"⟩
def dkwX3_limits_3 : List UInt8 := [27, 28, 79, 42, 180, 0, 68, 27, 29, 79, 42, 180, 0, 71, 27, 21, 4, 79, 21, 5, 172]
abbrev dktX3_limits_3 : List UInt8 := dkwX3_limits_3 ++ []
def dkwX3_limits_2 : List UInt8 := [181, 0, 98, 42, 180, 0, 98, 158, 0, 5, 3, 172, 42, 180, 0, 65, 27, 46, 54, 5, 42, 180, 0, 65]
abbrev dktX3_limits_2 : List UInt8 := dkwX3_limits_2 ++ dktX3_limits_3
def dkwX3_limits_1 : List UInt8 := [184, 0, 105, 153, 0, 18, 21, 4, 3, 18, 113, 184, 0, 105, 153, 0, 7, 3, 167, 0, 4, 4]
abbrev dktX3_limits_1 : List UInt8 := dkwX3_limits_1 ++ dktX3_limits_2
def dkwX3_limits_0 : List UInt8 := [42, 27, 3, 7, 184, 0, 105, 153, 0, 38, 28, 3, 18, 113, 184, 0, 105, 153, 0, 28, 29, 3, 18, 113]
abbrev dktX3_limits_0 : List UInt8 := dkwX3_limits_0 ++ dktX3_limits_1
theorem dksX3_limits_0 : cX3_limits.data.toList.drop 0 = dktX3_limits_0 := by decide +kernel
theorem dksX3_limits_1 : cX3_limits.data.toList.drop 24 = dktX3_limits_1 := dk_seg dksX3_limits_0 24 rfl rfl
theorem dksX3_limits_2 : cX3_limits.data.toList.drop 46 = dktX3_limits_2 := dk_seg dksX3_limits_1 22 rfl rfl
theorem dksX3_limits_3 : cX3_limits.data.toList.drop 70 = dktX3_limits_3 := dk_seg dksX3_limits_2 24 rfl rfl
theorem dX3_limits_0 : decode cX3_limits 0 = .ok (.aload_n 0, 1) := dk_42 (dk_at dksX3_limits_0 0 rfl rfl)
theorem dX3_limits_1 : decode cX3_limits 1 = .ok (.iload_n 1, 1) := dk_27 (dk_at dksX3_limits_0 1 rfl rfl)
theorem dX3_limits_2 : decode cX3_limits 2 = .ok (.iconst 0, 1) := dk_3 (dk_at dksX3_limits_0 2 rfl rfl)
theorem dX3_limits_3 : decode cX3_limits 3 = .ok (.iconst 4, 1) := dk_7 (dk_at dksX3_limits_0 3 rfl rfl)
theorem dX3_limits_4 : decode cX3_limits 4 = .ok (.invokestatic 105, 3) := dk_184 0 105 (dk_at dksX3_limits_0 4 rfl rfl)
theorem dX3_limits_7 : decode cX3_limits 7 = .ok (.ifCond .eq 38, 3) := dk_153 0 38 (dk_at dksX3_limits_0 7 rfl rfl)
theorem dX3_limits_10 : decode cX3_limits 10 = .ok (.iload_n 2, 1) := dk_28 (dk_at dksX3_limits_0 10 rfl rfl)
theorem dX3_limits_11 : decode cX3_limits 11 = .ok (.iconst 0, 1) := dk_3 (dk_at dksX3_limits_0 11 rfl rfl)
theorem dX3_limits_12 : decode cX3_limits 12 = .ok (.ldc 113, 2) := dk_18 113 (dk_at dksX3_limits_0 12 rfl rfl)
theorem dX3_limits_14 : decode cX3_limits 14 = .ok (.invokestatic 105, 3) := dk_184 0 105 (dk_at dksX3_limits_0 14 rfl rfl)
theorem dX3_limits_17 : decode cX3_limits 17 = .ok (.ifCond .eq 28, 3) := dk_153 0 28 (dk_at dksX3_limits_0 17 rfl rfl)
theorem dX3_limits_20 : decode cX3_limits 20 = .ok (.iload_n 3, 1) := dk_29 (dk_at dksX3_limits_0 20 rfl rfl)
theorem dX3_limits_21 : decode cX3_limits 21 = .ok (.iconst 0, 1) := dk_3 (dk_at dksX3_limits_0 21 rfl rfl)
theorem dX3_limits_22 : decode cX3_limits 22 = .ok (.ldc 113, 2) := dk_18 113 (dk_at dksX3_limits_0 22 rfl rfl)
theorem dX3_limits_24 : decode cX3_limits 24 = .ok (.invokestatic 105, 3) := dk_184 0 105 (dk_at dksX3_limits_1 0 rfl rfl)
theorem dX3_limits_27 : decode cX3_limits 27 = .ok (.ifCond .eq 18, 3) := dk_153 0 18 (dk_at dksX3_limits_1 3 rfl rfl)
theorem dX3_limits_30 : decode cX3_limits 30 = .ok (.iload 4, 2) := dk_21 4 (dk_at dksX3_limits_1 6 rfl rfl)
theorem dX3_limits_32 : decode cX3_limits 32 = .ok (.iconst 0, 1) := dk_3 (dk_at dksX3_limits_1 8 rfl rfl)
theorem dX3_limits_33 : decode cX3_limits 33 = .ok (.ldc 113, 2) := dk_18 113 (dk_at dksX3_limits_1 9 rfl rfl)
theorem dX3_limits_35 : decode cX3_limits 35 = .ok (.invokestatic 105, 3) := dk_184 0 105 (dk_at dksX3_limits_1 11 rfl rfl)
theorem dX3_limits_38 : decode cX3_limits 38 = .ok (.ifCond .eq 7, 3) := dk_153 0 7 (dk_at dksX3_limits_1 14 rfl rfl)
theorem dX3_limits_41 : decode cX3_limits 41 = .ok (.iconst 0, 1) := dk_3 (dk_at dksX3_limits_1 17 rfl rfl)
theorem dX3_limits_42 : decode cX3_limits 42 = .ok (.goto 4, 3) := dk_167 0 4 (dk_at dksX3_limits_1 18 rfl rfl)
theorem dX3_limits_45 : decode cX3_limits 45 = .ok (.iconst 1, 1) := dk_4 (dk_at dksX3_limits_1 21 rfl rfl)
theorem dX3_limits_46 : decode cX3_limits 46 = .ok (.putfield 98, 3) := dk_181 0 98 (dk_at dksX3_limits_2 0 rfl rfl)
theorem dX3_limits_49 : decode cX3_limits 49 = .ok (.aload_n 0, 1) := dk_42 (dk_at dksX3_limits_2 3 rfl rfl)
theorem dX3_limits_50 : decode cX3_limits 50 = .ok (.getfield 98, 3) := dk_180 0 98 (dk_at dksX3_limits_2 4 rfl rfl)
theorem dX3_limits_53 : decode cX3_limits 53 = .ok (.ifCond .le 5, 3) := dk_158 0 5 (dk_at dksX3_limits_2 7 rfl rfl)
theorem dX3_limits_56 : decode cX3_limits 56 = .ok (.iconst 0, 1) := dk_3 (dk_at dksX3_limits_2 10 rfl rfl)
theorem dX3_limits_57 : decode cX3_limits 57 = .ok (.ireturn, 1) := dk_172 (dk_at dksX3_limits_2 11 rfl rfl)
theorem dX3_limits_58 : decode cX3_limits 58 = .ok (.aload_n 0, 1) := dk_42 (dk_at dksX3_limits_2 12 rfl rfl)
theorem dX3_limits_59 : decode cX3_limits 59 = .ok (.getfield 65, 3) := dk_180 0 65 (dk_at dksX3_limits_2 13 rfl rfl)
theorem dX3_limits_62 : decode cX3_limits 62 = .ok (.iload_n 1, 1) := dk_27 (dk_at dksX3_limits_2 16 rfl rfl)
theorem dX3_limits_63 : decode cX3_limits 63 = .ok (.iaload, 1) := dk_46 (dk_at dksX3_limits_2 17 rfl rfl)
theorem dX3_limits_64 : decode cX3_limits 64 = .ok (.istore 5, 2) := dk_54 5 (dk_at dksX3_limits_2 18 rfl rfl)
theorem dX3_limits_66 : decode cX3_limits 66 = .ok (.aload_n 0, 1) := dk_42 (dk_at dksX3_limits_2 20 rfl rfl)
theorem dX3_limits_67 : decode cX3_limits 67 = .ok (.getfield 65, 3) := dk_180 0 65 (dk_at dksX3_limits_2 21 rfl rfl)
theorem dX3_limits_70 : decode cX3_limits 70 = .ok (.iload_n 1, 1) := dk_27 (dk_at dksX3_limits_3 0 rfl rfl)
theorem dX3_limits_71 : decode cX3_limits 71 = .ok (.iload_n 2, 1) := dk_28 (dk_at dksX3_limits_3 1 rfl rfl)
theorem dX3_limits_72 : decode cX3_limits 72 = .ok (.iastore, 1) := dk_79 (dk_at dksX3_limits_3 2 rfl rfl)
theorem dX3_limits_73 : decode cX3_limits 73 = .ok (.aload_n 0, 1) := dk_42 (dk_at dksX3_limits_3 3 rfl rfl)
theorem dX3_limits_74 : decode cX3_limits 74 = .ok (.getfield 68, 3) := dk_180 0 68 (dk_at dksX3_limits_3 4 rfl rfl)
theorem dX3_limits_77 : decode cX3_limits 77 = .ok (.iload_n 1, 1) := dk_27 (dk_at dksX3_limits_3 7 rfl rfl)
theorem dX3_limits_78 : decode cX3_limits 78 = .ok (.iload_n 3, 1) := dk_29 (dk_at dksX3_limits_3 8 rfl rfl)
theorem dX3_limits_79 : decode cX3_limits 79 = .ok (.iastore, 1) := dk_79 (dk_at dksX3_limits_3 9 rfl rfl)
theorem dX3_limits_80 : decode cX3_limits 80 = .ok (.aload_n 0, 1) := dk_42 (dk_at dksX3_limits_3 10 rfl rfl)
theorem dX3_limits_81 : decode cX3_limits 81 = .ok (.getfield 71, 3) := dk_180 0 71 (dk_at dksX3_limits_3 11 rfl rfl)
theorem dX3_limits_84 : decode cX3_limits 84 = .ok (.iload_n 1, 1) := dk_27 (dk_at dksX3_limits_3 14 rfl rfl)
theorem dX3_limits_85 : decode cX3_limits 85 = .ok (.iload 4, 2) := dk_21 4 (dk_at dksX3_limits_3 15 rfl rfl)
theorem dX3_limits_87 : decode cX3_limits 87 = .ok (.iastore, 1) := dk_79 (dk_at dksX3_limits_3 17 rfl rfl)
theorem dX3_limits_88 : decode cX3_limits 88 = .ok (.iload 5, 2) := dk_21 5 (dk_at dksX3_limits_3 18 rfl rfl)
theorem dX3_limits_90 : decode cX3_limits 90 = .ok (.ireturn, 1) := dk_172 (dk_at dksX3_limits_3 20 rfl rfl)
abbrev cX3_fit : ByteArray := prog_12_method_15_code
def yX3_fit : MethodName := ⟨RX3, "fit", "(II)I"⟩
def dkwX3_fit_8 : List UInt8 := [158, 0, 5, 3, 172, 42, 27, 28, 182, 0, 131, 42, 27, 182, 0, 135, 42, 28, 2, 182, 0, 128, 172]
abbrev dktX3_fit_8 : List UInt8 := dkwX3_fit_8 ++ []
def dkwX3_fit_7 : List UInt8 := [167, 0, 4, 3, 62, 42, 29, 153, 0, 7, 3, 167, 0, 4, 6, 181, 0, 98, 42, 180, 0, 98]
abbrev dktX3_fit_7 : List UInt8 := dkwX3_fit_7 ++ dktX3_fit_8
def dkwX3_fit_6 : List UInt8 := [180, 0, 7, 27, 46, 184, 0, 121, 162, 0, 19, 21, 4, 4, 163, 0, 13, 21, 4, 2, 161, 0, 7, 4]
abbrev dktX3_fit_6 : List UInt8 := dkwX3_fit_6 ++ dktX3_fit_7
def dkwX3_fit_5 : List UInt8 := [29, 153, 0, 48, 42, 28, 42, 180, 0, 7, 27, 46, 182, 0, 128, 42, 180, 0, 7, 28, 46, 42]
abbrev dktX3_fit_5 : List UInt8 := dkwX3_fit_5 ++ dktX3_fit_6
def dkwX3_fit_4 : List UInt8 := [154, 0, 7, 4, 167, 0, 4, 3, 62, 42, 180, 0, 16, 27, 46, 42, 180, 0, 16, 28, 46, 100, 54, 4]
abbrev dktX3_fit_4 : List UInt8 := dkwX3_fit_4 ++ dktX3_fit_5
def dkwX3_fit_3 : List UInt8 := [180, 0, 31, 27, 51, 154, 0, 26, 42, 180, 0, 19, 28, 46, 16, 254, 159, 0, 15, 42, 28, 182, 0, 125]
abbrev dktX3_fit_3 : List UInt8 := dkwX3_fit_3 ++ dktX3_fit_4
def dkwX3_fit_2 : List UInt8 := [181, 0, 98, 42, 180, 0, 98, 158, 0, 5, 3, 172, 42, 180, 0, 19, 27, 46, 2, 160, 0, 35, 42]
abbrev dktX3_fit_2 : List UInt8 := dkwX3_fit_2 ++ dktX3_fit_3
def dkwX3_fit_1 : List UInt8 := [180, 0, 7, 28, 46, 42, 180, 0, 7, 27, 46, 184, 0, 121, 154, 0, 7, 5, 167, 0, 4, 3]
abbrev dktX3_fit_1 : List UInt8 := dkwX3_fit_1 ++ dktX3_fit_2
def dkwX3_fit_0 : List UInt8 := [42, 42, 27, 182, 0, 109, 153, 0, 11, 42, 28, 182, 0, 109, 154, 0, 7, 4, 167, 0, 26, 42]
abbrev dktX3_fit_0 : List UInt8 := dkwX3_fit_0 ++ dktX3_fit_1
theorem dksX3_fit_0 : cX3_fit.data.toList.drop 0 = dktX3_fit_0 := by decide +kernel
theorem dksX3_fit_1 : cX3_fit.data.toList.drop 22 = dktX3_fit_1 := dk_seg dksX3_fit_0 22 rfl rfl
theorem dksX3_fit_2 : cX3_fit.data.toList.drop 44 = dktX3_fit_2 := dk_seg dksX3_fit_1 22 rfl rfl
theorem dksX3_fit_3 : cX3_fit.data.toList.drop 67 = dktX3_fit_3 := dk_seg dksX3_fit_2 23 rfl rfl
theorem dksX3_fit_4 : cX3_fit.data.toList.drop 91 = dktX3_fit_4 := dk_seg dksX3_fit_3 24 rfl rfl
theorem dksX3_fit_5 : cX3_fit.data.toList.drop 115 = dktX3_fit_5 := dk_seg dksX3_fit_4 24 rfl rfl
theorem dksX3_fit_6 : cX3_fit.data.toList.drop 137 = dktX3_fit_6 := dk_seg dksX3_fit_5 22 rfl rfl
theorem dksX3_fit_7 : cX3_fit.data.toList.drop 161 = dktX3_fit_7 := dk_seg dksX3_fit_6 24 rfl rfl
theorem dksX3_fit_8 : cX3_fit.data.toList.drop 183 = dktX3_fit_8 := dk_seg dksX3_fit_7 22 rfl rfl
theorem dX3_fit_0 : decode cX3_fit 0 = .ok (.aload_n 0, 1) := dk_42 (dk_at dksX3_fit_0 0 rfl rfl)
theorem dX3_fit_1 : decode cX3_fit 1 = .ok (.aload_n 0, 1) := dk_42 (dk_at dksX3_fit_0 1 rfl rfl)
theorem dX3_fit_2 : decode cX3_fit 2 = .ok (.iload_n 1, 1) := dk_27 (dk_at dksX3_fit_0 2 rfl rfl)
theorem dX3_fit_3 : decode cX3_fit 3 = .ok (.invokevirtual 109, 3) := dk_182 0 109 (dk_at dksX3_fit_0 3 rfl rfl)
theorem dX3_fit_6 : decode cX3_fit 6 = .ok (.ifCond .eq 11, 3) := dk_153 0 11 (dk_at dksX3_fit_0 6 rfl rfl)
theorem dX3_fit_9 : decode cX3_fit 9 = .ok (.aload_n 0, 1) := dk_42 (dk_at dksX3_fit_0 9 rfl rfl)
theorem dX3_fit_10 : decode cX3_fit 10 = .ok (.iload_n 2, 1) := dk_28 (dk_at dksX3_fit_0 10 rfl rfl)
theorem dX3_fit_11 : decode cX3_fit 11 = .ok (.invokevirtual 109, 3) := dk_182 0 109 (dk_at dksX3_fit_0 11 rfl rfl)
theorem dX3_fit_14 : decode cX3_fit 14 = .ok (.ifCond .ne 7, 3) := dk_154 0 7 (dk_at dksX3_fit_0 14 rfl rfl)
theorem dX3_fit_17 : decode cX3_fit 17 = .ok (.iconst 1, 1) := dk_4 (dk_at dksX3_fit_0 17 rfl rfl)
theorem dX3_fit_18 : decode cX3_fit 18 = .ok (.goto 26, 3) := dk_167 0 26 (dk_at dksX3_fit_0 18 rfl rfl)
theorem dX3_fit_21 : decode cX3_fit 21 = .ok (.aload_n 0, 1) := dk_42 (dk_at dksX3_fit_0 21 rfl rfl)
theorem dX3_fit_22 : decode cX3_fit 22 = .ok (.getfield 7, 3) := dk_180 0 7 (dk_at dksX3_fit_1 0 rfl rfl)
theorem dX3_fit_25 : decode cX3_fit 25 = .ok (.iload_n 2, 1) := dk_28 (dk_at dksX3_fit_1 3 rfl rfl)
theorem dX3_fit_26 : decode cX3_fit 26 = .ok (.iaload, 1) := dk_46 (dk_at dksX3_fit_1 4 rfl rfl)
theorem dX3_fit_27 : decode cX3_fit 27 = .ok (.aload_n 0, 1) := dk_42 (dk_at dksX3_fit_1 5 rfl rfl)
theorem dX3_fit_28 : decode cX3_fit 28 = .ok (.getfield 7, 3) := dk_180 0 7 (dk_at dksX3_fit_1 6 rfl rfl)
theorem dX3_fit_31 : decode cX3_fit 31 = .ok (.iload_n 1, 1) := dk_27 (dk_at dksX3_fit_1 9 rfl rfl)
theorem dX3_fit_32 : decode cX3_fit 32 = .ok (.iaload, 1) := dk_46 (dk_at dksX3_fit_1 10 rfl rfl)
theorem dX3_fit_33 : decode cX3_fit 33 = .ok (.invokestatic 121, 3) := dk_184 0 121 (dk_at dksX3_fit_1 11 rfl rfl)
theorem dX3_fit_36 : decode cX3_fit 36 = .ok (.ifCond .ne 7, 3) := dk_154 0 7 (dk_at dksX3_fit_1 14 rfl rfl)
theorem dX3_fit_39 : decode cX3_fit 39 = .ok (.iconst 2, 1) := dk_5 (dk_at dksX3_fit_1 17 rfl rfl)
theorem dX3_fit_40 : decode cX3_fit 40 = .ok (.goto 4, 3) := dk_167 0 4 (dk_at dksX3_fit_1 18 rfl rfl)
theorem dX3_fit_43 : decode cX3_fit 43 = .ok (.iconst 0, 1) := dk_3 (dk_at dksX3_fit_1 21 rfl rfl)
theorem dX3_fit_44 : decode cX3_fit 44 = .ok (.putfield 98, 3) := dk_181 0 98 (dk_at dksX3_fit_2 0 rfl rfl)
theorem dX3_fit_47 : decode cX3_fit 47 = .ok (.aload_n 0, 1) := dk_42 (dk_at dksX3_fit_2 3 rfl rfl)
theorem dX3_fit_48 : decode cX3_fit 48 = .ok (.getfield 98, 3) := dk_180 0 98 (dk_at dksX3_fit_2 4 rfl rfl)
theorem dX3_fit_51 : decode cX3_fit 51 = .ok (.ifCond .le 5, 3) := dk_158 0 5 (dk_at dksX3_fit_2 7 rfl rfl)
theorem dX3_fit_54 : decode cX3_fit 54 = .ok (.iconst 0, 1) := dk_3 (dk_at dksX3_fit_2 10 rfl rfl)
theorem dX3_fit_55 : decode cX3_fit 55 = .ok (.ireturn, 1) := dk_172 (dk_at dksX3_fit_2 11 rfl rfl)
theorem dX3_fit_56 : decode cX3_fit 56 = .ok (.aload_n 0, 1) := dk_42 (dk_at dksX3_fit_2 12 rfl rfl)
theorem dX3_fit_57 : decode cX3_fit 57 = .ok (.getfield 19, 3) := dk_180 0 19 (dk_at dksX3_fit_2 13 rfl rfl)
theorem dX3_fit_60 : decode cX3_fit 60 = .ok (.iload_n 1, 1) := dk_27 (dk_at dksX3_fit_2 16 rfl rfl)
theorem dX3_fit_61 : decode cX3_fit 61 = .ok (.iaload, 1) := dk_46 (dk_at dksX3_fit_2 17 rfl rfl)
theorem dX3_fit_62 : decode cX3_fit 62 = .ok (.iconst (-1), 1) := dk_2 (dk_at dksX3_fit_2 18 rfl rfl)
theorem dX3_fit_63 : decode cX3_fit 63 = .ok (.if_icmp .ne 35, 3) := dk_160 0 35 (dk_at dksX3_fit_2 19 rfl rfl)
theorem dX3_fit_66 : decode cX3_fit 66 = .ok (.aload_n 0, 1) := dk_42 (dk_at dksX3_fit_2 22 rfl rfl)
theorem dX3_fit_67 : decode cX3_fit 67 = .ok (.getfield 31, 3) := dk_180 0 31 (dk_at dksX3_fit_3 0 rfl rfl)
theorem dX3_fit_70 : decode cX3_fit 70 = .ok (.iload_n 1, 1) := dk_27 (dk_at dksX3_fit_3 3 rfl rfl)
theorem dX3_fit_71 : decode cX3_fit 71 = .ok (.baload, 1) := dk_51 (dk_at dksX3_fit_3 4 rfl rfl)
theorem dX3_fit_72 : decode cX3_fit 72 = .ok (.ifCond .ne 26, 3) := dk_154 0 26 (dk_at dksX3_fit_3 5 rfl rfl)
theorem dX3_fit_75 : decode cX3_fit 75 = .ok (.aload_n 0, 1) := dk_42 (dk_at dksX3_fit_3 8 rfl rfl)
theorem dX3_fit_76 : decode cX3_fit 76 = .ok (.getfield 19, 3) := dk_180 0 19 (dk_at dksX3_fit_3 9 rfl rfl)
theorem dX3_fit_79 : decode cX3_fit 79 = .ok (.iload_n 2, 1) := dk_28 (dk_at dksX3_fit_3 12 rfl rfl)
theorem dX3_fit_80 : decode cX3_fit 80 = .ok (.iaload, 1) := dk_46 (dk_at dksX3_fit_3 13 rfl rfl)
theorem dX3_fit_81 : decode cX3_fit 81 = .ok (.bipush (-2), 2) := dk_16 254 (dk_at dksX3_fit_3 14 rfl rfl)
theorem dX3_fit_83 : decode cX3_fit 83 = .ok (.if_icmp .eq 15, 3) := dk_159 0 15 (dk_at dksX3_fit_3 16 rfl rfl)
theorem dX3_fit_86 : decode cX3_fit 86 = .ok (.aload_n 0, 1) := dk_42 (dk_at dksX3_fit_3 19 rfl rfl)
theorem dX3_fit_87 : decode cX3_fit 87 = .ok (.iload_n 2, 1) := dk_28 (dk_at dksX3_fit_3 20 rfl rfl)
theorem dX3_fit_88 : decode cX3_fit 88 = .ok (.invokevirtual 125, 3) := dk_182 0 125 (dk_at dksX3_fit_3 21 rfl rfl)
theorem dX3_fit_91 : decode cX3_fit 91 = .ok (.ifCond .ne 7, 3) := dk_154 0 7 (dk_at dksX3_fit_4 0 rfl rfl)
theorem dX3_fit_94 : decode cX3_fit 94 = .ok (.iconst 1, 1) := dk_4 (dk_at dksX3_fit_4 3 rfl rfl)
theorem dX3_fit_95 : decode cX3_fit 95 = .ok (.goto 4, 3) := dk_167 0 4 (dk_at dksX3_fit_4 4 rfl rfl)
theorem dX3_fit_98 : decode cX3_fit 98 = .ok (.iconst 0, 1) := dk_3 (dk_at dksX3_fit_4 7 rfl rfl)
theorem dX3_fit_99 : decode cX3_fit 99 = .ok (.istore_n 3, 1) := dk_62 (dk_at dksX3_fit_4 8 rfl rfl)
theorem dX3_fit_100 : decode cX3_fit 100 = .ok (.aload_n 0, 1) := dk_42 (dk_at dksX3_fit_4 9 rfl rfl)
theorem dX3_fit_101 : decode cX3_fit 101 = .ok (.getfield 16, 3) := dk_180 0 16 (dk_at dksX3_fit_4 10 rfl rfl)
theorem dX3_fit_104 : decode cX3_fit 104 = .ok (.iload_n 1, 1) := dk_27 (dk_at dksX3_fit_4 13 rfl rfl)
theorem dX3_fit_105 : decode cX3_fit 105 = .ok (.iaload, 1) := dk_46 (dk_at dksX3_fit_4 14 rfl rfl)
theorem dX3_fit_106 : decode cX3_fit 106 = .ok (.aload_n 0, 1) := dk_42 (dk_at dksX3_fit_4 15 rfl rfl)
theorem dX3_fit_107 : decode cX3_fit 107 = .ok (.getfield 16, 3) := dk_180 0 16 (dk_at dksX3_fit_4 16 rfl rfl)
theorem dX3_fit_110 : decode cX3_fit 110 = .ok (.iload_n 2, 1) := dk_28 (dk_at dksX3_fit_4 19 rfl rfl)
theorem dX3_fit_111 : decode cX3_fit 111 = .ok (.iaload, 1) := dk_46 (dk_at dksX3_fit_4 20 rfl rfl)
theorem dX3_fit_112 : decode cX3_fit 112 = .ok (.isub, 1) := dk_100 (dk_at dksX3_fit_4 21 rfl rfl)
theorem dX3_fit_113 : decode cX3_fit 113 = .ok (.istore 4, 2) := dk_54 4 (dk_at dksX3_fit_4 22 rfl rfl)
theorem dX3_fit_115 : decode cX3_fit 115 = .ok (.iload_n 3, 1) := dk_29 (dk_at dksX3_fit_5 0 rfl rfl)
theorem dX3_fit_116 : decode cX3_fit 116 = .ok (.ifCond .eq 48, 3) := dk_153 0 48 (dk_at dksX3_fit_5 1 rfl rfl)
theorem dX3_fit_119 : decode cX3_fit 119 = .ok (.aload_n 0, 1) := dk_42 (dk_at dksX3_fit_5 4 rfl rfl)
theorem dX3_fit_120 : decode cX3_fit 120 = .ok (.iload_n 2, 1) := dk_28 (dk_at dksX3_fit_5 5 rfl rfl)
theorem dX3_fit_121 : decode cX3_fit 121 = .ok (.aload_n 0, 1) := dk_42 (dk_at dksX3_fit_5 6 rfl rfl)
theorem dX3_fit_122 : decode cX3_fit 122 = .ok (.getfield 7, 3) := dk_180 0 7 (dk_at dksX3_fit_5 7 rfl rfl)
theorem dX3_fit_125 : decode cX3_fit 125 = .ok (.iload_n 1, 1) := dk_27 (dk_at dksX3_fit_5 10 rfl rfl)
theorem dX3_fit_126 : decode cX3_fit 126 = .ok (.iaload, 1) := dk_46 (dk_at dksX3_fit_5 11 rfl rfl)
theorem dX3_fit_127 : decode cX3_fit 127 = .ok (.invokevirtual 128, 3) := dk_182 0 128 (dk_at dksX3_fit_5 12 rfl rfl)
theorem dX3_fit_130 : decode cX3_fit 130 = .ok (.aload_n 0, 1) := dk_42 (dk_at dksX3_fit_5 15 rfl rfl)
theorem dX3_fit_131 : decode cX3_fit 131 = .ok (.getfield 7, 3) := dk_180 0 7 (dk_at dksX3_fit_5 16 rfl rfl)
theorem dX3_fit_134 : decode cX3_fit 134 = .ok (.iload_n 2, 1) := dk_28 (dk_at dksX3_fit_5 19 rfl rfl)
theorem dX3_fit_135 : decode cX3_fit 135 = .ok (.iaload, 1) := dk_46 (dk_at dksX3_fit_5 20 rfl rfl)
theorem dX3_fit_136 : decode cX3_fit 136 = .ok (.aload_n 0, 1) := dk_42 (dk_at dksX3_fit_5 21 rfl rfl)
theorem dX3_fit_137 : decode cX3_fit 137 = .ok (.getfield 7, 3) := dk_180 0 7 (dk_at dksX3_fit_6 0 rfl rfl)
theorem dX3_fit_140 : decode cX3_fit 140 = .ok (.iload_n 1, 1) := dk_27 (dk_at dksX3_fit_6 3 rfl rfl)
theorem dX3_fit_141 : decode cX3_fit 141 = .ok (.iaload, 1) := dk_46 (dk_at dksX3_fit_6 4 rfl rfl)
theorem dX3_fit_142 : decode cX3_fit 142 = .ok (.invokestatic 121, 3) := dk_184 0 121 (dk_at dksX3_fit_6 5 rfl rfl)
theorem dX3_fit_145 : decode cX3_fit 145 = .ok (.if_icmp .ge 19, 3) := dk_162 0 19 (dk_at dksX3_fit_6 8 rfl rfl)
theorem dX3_fit_148 : decode cX3_fit 148 = .ok (.iload 4, 2) := dk_21 4 (dk_at dksX3_fit_6 11 rfl rfl)
theorem dX3_fit_150 : decode cX3_fit 150 = .ok (.iconst 1, 1) := dk_4 (dk_at dksX3_fit_6 13 rfl rfl)
theorem dX3_fit_151 : decode cX3_fit 151 = .ok (.if_icmp .gt 13, 3) := dk_163 0 13 (dk_at dksX3_fit_6 14 rfl rfl)
theorem dX3_fit_154 : decode cX3_fit 154 = .ok (.iload 4, 2) := dk_21 4 (dk_at dksX3_fit_6 17 rfl rfl)
theorem dX3_fit_156 : decode cX3_fit 156 = .ok (.iconst (-1), 1) := dk_2 (dk_at dksX3_fit_6 19 rfl rfl)
theorem dX3_fit_157 : decode cX3_fit 157 = .ok (.if_icmp .lt 7, 3) := dk_161 0 7 (dk_at dksX3_fit_6 20 rfl rfl)
theorem dX3_fit_160 : decode cX3_fit 160 = .ok (.iconst 1, 1) := dk_4 (dk_at dksX3_fit_6 23 rfl rfl)
theorem dX3_fit_161 : decode cX3_fit 161 = .ok (.goto 4, 3) := dk_167 0 4 (dk_at dksX3_fit_7 0 rfl rfl)
theorem dX3_fit_164 : decode cX3_fit 164 = .ok (.iconst 0, 1) := dk_3 (dk_at dksX3_fit_7 3 rfl rfl)
theorem dX3_fit_165 : decode cX3_fit 165 = .ok (.istore_n 3, 1) := dk_62 (dk_at dksX3_fit_7 4 rfl rfl)
theorem dX3_fit_166 : decode cX3_fit 166 = .ok (.aload_n 0, 1) := dk_42 (dk_at dksX3_fit_7 5 rfl rfl)
theorem dX3_fit_167 : decode cX3_fit 167 = .ok (.iload_n 3, 1) := dk_29 (dk_at dksX3_fit_7 6 rfl rfl)
theorem dX3_fit_168 : decode cX3_fit 168 = .ok (.ifCond .eq 7, 3) := dk_153 0 7 (dk_at dksX3_fit_7 7 rfl rfl)
theorem dX3_fit_171 : decode cX3_fit 171 = .ok (.iconst 0, 1) := dk_3 (dk_at dksX3_fit_7 10 rfl rfl)
theorem dX3_fit_172 : decode cX3_fit 172 = .ok (.goto 4, 3) := dk_167 0 4 (dk_at dksX3_fit_7 11 rfl rfl)
theorem dX3_fit_175 : decode cX3_fit 175 = .ok (.iconst 3, 1) := dk_6 (dk_at dksX3_fit_7 14 rfl rfl)
theorem dX3_fit_176 : decode cX3_fit 176 = .ok (.putfield 98, 3) := dk_181 0 98 (dk_at dksX3_fit_7 15 rfl rfl)
theorem dX3_fit_179 : decode cX3_fit 179 = .ok (.aload_n 0, 1) := dk_42 (dk_at dksX3_fit_7 18 rfl rfl)
theorem dX3_fit_180 : decode cX3_fit 180 = .ok (.getfield 98, 3) := dk_180 0 98 (dk_at dksX3_fit_7 19 rfl rfl)
theorem dX3_fit_183 : decode cX3_fit 183 = .ok (.ifCond .le 5, 3) := dk_158 0 5 (dk_at dksX3_fit_8 0 rfl rfl)
theorem dX3_fit_186 : decode cX3_fit 186 = .ok (.iconst 0, 1) := dk_3 (dk_at dksX3_fit_8 3 rfl rfl)
theorem dX3_fit_187 : decode cX3_fit 187 = .ok (.ireturn, 1) := dk_172 (dk_at dksX3_fit_8 4 rfl rfl)
theorem dX3_fit_188 : decode cX3_fit 188 = .ok (.aload_n 0, 1) := dk_42 (dk_at dksX3_fit_8 5 rfl rfl)
theorem dX3_fit_189 : decode cX3_fit 189 = .ok (.iload_n 1, 1) := dk_27 (dk_at dksX3_fit_8 6 rfl rfl)
theorem dX3_fit_190 : decode cX3_fit 190 = .ok (.iload_n 2, 1) := dk_28 (dk_at dksX3_fit_8 7 rfl rfl)
theorem dX3_fit_191 : decode cX3_fit 191 = .ok (.invokevirtual 131, 3) := dk_182 0 131 (dk_at dksX3_fit_8 8 rfl rfl)
theorem dX3_fit_194 : decode cX3_fit 194 = .ok (.aload_n 0, 1) := dk_42 (dk_at dksX3_fit_8 11 rfl rfl)
theorem dX3_fit_195 : decode cX3_fit 195 = .ok (.iload_n 1, 1) := dk_27 (dk_at dksX3_fit_8 12 rfl rfl)
theorem dX3_fit_196 : decode cX3_fit 196 = .ok (.invokevirtual 135, 3) := dk_182 0 135 (dk_at dksX3_fit_8 13 rfl rfl)
theorem dX3_fit_199 : decode cX3_fit 199 = .ok (.aload_n 0, 1) := dk_42 (dk_at dksX3_fit_8 16 rfl rfl)
theorem dX3_fit_200 : decode cX3_fit 200 = .ok (.iload_n 2, 1) := dk_28 (dk_at dksX3_fit_8 17 rfl rfl)
theorem dX3_fit_201 : decode cX3_fit 201 = .ok (.iconst (-1), 1) := dk_2 (dk_at dksX3_fit_8 18 rfl rfl)
theorem dX3_fit_202 : decode cX3_fit 202 = .ok (.invokevirtual 128, 3) := dk_182 0 128 (dk_at dksX3_fit_8 19 rfl rfl)
theorem dX3_fit_205 : decode cX3_fit 205 = .ok (.ireturn, 1) := dk_172 (dk_at dksX3_fit_8 22 rfl rfl)
abbrev cX3_isPart : ByteArray := prog_12_method_4_code
def yX3_isPart : MethodName := ⟨RX3, "isPart", "(I)Z"⟩
def dkwX3_isPart_0 : List UInt8 := [27, 3, 42, 180, 0, 102, 4, 100, 184, 0, 105, 172]
abbrev dktX3_isPart_0 : List UInt8 := dkwX3_isPart_0 ++ []
theorem dksX3_isPart_0 : cX3_isPart.data.toList.drop 0 = dktX3_isPart_0 := by decide +kernel
theorem dX3_isPart_0 : decode cX3_isPart 0 = .ok (.iload_n 1, 1) := dk_27 (dk_at dksX3_isPart_0 0 rfl rfl)
theorem dX3_isPart_1 : decode cX3_isPart 1 = .ok (.iconst 0, 1) := dk_3 (dk_at dksX3_isPart_0 1 rfl rfl)
theorem dX3_isPart_2 : decode cX3_isPart 2 = .ok (.aload_n 0, 1) := dk_42 (dk_at dksX3_isPart_0 2 rfl rfl)
theorem dX3_isPart_3 : decode cX3_isPart 3 = .ok (.getfield 102, 3) := dk_180 0 102 (dk_at dksX3_isPart_0 3 rfl rfl)
theorem dX3_isPart_6 : decode cX3_isPart 6 = .ok (.iconst 1, 1) := dk_4 (dk_at dksX3_isPart_0 6 rfl rfl)
theorem dX3_isPart_7 : decode cX3_isPart 7 = .ok (.isub, 1) := dk_100 (dk_at dksX3_isPart_0 7 rfl rfl)
theorem dX3_isPart_8 : decode cX3_isPart 8 = .ok (.invokestatic 105, 3) := dk_184 0 105 (dk_at dksX3_isPart_0 8 rfl rfl)
theorem dX3_isPart_11 : decode cX3_isPart 11 = .ok (.ireturn, 1) := dk_172 (dk_at dksX3_isPart_0 11 rfl rfl)
abbrev cX3_places : ByteArray := prog_12_method_11_code
def yX3_places : MethodName := ⟨RX3, "places", "(II)I"⟩
def dkwX3_places_1 : List UInt8 := [172, 26, 153, 0, 8, 26, 4, 160, 0, 14, 27, 26, 4, 96, 160, 0, 7, 5, 167, 0, 4, 3, 172]
abbrev dktX3_places_1 : List UInt8 := dkwX3_places_1 ++ []
def dkwX3_places_0 : List UInt8 := [26, 5, 160, 0, 23, 27, 6, 160, 0, 7, 5, 167, 0, 13, 27, 7, 160, 0, 7, 4, 167, 0, 4, 3]
abbrev dktX3_places_0 : List UInt8 := dkwX3_places_0 ++ dktX3_places_1
theorem dksX3_places_0 : cX3_places.data.toList.drop 0 = dktX3_places_0 := by decide +kernel
theorem dksX3_places_1 : cX3_places.data.toList.drop 24 = dktX3_places_1 := dk_seg dksX3_places_0 24 rfl rfl
theorem dX3_places_0 : decode cX3_places 0 = .ok (.iload_n 0, 1) := dk_26 (dk_at dksX3_places_0 0 rfl rfl)
theorem dX3_places_1 : decode cX3_places 1 = .ok (.iconst 2, 1) := dk_5 (dk_at dksX3_places_0 1 rfl rfl)
theorem dX3_places_2 : decode cX3_places 2 = .ok (.if_icmp .ne 23, 3) := dk_160 0 23 (dk_at dksX3_places_0 2 rfl rfl)
theorem dX3_places_5 : decode cX3_places 5 = .ok (.iload_n 1, 1) := dk_27 (dk_at dksX3_places_0 5 rfl rfl)
theorem dX3_places_6 : decode cX3_places 6 = .ok (.iconst 3, 1) := dk_6 (dk_at dksX3_places_0 6 rfl rfl)
theorem dX3_places_7 : decode cX3_places 7 = .ok (.if_icmp .ne 7, 3) := dk_160 0 7 (dk_at dksX3_places_0 7 rfl rfl)
theorem dX3_places_10 : decode cX3_places 10 = .ok (.iconst 2, 1) := dk_5 (dk_at dksX3_places_0 10 rfl rfl)
theorem dX3_places_11 : decode cX3_places 11 = .ok (.goto 13, 3) := dk_167 0 13 (dk_at dksX3_places_0 11 rfl rfl)
theorem dX3_places_14 : decode cX3_places 14 = .ok (.iload_n 1, 1) := dk_27 (dk_at dksX3_places_0 14 rfl rfl)
theorem dX3_places_15 : decode cX3_places 15 = .ok (.iconst 4, 1) := dk_7 (dk_at dksX3_places_0 15 rfl rfl)
theorem dX3_places_16 : decode cX3_places 16 = .ok (.if_icmp .ne 7, 3) := dk_160 0 7 (dk_at dksX3_places_0 16 rfl rfl)
theorem dX3_places_19 : decode cX3_places 19 = .ok (.iconst 1, 1) := dk_4 (dk_at dksX3_places_0 19 rfl rfl)
theorem dX3_places_20 : decode cX3_places 20 = .ok (.goto 4, 3) := dk_167 0 4 (dk_at dksX3_places_0 20 rfl rfl)
theorem dX3_places_23 : decode cX3_places 23 = .ok (.iconst 0, 1) := dk_3 (dk_at dksX3_places_0 23 rfl rfl)
theorem dX3_places_24 : decode cX3_places 24 = .ok (.ireturn, 1) := dk_172 (dk_at dksX3_places_1 0 rfl rfl)
theorem dX3_places_25 : decode cX3_places 25 = .ok (.iload_n 0, 1) := dk_26 (dk_at dksX3_places_1 1 rfl rfl)
theorem dX3_places_26 : decode cX3_places 26 = .ok (.ifCond .eq 8, 3) := dk_153 0 8 (dk_at dksX3_places_1 2 rfl rfl)
theorem dX3_places_29 : decode cX3_places 29 = .ok (.iload_n 0, 1) := dk_26 (dk_at dksX3_places_1 5 rfl rfl)
theorem dX3_places_30 : decode cX3_places 30 = .ok (.iconst 1, 1) := dk_4 (dk_at dksX3_places_1 6 rfl rfl)
theorem dX3_places_31 : decode cX3_places 31 = .ok (.if_icmp .ne 14, 3) := dk_160 0 14 (dk_at dksX3_places_1 7 rfl rfl)
theorem dX3_places_34 : decode cX3_places 34 = .ok (.iload_n 1, 1) := dk_27 (dk_at dksX3_places_1 10 rfl rfl)
theorem dX3_places_35 : decode cX3_places 35 = .ok (.iload_n 0, 1) := dk_26 (dk_at dksX3_places_1 11 rfl rfl)
theorem dX3_places_36 : decode cX3_places 36 = .ok (.iconst 1, 1) := dk_4 (dk_at dksX3_places_1 12 rfl rfl)
theorem dX3_places_37 : decode cX3_places 37 = .ok (.iadd, 1) := dk_96 (dk_at dksX3_places_1 13 rfl rfl)
theorem dX3_places_38 : decode cX3_places 38 = .ok (.if_icmp .ne 7, 3) := dk_160 0 7 (dk_at dksX3_places_1 14 rfl rfl)
theorem dX3_places_41 : decode cX3_places 41 = .ok (.iconst 2, 1) := dk_5 (dk_at dksX3_places_1 17 rfl rfl)
theorem dX3_places_42 : decode cX3_places 42 = .ok (.goto 4, 3) := dk_167 0 4 (dk_at dksX3_places_1 18 rfl rfl)
theorem dX3_places_45 : decode cX3_places 45 = .ok (.iconst 0, 1) := dk_3 (dk_at dksX3_places_1 21 rfl rfl)
theorem dX3_places_46 : decode cX3_places 46 = .ok (.ireturn, 1) := dk_172 (dk_at dksX3_places_1 22 rfl rfl)
abbrev cX3_isBound : ByteArray := prog_12_method_9_code
def yX3_isBound : MethodName := ⟨RX3, "isBound", "(I)Z"⟩
def dkwX3_isBound_0 : List UInt8 := [42, 180, 0, 41, 42, 27, 182, 0, 114, 51, 172]
abbrev dktX3_isBound_0 : List UInt8 := dkwX3_isBound_0 ++ []
theorem dksX3_isBound_0 : cX3_isBound.data.toList.drop 0 = dktX3_isBound_0 := by decide +kernel
theorem dX3_isBound_0 : decode cX3_isBound 0 = .ok (.aload_n 0, 1) := dk_42 (dk_at dksX3_isBound_0 0 rfl rfl)
theorem dX3_isBound_1 : decode cX3_isBound 1 = .ok (.getfield 41, 3) := dk_180 0 41 (dk_at dksX3_isBound_0 1 rfl rfl)
theorem dX3_isBound_4 : decode cX3_isBound 4 = .ok (.aload_n 0, 1) := dk_42 (dk_at dksX3_isBound_0 4 rfl rfl)
theorem dX3_isBound_5 : decode cX3_isBound 5 = .ok (.iload_n 1, 1) := dk_27 (dk_at dksX3_isBound_0 5 rfl rfl)
theorem dX3_isBound_6 : decode cX3_isBound 6 = .ok (.invokevirtual 114, 3) := dk_182 0 114 (dk_at dksX3_isBound_0 6 rfl rfl)
theorem dX3_isBound_9 : decode cX3_isBound 9 = .ok (.baload, 1) := dk_51 (dk_at dksX3_isBound_0 9 rfl rfl)
theorem dX3_isBound_10 : decode cX3_isBound 10 = .ok (.ireturn, 1) := dk_172 (dk_at dksX3_isBound_0 10 rfl rfl)
abbrev cX3_headOf : ByteArray := prog_12_method_8_code
def yX3_headOf : MethodName := ⟨RX3, "headOf", "(I)I"⟩
def dkwX3_headOf_0 : List UInt8 := [27, 61, 42, 180, 0, 19, 28, 46, 155, 0, 13, 42, 180, 0, 19, 28, 46, 61, 167, 255, 240, 28, 172]
abbrev dktX3_headOf_0 : List UInt8 := dkwX3_headOf_0 ++ []
theorem dksX3_headOf_0 : cX3_headOf.data.toList.drop 0 = dktX3_headOf_0 := by decide +kernel
theorem dX3_headOf_0 : decode cX3_headOf 0 = .ok (.iload_n 1, 1) := dk_27 (dk_at dksX3_headOf_0 0 rfl rfl)
theorem dX3_headOf_1 : decode cX3_headOf 1 = .ok (.istore_n 2, 1) := dk_61 (dk_at dksX3_headOf_0 1 rfl rfl)
theorem dX3_headOf_2 : decode cX3_headOf 2 = .ok (.aload_n 0, 1) := dk_42 (dk_at dksX3_headOf_0 2 rfl rfl)
theorem dX3_headOf_3 : decode cX3_headOf 3 = .ok (.getfield 19, 3) := dk_180 0 19 (dk_at dksX3_headOf_0 3 rfl rfl)
theorem dX3_headOf_6 : decode cX3_headOf 6 = .ok (.iload_n 2, 1) := dk_28 (dk_at dksX3_headOf_0 6 rfl rfl)
theorem dX3_headOf_7 : decode cX3_headOf 7 = .ok (.iaload, 1) := dk_46 (dk_at dksX3_headOf_0 7 rfl rfl)
theorem dX3_headOf_8 : decode cX3_headOf 8 = .ok (.ifCond .lt 13, 3) := dk_155 0 13 (dk_at dksX3_headOf_0 8 rfl rfl)
theorem dX3_headOf_11 : decode cX3_headOf 11 = .ok (.aload_n 0, 1) := dk_42 (dk_at dksX3_headOf_0 11 rfl rfl)
theorem dX3_headOf_12 : decode cX3_headOf 12 = .ok (.getfield 19, 3) := dk_180 0 19 (dk_at dksX3_headOf_0 12 rfl rfl)
theorem dX3_headOf_15 : decode cX3_headOf 15 = .ok (.iload_n 2, 1) := dk_28 (dk_at dksX3_headOf_0 15 rfl rfl)
theorem dX3_headOf_16 : decode cX3_headOf 16 = .ok (.iaload, 1) := dk_46 (dk_at dksX3_headOf_0 16 rfl rfl)
theorem dX3_headOf_17 : decode cX3_headOf 17 = .ok (.istore_n 2, 1) := dk_61 (dk_at dksX3_headOf_0 17 rfl rfl)
theorem dX3_headOf_18 : decode cX3_headOf 18 = .ok (.goto (-16), 3) := dk_167 255 240 (dk_at dksX3_headOf_0 18 rfl rfl)
theorem dX3_headOf_21 : decode cX3_headOf 21 = .ok (.iload_n 2, 1) := dk_28 (dk_at dksX3_headOf_0 21 rfl rfl)
theorem dX3_headOf_22 : decode cX3_headOf 22 = .ok (.ireturn, 1) := dk_172 (dk_at dksX3_headOf_0 22 rfl rfl)
abbrev cX3_inside : ByteArray := prog_12_method_12_code
def yX3_inside : MethodName := ⟨RX3, "inside", "(II)I"⟩
def dkwX3_inside_2 : List UInt8 := [96, 62, 132, 4, 1, 167, 255, 209, 29, 172]
abbrev dktX3_inside_2 : List UInt8 := dkwX3_inside_2 ++ []
def dkwX3_inside_1 : List UInt8 := [160, 0, 23, 28, 2, 159, 0, 14, 42, 180, 0, 7, 21, 4, 46, 28, 160, 0, 7, 4, 167, 0, 4, 3]
abbrev dktX3_inside_1 : List UInt8 := dkwX3_inside_1 ++ dktX3_inside_2
def dkwX3_inside_0 : List UInt8 := [3, 62, 3, 54, 4, 21, 4, 42, 180, 0, 102, 162, 0, 44, 29, 42, 180, 0, 19, 21, 4, 46, 27]
abbrev dktX3_inside_0 : List UInt8 := dkwX3_inside_0 ++ dktX3_inside_1
theorem dksX3_inside_0 : cX3_inside.data.toList.drop 0 = dktX3_inside_0 := by decide +kernel
theorem dksX3_inside_1 : cX3_inside.data.toList.drop 23 = dktX3_inside_1 := dk_seg dksX3_inside_0 23 rfl rfl
theorem dksX3_inside_2 : cX3_inside.data.toList.drop 47 = dktX3_inside_2 := dk_seg dksX3_inside_1 24 rfl rfl
theorem dX3_inside_0 : decode cX3_inside 0 = .ok (.iconst 0, 1) := dk_3 (dk_at dksX3_inside_0 0 rfl rfl)
theorem dX3_inside_1 : decode cX3_inside 1 = .ok (.istore_n 3, 1) := dk_62 (dk_at dksX3_inside_0 1 rfl rfl)
theorem dX3_inside_2 : decode cX3_inside 2 = .ok (.iconst 0, 1) := dk_3 (dk_at dksX3_inside_0 2 rfl rfl)
theorem dX3_inside_3 : decode cX3_inside 3 = .ok (.istore 4, 2) := dk_54 4 (dk_at dksX3_inside_0 3 rfl rfl)
theorem dX3_inside_5 : decode cX3_inside 5 = .ok (.iload 4, 2) := dk_21 4 (dk_at dksX3_inside_0 5 rfl rfl)
theorem dX3_inside_7 : decode cX3_inside 7 = .ok (.aload_n 0, 1) := dk_42 (dk_at dksX3_inside_0 7 rfl rfl)
theorem dX3_inside_8 : decode cX3_inside 8 = .ok (.getfield 102, 3) := dk_180 0 102 (dk_at dksX3_inside_0 8 rfl rfl)
theorem dX3_inside_11 : decode cX3_inside 11 = .ok (.if_icmp .ge 44, 3) := dk_162 0 44 (dk_at dksX3_inside_0 11 rfl rfl)
theorem dX3_inside_14 : decode cX3_inside 14 = .ok (.iload_n 3, 1) := dk_29 (dk_at dksX3_inside_0 14 rfl rfl)
theorem dX3_inside_15 : decode cX3_inside 15 = .ok (.aload_n 0, 1) := dk_42 (dk_at dksX3_inside_0 15 rfl rfl)
theorem dX3_inside_16 : decode cX3_inside 16 = .ok (.getfield 19, 3) := dk_180 0 19 (dk_at dksX3_inside_0 16 rfl rfl)
theorem dX3_inside_19 : decode cX3_inside 19 = .ok (.iload 4, 2) := dk_21 4 (dk_at dksX3_inside_0 19 rfl rfl)
theorem dX3_inside_21 : decode cX3_inside 21 = .ok (.iaload, 1) := dk_46 (dk_at dksX3_inside_0 21 rfl rfl)
theorem dX3_inside_22 : decode cX3_inside 22 = .ok (.iload_n 1, 1) := dk_27 (dk_at dksX3_inside_0 22 rfl rfl)
theorem dX3_inside_23 : decode cX3_inside 23 = .ok (.if_icmp .ne 23, 3) := dk_160 0 23 (dk_at dksX3_inside_1 0 rfl rfl)
theorem dX3_inside_26 : decode cX3_inside 26 = .ok (.iload_n 2, 1) := dk_28 (dk_at dksX3_inside_1 3 rfl rfl)
theorem dX3_inside_27 : decode cX3_inside 27 = .ok (.iconst (-1), 1) := dk_2 (dk_at dksX3_inside_1 4 rfl rfl)
theorem dX3_inside_28 : decode cX3_inside 28 = .ok (.if_icmp .eq 14, 3) := dk_159 0 14 (dk_at dksX3_inside_1 5 rfl rfl)
theorem dX3_inside_31 : decode cX3_inside 31 = .ok (.aload_n 0, 1) := dk_42 (dk_at dksX3_inside_1 8 rfl rfl)
theorem dX3_inside_32 : decode cX3_inside 32 = .ok (.getfield 7, 3) := dk_180 0 7 (dk_at dksX3_inside_1 9 rfl rfl)
theorem dX3_inside_35 : decode cX3_inside 35 = .ok (.iload 4, 2) := dk_21 4 (dk_at dksX3_inside_1 12 rfl rfl)
theorem dX3_inside_37 : decode cX3_inside 37 = .ok (.iaload, 1) := dk_46 (dk_at dksX3_inside_1 14 rfl rfl)
theorem dX3_inside_38 : decode cX3_inside 38 = .ok (.iload_n 2, 1) := dk_28 (dk_at dksX3_inside_1 15 rfl rfl)
theorem dX3_inside_39 : decode cX3_inside 39 = .ok (.if_icmp .ne 7, 3) := dk_160 0 7 (dk_at dksX3_inside_1 16 rfl rfl)
theorem dX3_inside_42 : decode cX3_inside 42 = .ok (.iconst 1, 1) := dk_4 (dk_at dksX3_inside_1 19 rfl rfl)
theorem dX3_inside_43 : decode cX3_inside 43 = .ok (.goto 4, 3) := dk_167 0 4 (dk_at dksX3_inside_1 20 rfl rfl)
theorem dX3_inside_46 : decode cX3_inside 46 = .ok (.iconst 0, 1) := dk_3 (dk_at dksX3_inside_1 23 rfl rfl)
theorem dX3_inside_47 : decode cX3_inside 47 = .ok (.iadd, 1) := dk_96 (dk_at dksX3_inside_2 0 rfl rfl)
theorem dX3_inside_48 : decode cX3_inside 48 = .ok (.istore_n 3, 1) := dk_62 (dk_at dksX3_inside_2 1 rfl rfl)
theorem dX3_inside_49 : decode cX3_inside 49 = .ok (.iinc 4 1, 3) := dk_132 4 1 (dk_at dksX3_inside_2 2 rfl rfl)
theorem dX3_inside_52 : decode cX3_inside 52 = .ok (.goto (-47), 3) := dk_167 255 209 (dk_at dksX3_inside_2 5 rfl rfl)
theorem dX3_inside_55 : decode cX3_inside 55 = .ok (.iload_n 3, 1) := dk_29 (dk_at dksX3_inside_2 8 rfl rfl)
theorem dX3_inside_56 : decode cX3_inside 56 = .ok (.ireturn, 1) := dk_172 (dk_at dksX3_inside_2 9 rfl rfl)
abbrev cX3_moves : ByteArray := prog_12_method_13_code
def yX3_moves : MethodName := ⟨RX3, "moves", "(II)V"⟩
def dkwX3_moves_1 : List UInt8 := [180, 0, 118, 28, 79, 42, 89, 180, 0, 118, 4, 96, 181, 0, 118, 177]
abbrev dktX3_moves_1 : List UInt8 := dkwX3_moves_1 ++ []
def dkwX3_moves_0 : List UInt8 := [42, 180, 0, 19, 27, 28, 79, 42, 180, 0, 74, 42, 180, 0, 118, 27, 79, 42, 180, 0, 77, 42]
abbrev dktX3_moves_0 : List UInt8 := dkwX3_moves_0 ++ dktX3_moves_1
theorem dksX3_moves_0 : cX3_moves.data.toList.drop 0 = dktX3_moves_0 := by decide +kernel
theorem dksX3_moves_1 : cX3_moves.data.toList.drop 22 = dktX3_moves_1 := dk_seg dksX3_moves_0 22 rfl rfl
theorem dX3_moves_0 : decode cX3_moves 0 = .ok (.aload_n 0, 1) := dk_42 (dk_at dksX3_moves_0 0 rfl rfl)
theorem dX3_moves_1 : decode cX3_moves 1 = .ok (.getfield 19, 3) := dk_180 0 19 (dk_at dksX3_moves_0 1 rfl rfl)
theorem dX3_moves_4 : decode cX3_moves 4 = .ok (.iload_n 1, 1) := dk_27 (dk_at dksX3_moves_0 4 rfl rfl)
theorem dX3_moves_5 : decode cX3_moves 5 = .ok (.iload_n 2, 1) := dk_28 (dk_at dksX3_moves_0 5 rfl rfl)
theorem dX3_moves_6 : decode cX3_moves 6 = .ok (.iastore, 1) := dk_79 (dk_at dksX3_moves_0 6 rfl rfl)
theorem dX3_moves_7 : decode cX3_moves 7 = .ok (.aload_n 0, 1) := dk_42 (dk_at dksX3_moves_0 7 rfl rfl)
theorem dX3_moves_8 : decode cX3_moves 8 = .ok (.getfield 74, 3) := dk_180 0 74 (dk_at dksX3_moves_0 8 rfl rfl)
theorem dX3_moves_11 : decode cX3_moves 11 = .ok (.aload_n 0, 1) := dk_42 (dk_at dksX3_moves_0 11 rfl rfl)
theorem dX3_moves_12 : decode cX3_moves 12 = .ok (.getfield 118, 3) := dk_180 0 118 (dk_at dksX3_moves_0 12 rfl rfl)
theorem dX3_moves_15 : decode cX3_moves 15 = .ok (.iload_n 1, 1) := dk_27 (dk_at dksX3_moves_0 15 rfl rfl)
theorem dX3_moves_16 : decode cX3_moves 16 = .ok (.iastore, 1) := dk_79 (dk_at dksX3_moves_0 16 rfl rfl)
theorem dX3_moves_17 : decode cX3_moves 17 = .ok (.aload_n 0, 1) := dk_42 (dk_at dksX3_moves_0 17 rfl rfl)
theorem dX3_moves_18 : decode cX3_moves 18 = .ok (.getfield 77, 3) := dk_180 0 77 (dk_at dksX3_moves_0 18 rfl rfl)
theorem dX3_moves_21 : decode cX3_moves 21 = .ok (.aload_n 0, 1) := dk_42 (dk_at dksX3_moves_0 21 rfl rfl)
theorem dX3_moves_22 : decode cX3_moves 22 = .ok (.getfield 118, 3) := dk_180 0 118 (dk_at dksX3_moves_1 0 rfl rfl)
theorem dX3_moves_25 : decode cX3_moves 25 = .ok (.iload_n 2, 1) := dk_28 (dk_at dksX3_moves_1 3 rfl rfl)
theorem dX3_moves_26 : decode cX3_moves 26 = .ok (.iastore, 1) := dk_79 (dk_at dksX3_moves_1 4 rfl rfl)
theorem dX3_moves_27 : decode cX3_moves 27 = .ok (.aload_n 0, 1) := dk_42 (dk_at dksX3_moves_1 5 rfl rfl)
theorem dX3_moves_28 : decode cX3_moves 28 = .ok (.dup, 1) := dk_89 (dk_at dksX3_moves_1 6 rfl rfl)
theorem dX3_moves_29 : decode cX3_moves 29 = .ok (.getfield 118, 3) := dk_180 0 118 (dk_at dksX3_moves_1 7 rfl rfl)
theorem dX3_moves_32 : decode cX3_moves 32 = .ok (.iconst 1, 1) := dk_4 (dk_at dksX3_moves_1 10 rfl rfl)
theorem dX3_moves_33 : decode cX3_moves 33 = .ok (.iadd, 1) := dk_96 (dk_at dksX3_moves_1 11 rfl rfl)
theorem dX3_moves_34 : decode cX3_moves 34 = .ok (.putfield 118, 3) := dk_181 0 118 (dk_at dksX3_moves_1 12 rfl rfl)
theorem dX3_moves_37 : decode cX3_moves 37 = .ok (.return_, 1) := dk_177 (dk_at dksX3_moves_1 15 rfl rfl)
abbrev cX3_ends : ByteArray := prog_12_method_14_code
def yX3_ends : MethodName := ⟨RX3, "ends", "(I)V"⟩
def dkwX3_ends_0 : List UInt8 := [42, 180, 0, 38, 42, 27, 182, 0, 114, 3, 84, 177]
abbrev dktX3_ends_0 : List UInt8 := dkwX3_ends_0 ++ []
theorem dksX3_ends_0 : cX3_ends.data.toList.drop 0 = dktX3_ends_0 := by decide +kernel
theorem dX3_ends_0 : decode cX3_ends 0 = .ok (.aload_n 0, 1) := dk_42 (dk_at dksX3_ends_0 0 rfl rfl)
theorem dX3_ends_1 : decode cX3_ends 1 = .ok (.getfield 38, 3) := dk_180 0 38 (dk_at dksX3_ends_0 1 rfl rfl)
theorem dX3_ends_4 : decode cX3_ends 4 = .ok (.aload_n 0, 1) := dk_42 (dk_at dksX3_ends_0 4 rfl rfl)
theorem dX3_ends_5 : decode cX3_ends 5 = .ok (.iload_n 1, 1) := dk_27 (dk_at dksX3_ends_0 5 rfl rfl)
theorem dX3_ends_6 : decode cX3_ends 6 = .ok (.invokevirtual 114, 3) := dk_182 0 114 (dk_at dksX3_ends_0 6 rfl rfl)
theorem dX3_ends_9 : decode cX3_ends 9 = .ok (.iconst 0, 1) := dk_3 (dk_at dksX3_ends_0 9 rfl rfl)
theorem dX3_ends_10 : decode cX3_ends 10 = .ok (.bastore, 1) := dk_84 (dk_at dksX3_ends_0 10 rfl rfl)
theorem dX3_ends_11 : decode cX3_ends 11 = .ok (.return_, 1) := dk_177 (dk_at dksX3_ends_0 11 rfl rfl)
abbrev cX3_take : ByteArray := prog_12_method_16_code
def yX3_take : MethodName := ⟨RX3, "take", "(I)I"⟩
def dkwX3_take_2 : List UInt8 := [180, 0, 19, 27, 46, 61, 42, 27, 182, 0, 135, 42, 27, 2, 182, 0, 131, 28, 172]
abbrev dktX3_take_2 : List UInt8 := dkwX3_take_2 ++ []
def dkwX3_take_1 : List UInt8 := [182, 0, 125, 153, 0, 7, 5, 167, 0, 4, 3, 181, 0, 98, 42, 180, 0, 98, 158, 0, 5, 3, 172, 42]
abbrev dktX3_take_1 : List UInt8 := dkwX3_take_1 ++ dktX3_take_2
def dkwX3_take_0 : List UInt8 := [42, 42, 27, 182, 0, 109, 154, 0, 7, 4, 167, 0, 25, 42, 180, 0, 19, 27, 46, 155, 0, 11, 42, 27]
abbrev dktX3_take_0 : List UInt8 := dkwX3_take_0 ++ dktX3_take_1
theorem dksX3_take_0 : cX3_take.data.toList.drop 0 = dktX3_take_0 := by decide +kernel
theorem dksX3_take_1 : cX3_take.data.toList.drop 24 = dktX3_take_1 := dk_seg dksX3_take_0 24 rfl rfl
theorem dksX3_take_2 : cX3_take.data.toList.drop 48 = dktX3_take_2 := dk_seg dksX3_take_1 24 rfl rfl
theorem dX3_take_0 : decode cX3_take 0 = .ok (.aload_n 0, 1) := dk_42 (dk_at dksX3_take_0 0 rfl rfl)
theorem dX3_take_1 : decode cX3_take 1 = .ok (.aload_n 0, 1) := dk_42 (dk_at dksX3_take_0 1 rfl rfl)
theorem dX3_take_2 : decode cX3_take 2 = .ok (.iload_n 1, 1) := dk_27 (dk_at dksX3_take_0 2 rfl rfl)
theorem dX3_take_3 : decode cX3_take 3 = .ok (.invokevirtual 109, 3) := dk_182 0 109 (dk_at dksX3_take_0 3 rfl rfl)
theorem dX3_take_6 : decode cX3_take 6 = .ok (.ifCond .ne 7, 3) := dk_154 0 7 (dk_at dksX3_take_0 6 rfl rfl)
theorem dX3_take_9 : decode cX3_take 9 = .ok (.iconst 1, 1) := dk_4 (dk_at dksX3_take_0 9 rfl rfl)
theorem dX3_take_10 : decode cX3_take 10 = .ok (.goto 25, 3) := dk_167 0 25 (dk_at dksX3_take_0 10 rfl rfl)
theorem dX3_take_13 : decode cX3_take 13 = .ok (.aload_n 0, 1) := dk_42 (dk_at dksX3_take_0 13 rfl rfl)
theorem dX3_take_14 : decode cX3_take 14 = .ok (.getfield 19, 3) := dk_180 0 19 (dk_at dksX3_take_0 14 rfl rfl)
theorem dX3_take_17 : decode cX3_take 17 = .ok (.iload_n 1, 1) := dk_27 (dk_at dksX3_take_0 17 rfl rfl)
theorem dX3_take_18 : decode cX3_take 18 = .ok (.iaload, 1) := dk_46 (dk_at dksX3_take_0 18 rfl rfl)
theorem dX3_take_19 : decode cX3_take 19 = .ok (.ifCond .lt 11, 3) := dk_155 0 11 (dk_at dksX3_take_0 19 rfl rfl)
theorem dX3_take_22 : decode cX3_take 22 = .ok (.aload_n 0, 1) := dk_42 (dk_at dksX3_take_0 22 rfl rfl)
theorem dX3_take_23 : decode cX3_take 23 = .ok (.iload_n 1, 1) := dk_27 (dk_at dksX3_take_0 23 rfl rfl)
theorem dX3_take_24 : decode cX3_take 24 = .ok (.invokevirtual 125, 3) := dk_182 0 125 (dk_at dksX3_take_1 0 rfl rfl)
theorem dX3_take_27 : decode cX3_take 27 = .ok (.ifCond .eq 7, 3) := dk_153 0 7 (dk_at dksX3_take_1 3 rfl rfl)
theorem dX3_take_30 : decode cX3_take 30 = .ok (.iconst 2, 1) := dk_5 (dk_at dksX3_take_1 6 rfl rfl)
theorem dX3_take_31 : decode cX3_take 31 = .ok (.goto 4, 3) := dk_167 0 4 (dk_at dksX3_take_1 7 rfl rfl)
theorem dX3_take_34 : decode cX3_take 34 = .ok (.iconst 0, 1) := dk_3 (dk_at dksX3_take_1 10 rfl rfl)
theorem dX3_take_35 : decode cX3_take 35 = .ok (.putfield 98, 3) := dk_181 0 98 (dk_at dksX3_take_1 11 rfl rfl)
theorem dX3_take_38 : decode cX3_take 38 = .ok (.aload_n 0, 1) := dk_42 (dk_at dksX3_take_1 14 rfl rfl)
theorem dX3_take_39 : decode cX3_take 39 = .ok (.getfield 98, 3) := dk_180 0 98 (dk_at dksX3_take_1 15 rfl rfl)
theorem dX3_take_42 : decode cX3_take 42 = .ok (.ifCond .le 5, 3) := dk_158 0 5 (dk_at dksX3_take_1 18 rfl rfl)
theorem dX3_take_45 : decode cX3_take 45 = .ok (.iconst 0, 1) := dk_3 (dk_at dksX3_take_1 21 rfl rfl)
theorem dX3_take_46 : decode cX3_take 46 = .ok (.ireturn, 1) := dk_172 (dk_at dksX3_take_1 22 rfl rfl)
theorem dX3_take_47 : decode cX3_take 47 = .ok (.aload_n 0, 1) := dk_42 (dk_at dksX3_take_1 23 rfl rfl)
theorem dX3_take_48 : decode cX3_take 48 = .ok (.getfield 19, 3) := dk_180 0 19 (dk_at dksX3_take_2 0 rfl rfl)
theorem dX3_take_51 : decode cX3_take 51 = .ok (.iload_n 1, 1) := dk_27 (dk_at dksX3_take_2 3 rfl rfl)
theorem dX3_take_52 : decode cX3_take 52 = .ok (.iaload, 1) := dk_46 (dk_at dksX3_take_2 4 rfl rfl)
theorem dX3_take_53 : decode cX3_take 53 = .ok (.istore_n 2, 1) := dk_61 (dk_at dksX3_take_2 5 rfl rfl)
theorem dX3_take_54 : decode cX3_take 54 = .ok (.aload_n 0, 1) := dk_42 (dk_at dksX3_take_2 6 rfl rfl)
theorem dX3_take_55 : decode cX3_take 55 = .ok (.iload_n 1, 1) := dk_27 (dk_at dksX3_take_2 7 rfl rfl)
theorem dX3_take_56 : decode cX3_take 56 = .ok (.invokevirtual 135, 3) := dk_182 0 135 (dk_at dksX3_take_2 8 rfl rfl)
theorem dX3_take_59 : decode cX3_take 59 = .ok (.aload_n 0, 1) := dk_42 (dk_at dksX3_take_2 11 rfl rfl)
theorem dX3_take_60 : decode cX3_take 60 = .ok (.iload_n 1, 1) := dk_27 (dk_at dksX3_take_2 12 rfl rfl)
theorem dX3_take_61 : decode cX3_take 61 = .ok (.iconst (-1), 1) := dk_2 (dk_at dksX3_take_2 13 rfl rfl)
theorem dX3_take_62 : decode cX3_take 62 = .ok (.invokevirtual 131, 3) := dk_182 0 131 (dk_at dksX3_take_2 14 rfl rfl)
theorem dX3_take_65 : decode cX3_take 65 = .ok (.iload_n 2, 1) := dk_28 (dk_at dksX3_take_2 17 rfl rfl)
theorem dX3_take_66 : decode cX3_take 66 = .ok (.ireturn, 1) := dk_172 (dk_at dksX3_take_2 18 rfl rfl)
abbrev cX3_scrap : ByteArray := prog_12_method_18_code
def yX3_scrap : MethodName := ⟨RX3, "scrap", "(I)V"⟩
def dkwX3_scrap_2 : List UInt8 := [5, 167, 0, 4, 3, 181, 0, 98, 42, 180, 0, 98, 154, 0, 10, 42, 27, 16, 254, 182, 0, 131, 177]
abbrev dktX3_scrap_2 : List UInt8 := dkwX3_scrap_2 ++ []
def dkwX3_scrap_1 : List UInt8 := [27, 2, 182, 0, 128, 157, 0, 19, 42, 27, 182, 0, 125, 154, 0, 11, 42, 27, 182, 0, 142, 153, 0, 7]
abbrev dktX3_scrap_1 : List UInt8 := dkwX3_scrap_1 ++ dktX3_scrap_2
def dkwX3_scrap_0 : List UInt8 := [42, 42, 27, 182, 0, 109, 154, 0, 7, 4, 167, 0, 43, 42, 180, 0, 19, 27, 46, 2, 160, 0, 28, 42]
abbrev dktX3_scrap_0 : List UInt8 := dkwX3_scrap_0 ++ dktX3_scrap_1
theorem dksX3_scrap_0 : cX3_scrap.data.toList.drop 0 = dktX3_scrap_0 := by decide +kernel
theorem dksX3_scrap_1 : cX3_scrap.data.toList.drop 24 = dktX3_scrap_1 := dk_seg dksX3_scrap_0 24 rfl rfl
theorem dksX3_scrap_2 : cX3_scrap.data.toList.drop 48 = dktX3_scrap_2 := dk_seg dksX3_scrap_1 24 rfl rfl
theorem dX3_scrap_0 : decode cX3_scrap 0 = .ok (.aload_n 0, 1) := dk_42 (dk_at dksX3_scrap_0 0 rfl rfl)
theorem dX3_scrap_1 : decode cX3_scrap 1 = .ok (.aload_n 0, 1) := dk_42 (dk_at dksX3_scrap_0 1 rfl rfl)
theorem dX3_scrap_2 : decode cX3_scrap 2 = .ok (.iload_n 1, 1) := dk_27 (dk_at dksX3_scrap_0 2 rfl rfl)
theorem dX3_scrap_3 : decode cX3_scrap 3 = .ok (.invokevirtual 109, 3) := dk_182 0 109 (dk_at dksX3_scrap_0 3 rfl rfl)
theorem dX3_scrap_6 : decode cX3_scrap 6 = .ok (.ifCond .ne 7, 3) := dk_154 0 7 (dk_at dksX3_scrap_0 6 rfl rfl)
theorem dX3_scrap_9 : decode cX3_scrap 9 = .ok (.iconst 1, 1) := dk_4 (dk_at dksX3_scrap_0 9 rfl rfl)
theorem dX3_scrap_10 : decode cX3_scrap 10 = .ok (.goto 43, 3) := dk_167 0 43 (dk_at dksX3_scrap_0 10 rfl rfl)
theorem dX3_scrap_13 : decode cX3_scrap 13 = .ok (.aload_n 0, 1) := dk_42 (dk_at dksX3_scrap_0 13 rfl rfl)
theorem dX3_scrap_14 : decode cX3_scrap 14 = .ok (.getfield 19, 3) := dk_180 0 19 (dk_at dksX3_scrap_0 14 rfl rfl)
theorem dX3_scrap_17 : decode cX3_scrap 17 = .ok (.iload_n 1, 1) := dk_27 (dk_at dksX3_scrap_0 17 rfl rfl)
theorem dX3_scrap_18 : decode cX3_scrap 18 = .ok (.iaload, 1) := dk_46 (dk_at dksX3_scrap_0 18 rfl rfl)
theorem dX3_scrap_19 : decode cX3_scrap 19 = .ok (.iconst (-1), 1) := dk_2 (dk_at dksX3_scrap_0 19 rfl rfl)
theorem dX3_scrap_20 : decode cX3_scrap 20 = .ok (.if_icmp .ne 28, 3) := dk_160 0 28 (dk_at dksX3_scrap_0 20 rfl rfl)
theorem dX3_scrap_23 : decode cX3_scrap 23 = .ok (.aload_n 0, 1) := dk_42 (dk_at dksX3_scrap_0 23 rfl rfl)
theorem dX3_scrap_24 : decode cX3_scrap 24 = .ok (.iload_n 1, 1) := dk_27 (dk_at dksX3_scrap_1 0 rfl rfl)
theorem dX3_scrap_25 : decode cX3_scrap 25 = .ok (.iconst (-1), 1) := dk_2 (dk_at dksX3_scrap_1 1 rfl rfl)
theorem dX3_scrap_26 : decode cX3_scrap 26 = .ok (.invokevirtual 128, 3) := dk_182 0 128 (dk_at dksX3_scrap_1 2 rfl rfl)
theorem dX3_scrap_29 : decode cX3_scrap 29 = .ok (.ifCond .gt 19, 3) := dk_157 0 19 (dk_at dksX3_scrap_1 5 rfl rfl)
theorem dX3_scrap_32 : decode cX3_scrap 32 = .ok (.aload_n 0, 1) := dk_42 (dk_at dksX3_scrap_1 8 rfl rfl)
theorem dX3_scrap_33 : decode cX3_scrap 33 = .ok (.iload_n 1, 1) := dk_27 (dk_at dksX3_scrap_1 9 rfl rfl)
theorem dX3_scrap_34 : decode cX3_scrap 34 = .ok (.invokevirtual 125, 3) := dk_182 0 125 (dk_at dksX3_scrap_1 10 rfl rfl)
theorem dX3_scrap_37 : decode cX3_scrap 37 = .ok (.ifCond .ne 11, 3) := dk_154 0 11 (dk_at dksX3_scrap_1 13 rfl rfl)
theorem dX3_scrap_40 : decode cX3_scrap 40 = .ok (.aload_n 0, 1) := dk_42 (dk_at dksX3_scrap_1 16 rfl rfl)
theorem dX3_scrap_41 : decode cX3_scrap 41 = .ok (.iload_n 1, 1) := dk_27 (dk_at dksX3_scrap_1 17 rfl rfl)
theorem dX3_scrap_42 : decode cX3_scrap 42 = .ok (.invokevirtual 142, 3) := dk_182 0 142 (dk_at dksX3_scrap_1 18 rfl rfl)
theorem dX3_scrap_45 : decode cX3_scrap 45 = .ok (.ifCond .eq 7, 3) := dk_153 0 7 (dk_at dksX3_scrap_1 21 rfl rfl)
theorem dX3_scrap_48 : decode cX3_scrap 48 = .ok (.iconst 2, 1) := dk_5 (dk_at dksX3_scrap_2 0 rfl rfl)
theorem dX3_scrap_49 : decode cX3_scrap 49 = .ok (.goto 4, 3) := dk_167 0 4 (dk_at dksX3_scrap_2 1 rfl rfl)
theorem dX3_scrap_52 : decode cX3_scrap 52 = .ok (.iconst 0, 1) := dk_3 (dk_at dksX3_scrap_2 4 rfl rfl)
theorem dX3_scrap_53 : decode cX3_scrap 53 = .ok (.putfield 98, 3) := dk_181 0 98 (dk_at dksX3_scrap_2 5 rfl rfl)
theorem dX3_scrap_56 : decode cX3_scrap 56 = .ok (.aload_n 0, 1) := dk_42 (dk_at dksX3_scrap_2 8 rfl rfl)
theorem dX3_scrap_57 : decode cX3_scrap 57 = .ok (.getfield 98, 3) := dk_180 0 98 (dk_at dksX3_scrap_2 9 rfl rfl)
theorem dX3_scrap_60 : decode cX3_scrap 60 = .ok (.ifCond .ne 10, 3) := dk_154 0 10 (dk_at dksX3_scrap_2 12 rfl rfl)
theorem dX3_scrap_63 : decode cX3_scrap 63 = .ok (.aload_n 0, 1) := dk_42 (dk_at dksX3_scrap_2 15 rfl rfl)
theorem dX3_scrap_64 : decode cX3_scrap 64 = .ok (.iload_n 1, 1) := dk_27 (dk_at dksX3_scrap_2 16 rfl rfl)
theorem dX3_scrap_65 : decode cX3_scrap 65 = .ok (.bipush (-2), 2) := dk_16 254 (dk_at dksX3_scrap_2 17 rfl rfl)
theorem dX3_scrap_67 : decode cX3_scrap 67 = .ok (.invokevirtual 131, 3) := dk_182 0 131 (dk_at dksX3_scrap_2 19 rfl rfl)
theorem dX3_scrap_70 : decode cX3_scrap 70 = .ok (.return_, 1) := dk_177 (dk_at dksX3_scrap_2 22 rfl rfl)
abbrev cX3_waits : ByteArray := prog_12_method_17_code
def yX3_waits : MethodName := ⟨RX3, "waits", "(I)Z"⟩
def dkwX3_waits_1 : List UInt8 := [160, 0, 7, 4, 167, 0, 4, 3, 61, 132, 3, 1, 167, 255, 225, 28, 172]
abbrev dktX3_waits_1 : List UInt8 := dkwX3_waits_1 ++ []
def dkwX3_waits_0 : List UInt8 := [3, 61, 3, 62, 29, 42, 180, 0, 139, 162, 0, 29, 28, 154, 0, 13, 42, 180, 0, 80, 29, 46, 27]
abbrev dktX3_waits_0 : List UInt8 := dkwX3_waits_0 ++ dktX3_waits_1
theorem dksX3_waits_0 : cX3_waits.data.toList.drop 0 = dktX3_waits_0 := by decide +kernel
theorem dksX3_waits_1 : cX3_waits.data.toList.drop 23 = dktX3_waits_1 := dk_seg dksX3_waits_0 23 rfl rfl
theorem dX3_waits_0 : decode cX3_waits 0 = .ok (.iconst 0, 1) := dk_3 (dk_at dksX3_waits_0 0 rfl rfl)
theorem dX3_waits_1 : decode cX3_waits 1 = .ok (.istore_n 2, 1) := dk_61 (dk_at dksX3_waits_0 1 rfl rfl)
theorem dX3_waits_2 : decode cX3_waits 2 = .ok (.iconst 0, 1) := dk_3 (dk_at dksX3_waits_0 2 rfl rfl)
theorem dX3_waits_3 : decode cX3_waits 3 = .ok (.istore_n 3, 1) := dk_62 (dk_at dksX3_waits_0 3 rfl rfl)
theorem dX3_waits_4 : decode cX3_waits 4 = .ok (.iload_n 3, 1) := dk_29 (dk_at dksX3_waits_0 4 rfl rfl)
theorem dX3_waits_5 : decode cX3_waits 5 = .ok (.aload_n 0, 1) := dk_42 (dk_at dksX3_waits_0 5 rfl rfl)
theorem dX3_waits_6 : decode cX3_waits 6 = .ok (.getfield 139, 3) := dk_180 0 139 (dk_at dksX3_waits_0 6 rfl rfl)
theorem dX3_waits_9 : decode cX3_waits 9 = .ok (.if_icmp .ge 29, 3) := dk_162 0 29 (dk_at dksX3_waits_0 9 rfl rfl)
theorem dX3_waits_12 : decode cX3_waits 12 = .ok (.iload_n 2, 1) := dk_28 (dk_at dksX3_waits_0 12 rfl rfl)
theorem dX3_waits_13 : decode cX3_waits 13 = .ok (.ifCond .ne 13, 3) := dk_154 0 13 (dk_at dksX3_waits_0 13 rfl rfl)
theorem dX3_waits_16 : decode cX3_waits 16 = .ok (.aload_n 0, 1) := dk_42 (dk_at dksX3_waits_0 16 rfl rfl)
theorem dX3_waits_17 : decode cX3_waits 17 = .ok (.getfield 80, 3) := dk_180 0 80 (dk_at dksX3_waits_0 17 rfl rfl)
theorem dX3_waits_20 : decode cX3_waits 20 = .ok (.iload_n 3, 1) := dk_29 (dk_at dksX3_waits_0 20 rfl rfl)
theorem dX3_waits_21 : decode cX3_waits 21 = .ok (.iaload, 1) := dk_46 (dk_at dksX3_waits_0 21 rfl rfl)
theorem dX3_waits_22 : decode cX3_waits 22 = .ok (.iload_n 1, 1) := dk_27 (dk_at dksX3_waits_0 22 rfl rfl)
theorem dX3_waits_23 : decode cX3_waits 23 = .ok (.if_icmp .ne 7, 3) := dk_160 0 7 (dk_at dksX3_waits_1 0 rfl rfl)
theorem dX3_waits_26 : decode cX3_waits 26 = .ok (.iconst 1, 1) := dk_4 (dk_at dksX3_waits_1 3 rfl rfl)
theorem dX3_waits_27 : decode cX3_waits 27 = .ok (.goto 4, 3) := dk_167 0 4 (dk_at dksX3_waits_1 4 rfl rfl)
theorem dX3_waits_30 : decode cX3_waits 30 = .ok (.iconst 0, 1) := dk_3 (dk_at dksX3_waits_1 7 rfl rfl)
theorem dX3_waits_31 : decode cX3_waits 31 = .ok (.istore_n 2, 1) := dk_61 (dk_at dksX3_waits_1 8 rfl rfl)
theorem dX3_waits_32 : decode cX3_waits 32 = .ok (.iinc 3 1, 3) := dk_132 3 1 (dk_at dksX3_waits_1 9 rfl rfl)
theorem dX3_waits_35 : decode cX3_waits 35 = .ok (.goto (-31), 3) := dk_167 255 225 (dk_at dksX3_waits_1 12 rfl rfl)
theorem dX3_waits_38 : decode cX3_waits 38 = .ok (.iload_n 2, 1) := dk_28 (dk_at dksX3_waits_1 15 rfl rfl)
theorem dX3_waits_39 : decode cX3_waits 39 = .ok (.ireturn, 1) := dk_172 (dk_at dksX3_waits_1 16 rfl rfl)
abbrev cX3_run : ByteArray := prog_12_method_21_code
def yX3_run : MethodName := ⟨RX3, "run", "(III)I"⟩
def dkwX3_run_8 : List UInt8 := [153, 0, 7, 4, 167, 0, 4, 3, 84, 132, 5, 1, 167, 255, 206, 21, 4, 172]
abbrev dktX3_run_8 : List UInt8 := dkwX3_run_8 ++ []
def dkwX3_run_7 : List UInt8 := [42, 180, 0, 31, 21, 5, 42, 180, 0, 31, 21, 5, 51, 154, 0, 13, 42, 21, 5, 27, 182, 0, 151]
abbrev dktX3_run_7 : List UInt8 := dkwX3_run_7 ++ dktX3_run_8
def dkwX3_run_6 : List UInt8 := [132, 5, 255, 167, 255, 209, 3, 54, 5, 21, 5, 42, 180, 0, 102, 162, 0, 47, 21, 4, 2, 159, 0, 41]
abbrev dktX3_run_6 : List UInt8 := dkwX3_run_6 ++ dktX3_run_7
def dkwX3_run_5 : List UInt8 := [182, 0, 155, 42, 180, 0, 59, 21, 5, 46, 16, 100, 161, 0, 8, 21, 5, 167, 0, 5, 21, 4, 54, 4]
abbrev dktX3_run_5 : List UInt8 := dkwX3_run_5 ++ dktX3_run_6
def dkwX3_run_4 : List UInt8 := [100, 54, 5, 21, 5, 155, 0, 48, 42, 21, 5, 27, 182, 0, 151, 153, 0, 32, 42, 21, 5, 28, 29]
abbrev dktX3_run_4 : List UInt8 := dkwX3_run_4 ++ dktX3_run_5
def dkwX3_run_3 : List UInt8 := [42, 180, 0, 98, 158, 0, 5, 3, 172, 42, 180, 0, 38, 27, 3, 84, 2, 54, 4, 42, 180, 0, 102, 4]
abbrev dktX3_run_3 : List UInt8 := dkwX3_run_3 ++ dktX3_run_4
def dkwX3_run_2 : List UInt8 := [180, 0, 38, 27, 51, 153, 0, 11, 42, 27, 182, 0, 125, 153, 0, 7, 6, 167, 0, 4, 3, 181, 0, 98]
abbrev dktX3_run_2 : List UInt8 := dkwX3_run_2 ++ dktX3_run_3
def dkwX3_run_1 : List UInt8 := [17, 7, 208, 184, 0, 105, 153, 0, 12, 29, 3, 6, 184, 0, 105, 154, 0, 7, 5, 167, 0, 25, 42]
abbrev dktX3_run_1 : List UInt8 := dkwX3_run_1 ++ dktX3_run_2
def dkwX3_run_0 : List UInt8 := [42, 42, 27, 3, 182, 0, 148, 181, 0, 98, 42, 180, 0, 98, 158, 0, 5, 3, 172, 42, 28, 4]
abbrev dktX3_run_0 : List UInt8 := dkwX3_run_0 ++ dktX3_run_1
theorem dksX3_run_0 : cX3_run.data.toList.drop 0 = dktX3_run_0 := by decide +kernel
theorem dksX3_run_1 : cX3_run.data.toList.drop 22 = dktX3_run_1 := dk_seg dksX3_run_0 22 rfl rfl
theorem dksX3_run_2 : cX3_run.data.toList.drop 45 = dktX3_run_2 := dk_seg dksX3_run_1 23 rfl rfl
theorem dksX3_run_3 : cX3_run.data.toList.drop 69 = dktX3_run_3 := dk_seg dksX3_run_2 24 rfl rfl
theorem dksX3_run_4 : cX3_run.data.toList.drop 93 = dktX3_run_4 := dk_seg dksX3_run_3 24 rfl rfl
theorem dksX3_run_5 : cX3_run.data.toList.drop 116 = dktX3_run_5 := dk_seg dksX3_run_4 23 rfl rfl
theorem dksX3_run_6 : cX3_run.data.toList.drop 140 = dktX3_run_6 := dk_seg dksX3_run_5 24 rfl rfl
theorem dksX3_run_7 : cX3_run.data.toList.drop 164 = dktX3_run_7 := dk_seg dksX3_run_6 24 rfl rfl
theorem dksX3_run_8 : cX3_run.data.toList.drop 187 = dktX3_run_8 := dk_seg dksX3_run_7 23 rfl rfl
theorem dX3_run_0 : decode cX3_run 0 = .ok (.aload_n 0, 1) := dk_42 (dk_at dksX3_run_0 0 rfl rfl)
theorem dX3_run_1 : decode cX3_run 1 = .ok (.aload_n 0, 1) := dk_42 (dk_at dksX3_run_0 1 rfl rfl)
theorem dX3_run_2 : decode cX3_run 2 = .ok (.iload_n 1, 1) := dk_27 (dk_at dksX3_run_0 2 rfl rfl)
theorem dX3_run_3 : decode cX3_run 3 = .ok (.iconst 0, 1) := dk_3 (dk_at dksX3_run_0 3 rfl rfl)
theorem dX3_run_4 : decode cX3_run 4 = .ok (.invokevirtual 148, 3) := dk_182 0 148 (dk_at dksX3_run_0 4 rfl rfl)
theorem dX3_run_7 : decode cX3_run 7 = .ok (.putfield 98, 3) := dk_181 0 98 (dk_at dksX3_run_0 7 rfl rfl)
theorem dX3_run_10 : decode cX3_run 10 = .ok (.aload_n 0, 1) := dk_42 (dk_at dksX3_run_0 10 rfl rfl)
theorem dX3_run_11 : decode cX3_run 11 = .ok (.getfield 98, 3) := dk_180 0 98 (dk_at dksX3_run_0 11 rfl rfl)
theorem dX3_run_14 : decode cX3_run 14 = .ok (.ifCond .le 5, 3) := dk_158 0 5 (dk_at dksX3_run_0 14 rfl rfl)
theorem dX3_run_17 : decode cX3_run 17 = .ok (.iconst 0, 1) := dk_3 (dk_at dksX3_run_0 17 rfl rfl)
theorem dX3_run_18 : decode cX3_run 18 = .ok (.ireturn, 1) := dk_172 (dk_at dksX3_run_0 18 rfl rfl)
theorem dX3_run_19 : decode cX3_run 19 = .ok (.aload_n 0, 1) := dk_42 (dk_at dksX3_run_0 19 rfl rfl)
theorem dX3_run_20 : decode cX3_run 20 = .ok (.iload_n 2, 1) := dk_28 (dk_at dksX3_run_0 20 rfl rfl)
theorem dX3_run_21 : decode cX3_run 21 = .ok (.iconst 1, 1) := dk_4 (dk_at dksX3_run_0 21 rfl rfl)
theorem dX3_run_22 : decode cX3_run 22 = .ok (.sipush 2000, 3) := dk_17 7 208 (dk_at dksX3_run_1 0 rfl rfl)
theorem dX3_run_25 : decode cX3_run 25 = .ok (.invokestatic 105, 3) := dk_184 0 105 (dk_at dksX3_run_1 3 rfl rfl)
theorem dX3_run_28 : decode cX3_run 28 = .ok (.ifCond .eq 12, 3) := dk_153 0 12 (dk_at dksX3_run_1 6 rfl rfl)
theorem dX3_run_31 : decode cX3_run 31 = .ok (.iload_n 3, 1) := dk_29 (dk_at dksX3_run_1 9 rfl rfl)
theorem dX3_run_32 : decode cX3_run 32 = .ok (.iconst 0, 1) := dk_3 (dk_at dksX3_run_1 10 rfl rfl)
theorem dX3_run_33 : decode cX3_run 33 = .ok (.iconst 3, 1) := dk_6 (dk_at dksX3_run_1 11 rfl rfl)
theorem dX3_run_34 : decode cX3_run 34 = .ok (.invokestatic 105, 3) := dk_184 0 105 (dk_at dksX3_run_1 12 rfl rfl)
theorem dX3_run_37 : decode cX3_run 37 = .ok (.ifCond .ne 7, 3) := dk_154 0 7 (dk_at dksX3_run_1 15 rfl rfl)
theorem dX3_run_40 : decode cX3_run 40 = .ok (.iconst 2, 1) := dk_5 (dk_at dksX3_run_1 18 rfl rfl)
theorem dX3_run_41 : decode cX3_run 41 = .ok (.goto 25, 3) := dk_167 0 25 (dk_at dksX3_run_1 19 rfl rfl)
theorem dX3_run_44 : decode cX3_run 44 = .ok (.aload_n 0, 1) := dk_42 (dk_at dksX3_run_1 22 rfl rfl)
theorem dX3_run_45 : decode cX3_run 45 = .ok (.getfield 38, 3) := dk_180 0 38 (dk_at dksX3_run_2 0 rfl rfl)
theorem dX3_run_48 : decode cX3_run 48 = .ok (.iload_n 1, 1) := dk_27 (dk_at dksX3_run_2 3 rfl rfl)
theorem dX3_run_49 : decode cX3_run 49 = .ok (.baload, 1) := dk_51 (dk_at dksX3_run_2 4 rfl rfl)
theorem dX3_run_50 : decode cX3_run 50 = .ok (.ifCond .eq 11, 3) := dk_153 0 11 (dk_at dksX3_run_2 5 rfl rfl)
theorem dX3_run_53 : decode cX3_run 53 = .ok (.aload_n 0, 1) := dk_42 (dk_at dksX3_run_2 8 rfl rfl)
theorem dX3_run_54 : decode cX3_run 54 = .ok (.iload_n 1, 1) := dk_27 (dk_at dksX3_run_2 9 rfl rfl)
theorem dX3_run_55 : decode cX3_run 55 = .ok (.invokevirtual 125, 3) := dk_182 0 125 (dk_at dksX3_run_2 10 rfl rfl)
theorem dX3_run_58 : decode cX3_run 58 = .ok (.ifCond .eq 7, 3) := dk_153 0 7 (dk_at dksX3_run_2 13 rfl rfl)
theorem dX3_run_61 : decode cX3_run 61 = .ok (.iconst 3, 1) := dk_6 (dk_at dksX3_run_2 16 rfl rfl)
theorem dX3_run_62 : decode cX3_run 62 = .ok (.goto 4, 3) := dk_167 0 4 (dk_at dksX3_run_2 17 rfl rfl)
theorem dX3_run_65 : decode cX3_run 65 = .ok (.iconst 0, 1) := dk_3 (dk_at dksX3_run_2 20 rfl rfl)
theorem dX3_run_66 : decode cX3_run 66 = .ok (.putfield 98, 3) := dk_181 0 98 (dk_at dksX3_run_2 21 rfl rfl)
theorem dX3_run_69 : decode cX3_run 69 = .ok (.aload_n 0, 1) := dk_42 (dk_at dksX3_run_3 0 rfl rfl)
theorem dX3_run_70 : decode cX3_run 70 = .ok (.getfield 98, 3) := dk_180 0 98 (dk_at dksX3_run_3 1 rfl rfl)
theorem dX3_run_73 : decode cX3_run 73 = .ok (.ifCond .le 5, 3) := dk_158 0 5 (dk_at dksX3_run_3 4 rfl rfl)
theorem dX3_run_76 : decode cX3_run 76 = .ok (.iconst 0, 1) := dk_3 (dk_at dksX3_run_3 7 rfl rfl)
theorem dX3_run_77 : decode cX3_run 77 = .ok (.ireturn, 1) := dk_172 (dk_at dksX3_run_3 8 rfl rfl)
theorem dX3_run_78 : decode cX3_run 78 = .ok (.aload_n 0, 1) := dk_42 (dk_at dksX3_run_3 9 rfl rfl)
theorem dX3_run_79 : decode cX3_run 79 = .ok (.getfield 38, 3) := dk_180 0 38 (dk_at dksX3_run_3 10 rfl rfl)
theorem dX3_run_82 : decode cX3_run 82 = .ok (.iload_n 1, 1) := dk_27 (dk_at dksX3_run_3 13 rfl rfl)
theorem dX3_run_83 : decode cX3_run 83 = .ok (.iconst 0, 1) := dk_3 (dk_at dksX3_run_3 14 rfl rfl)
theorem dX3_run_84 : decode cX3_run 84 = .ok (.bastore, 1) := dk_84 (dk_at dksX3_run_3 15 rfl rfl)
theorem dX3_run_85 : decode cX3_run 85 = .ok (.iconst (-1), 1) := dk_2 (dk_at dksX3_run_3 16 rfl rfl)
theorem dX3_run_86 : decode cX3_run 86 = .ok (.istore 4, 2) := dk_54 4 (dk_at dksX3_run_3 17 rfl rfl)
theorem dX3_run_88 : decode cX3_run 88 = .ok (.aload_n 0, 1) := dk_42 (dk_at dksX3_run_3 19 rfl rfl)
theorem dX3_run_89 : decode cX3_run 89 = .ok (.getfield 102, 3) := dk_180 0 102 (dk_at dksX3_run_3 20 rfl rfl)
theorem dX3_run_92 : decode cX3_run 92 = .ok (.iconst 1, 1) := dk_4 (dk_at dksX3_run_3 23 rfl rfl)
theorem dX3_run_93 : decode cX3_run 93 = .ok (.isub, 1) := dk_100 (dk_at dksX3_run_4 0 rfl rfl)
theorem dX3_run_94 : decode cX3_run 94 = .ok (.istore 5, 2) := dk_54 5 (dk_at dksX3_run_4 1 rfl rfl)
theorem dX3_run_96 : decode cX3_run 96 = .ok (.iload 5, 2) := dk_21 5 (dk_at dksX3_run_4 3 rfl rfl)
theorem dX3_run_98 : decode cX3_run 98 = .ok (.ifCond .lt 48, 3) := dk_155 0 48 (dk_at dksX3_run_4 5 rfl rfl)
theorem dX3_run_101 : decode cX3_run 101 = .ok (.aload_n 0, 1) := dk_42 (dk_at dksX3_run_4 8 rfl rfl)
theorem dX3_run_102 : decode cX3_run 102 = .ok (.iload 5, 2) := dk_21 5 (dk_at dksX3_run_4 9 rfl rfl)
theorem dX3_run_104 : decode cX3_run 104 = .ok (.iload_n 1, 1) := dk_27 (dk_at dksX3_run_4 11 rfl rfl)
theorem dX3_run_105 : decode cX3_run 105 = .ok (.invokevirtual 151, 3) := dk_182 0 151 (dk_at dksX3_run_4 12 rfl rfl)
theorem dX3_run_108 : decode cX3_run 108 = .ok (.ifCond .eq 32, 3) := dk_153 0 32 (dk_at dksX3_run_4 15 rfl rfl)
theorem dX3_run_111 : decode cX3_run 111 = .ok (.aload_n 0, 1) := dk_42 (dk_at dksX3_run_4 18 rfl rfl)
theorem dX3_run_112 : decode cX3_run 112 = .ok (.iload 5, 2) := dk_21 5 (dk_at dksX3_run_4 19 rfl rfl)
theorem dX3_run_114 : decode cX3_run 114 = .ok (.iload_n 2, 1) := dk_28 (dk_at dksX3_run_4 21 rfl rfl)
theorem dX3_run_115 : decode cX3_run 115 = .ok (.iload_n 3, 1) := dk_29 (dk_at dksX3_run_4 22 rfl rfl)
theorem dX3_run_116 : decode cX3_run 116 = .ok (.invokevirtual 155, 3) := dk_182 0 155 (dk_at dksX3_run_5 0 rfl rfl)
theorem dX3_run_119 : decode cX3_run 119 = .ok (.aload_n 0, 1) := dk_42 (dk_at dksX3_run_5 3 rfl rfl)
theorem dX3_run_120 : decode cX3_run 120 = .ok (.getfield 59, 3) := dk_180 0 59 (dk_at dksX3_run_5 4 rfl rfl)
theorem dX3_run_123 : decode cX3_run 123 = .ok (.iload 5, 2) := dk_21 5 (dk_at dksX3_run_5 7 rfl rfl)
theorem dX3_run_125 : decode cX3_run 125 = .ok (.iaload, 1) := dk_46 (dk_at dksX3_run_5 9 rfl rfl)
theorem dX3_run_126 : decode cX3_run 126 = .ok (.bipush 100, 2) := dk_16 100 (dk_at dksX3_run_5 10 rfl rfl)
theorem dX3_run_128 : decode cX3_run 128 = .ok (.if_icmp .lt 8, 3) := dk_161 0 8 (dk_at dksX3_run_5 12 rfl rfl)
theorem dX3_run_131 : decode cX3_run 131 = .ok (.iload 5, 2) := dk_21 5 (dk_at dksX3_run_5 15 rfl rfl)
theorem dX3_run_133 : decode cX3_run 133 = .ok (.goto 5, 3) := dk_167 0 5 (dk_at dksX3_run_5 17 rfl rfl)
theorem dX3_run_136 : decode cX3_run 136 = .ok (.iload 4, 2) := dk_21 4 (dk_at dksX3_run_5 20 rfl rfl)
theorem dX3_run_138 : decode cX3_run 138 = .ok (.istore 4, 2) := dk_54 4 (dk_at dksX3_run_5 22 rfl rfl)
theorem dX3_run_140 : decode cX3_run 140 = .ok (.iinc 5 (-1), 3) := dk_132 5 255 (dk_at dksX3_run_6 0 rfl rfl)
theorem dX3_run_143 : decode cX3_run 143 = .ok (.goto (-47), 3) := dk_167 255 209 (dk_at dksX3_run_6 3 rfl rfl)
theorem dX3_run_146 : decode cX3_run 146 = .ok (.iconst 0, 1) := dk_3 (dk_at dksX3_run_6 6 rfl rfl)
theorem dX3_run_147 : decode cX3_run 147 = .ok (.istore 5, 2) := dk_54 5 (dk_at dksX3_run_6 7 rfl rfl)
theorem dX3_run_149 : decode cX3_run 149 = .ok (.iload 5, 2) := dk_21 5 (dk_at dksX3_run_6 9 rfl rfl)
theorem dX3_run_151 : decode cX3_run 151 = .ok (.aload_n 0, 1) := dk_42 (dk_at dksX3_run_6 11 rfl rfl)
theorem dX3_run_152 : decode cX3_run 152 = .ok (.getfield 102, 3) := dk_180 0 102 (dk_at dksX3_run_6 12 rfl rfl)
theorem dX3_run_155 : decode cX3_run 155 = .ok (.if_icmp .ge 47, 3) := dk_162 0 47 (dk_at dksX3_run_6 15 rfl rfl)
theorem dX3_run_158 : decode cX3_run 158 = .ok (.iload 4, 2) := dk_21 4 (dk_at dksX3_run_6 18 rfl rfl)
theorem dX3_run_160 : decode cX3_run 160 = .ok (.iconst (-1), 1) := dk_2 (dk_at dksX3_run_6 20 rfl rfl)
theorem dX3_run_161 : decode cX3_run 161 = .ok (.if_icmp .eq 41, 3) := dk_159 0 41 (dk_at dksX3_run_6 21 rfl rfl)
theorem dX3_run_164 : decode cX3_run 164 = .ok (.aload_n 0, 1) := dk_42 (dk_at dksX3_run_7 0 rfl rfl)
theorem dX3_run_165 : decode cX3_run 165 = .ok (.getfield 31, 3) := dk_180 0 31 (dk_at dksX3_run_7 1 rfl rfl)
theorem dX3_run_168 : decode cX3_run 168 = .ok (.iload 5, 2) := dk_21 5 (dk_at dksX3_run_7 4 rfl rfl)
theorem dX3_run_170 : decode cX3_run 170 = .ok (.aload_n 0, 1) := dk_42 (dk_at dksX3_run_7 6 rfl rfl)
theorem dX3_run_171 : decode cX3_run 171 = .ok (.getfield 31, 3) := dk_180 0 31 (dk_at dksX3_run_7 7 rfl rfl)
theorem dX3_run_174 : decode cX3_run 174 = .ok (.iload 5, 2) := dk_21 5 (dk_at dksX3_run_7 10 rfl rfl)
theorem dX3_run_176 : decode cX3_run 176 = .ok (.baload, 1) := dk_51 (dk_at dksX3_run_7 12 rfl rfl)
theorem dX3_run_177 : decode cX3_run 177 = .ok (.ifCond .ne 13, 3) := dk_154 0 13 (dk_at dksX3_run_7 13 rfl rfl)
theorem dX3_run_180 : decode cX3_run 180 = .ok (.aload_n 0, 1) := dk_42 (dk_at dksX3_run_7 16 rfl rfl)
theorem dX3_run_181 : decode cX3_run 181 = .ok (.iload 5, 2) := dk_21 5 (dk_at dksX3_run_7 17 rfl rfl)
theorem dX3_run_183 : decode cX3_run 183 = .ok (.iload_n 1, 1) := dk_27 (dk_at dksX3_run_7 19 rfl rfl)
theorem dX3_run_184 : decode cX3_run 184 = .ok (.invokevirtual 151, 3) := dk_182 0 151 (dk_at dksX3_run_7 20 rfl rfl)
theorem dX3_run_187 : decode cX3_run 187 = .ok (.ifCond .eq 7, 3) := dk_153 0 7 (dk_at dksX3_run_8 0 rfl rfl)
theorem dX3_run_190 : decode cX3_run 190 = .ok (.iconst 1, 1) := dk_4 (dk_at dksX3_run_8 3 rfl rfl)
theorem dX3_run_191 : decode cX3_run 191 = .ok (.goto 4, 3) := dk_167 0 4 (dk_at dksX3_run_8 4 rfl rfl)
theorem dX3_run_194 : decode cX3_run 194 = .ok (.iconst 0, 1) := dk_3 (dk_at dksX3_run_8 7 rfl rfl)
theorem dX3_run_195 : decode cX3_run 195 = .ok (.bastore, 1) := dk_84 (dk_at dksX3_run_8 8 rfl rfl)
theorem dX3_run_196 : decode cX3_run 196 = .ok (.iinc 5 1, 3) := dk_132 5 1 (dk_at dksX3_run_8 9 rfl rfl)
theorem dX3_run_199 : decode cX3_run 199 = .ok (.goto (-50), 3) := dk_167 255 206 (dk_at dksX3_run_8 12 rfl rfl)
theorem dX3_run_202 : decode cX3_run 202 = .ok (.iload 4, 2) := dk_21 4 (dk_at dksX3_run_8 15 rfl rfl)
theorem dX3_run_204 : decode cX3_run 204 = .ok (.ireturn, 1) := dk_172 (dk_at dksX3_run_8 17 rfl rfl)
abbrev cX3_kindCode : ByteArray := prog_12_method_5_code
def yX3_kindCode : MethodName := ⟨RX3, "kindCode", "(II)I"⟩
def dkwX3_kindCode_1 : List UInt8 := [167, 0, 4, 5, 172]
abbrev dktX3_kindCode_1 : List UInt8 := dkwX3_kindCode_1 ++ []
def dkwX3_kindCode_0 : List UInt8 := [42, 27, 182, 0, 109, 154, 0, 7, 4, 167, 0, 18, 42, 180, 0, 7, 27, 46, 28, 160, 0, 7, 3]
abbrev dktX3_kindCode_0 : List UInt8 := dkwX3_kindCode_0 ++ dktX3_kindCode_1
theorem dksX3_kindCode_0 : cX3_kindCode.data.toList.drop 0 = dktX3_kindCode_0 := by decide +kernel
theorem dksX3_kindCode_1 : cX3_kindCode.data.toList.drop 23 = dktX3_kindCode_1 := dk_seg dksX3_kindCode_0 23 rfl rfl
theorem dX3_kindCode_0 : decode cX3_kindCode 0 = .ok (.aload_n 0, 1) := dk_42 (dk_at dksX3_kindCode_0 0 rfl rfl)
theorem dX3_kindCode_1 : decode cX3_kindCode 1 = .ok (.iload_n 1, 1) := dk_27 (dk_at dksX3_kindCode_0 1 rfl rfl)
theorem dX3_kindCode_2 : decode cX3_kindCode 2 = .ok (.invokevirtual 109, 3) := dk_182 0 109 (dk_at dksX3_kindCode_0 2 rfl rfl)
theorem dX3_kindCode_5 : decode cX3_kindCode 5 = .ok (.ifCond .ne 7, 3) := dk_154 0 7 (dk_at dksX3_kindCode_0 5 rfl rfl)
theorem dX3_kindCode_8 : decode cX3_kindCode 8 = .ok (.iconst 1, 1) := dk_4 (dk_at dksX3_kindCode_0 8 rfl rfl)
theorem dX3_kindCode_9 : decode cX3_kindCode 9 = .ok (.goto 18, 3) := dk_167 0 18 (dk_at dksX3_kindCode_0 9 rfl rfl)
theorem dX3_kindCode_12 : decode cX3_kindCode 12 = .ok (.aload_n 0, 1) := dk_42 (dk_at dksX3_kindCode_0 12 rfl rfl)
theorem dX3_kindCode_13 : decode cX3_kindCode 13 = .ok (.getfield 7, 3) := dk_180 0 7 (dk_at dksX3_kindCode_0 13 rfl rfl)
theorem dX3_kindCode_16 : decode cX3_kindCode 16 = .ok (.iload_n 1, 1) := dk_27 (dk_at dksX3_kindCode_0 16 rfl rfl)
theorem dX3_kindCode_17 : decode cX3_kindCode 17 = .ok (.iaload, 1) := dk_46 (dk_at dksX3_kindCode_0 17 rfl rfl)
theorem dX3_kindCode_18 : decode cX3_kindCode 18 = .ok (.iload_n 2, 1) := dk_28 (dk_at dksX3_kindCode_0 18 rfl rfl)
theorem dX3_kindCode_19 : decode cX3_kindCode 19 = .ok (.if_icmp .ne 7, 3) := dk_160 0 7 (dk_at dksX3_kindCode_0 19 rfl rfl)
theorem dX3_kindCode_22 : decode cX3_kindCode 22 = .ok (.iconst 0, 1) := dk_3 (dk_at dksX3_kindCode_0 22 rfl rfl)
theorem dX3_kindCode_23 : decode cX3_kindCode 23 = .ok (.goto 4, 3) := dk_167 0 4 (dk_at dksX3_kindCode_1 0 rfl rfl)
theorem dX3_kindCode_26 : decode cX3_kindCode 26 = .ok (.iconst 2, 1) := dk_5 (dk_at dksX3_kindCode_1 3 rfl rfl)
theorem dX3_kindCode_27 : decode cX3_kindCode 27 = .ok (.ireturn, 1) := dk_172 (dk_at dksX3_kindCode_1 4 rfl rfl)
abbrev cX3_isIn : ByteArray := prog_12_method_10_code
def yX3_isIn : MethodName := ⟨RX3, "isIn", "(II)Z"⟩
def dkwX3_isIn_1 : List UInt8 := [160, 0, 7, 4, 167, 0, 4, 3, 172]
abbrev dktX3_isIn_1 : List UInt8 := dkwX3_isIn_1 ++ []
def dkwX3_isIn_0 : List UInt8 := [42, 180, 0, 19, 27, 46, 16, 254, 159, 0, 12, 42, 27, 182, 0, 114, 28, 159, 0, 8, 27, 28]
abbrev dktX3_isIn_0 : List UInt8 := dkwX3_isIn_0 ++ dktX3_isIn_1
theorem dksX3_isIn_0 : cX3_isIn.data.toList.drop 0 = dktX3_isIn_0 := by decide +kernel
theorem dksX3_isIn_1 : cX3_isIn.data.toList.drop 22 = dktX3_isIn_1 := dk_seg dksX3_isIn_0 22 rfl rfl
theorem dX3_isIn_0 : decode cX3_isIn 0 = .ok (.aload_n 0, 1) := dk_42 (dk_at dksX3_isIn_0 0 rfl rfl)
theorem dX3_isIn_1 : decode cX3_isIn 1 = .ok (.getfield 19, 3) := dk_180 0 19 (dk_at dksX3_isIn_0 1 rfl rfl)
theorem dX3_isIn_4 : decode cX3_isIn 4 = .ok (.iload_n 1, 1) := dk_27 (dk_at dksX3_isIn_0 4 rfl rfl)
theorem dX3_isIn_5 : decode cX3_isIn 5 = .ok (.iaload, 1) := dk_46 (dk_at dksX3_isIn_0 5 rfl rfl)
theorem dX3_isIn_6 : decode cX3_isIn 6 = .ok (.bipush (-2), 2) := dk_16 254 (dk_at dksX3_isIn_0 6 rfl rfl)
theorem dX3_isIn_8 : decode cX3_isIn 8 = .ok (.if_icmp .eq 12, 3) := dk_159 0 12 (dk_at dksX3_isIn_0 8 rfl rfl)
theorem dX3_isIn_11 : decode cX3_isIn 11 = .ok (.aload_n 0, 1) := dk_42 (dk_at dksX3_isIn_0 11 rfl rfl)
theorem dX3_isIn_12 : decode cX3_isIn 12 = .ok (.iload_n 1, 1) := dk_27 (dk_at dksX3_isIn_0 12 rfl rfl)
theorem dX3_isIn_13 : decode cX3_isIn 13 = .ok (.invokevirtual 114, 3) := dk_182 0 114 (dk_at dksX3_isIn_0 13 rfl rfl)
theorem dX3_isIn_16 : decode cX3_isIn 16 = .ok (.iload_n 2, 1) := dk_28 (dk_at dksX3_isIn_0 16 rfl rfl)
theorem dX3_isIn_17 : decode cX3_isIn 17 = .ok (.if_icmp .eq 8, 3) := dk_159 0 8 (dk_at dksX3_isIn_0 17 rfl rfl)
theorem dX3_isIn_20 : decode cX3_isIn 20 = .ok (.iload_n 1, 1) := dk_27 (dk_at dksX3_isIn_0 20 rfl rfl)
theorem dX3_isIn_21 : decode cX3_isIn 21 = .ok (.iload_n 2, 1) := dk_28 (dk_at dksX3_isIn_0 21 rfl rfl)
theorem dX3_isIn_22 : decode cX3_isIn 22 = .ok (.if_icmp .ne 7, 3) := dk_160 0 7 (dk_at dksX3_isIn_1 0 rfl rfl)
theorem dX3_isIn_25 : decode cX3_isIn 25 = .ok (.iconst 1, 1) := dk_4 (dk_at dksX3_isIn_1 3 rfl rfl)
theorem dX3_isIn_26 : decode cX3_isIn 26 = .ok (.goto 4, 3) := dk_167 0 4 (dk_at dksX3_isIn_1 4 rfl rfl)
theorem dX3_isIn_29 : decode cX3_isIn 29 = .ok (.iconst 0, 1) := dk_3 (dk_at dksX3_isIn_1 7 rfl rfl)
theorem dX3_isIn_30 : decode cX3_isIn 30 = .ok (.ireturn, 1) := dk_172 (dk_at dksX3_isIn_1 8 rfl rfl)
abbrev cX3_goes : ByteArray := prog_12_method_20_code
def yX3_goes : MethodName := ⟨RX3, "goes", "(III)V"⟩
def dkwX3_goes_8 : List UInt8 := [132, 6, 1, 167, 255, 226, 177]
abbrev dktX3_goes_8 : List UInt8 := dkwX3_goes_8 ++ []
def dkwX3_goes_7 : List UInt8 := [162, 0, 29, 42, 180, 0, 59, 27, 92, 46, 4, 42, 180, 0, 59, 27, 46, 16, 10, 108, 96, 96, 79]
abbrev dktX3_goes_7 : List UInt8 := dkwX3_goes_7 ++ dktX3_goes_8
def dkwX3_goes_6 : List UInt8 := [21, 4, 42, 180, 0, 62, 27, 46, 100, 17, 1, 244, 108, 100, 54, 5, 3, 54, 6, 21, 6, 21, 5]
abbrev dktX3_goes_6 : List UInt8 := dkwX3_goes_6 ++ dktX3_goes_7
def dkwX3_goes_5 : List UInt8 := [154, 0, 7, 3, 167, 0, 34, 42, 180, 0, 22, 27, 46, 42, 180, 0, 62, 27, 46, 100, 17, 1, 244, 108]
abbrev dktX3_goes_5 : List UInt8 := dkwX3_goes_5 ++ dktX3_goes_6
def dkwX3_goes_4 : List UInt8 := [180, 0, 50, 27, 46, 17, 0, 200, 108, 21, 5, 17, 0, 200, 108, 100, 100, 79, 42, 180, 0, 59, 27, 46]
abbrev dktX3_goes_4 : List UInt8 := dkwX3_goes_4 ++ dktX3_goes_5
def dkwX3_goes_3 : List UInt8 := [180, 0, 22, 27, 46, 16, 100, 108, 21, 4, 16, 100, 108, 100, 100, 79, 42, 180, 0, 47, 27, 92, 46, 42]
abbrev dktX3_goes_3 : List UInt8 := dkwX3_goes_3 ++ dktX3_goes_4
def dkwX3_goes_2 : List UInt8 := [180, 0, 50, 27, 92, 46, 28, 29, 184, 0, 145, 104, 96, 79, 42, 180, 0, 44, 27, 92, 46, 42]
abbrev dktX3_goes_2 : List UInt8 := dkwX3_goes_2 ++ dktX3_goes_3
def dkwX3_goes_1 : List UInt8 := [46, 28, 96, 79, 42, 180, 0, 7, 27, 46, 6, 160, 0, 76, 42, 180, 0, 50, 27, 46, 54, 5, 42]
abbrev dktX3_goes_1 : List UInt8 := dkwX3_goes_1 ++ dktX3_goes_2
def dkwX3_goes_0 : List UInt8 := [42, 180, 0, 22, 27, 46, 54, 4, 42, 180, 0, 22, 27, 92, 46, 28, 96, 79, 42, 180, 0, 25, 27, 92]
abbrev dktX3_goes_0 : List UInt8 := dkwX3_goes_0 ++ dktX3_goes_1
theorem dksX3_goes_0 : cX3_goes.data.toList.drop 0 = dktX3_goes_0 := by decide +kernel
theorem dksX3_goes_1 : cX3_goes.data.toList.drop 24 = dktX3_goes_1 := dk_seg dksX3_goes_0 24 rfl rfl
theorem dksX3_goes_2 : cX3_goes.data.toList.drop 47 = dktX3_goes_2 := dk_seg dksX3_goes_1 23 rfl rfl
theorem dksX3_goes_3 : cX3_goes.data.toList.drop 69 = dktX3_goes_3 := dk_seg dksX3_goes_2 22 rfl rfl
theorem dksX3_goes_4 : cX3_goes.data.toList.drop 93 = dktX3_goes_4 := dk_seg dksX3_goes_3 24 rfl rfl
theorem dksX3_goes_5 : cX3_goes.data.toList.drop 117 = dktX3_goes_5 := dk_seg dksX3_goes_4 24 rfl rfl
theorem dksX3_goes_6 : cX3_goes.data.toList.drop 141 = dktX3_goes_6 := dk_seg dksX3_goes_5 24 rfl rfl
theorem dksX3_goes_7 : cX3_goes.data.toList.drop 164 = dktX3_goes_7 := dk_seg dksX3_goes_6 23 rfl rfl
theorem dksX3_goes_8 : cX3_goes.data.toList.drop 187 = dktX3_goes_8 := dk_seg dksX3_goes_7 23 rfl rfl
theorem dX3_goes_0 : decode cX3_goes 0 = .ok (.aload_n 0, 1) := dk_42 (dk_at dksX3_goes_0 0 rfl rfl)
theorem dX3_goes_1 : decode cX3_goes 1 = .ok (.getfield 22, 3) := dk_180 0 22 (dk_at dksX3_goes_0 1 rfl rfl)
theorem dX3_goes_4 : decode cX3_goes 4 = .ok (.iload_n 1, 1) := dk_27 (dk_at dksX3_goes_0 4 rfl rfl)
theorem dX3_goes_5 : decode cX3_goes 5 = .ok (.iaload, 1) := dk_46 (dk_at dksX3_goes_0 5 rfl rfl)
theorem dX3_goes_6 : decode cX3_goes 6 = .ok (.istore 4, 2) := dk_54 4 (dk_at dksX3_goes_0 6 rfl rfl)
theorem dX3_goes_8 : decode cX3_goes 8 = .ok (.aload_n 0, 1) := dk_42 (dk_at dksX3_goes_0 8 rfl rfl)
theorem dX3_goes_9 : decode cX3_goes 9 = .ok (.getfield 22, 3) := dk_180 0 22 (dk_at dksX3_goes_0 9 rfl rfl)
theorem dX3_goes_12 : decode cX3_goes 12 = .ok (.iload_n 1, 1) := dk_27 (dk_at dksX3_goes_0 12 rfl rfl)
theorem dX3_goes_13 : decode cX3_goes 13 = .ok (.dup2, 1) := dk_92 (dk_at dksX3_goes_0 13 rfl rfl)
theorem dX3_goes_14 : decode cX3_goes 14 = .ok (.iaload, 1) := dk_46 (dk_at dksX3_goes_0 14 rfl rfl)
theorem dX3_goes_15 : decode cX3_goes 15 = .ok (.iload_n 2, 1) := dk_28 (dk_at dksX3_goes_0 15 rfl rfl)
theorem dX3_goes_16 : decode cX3_goes 16 = .ok (.iadd, 1) := dk_96 (dk_at dksX3_goes_0 16 rfl rfl)
theorem dX3_goes_17 : decode cX3_goes 17 = .ok (.iastore, 1) := dk_79 (dk_at dksX3_goes_0 17 rfl rfl)
theorem dX3_goes_18 : decode cX3_goes 18 = .ok (.aload_n 0, 1) := dk_42 (dk_at dksX3_goes_0 18 rfl rfl)
theorem dX3_goes_19 : decode cX3_goes 19 = .ok (.getfield 25, 3) := dk_180 0 25 (dk_at dksX3_goes_0 19 rfl rfl)
theorem dX3_goes_22 : decode cX3_goes 22 = .ok (.iload_n 1, 1) := dk_27 (dk_at dksX3_goes_0 22 rfl rfl)
theorem dX3_goes_23 : decode cX3_goes 23 = .ok (.dup2, 1) := dk_92 (dk_at dksX3_goes_0 23 rfl rfl)
theorem dX3_goes_24 : decode cX3_goes 24 = .ok (.iaload, 1) := dk_46 (dk_at dksX3_goes_1 0 rfl rfl)
theorem dX3_goes_25 : decode cX3_goes 25 = .ok (.iload_n 2, 1) := dk_28 (dk_at dksX3_goes_1 1 rfl rfl)
theorem dX3_goes_26 : decode cX3_goes 26 = .ok (.iadd, 1) := dk_96 (dk_at dksX3_goes_1 2 rfl rfl)
theorem dX3_goes_27 : decode cX3_goes 27 = .ok (.iastore, 1) := dk_79 (dk_at dksX3_goes_1 3 rfl rfl)
theorem dX3_goes_28 : decode cX3_goes 28 = .ok (.aload_n 0, 1) := dk_42 (dk_at dksX3_goes_1 4 rfl rfl)
theorem dX3_goes_29 : decode cX3_goes 29 = .ok (.getfield 7, 3) := dk_180 0 7 (dk_at dksX3_goes_1 5 rfl rfl)
theorem dX3_goes_32 : decode cX3_goes 32 = .ok (.iload_n 1, 1) := dk_27 (dk_at dksX3_goes_1 8 rfl rfl)
theorem dX3_goes_33 : decode cX3_goes 33 = .ok (.iaload, 1) := dk_46 (dk_at dksX3_goes_1 9 rfl rfl)
theorem dX3_goes_34 : decode cX3_goes 34 = .ok (.iconst 3, 1) := dk_6 (dk_at dksX3_goes_1 10 rfl rfl)
theorem dX3_goes_35 : decode cX3_goes 35 = .ok (.if_icmp .ne 76, 3) := dk_160 0 76 (dk_at dksX3_goes_1 11 rfl rfl)
theorem dX3_goes_38 : decode cX3_goes 38 = .ok (.aload_n 0, 1) := dk_42 (dk_at dksX3_goes_1 14 rfl rfl)
theorem dX3_goes_39 : decode cX3_goes 39 = .ok (.getfield 50, 3) := dk_180 0 50 (dk_at dksX3_goes_1 15 rfl rfl)
theorem dX3_goes_42 : decode cX3_goes 42 = .ok (.iload_n 1, 1) := dk_27 (dk_at dksX3_goes_1 18 rfl rfl)
theorem dX3_goes_43 : decode cX3_goes 43 = .ok (.iaload, 1) := dk_46 (dk_at dksX3_goes_1 19 rfl rfl)
theorem dX3_goes_44 : decode cX3_goes 44 = .ok (.istore 5, 2) := dk_54 5 (dk_at dksX3_goes_1 20 rfl rfl)
theorem dX3_goes_46 : decode cX3_goes 46 = .ok (.aload_n 0, 1) := dk_42 (dk_at dksX3_goes_1 22 rfl rfl)
theorem dX3_goes_47 : decode cX3_goes 47 = .ok (.getfield 50, 3) := dk_180 0 50 (dk_at dksX3_goes_2 0 rfl rfl)
theorem dX3_goes_50 : decode cX3_goes 50 = .ok (.iload_n 1, 1) := dk_27 (dk_at dksX3_goes_2 3 rfl rfl)
theorem dX3_goes_51 : decode cX3_goes 51 = .ok (.dup2, 1) := dk_92 (dk_at dksX3_goes_2 4 rfl rfl)
theorem dX3_goes_52 : decode cX3_goes 52 = .ok (.iaload, 1) := dk_46 (dk_at dksX3_goes_2 5 rfl rfl)
theorem dX3_goes_53 : decode cX3_goes 53 = .ok (.iload_n 2, 1) := dk_28 (dk_at dksX3_goes_2 6 rfl rfl)
theorem dX3_goes_54 : decode cX3_goes 54 = .ok (.iload_n 3, 1) := dk_29 (dk_at dksX3_goes_2 7 rfl rfl)
theorem dX3_goes_55 : decode cX3_goes 55 = .ok (.invokestatic 145, 3) := dk_184 0 145 (dk_at dksX3_goes_2 8 rfl rfl)
theorem dX3_goes_58 : decode cX3_goes 58 = .ok (.imul, 1) := dk_104 (dk_at dksX3_goes_2 11 rfl rfl)
theorem dX3_goes_59 : decode cX3_goes 59 = .ok (.iadd, 1) := dk_96 (dk_at dksX3_goes_2 12 rfl rfl)
theorem dX3_goes_60 : decode cX3_goes 60 = .ok (.iastore, 1) := dk_79 (dk_at dksX3_goes_2 13 rfl rfl)
theorem dX3_goes_61 : decode cX3_goes 61 = .ok (.aload_n 0, 1) := dk_42 (dk_at dksX3_goes_2 14 rfl rfl)
theorem dX3_goes_62 : decode cX3_goes 62 = .ok (.getfield 44, 3) := dk_180 0 44 (dk_at dksX3_goes_2 15 rfl rfl)
theorem dX3_goes_65 : decode cX3_goes 65 = .ok (.iload_n 1, 1) := dk_27 (dk_at dksX3_goes_2 18 rfl rfl)
theorem dX3_goes_66 : decode cX3_goes 66 = .ok (.dup2, 1) := dk_92 (dk_at dksX3_goes_2 19 rfl rfl)
theorem dX3_goes_67 : decode cX3_goes 67 = .ok (.iaload, 1) := dk_46 (dk_at dksX3_goes_2 20 rfl rfl)
theorem dX3_goes_68 : decode cX3_goes 68 = .ok (.aload_n 0, 1) := dk_42 (dk_at dksX3_goes_2 21 rfl rfl)
theorem dX3_goes_69 : decode cX3_goes 69 = .ok (.getfield 22, 3) := dk_180 0 22 (dk_at dksX3_goes_3 0 rfl rfl)
theorem dX3_goes_72 : decode cX3_goes 72 = .ok (.iload_n 1, 1) := dk_27 (dk_at dksX3_goes_3 3 rfl rfl)
theorem dX3_goes_73 : decode cX3_goes 73 = .ok (.iaload, 1) := dk_46 (dk_at dksX3_goes_3 4 rfl rfl)
theorem dX3_goes_74 : decode cX3_goes 74 = .ok (.bipush 100, 2) := dk_16 100 (dk_at dksX3_goes_3 5 rfl rfl)
theorem dX3_goes_76 : decode cX3_goes 76 = .ok (.idiv, 1) := dk_108 (dk_at dksX3_goes_3 7 rfl rfl)
theorem dX3_goes_77 : decode cX3_goes 77 = .ok (.iload 4, 2) := dk_21 4 (dk_at dksX3_goes_3 8 rfl rfl)
theorem dX3_goes_79 : decode cX3_goes 79 = .ok (.bipush 100, 2) := dk_16 100 (dk_at dksX3_goes_3 10 rfl rfl)
theorem dX3_goes_81 : decode cX3_goes 81 = .ok (.idiv, 1) := dk_108 (dk_at dksX3_goes_3 12 rfl rfl)
theorem dX3_goes_82 : decode cX3_goes 82 = .ok (.isub, 1) := dk_100 (dk_at dksX3_goes_3 13 rfl rfl)
theorem dX3_goes_83 : decode cX3_goes 83 = .ok (.isub, 1) := dk_100 (dk_at dksX3_goes_3 14 rfl rfl)
theorem dX3_goes_84 : decode cX3_goes 84 = .ok (.iastore, 1) := dk_79 (dk_at dksX3_goes_3 15 rfl rfl)
theorem dX3_goes_85 : decode cX3_goes 85 = .ok (.aload_n 0, 1) := dk_42 (dk_at dksX3_goes_3 16 rfl rfl)
theorem dX3_goes_86 : decode cX3_goes 86 = .ok (.getfield 47, 3) := dk_180 0 47 (dk_at dksX3_goes_3 17 rfl rfl)
theorem dX3_goes_89 : decode cX3_goes 89 = .ok (.iload_n 1, 1) := dk_27 (dk_at dksX3_goes_3 20 rfl rfl)
theorem dX3_goes_90 : decode cX3_goes 90 = .ok (.dup2, 1) := dk_92 (dk_at dksX3_goes_3 21 rfl rfl)
theorem dX3_goes_91 : decode cX3_goes 91 = .ok (.iaload, 1) := dk_46 (dk_at dksX3_goes_3 22 rfl rfl)
theorem dX3_goes_92 : decode cX3_goes 92 = .ok (.aload_n 0, 1) := dk_42 (dk_at dksX3_goes_3 23 rfl rfl)
theorem dX3_goes_93 : decode cX3_goes 93 = .ok (.getfield 50, 3) := dk_180 0 50 (dk_at dksX3_goes_4 0 rfl rfl)
theorem dX3_goes_96 : decode cX3_goes 96 = .ok (.iload_n 1, 1) := dk_27 (dk_at dksX3_goes_4 3 rfl rfl)
theorem dX3_goes_97 : decode cX3_goes 97 = .ok (.iaload, 1) := dk_46 (dk_at dksX3_goes_4 4 rfl rfl)
theorem dX3_goes_98 : decode cX3_goes 98 = .ok (.sipush 200, 3) := dk_17 0 200 (dk_at dksX3_goes_4 5 rfl rfl)
theorem dX3_goes_101 : decode cX3_goes 101 = .ok (.idiv, 1) := dk_108 (dk_at dksX3_goes_4 8 rfl rfl)
theorem dX3_goes_102 : decode cX3_goes 102 = .ok (.iload 5, 2) := dk_21 5 (dk_at dksX3_goes_4 9 rfl rfl)
theorem dX3_goes_104 : decode cX3_goes 104 = .ok (.sipush 200, 3) := dk_17 0 200 (dk_at dksX3_goes_4 11 rfl rfl)
theorem dX3_goes_107 : decode cX3_goes 107 = .ok (.idiv, 1) := dk_108 (dk_at dksX3_goes_4 14 rfl rfl)
theorem dX3_goes_108 : decode cX3_goes 108 = .ok (.isub, 1) := dk_100 (dk_at dksX3_goes_4 15 rfl rfl)
theorem dX3_goes_109 : decode cX3_goes 109 = .ok (.isub, 1) := dk_100 (dk_at dksX3_goes_4 16 rfl rfl)
theorem dX3_goes_110 : decode cX3_goes 110 = .ok (.iastore, 1) := dk_79 (dk_at dksX3_goes_4 17 rfl rfl)
theorem dX3_goes_111 : decode cX3_goes 111 = .ok (.aload_n 0, 1) := dk_42 (dk_at dksX3_goes_4 18 rfl rfl)
theorem dX3_goes_112 : decode cX3_goes 112 = .ok (.getfield 59, 3) := dk_180 0 59 (dk_at dksX3_goes_4 19 rfl rfl)
theorem dX3_goes_115 : decode cX3_goes 115 = .ok (.iload_n 1, 1) := dk_27 (dk_at dksX3_goes_4 22 rfl rfl)
theorem dX3_goes_116 : decode cX3_goes 116 = .ok (.iaload, 1) := dk_46 (dk_at dksX3_goes_4 23 rfl rfl)
theorem dX3_goes_117 : decode cX3_goes 117 = .ok (.ifCond .ne 7, 3) := dk_154 0 7 (dk_at dksX3_goes_5 0 rfl rfl)
theorem dX3_goes_120 : decode cX3_goes 120 = .ok (.iconst 0, 1) := dk_3 (dk_at dksX3_goes_5 3 rfl rfl)
theorem dX3_goes_121 : decode cX3_goes 121 = .ok (.goto 34, 3) := dk_167 0 34 (dk_at dksX3_goes_5 4 rfl rfl)
theorem dX3_goes_124 : decode cX3_goes 124 = .ok (.aload_n 0, 1) := dk_42 (dk_at dksX3_goes_5 7 rfl rfl)
theorem dX3_goes_125 : decode cX3_goes 125 = .ok (.getfield 22, 3) := dk_180 0 22 (dk_at dksX3_goes_5 8 rfl rfl)
theorem dX3_goes_128 : decode cX3_goes 128 = .ok (.iload_n 1, 1) := dk_27 (dk_at dksX3_goes_5 11 rfl rfl)
theorem dX3_goes_129 : decode cX3_goes 129 = .ok (.iaload, 1) := dk_46 (dk_at dksX3_goes_5 12 rfl rfl)
theorem dX3_goes_130 : decode cX3_goes 130 = .ok (.aload_n 0, 1) := dk_42 (dk_at dksX3_goes_5 13 rfl rfl)
theorem dX3_goes_131 : decode cX3_goes 131 = .ok (.getfield 62, 3) := dk_180 0 62 (dk_at dksX3_goes_5 14 rfl rfl)
theorem dX3_goes_134 : decode cX3_goes 134 = .ok (.iload_n 1, 1) := dk_27 (dk_at dksX3_goes_5 17 rfl rfl)
theorem dX3_goes_135 : decode cX3_goes 135 = .ok (.iaload, 1) := dk_46 (dk_at dksX3_goes_5 18 rfl rfl)
theorem dX3_goes_136 : decode cX3_goes 136 = .ok (.isub, 1) := dk_100 (dk_at dksX3_goes_5 19 rfl rfl)
theorem dX3_goes_137 : decode cX3_goes 137 = .ok (.sipush 500, 3) := dk_17 1 244 (dk_at dksX3_goes_5 20 rfl rfl)
theorem dX3_goes_140 : decode cX3_goes 140 = .ok (.idiv, 1) := dk_108 (dk_at dksX3_goes_5 23 rfl rfl)
theorem dX3_goes_141 : decode cX3_goes 141 = .ok (.iload 4, 2) := dk_21 4 (dk_at dksX3_goes_6 0 rfl rfl)
theorem dX3_goes_143 : decode cX3_goes 143 = .ok (.aload_n 0, 1) := dk_42 (dk_at dksX3_goes_6 2 rfl rfl)
theorem dX3_goes_144 : decode cX3_goes 144 = .ok (.getfield 62, 3) := dk_180 0 62 (dk_at dksX3_goes_6 3 rfl rfl)
theorem dX3_goes_147 : decode cX3_goes 147 = .ok (.iload_n 1, 1) := dk_27 (dk_at dksX3_goes_6 6 rfl rfl)
theorem dX3_goes_148 : decode cX3_goes 148 = .ok (.iaload, 1) := dk_46 (dk_at dksX3_goes_6 7 rfl rfl)
theorem dX3_goes_149 : decode cX3_goes 149 = .ok (.isub, 1) := dk_100 (dk_at dksX3_goes_6 8 rfl rfl)
theorem dX3_goes_150 : decode cX3_goes 150 = .ok (.sipush 500, 3) := dk_17 1 244 (dk_at dksX3_goes_6 9 rfl rfl)
theorem dX3_goes_153 : decode cX3_goes 153 = .ok (.idiv, 1) := dk_108 (dk_at dksX3_goes_6 12 rfl rfl)
theorem dX3_goes_154 : decode cX3_goes 154 = .ok (.isub, 1) := dk_100 (dk_at dksX3_goes_6 13 rfl rfl)
theorem dX3_goes_155 : decode cX3_goes 155 = .ok (.istore 5, 2) := dk_54 5 (dk_at dksX3_goes_6 14 rfl rfl)
theorem dX3_goes_157 : decode cX3_goes 157 = .ok (.iconst 0, 1) := dk_3 (dk_at dksX3_goes_6 16 rfl rfl)
theorem dX3_goes_158 : decode cX3_goes 158 = .ok (.istore 6, 2) := dk_54 6 (dk_at dksX3_goes_6 17 rfl rfl)
theorem dX3_goes_160 : decode cX3_goes 160 = .ok (.iload 6, 2) := dk_21 6 (dk_at dksX3_goes_6 19 rfl rfl)
theorem dX3_goes_162 : decode cX3_goes 162 = .ok (.iload 5, 2) := dk_21 5 (dk_at dksX3_goes_6 21 rfl rfl)
theorem dX3_goes_164 : decode cX3_goes 164 = .ok (.if_icmp .ge 29, 3) := dk_162 0 29 (dk_at dksX3_goes_7 0 rfl rfl)
theorem dX3_goes_167 : decode cX3_goes 167 = .ok (.aload_n 0, 1) := dk_42 (dk_at dksX3_goes_7 3 rfl rfl)
theorem dX3_goes_168 : decode cX3_goes 168 = .ok (.getfield 59, 3) := dk_180 0 59 (dk_at dksX3_goes_7 4 rfl rfl)
theorem dX3_goes_171 : decode cX3_goes 171 = .ok (.iload_n 1, 1) := dk_27 (dk_at dksX3_goes_7 7 rfl rfl)
theorem dX3_goes_172 : decode cX3_goes 172 = .ok (.dup2, 1) := dk_92 (dk_at dksX3_goes_7 8 rfl rfl)
theorem dX3_goes_173 : decode cX3_goes 173 = .ok (.iaload, 1) := dk_46 (dk_at dksX3_goes_7 9 rfl rfl)
theorem dX3_goes_174 : decode cX3_goes 174 = .ok (.iconst 1, 1) := dk_4 (dk_at dksX3_goes_7 10 rfl rfl)
theorem dX3_goes_175 : decode cX3_goes 175 = .ok (.aload_n 0, 1) := dk_42 (dk_at dksX3_goes_7 11 rfl rfl)
theorem dX3_goes_176 : decode cX3_goes 176 = .ok (.getfield 59, 3) := dk_180 0 59 (dk_at dksX3_goes_7 12 rfl rfl)
theorem dX3_goes_179 : decode cX3_goes 179 = .ok (.iload_n 1, 1) := dk_27 (dk_at dksX3_goes_7 15 rfl rfl)
theorem dX3_goes_180 : decode cX3_goes 180 = .ok (.iaload, 1) := dk_46 (dk_at dksX3_goes_7 16 rfl rfl)
theorem dX3_goes_181 : decode cX3_goes 181 = .ok (.bipush 10, 2) := dk_16 10 (dk_at dksX3_goes_7 17 rfl rfl)
theorem dX3_goes_183 : decode cX3_goes 183 = .ok (.idiv, 1) := dk_108 (dk_at dksX3_goes_7 19 rfl rfl)
theorem dX3_goes_184 : decode cX3_goes 184 = .ok (.iadd, 1) := dk_96 (dk_at dksX3_goes_7 20 rfl rfl)
theorem dX3_goes_185 : decode cX3_goes 185 = .ok (.iadd, 1) := dk_96 (dk_at dksX3_goes_7 21 rfl rfl)
theorem dX3_goes_186 : decode cX3_goes 186 = .ok (.iastore, 1) := dk_79 (dk_at dksX3_goes_7 22 rfl rfl)
theorem dX3_goes_187 : decode cX3_goes 187 = .ok (.iinc 6 1, 3) := dk_132 6 1 (dk_at dksX3_goes_8 0 rfl rfl)
theorem dX3_goes_190 : decode cX3_goes 190 = .ok (.goto (-30), 3) := dk_167 255 226 (dk_at dksX3_goes_8 3 rfl rfl)
theorem dX3_goes_193 : decode cX3_goes 193 = .ok (.return_, 1) := dk_177 (dk_at dksX3_goes_8 6 rfl rfl)
abbrev cX3_factor : ByteArray := prog_12_method_19_code
def yX3_factor : MethodName := ⟨RX3, "factor", "(I)I"⟩
def dkwX3_factor_0 : List UInt8 := [26, 6, 160, 0, 7, 5, 167, 0, 6, 26, 4, 96, 172]
abbrev dktX3_factor_0 : List UInt8 := dkwX3_factor_0 ++ []
theorem dksX3_factor_0 : cX3_factor.data.toList.drop 0 = dktX3_factor_0 := by decide +kernel
theorem dX3_factor_0 : decode cX3_factor 0 = .ok (.iload_n 0, 1) := dk_26 (dk_at dksX3_factor_0 0 rfl rfl)
theorem dX3_factor_1 : decode cX3_factor 1 = .ok (.iconst 3, 1) := dk_6 (dk_at dksX3_factor_0 1 rfl rfl)
theorem dX3_factor_2 : decode cX3_factor 2 = .ok (.if_icmp .ne 7, 3) := dk_160 0 7 (dk_at dksX3_factor_0 2 rfl rfl)
theorem dX3_factor_5 : decode cX3_factor 5 = .ok (.iconst 2, 1) := dk_5 (dk_at dksX3_factor_0 5 rfl rfl)
theorem dX3_factor_6 : decode cX3_factor 6 = .ok (.goto 6, 3) := dk_167 0 6 (dk_at dksX3_factor_0 6 rfl rfl)
theorem dX3_factor_9 : decode cX3_factor 9 = .ok (.iload_n 0, 1) := dk_26 (dk_at dksX3_factor_0 9 rfl rfl)
theorem dX3_factor_10 : decode cX3_factor 10 = .ok (.iconst 1, 1) := dk_4 (dk_at dksX3_factor_0 10 rfl rfl)
theorem dX3_factor_11 : decode cX3_factor 11 = .ok (.iadd, 1) := dk_96 (dk_at dksX3_factor_0 11 rfl rfl)
theorem dX3_factor_12 : decode cX3_factor 12 = .ok (.ireturn, 1) := dk_172 (dk_at dksX3_factor_0 12 rfl rfl)
abbrev cX3_turn : ByteArray := prog_12_method_24_code
def yX3_turn : MethodName := ⟨RX3, "turn", "(I)I"⟩
def dkwX3_turn_6 : List UInt8 := [180, 0, 44, 28, 21, 5, 79, 42, 180, 0, 44, 29, 21, 5, 79, 21, 4, 172]
abbrev dktX3_turn_6 : List UInt8 := dkwX3_turn_6 ++ []
def dkwX3_turn_5 : List UInt8 := [180, 0, 44, 28, 46, 21, 5, 100, 42, 180, 0, 44, 29, 46, 96, 21, 5, 100, 96, 54, 4, 42]
abbrev dktX3_turn_5 : List UInt8 := dkwX3_turn_5 ++ dktX3_turn_6
def dkwX3_turn_4 : List UInt8 := [162, 0, 12, 42, 180, 0, 44, 28, 46, 167, 0, 9, 42, 180, 0, 44, 29, 46, 54, 5, 21, 4, 42]
abbrev dktX3_turn_4 : List UInt8 := dkwX3_turn_4 ++ dktX3_turn_5
def dkwX3_turn_3 : List UInt8 := [182, 0, 163, 42, 29, 182, 0, 163, 96, 54, 4, 42, 180, 0, 44, 28, 46, 42, 180, 0, 44, 29, 46]
abbrev dktX3_turn_3 : List UInt8 := dkwX3_turn_3 ++ dktX3_turn_4
def dkwX3_turn_2 : List UInt8 := [180, 0, 98, 158, 0, 5, 3, 172, 42, 27, 3, 182, 0, 159, 61, 42, 27, 4, 182, 0, 159, 62, 42, 28]
abbrev dktX3_turn_2 : List UInt8 := dkwX3_turn_2 ++ dktX3_turn_3
def dkwX3_turn_1 : List UInt8 := [182, 0, 128, 5, 161, 0, 11, 42, 27, 182, 0, 125, 153, 0, 7, 6, 167, 0, 4, 3, 181, 0, 98, 42]
abbrev dktX3_turn_1 : List UInt8 := dkwX3_turn_1 ++ dktX3_turn_2
def dkwX3_turn_0 : List UInt8 := [42, 42, 27, 5, 182, 0, 148, 181, 0, 98, 42, 180, 0, 98, 158, 0, 5, 3, 172, 42, 42, 27, 6]
abbrev dktX3_turn_0 : List UInt8 := dkwX3_turn_0 ++ dktX3_turn_1
theorem dksX3_turn_0 : cX3_turn.data.toList.drop 0 = dktX3_turn_0 := by decide +kernel
theorem dksX3_turn_1 : cX3_turn.data.toList.drop 23 = dktX3_turn_1 := dk_seg dksX3_turn_0 23 rfl rfl
theorem dksX3_turn_2 : cX3_turn.data.toList.drop 47 = dktX3_turn_2 := dk_seg dksX3_turn_1 24 rfl rfl
theorem dksX3_turn_3 : cX3_turn.data.toList.drop 71 = dktX3_turn_3 := dk_seg dksX3_turn_2 24 rfl rfl
theorem dksX3_turn_4 : cX3_turn.data.toList.drop 94 = dktX3_turn_4 := dk_seg dksX3_turn_3 23 rfl rfl
theorem dksX3_turn_5 : cX3_turn.data.toList.drop 117 = dktX3_turn_5 := dk_seg dksX3_turn_4 23 rfl rfl
theorem dksX3_turn_6 : cX3_turn.data.toList.drop 139 = dktX3_turn_6 := dk_seg dksX3_turn_5 22 rfl rfl
theorem dX3_turn_0 : decode cX3_turn 0 = .ok (.aload_n 0, 1) := dk_42 (dk_at dksX3_turn_0 0 rfl rfl)
theorem dX3_turn_1 : decode cX3_turn 1 = .ok (.aload_n 0, 1) := dk_42 (dk_at dksX3_turn_0 1 rfl rfl)
theorem dX3_turn_2 : decode cX3_turn 2 = .ok (.iload_n 1, 1) := dk_27 (dk_at dksX3_turn_0 2 rfl rfl)
theorem dX3_turn_3 : decode cX3_turn 3 = .ok (.iconst 2, 1) := dk_5 (dk_at dksX3_turn_0 3 rfl rfl)
theorem dX3_turn_4 : decode cX3_turn 4 = .ok (.invokevirtual 148, 3) := dk_182 0 148 (dk_at dksX3_turn_0 4 rfl rfl)
theorem dX3_turn_7 : decode cX3_turn 7 = .ok (.putfield 98, 3) := dk_181 0 98 (dk_at dksX3_turn_0 7 rfl rfl)
theorem dX3_turn_10 : decode cX3_turn 10 = .ok (.aload_n 0, 1) := dk_42 (dk_at dksX3_turn_0 10 rfl rfl)
theorem dX3_turn_11 : decode cX3_turn 11 = .ok (.getfield 98, 3) := dk_180 0 98 (dk_at dksX3_turn_0 11 rfl rfl)
theorem dX3_turn_14 : decode cX3_turn 14 = .ok (.ifCond .le 5, 3) := dk_158 0 5 (dk_at dksX3_turn_0 14 rfl rfl)
theorem dX3_turn_17 : decode cX3_turn 17 = .ok (.iconst 0, 1) := dk_3 (dk_at dksX3_turn_0 17 rfl rfl)
theorem dX3_turn_18 : decode cX3_turn 18 = .ok (.ireturn, 1) := dk_172 (dk_at dksX3_turn_0 18 rfl rfl)
theorem dX3_turn_19 : decode cX3_turn 19 = .ok (.aload_n 0, 1) := dk_42 (dk_at dksX3_turn_0 19 rfl rfl)
theorem dX3_turn_20 : decode cX3_turn 20 = .ok (.aload_n 0, 1) := dk_42 (dk_at dksX3_turn_0 20 rfl rfl)
theorem dX3_turn_21 : decode cX3_turn 21 = .ok (.iload_n 1, 1) := dk_27 (dk_at dksX3_turn_0 21 rfl rfl)
theorem dX3_turn_22 : decode cX3_turn 22 = .ok (.iconst 3, 1) := dk_6 (dk_at dksX3_turn_0 22 rfl rfl)
theorem dX3_turn_23 : decode cX3_turn 23 = .ok (.invokevirtual 128, 3) := dk_182 0 128 (dk_at dksX3_turn_1 0 rfl rfl)
theorem dX3_turn_26 : decode cX3_turn 26 = .ok (.iconst 2, 1) := dk_5 (dk_at dksX3_turn_1 3 rfl rfl)
theorem dX3_turn_27 : decode cX3_turn 27 = .ok (.if_icmp .lt 11, 3) := dk_161 0 11 (dk_at dksX3_turn_1 4 rfl rfl)
theorem dX3_turn_30 : decode cX3_turn 30 = .ok (.aload_n 0, 1) := dk_42 (dk_at dksX3_turn_1 7 rfl rfl)
theorem dX3_turn_31 : decode cX3_turn 31 = .ok (.iload_n 1, 1) := dk_27 (dk_at dksX3_turn_1 8 rfl rfl)
theorem dX3_turn_32 : decode cX3_turn 32 = .ok (.invokevirtual 125, 3) := dk_182 0 125 (dk_at dksX3_turn_1 9 rfl rfl)
theorem dX3_turn_35 : decode cX3_turn 35 = .ok (.ifCond .eq 7, 3) := dk_153 0 7 (dk_at dksX3_turn_1 12 rfl rfl)
theorem dX3_turn_38 : decode cX3_turn 38 = .ok (.iconst 3, 1) := dk_6 (dk_at dksX3_turn_1 15 rfl rfl)
theorem dX3_turn_39 : decode cX3_turn 39 = .ok (.goto 4, 3) := dk_167 0 4 (dk_at dksX3_turn_1 16 rfl rfl)
theorem dX3_turn_42 : decode cX3_turn 42 = .ok (.iconst 0, 1) := dk_3 (dk_at dksX3_turn_1 19 rfl rfl)
theorem dX3_turn_43 : decode cX3_turn 43 = .ok (.putfield 98, 3) := dk_181 0 98 (dk_at dksX3_turn_1 20 rfl rfl)
theorem dX3_turn_46 : decode cX3_turn 46 = .ok (.aload_n 0, 1) := dk_42 (dk_at dksX3_turn_1 23 rfl rfl)
theorem dX3_turn_47 : decode cX3_turn 47 = .ok (.getfield 98, 3) := dk_180 0 98 (dk_at dksX3_turn_2 0 rfl rfl)
theorem dX3_turn_50 : decode cX3_turn 50 = .ok (.ifCond .le 5, 3) := dk_158 0 5 (dk_at dksX3_turn_2 3 rfl rfl)
theorem dX3_turn_53 : decode cX3_turn 53 = .ok (.iconst 0, 1) := dk_3 (dk_at dksX3_turn_2 6 rfl rfl)
theorem dX3_turn_54 : decode cX3_turn 54 = .ok (.ireturn, 1) := dk_172 (dk_at dksX3_turn_2 7 rfl rfl)
theorem dX3_turn_55 : decode cX3_turn 55 = .ok (.aload_n 0, 1) := dk_42 (dk_at dksX3_turn_2 8 rfl rfl)
theorem dX3_turn_56 : decode cX3_turn 56 = .ok (.iload_n 1, 1) := dk_27 (dk_at dksX3_turn_2 9 rfl rfl)
theorem dX3_turn_57 : decode cX3_turn 57 = .ok (.iconst 0, 1) := dk_3 (dk_at dksX3_turn_2 10 rfl rfl)
theorem dX3_turn_58 : decode cX3_turn 58 = .ok (.invokevirtual 159, 3) := dk_182 0 159 (dk_at dksX3_turn_2 11 rfl rfl)
theorem dX3_turn_61 : decode cX3_turn 61 = .ok (.istore_n 2, 1) := dk_61 (dk_at dksX3_turn_2 14 rfl rfl)
theorem dX3_turn_62 : decode cX3_turn 62 = .ok (.aload_n 0, 1) := dk_42 (dk_at dksX3_turn_2 15 rfl rfl)
theorem dX3_turn_63 : decode cX3_turn 63 = .ok (.iload_n 1, 1) := dk_27 (dk_at dksX3_turn_2 16 rfl rfl)
theorem dX3_turn_64 : decode cX3_turn 64 = .ok (.iconst 1, 1) := dk_4 (dk_at dksX3_turn_2 17 rfl rfl)
theorem dX3_turn_65 : decode cX3_turn 65 = .ok (.invokevirtual 159, 3) := dk_182 0 159 (dk_at dksX3_turn_2 18 rfl rfl)
theorem dX3_turn_68 : decode cX3_turn 68 = .ok (.istore_n 3, 1) := dk_62 (dk_at dksX3_turn_2 21 rfl rfl)
theorem dX3_turn_69 : decode cX3_turn 69 = .ok (.aload_n 0, 1) := dk_42 (dk_at dksX3_turn_2 22 rfl rfl)
theorem dX3_turn_70 : decode cX3_turn 70 = .ok (.iload_n 2, 1) := dk_28 (dk_at dksX3_turn_2 23 rfl rfl)
theorem dX3_turn_71 : decode cX3_turn 71 = .ok (.invokevirtual 163, 3) := dk_182 0 163 (dk_at dksX3_turn_3 0 rfl rfl)
theorem dX3_turn_74 : decode cX3_turn 74 = .ok (.aload_n 0, 1) := dk_42 (dk_at dksX3_turn_3 3 rfl rfl)
theorem dX3_turn_75 : decode cX3_turn 75 = .ok (.iload_n 3, 1) := dk_29 (dk_at dksX3_turn_3 4 rfl rfl)
theorem dX3_turn_76 : decode cX3_turn 76 = .ok (.invokevirtual 163, 3) := dk_182 0 163 (dk_at dksX3_turn_3 5 rfl rfl)
theorem dX3_turn_79 : decode cX3_turn 79 = .ok (.iadd, 1) := dk_96 (dk_at dksX3_turn_3 8 rfl rfl)
theorem dX3_turn_80 : decode cX3_turn 80 = .ok (.istore 4, 2) := dk_54 4 (dk_at dksX3_turn_3 9 rfl rfl)
theorem dX3_turn_82 : decode cX3_turn 82 = .ok (.aload_n 0, 1) := dk_42 (dk_at dksX3_turn_3 11 rfl rfl)
theorem dX3_turn_83 : decode cX3_turn 83 = .ok (.getfield 44, 3) := dk_180 0 44 (dk_at dksX3_turn_3 12 rfl rfl)
theorem dX3_turn_86 : decode cX3_turn 86 = .ok (.iload_n 2, 1) := dk_28 (dk_at dksX3_turn_3 15 rfl rfl)
theorem dX3_turn_87 : decode cX3_turn 87 = .ok (.iaload, 1) := dk_46 (dk_at dksX3_turn_3 16 rfl rfl)
theorem dX3_turn_88 : decode cX3_turn 88 = .ok (.aload_n 0, 1) := dk_42 (dk_at dksX3_turn_3 17 rfl rfl)
theorem dX3_turn_89 : decode cX3_turn 89 = .ok (.getfield 44, 3) := dk_180 0 44 (dk_at dksX3_turn_3 18 rfl rfl)
theorem dX3_turn_92 : decode cX3_turn 92 = .ok (.iload_n 3, 1) := dk_29 (dk_at dksX3_turn_3 21 rfl rfl)
theorem dX3_turn_93 : decode cX3_turn 93 = .ok (.iaload, 1) := dk_46 (dk_at dksX3_turn_3 22 rfl rfl)
theorem dX3_turn_94 : decode cX3_turn 94 = .ok (.if_icmp .ge 12, 3) := dk_162 0 12 (dk_at dksX3_turn_4 0 rfl rfl)
theorem dX3_turn_97 : decode cX3_turn 97 = .ok (.aload_n 0, 1) := dk_42 (dk_at dksX3_turn_4 3 rfl rfl)
theorem dX3_turn_98 : decode cX3_turn 98 = .ok (.getfield 44, 3) := dk_180 0 44 (dk_at dksX3_turn_4 4 rfl rfl)
theorem dX3_turn_101 : decode cX3_turn 101 = .ok (.iload_n 2, 1) := dk_28 (dk_at dksX3_turn_4 7 rfl rfl)
theorem dX3_turn_102 : decode cX3_turn 102 = .ok (.iaload, 1) := dk_46 (dk_at dksX3_turn_4 8 rfl rfl)
theorem dX3_turn_103 : decode cX3_turn 103 = .ok (.goto 9, 3) := dk_167 0 9 (dk_at dksX3_turn_4 9 rfl rfl)
theorem dX3_turn_106 : decode cX3_turn 106 = .ok (.aload_n 0, 1) := dk_42 (dk_at dksX3_turn_4 12 rfl rfl)
theorem dX3_turn_107 : decode cX3_turn 107 = .ok (.getfield 44, 3) := dk_180 0 44 (dk_at dksX3_turn_4 13 rfl rfl)
theorem dX3_turn_110 : decode cX3_turn 110 = .ok (.iload_n 3, 1) := dk_29 (dk_at dksX3_turn_4 16 rfl rfl)
theorem dX3_turn_111 : decode cX3_turn 111 = .ok (.iaload, 1) := dk_46 (dk_at dksX3_turn_4 17 rfl rfl)
theorem dX3_turn_112 : decode cX3_turn 112 = .ok (.istore 5, 2) := dk_54 5 (dk_at dksX3_turn_4 18 rfl rfl)
theorem dX3_turn_114 : decode cX3_turn 114 = .ok (.iload 4, 2) := dk_21 4 (dk_at dksX3_turn_4 20 rfl rfl)
theorem dX3_turn_116 : decode cX3_turn 116 = .ok (.aload_n 0, 1) := dk_42 (dk_at dksX3_turn_4 22 rfl rfl)
theorem dX3_turn_117 : decode cX3_turn 117 = .ok (.getfield 44, 3) := dk_180 0 44 (dk_at dksX3_turn_5 0 rfl rfl)
theorem dX3_turn_120 : decode cX3_turn 120 = .ok (.iload_n 2, 1) := dk_28 (dk_at dksX3_turn_5 3 rfl rfl)
theorem dX3_turn_121 : decode cX3_turn 121 = .ok (.iaload, 1) := dk_46 (dk_at dksX3_turn_5 4 rfl rfl)
theorem dX3_turn_122 : decode cX3_turn 122 = .ok (.iload 5, 2) := dk_21 5 (dk_at dksX3_turn_5 5 rfl rfl)
theorem dX3_turn_124 : decode cX3_turn 124 = .ok (.isub, 1) := dk_100 (dk_at dksX3_turn_5 7 rfl rfl)
theorem dX3_turn_125 : decode cX3_turn 125 = .ok (.aload_n 0, 1) := dk_42 (dk_at dksX3_turn_5 8 rfl rfl)
theorem dX3_turn_126 : decode cX3_turn 126 = .ok (.getfield 44, 3) := dk_180 0 44 (dk_at dksX3_turn_5 9 rfl rfl)
theorem dX3_turn_129 : decode cX3_turn 129 = .ok (.iload_n 3, 1) := dk_29 (dk_at dksX3_turn_5 12 rfl rfl)
theorem dX3_turn_130 : decode cX3_turn 130 = .ok (.iaload, 1) := dk_46 (dk_at dksX3_turn_5 13 rfl rfl)
theorem dX3_turn_131 : decode cX3_turn 131 = .ok (.iadd, 1) := dk_96 (dk_at dksX3_turn_5 14 rfl rfl)
theorem dX3_turn_132 : decode cX3_turn 132 = .ok (.iload 5, 2) := dk_21 5 (dk_at dksX3_turn_5 15 rfl rfl)
theorem dX3_turn_134 : decode cX3_turn 134 = .ok (.isub, 1) := dk_100 (dk_at dksX3_turn_5 17 rfl rfl)
theorem dX3_turn_135 : decode cX3_turn 135 = .ok (.iadd, 1) := dk_96 (dk_at dksX3_turn_5 18 rfl rfl)
theorem dX3_turn_136 : decode cX3_turn 136 = .ok (.istore 4, 2) := dk_54 4 (dk_at dksX3_turn_5 19 rfl rfl)
theorem dX3_turn_138 : decode cX3_turn 138 = .ok (.aload_n 0, 1) := dk_42 (dk_at dksX3_turn_5 21 rfl rfl)
theorem dX3_turn_139 : decode cX3_turn 139 = .ok (.getfield 44, 3) := dk_180 0 44 (dk_at dksX3_turn_6 0 rfl rfl)
theorem dX3_turn_142 : decode cX3_turn 142 = .ok (.iload_n 2, 1) := dk_28 (dk_at dksX3_turn_6 3 rfl rfl)
theorem dX3_turn_143 : decode cX3_turn 143 = .ok (.iload 5, 2) := dk_21 5 (dk_at dksX3_turn_6 4 rfl rfl)
theorem dX3_turn_145 : decode cX3_turn 145 = .ok (.iastore, 1) := dk_79 (dk_at dksX3_turn_6 6 rfl rfl)
theorem dX3_turn_146 : decode cX3_turn 146 = .ok (.aload_n 0, 1) := dk_42 (dk_at dksX3_turn_6 7 rfl rfl)
theorem dX3_turn_147 : decode cX3_turn 147 = .ok (.getfield 44, 3) := dk_180 0 44 (dk_at dksX3_turn_6 8 rfl rfl)
theorem dX3_turn_150 : decode cX3_turn 150 = .ok (.iload_n 3, 1) := dk_29 (dk_at dksX3_turn_6 11 rfl rfl)
theorem dX3_turn_151 : decode cX3_turn 151 = .ok (.iload 5, 2) := dk_21 5 (dk_at dksX3_turn_6 12 rfl rfl)
theorem dX3_turn_153 : decode cX3_turn 153 = .ok (.iastore, 1) := dk_79 (dk_at dksX3_turn_6 14 rfl rfl)
theorem dX3_turn_154 : decode cX3_turn 154 = .ok (.iload 4, 2) := dk_21 4 (dk_at dksX3_turn_6 15 rfl rfl)
theorem dX3_turn_156 : decode cX3_turn 156 = .ok (.ireturn, 1) := dk_172 (dk_at dksX3_turn_6 17 rfl rfl)
abbrev cX3_wheelsetOf : ByteArray := prog_12_method_22_code
def yX3_wheelsetOf : MethodName := ⟨RX3, "wheelsetOf", "(IZ)I"⟩
def dkwX3_wheelsetOf_3 : List UInt8 := [167, 255, 194, 29, 172]
abbrev dktX3_wheelsetOf_3 : List UInt8 := dkwX3_wheelsetOf_3 ++ []
def dkwX3_wheelsetOf_2 : List UInt8 := [153, 0, 17, 28, 154, 0, 8, 29, 2, 160, 0, 8, 21, 4, 167, 0, 4, 29, 62, 132, 4, 1]
abbrev dktX3_wheelsetOf_2 : List UInt8 := dkwX3_wheelsetOf_2 ++ dktX3_wheelsetOf_3
def dkwX3_wheelsetOf_1 : List UInt8 := [160, 0, 18, 42, 180, 0, 7, 21, 4, 46, 6, 160, 0, 7, 4, 167, 0, 4, 3, 54, 5, 21, 5]
abbrev dktX3_wheelsetOf_1 : List UInt8 := dkwX3_wheelsetOf_1 ++ dktX3_wheelsetOf_2
def dkwX3_wheelsetOf_0 : List UInt8 := [2, 62, 3, 54, 4, 21, 4, 42, 180, 0, 102, 162, 0, 59, 42, 180, 0, 19, 21, 4, 46, 27]
abbrev dktX3_wheelsetOf_0 : List UInt8 := dkwX3_wheelsetOf_0 ++ dktX3_wheelsetOf_1
theorem dksX3_wheelsetOf_0 : cX3_wheelsetOf.data.toList.drop 0 = dktX3_wheelsetOf_0 := by decide +kernel
theorem dksX3_wheelsetOf_1 : cX3_wheelsetOf.data.toList.drop 22 = dktX3_wheelsetOf_1 := dk_seg dksX3_wheelsetOf_0 22 rfl rfl
theorem dksX3_wheelsetOf_2 : cX3_wheelsetOf.data.toList.drop 45 = dktX3_wheelsetOf_2 := dk_seg dksX3_wheelsetOf_1 23 rfl rfl
theorem dksX3_wheelsetOf_3 : cX3_wheelsetOf.data.toList.drop 67 = dktX3_wheelsetOf_3 := dk_seg dksX3_wheelsetOf_2 22 rfl rfl
theorem dX3_wheelsetOf_0 : decode cX3_wheelsetOf 0 = .ok (.iconst (-1), 1) := dk_2 (dk_at dksX3_wheelsetOf_0 0 rfl rfl)
theorem dX3_wheelsetOf_1 : decode cX3_wheelsetOf 1 = .ok (.istore_n 3, 1) := dk_62 (dk_at dksX3_wheelsetOf_0 1 rfl rfl)
theorem dX3_wheelsetOf_2 : decode cX3_wheelsetOf 2 = .ok (.iconst 0, 1) := dk_3 (dk_at dksX3_wheelsetOf_0 2 rfl rfl)
theorem dX3_wheelsetOf_3 : decode cX3_wheelsetOf 3 = .ok (.istore 4, 2) := dk_54 4 (dk_at dksX3_wheelsetOf_0 3 rfl rfl)
theorem dX3_wheelsetOf_5 : decode cX3_wheelsetOf 5 = .ok (.iload 4, 2) := dk_21 4 (dk_at dksX3_wheelsetOf_0 5 rfl rfl)
theorem dX3_wheelsetOf_7 : decode cX3_wheelsetOf 7 = .ok (.aload_n 0, 1) := dk_42 (dk_at dksX3_wheelsetOf_0 7 rfl rfl)
theorem dX3_wheelsetOf_8 : decode cX3_wheelsetOf 8 = .ok (.getfield 102, 3) := dk_180 0 102 (dk_at dksX3_wheelsetOf_0 8 rfl rfl)
theorem dX3_wheelsetOf_11 : decode cX3_wheelsetOf 11 = .ok (.if_icmp .ge 59, 3) := dk_162 0 59 (dk_at dksX3_wheelsetOf_0 11 rfl rfl)
theorem dX3_wheelsetOf_14 : decode cX3_wheelsetOf 14 = .ok (.aload_n 0, 1) := dk_42 (dk_at dksX3_wheelsetOf_0 14 rfl rfl)
theorem dX3_wheelsetOf_15 : decode cX3_wheelsetOf 15 = .ok (.getfield 19, 3) := dk_180 0 19 (dk_at dksX3_wheelsetOf_0 15 rfl rfl)
theorem dX3_wheelsetOf_18 : decode cX3_wheelsetOf 18 = .ok (.iload 4, 2) := dk_21 4 (dk_at dksX3_wheelsetOf_0 18 rfl rfl)
theorem dX3_wheelsetOf_20 : decode cX3_wheelsetOf 20 = .ok (.iaload, 1) := dk_46 (dk_at dksX3_wheelsetOf_0 20 rfl rfl)
theorem dX3_wheelsetOf_21 : decode cX3_wheelsetOf 21 = .ok (.iload_n 1, 1) := dk_27 (dk_at dksX3_wheelsetOf_0 21 rfl rfl)
theorem dX3_wheelsetOf_22 : decode cX3_wheelsetOf 22 = .ok (.if_icmp .ne 18, 3) := dk_160 0 18 (dk_at dksX3_wheelsetOf_1 0 rfl rfl)
theorem dX3_wheelsetOf_25 : decode cX3_wheelsetOf 25 = .ok (.aload_n 0, 1) := dk_42 (dk_at dksX3_wheelsetOf_1 3 rfl rfl)
theorem dX3_wheelsetOf_26 : decode cX3_wheelsetOf 26 = .ok (.getfield 7, 3) := dk_180 0 7 (dk_at dksX3_wheelsetOf_1 4 rfl rfl)
theorem dX3_wheelsetOf_29 : decode cX3_wheelsetOf 29 = .ok (.iload 4, 2) := dk_21 4 (dk_at dksX3_wheelsetOf_1 7 rfl rfl)
theorem dX3_wheelsetOf_31 : decode cX3_wheelsetOf 31 = .ok (.iaload, 1) := dk_46 (dk_at dksX3_wheelsetOf_1 9 rfl rfl)
theorem dX3_wheelsetOf_32 : decode cX3_wheelsetOf 32 = .ok (.iconst 3, 1) := dk_6 (dk_at dksX3_wheelsetOf_1 10 rfl rfl)
theorem dX3_wheelsetOf_33 : decode cX3_wheelsetOf 33 = .ok (.if_icmp .ne 7, 3) := dk_160 0 7 (dk_at dksX3_wheelsetOf_1 11 rfl rfl)
theorem dX3_wheelsetOf_36 : decode cX3_wheelsetOf 36 = .ok (.iconst 1, 1) := dk_4 (dk_at dksX3_wheelsetOf_1 14 rfl rfl)
theorem dX3_wheelsetOf_37 : decode cX3_wheelsetOf 37 = .ok (.goto 4, 3) := dk_167 0 4 (dk_at dksX3_wheelsetOf_1 15 rfl rfl)
theorem dX3_wheelsetOf_40 : decode cX3_wheelsetOf 40 = .ok (.iconst 0, 1) := dk_3 (dk_at dksX3_wheelsetOf_1 18 rfl rfl)
theorem dX3_wheelsetOf_41 : decode cX3_wheelsetOf 41 = .ok (.istore 5, 2) := dk_54 5 (dk_at dksX3_wheelsetOf_1 19 rfl rfl)
theorem dX3_wheelsetOf_43 : decode cX3_wheelsetOf 43 = .ok (.iload 5, 2) := dk_21 5 (dk_at dksX3_wheelsetOf_1 21 rfl rfl)
theorem dX3_wheelsetOf_45 : decode cX3_wheelsetOf 45 = .ok (.ifCond .eq 17, 3) := dk_153 0 17 (dk_at dksX3_wheelsetOf_2 0 rfl rfl)
theorem dX3_wheelsetOf_48 : decode cX3_wheelsetOf 48 = .ok (.iload_n 2, 1) := dk_28 (dk_at dksX3_wheelsetOf_2 3 rfl rfl)
theorem dX3_wheelsetOf_49 : decode cX3_wheelsetOf 49 = .ok (.ifCond .ne 8, 3) := dk_154 0 8 (dk_at dksX3_wheelsetOf_2 4 rfl rfl)
theorem dX3_wheelsetOf_52 : decode cX3_wheelsetOf 52 = .ok (.iload_n 3, 1) := dk_29 (dk_at dksX3_wheelsetOf_2 7 rfl rfl)
theorem dX3_wheelsetOf_53 : decode cX3_wheelsetOf 53 = .ok (.iconst (-1), 1) := dk_2 (dk_at dksX3_wheelsetOf_2 8 rfl rfl)
theorem dX3_wheelsetOf_54 : decode cX3_wheelsetOf 54 = .ok (.if_icmp .ne 8, 3) := dk_160 0 8 (dk_at dksX3_wheelsetOf_2 9 rfl rfl)
theorem dX3_wheelsetOf_57 : decode cX3_wheelsetOf 57 = .ok (.iload 4, 2) := dk_21 4 (dk_at dksX3_wheelsetOf_2 12 rfl rfl)
theorem dX3_wheelsetOf_59 : decode cX3_wheelsetOf 59 = .ok (.goto 4, 3) := dk_167 0 4 (dk_at dksX3_wheelsetOf_2 14 rfl rfl)
theorem dX3_wheelsetOf_62 : decode cX3_wheelsetOf 62 = .ok (.iload_n 3, 1) := dk_29 (dk_at dksX3_wheelsetOf_2 17 rfl rfl)
theorem dX3_wheelsetOf_63 : decode cX3_wheelsetOf 63 = .ok (.istore_n 3, 1) := dk_62 (dk_at dksX3_wheelsetOf_2 18 rfl rfl)
theorem dX3_wheelsetOf_64 : decode cX3_wheelsetOf 64 = .ok (.iinc 4 1, 3) := dk_132 4 1 (dk_at dksX3_wheelsetOf_2 19 rfl rfl)
theorem dX3_wheelsetOf_67 : decode cX3_wheelsetOf 67 = .ok (.goto (-62), 3) := dk_167 255 194 (dk_at dksX3_wheelsetOf_3 0 rfl rfl)
theorem dX3_wheelsetOf_70 : decode cX3_wheelsetOf 70 = .ok (.iload_n 3, 1) := dk_29 (dk_at dksX3_wheelsetOf_3 3 rfl rfl)
theorem dX3_wheelsetOf_71 : decode cX3_wheelsetOf 71 = .ok (.ireturn, 1) := dk_172 (dk_at dksX3_wheelsetOf_3 4 rfl rfl)
abbrev cX3_trues : ByteArray := prog_12_method_23_code
def yX3_trues : MethodName := ⟨RX3, "trues", "(I)I"⟩
def dkwX3_trues_1 : List UInt8 := [180, 0, 47, 27, 17, 1, 44, 79, 28, 172]
abbrev dktX3_trues_1 : List UInt8 := dkwX3_trues_1 ++ []
def dkwX3_trues_0 : List UInt8 := [5, 17, 1, 44, 42, 180, 0, 47, 27, 46, 100, 104, 61, 42, 180, 0, 44, 27, 92, 46, 28, 100, 79, 42]
abbrev dktX3_trues_0 : List UInt8 := dkwX3_trues_0 ++ dktX3_trues_1
theorem dksX3_trues_0 : cX3_trues.data.toList.drop 0 = dktX3_trues_0 := by decide +kernel
theorem dksX3_trues_1 : cX3_trues.data.toList.drop 24 = dktX3_trues_1 := dk_seg dksX3_trues_0 24 rfl rfl
theorem dX3_trues_0 : decode cX3_trues 0 = .ok (.iconst 2, 1) := dk_5 (dk_at dksX3_trues_0 0 rfl rfl)
theorem dX3_trues_1 : decode cX3_trues 1 = .ok (.sipush 300, 3) := dk_17 1 44 (dk_at dksX3_trues_0 1 rfl rfl)
theorem dX3_trues_4 : decode cX3_trues 4 = .ok (.aload_n 0, 1) := dk_42 (dk_at dksX3_trues_0 4 rfl rfl)
theorem dX3_trues_5 : decode cX3_trues 5 = .ok (.getfield 47, 3) := dk_180 0 47 (dk_at dksX3_trues_0 5 rfl rfl)
theorem dX3_trues_8 : decode cX3_trues 8 = .ok (.iload_n 1, 1) := dk_27 (dk_at dksX3_trues_0 8 rfl rfl)
theorem dX3_trues_9 : decode cX3_trues 9 = .ok (.iaload, 1) := dk_46 (dk_at dksX3_trues_0 9 rfl rfl)
theorem dX3_trues_10 : decode cX3_trues 10 = .ok (.isub, 1) := dk_100 (dk_at dksX3_trues_0 10 rfl rfl)
theorem dX3_trues_11 : decode cX3_trues 11 = .ok (.imul, 1) := dk_104 (dk_at dksX3_trues_0 11 rfl rfl)
theorem dX3_trues_12 : decode cX3_trues 12 = .ok (.istore_n 2, 1) := dk_61 (dk_at dksX3_trues_0 12 rfl rfl)
theorem dX3_trues_13 : decode cX3_trues 13 = .ok (.aload_n 0, 1) := dk_42 (dk_at dksX3_trues_0 13 rfl rfl)
theorem dX3_trues_14 : decode cX3_trues 14 = .ok (.getfield 44, 3) := dk_180 0 44 (dk_at dksX3_trues_0 14 rfl rfl)
theorem dX3_trues_17 : decode cX3_trues 17 = .ok (.iload_n 1, 1) := dk_27 (dk_at dksX3_trues_0 17 rfl rfl)
theorem dX3_trues_18 : decode cX3_trues 18 = .ok (.dup2, 1) := dk_92 (dk_at dksX3_trues_0 18 rfl rfl)
theorem dX3_trues_19 : decode cX3_trues 19 = .ok (.iaload, 1) := dk_46 (dk_at dksX3_trues_0 19 rfl rfl)
theorem dX3_trues_20 : decode cX3_trues 20 = .ok (.iload_n 2, 1) := dk_28 (dk_at dksX3_trues_0 20 rfl rfl)
theorem dX3_trues_21 : decode cX3_trues 21 = .ok (.isub, 1) := dk_100 (dk_at dksX3_trues_0 21 rfl rfl)
theorem dX3_trues_22 : decode cX3_trues 22 = .ok (.iastore, 1) := dk_79 (dk_at dksX3_trues_0 22 rfl rfl)
theorem dX3_trues_23 : decode cX3_trues 23 = .ok (.aload_n 0, 1) := dk_42 (dk_at dksX3_trues_0 23 rfl rfl)
theorem dX3_trues_24 : decode cX3_trues 24 = .ok (.getfield 47, 3) := dk_180 0 47 (dk_at dksX3_trues_1 0 rfl rfl)
theorem dX3_trues_27 : decode cX3_trues 27 = .ok (.iload_n 1, 1) := dk_27 (dk_at dksX3_trues_1 3 rfl rfl)
theorem dX3_trues_28 : decode cX3_trues 28 = .ok (.sipush 300, 3) := dk_17 1 44 (dk_at dksX3_trues_1 4 rfl rfl)
theorem dX3_trues_31 : decode cX3_trues 31 = .ok (.iastore, 1) := dk_79 (dk_at dksX3_trues_1 7 rfl rfl)
theorem dX3_trues_32 : decode cX3_trues 32 = .ok (.iload_n 2, 1) := dk_28 (dk_at dksX3_trues_1 8 rfl rfl)
theorem dX3_trues_33 : decode cX3_trues 33 = .ok (.ireturn, 1) := dk_172 (dk_at dksX3_trues_1 9 rfl rfl)
abbrev cX3_gate : ByteArray := prog_12_method_25_code
def yX3_gate : MethodName := ⟨RX3, "gate", "(II)I"⟩
def dkwX3_gate_3 : List UInt8 := [180, 0, 53, 27, 46, 172]
abbrev dktX3_gate_3 : List UInt8 := dkwX3_gate_3 ++ []
def dkwX3_gate_2 : List UInt8 := [3, 172, 42, 180, 0, 53, 27, 42, 180, 0, 47, 27, 46, 28, 96, 79, 42, 180, 0, 56, 27, 4, 84, 42]
abbrev dktX3_gate_2 : List UInt8 := dkwX3_gate_2 ++ dktX3_gate_3
def dkwX3_gate_1 : List UInt8 := [184, 0, 105, 154, 0, 7, 5, 167, 0, 7, 42, 180, 0, 98, 181, 0, 98, 42, 180, 0, 98, 158, 0, 5]
abbrev dktX3_gate_1 : List UInt8 := dkwX3_gate_1 ++ dktX3_gate_2
def dkwX3_gate_0 : List UInt8 := [42, 42, 27, 6, 182, 0, 148, 181, 0, 98, 42, 42, 180, 0, 98, 154, 0, 17, 28, 16, 251, 8]
abbrev dktX3_gate_0 : List UInt8 := dkwX3_gate_0 ++ dktX3_gate_1
theorem dksX3_gate_0 : cX3_gate.data.toList.drop 0 = dktX3_gate_0 := by decide +kernel
theorem dksX3_gate_1 : cX3_gate.data.toList.drop 22 = dktX3_gate_1 := dk_seg dksX3_gate_0 22 rfl rfl
theorem dksX3_gate_2 : cX3_gate.data.toList.drop 46 = dktX3_gate_2 := dk_seg dksX3_gate_1 24 rfl rfl
theorem dksX3_gate_3 : cX3_gate.data.toList.drop 70 = dktX3_gate_3 := dk_seg dksX3_gate_2 24 rfl rfl
theorem dX3_gate_0 : decode cX3_gate 0 = .ok (.aload_n 0, 1) := dk_42 (dk_at dksX3_gate_0 0 rfl rfl)
theorem dX3_gate_1 : decode cX3_gate 1 = .ok (.aload_n 0, 1) := dk_42 (dk_at dksX3_gate_0 1 rfl rfl)
theorem dX3_gate_2 : decode cX3_gate 2 = .ok (.iload_n 1, 1) := dk_27 (dk_at dksX3_gate_0 2 rfl rfl)
theorem dX3_gate_3 : decode cX3_gate 3 = .ok (.iconst 3, 1) := dk_6 (dk_at dksX3_gate_0 3 rfl rfl)
theorem dX3_gate_4 : decode cX3_gate 4 = .ok (.invokevirtual 148, 3) := dk_182 0 148 (dk_at dksX3_gate_0 4 rfl rfl)
theorem dX3_gate_7 : decode cX3_gate 7 = .ok (.putfield 98, 3) := dk_181 0 98 (dk_at dksX3_gate_0 7 rfl rfl)
theorem dX3_gate_10 : decode cX3_gate 10 = .ok (.aload_n 0, 1) := dk_42 (dk_at dksX3_gate_0 10 rfl rfl)
theorem dX3_gate_11 : decode cX3_gate 11 = .ok (.aload_n 0, 1) := dk_42 (dk_at dksX3_gate_0 11 rfl rfl)
theorem dX3_gate_12 : decode cX3_gate 12 = .ok (.getfield 98, 3) := dk_180 0 98 (dk_at dksX3_gate_0 12 rfl rfl)
theorem dX3_gate_15 : decode cX3_gate 15 = .ok (.ifCond .ne 17, 3) := dk_154 0 17 (dk_at dksX3_gate_0 15 rfl rfl)
theorem dX3_gate_18 : decode cX3_gate 18 = .ok (.iload_n 2, 1) := dk_28 (dk_at dksX3_gate_0 18 rfl rfl)
theorem dX3_gate_19 : decode cX3_gate 19 = .ok (.bipush (-5), 2) := dk_16 251 (dk_at dksX3_gate_0 19 rfl rfl)
theorem dX3_gate_21 : decode cX3_gate 21 = .ok (.iconst 5, 1) := dk_8 (dk_at dksX3_gate_0 21 rfl rfl)
theorem dX3_gate_22 : decode cX3_gate 22 = .ok (.invokestatic 105, 3) := dk_184 0 105 (dk_at dksX3_gate_1 0 rfl rfl)
theorem dX3_gate_25 : decode cX3_gate 25 = .ok (.ifCond .ne 7, 3) := dk_154 0 7 (dk_at dksX3_gate_1 3 rfl rfl)
theorem dX3_gate_28 : decode cX3_gate 28 = .ok (.iconst 2, 1) := dk_5 (dk_at dksX3_gate_1 6 rfl rfl)
theorem dX3_gate_29 : decode cX3_gate 29 = .ok (.goto 7, 3) := dk_167 0 7 (dk_at dksX3_gate_1 7 rfl rfl)
theorem dX3_gate_32 : decode cX3_gate 32 = .ok (.aload_n 0, 1) := dk_42 (dk_at dksX3_gate_1 10 rfl rfl)
theorem dX3_gate_33 : decode cX3_gate 33 = .ok (.getfield 98, 3) := dk_180 0 98 (dk_at dksX3_gate_1 11 rfl rfl)
theorem dX3_gate_36 : decode cX3_gate 36 = .ok (.putfield 98, 3) := dk_181 0 98 (dk_at dksX3_gate_1 14 rfl rfl)
theorem dX3_gate_39 : decode cX3_gate 39 = .ok (.aload_n 0, 1) := dk_42 (dk_at dksX3_gate_1 17 rfl rfl)
theorem dX3_gate_40 : decode cX3_gate 40 = .ok (.getfield 98, 3) := dk_180 0 98 (dk_at dksX3_gate_1 18 rfl rfl)
theorem dX3_gate_43 : decode cX3_gate 43 = .ok (.ifCond .le 5, 3) := dk_158 0 5 (dk_at dksX3_gate_1 21 rfl rfl)
theorem dX3_gate_46 : decode cX3_gate 46 = .ok (.iconst 0, 1) := dk_3 (dk_at dksX3_gate_2 0 rfl rfl)
theorem dX3_gate_47 : decode cX3_gate 47 = .ok (.ireturn, 1) := dk_172 (dk_at dksX3_gate_2 1 rfl rfl)
theorem dX3_gate_48 : decode cX3_gate 48 = .ok (.aload_n 0, 1) := dk_42 (dk_at dksX3_gate_2 2 rfl rfl)
theorem dX3_gate_49 : decode cX3_gate 49 = .ok (.getfield 53, 3) := dk_180 0 53 (dk_at dksX3_gate_2 3 rfl rfl)
theorem dX3_gate_52 : decode cX3_gate 52 = .ok (.iload_n 1, 1) := dk_27 (dk_at dksX3_gate_2 6 rfl rfl)
theorem dX3_gate_53 : decode cX3_gate 53 = .ok (.aload_n 0, 1) := dk_42 (dk_at dksX3_gate_2 7 rfl rfl)
theorem dX3_gate_54 : decode cX3_gate 54 = .ok (.getfield 47, 3) := dk_180 0 47 (dk_at dksX3_gate_2 8 rfl rfl)
theorem dX3_gate_57 : decode cX3_gate 57 = .ok (.iload_n 1, 1) := dk_27 (dk_at dksX3_gate_2 11 rfl rfl)
theorem dX3_gate_58 : decode cX3_gate 58 = .ok (.iaload, 1) := dk_46 (dk_at dksX3_gate_2 12 rfl rfl)
theorem dX3_gate_59 : decode cX3_gate 59 = .ok (.iload_n 2, 1) := dk_28 (dk_at dksX3_gate_2 13 rfl rfl)
theorem dX3_gate_60 : decode cX3_gate 60 = .ok (.iadd, 1) := dk_96 (dk_at dksX3_gate_2 14 rfl rfl)
theorem dX3_gate_61 : decode cX3_gate 61 = .ok (.iastore, 1) := dk_79 (dk_at dksX3_gate_2 15 rfl rfl)
theorem dX3_gate_62 : decode cX3_gate 62 = .ok (.aload_n 0, 1) := dk_42 (dk_at dksX3_gate_2 16 rfl rfl)
theorem dX3_gate_63 : decode cX3_gate 63 = .ok (.getfield 56, 3) := dk_180 0 56 (dk_at dksX3_gate_2 17 rfl rfl)
theorem dX3_gate_66 : decode cX3_gate 66 = .ok (.iload_n 1, 1) := dk_27 (dk_at dksX3_gate_2 20 rfl rfl)
theorem dX3_gate_67 : decode cX3_gate 67 = .ok (.iconst 1, 1) := dk_4 (dk_at dksX3_gate_2 21 rfl rfl)
theorem dX3_gate_68 : decode cX3_gate 68 = .ok (.bastore, 1) := dk_84 (dk_at dksX3_gate_2 22 rfl rfl)
theorem dX3_gate_69 : decode cX3_gate 69 = .ok (.aload_n 0, 1) := dk_42 (dk_at dksX3_gate_2 23 rfl rfl)
theorem dX3_gate_70 : decode cX3_gate 70 = .ok (.getfield 53, 3) := dk_180 0 53 (dk_at dksX3_gate_3 0 rfl rfl)
theorem dX3_gate_73 : decode cX3_gate 73 = .ok (.iload_n 1, 1) := dk_27 (dk_at dksX3_gate_3 3 rfl rfl)
theorem dX3_gate_74 : decode cX3_gate 74 = .ok (.iaload, 1) := dk_46 (dk_at dksX3_gate_3 4 rfl rfl)
theorem dX3_gate_75 : decode cX3_gate 75 = .ok (.ireturn, 1) := dk_172 (dk_at dksX3_gate_3 5 rfl rfl)
abbrev cX3_examine : ByteArray := prog_12_method_26_code
def yX3_examine : MethodName := ⟨RX3, "examine", "(I)I"⟩
def dkwX3_examine_5 : List UInt8 := [42, 180, 0, 25, 27, 3, 79, 42, 180, 0, 28, 27, 3, 79, 21, 4, 172]
abbrev dktX3_examine_5 : List UInt8 := dkwX3_examine_5 ++ []
def dkwX3_examine_4 : List UInt8 := [167, 0, 4, 5, 181, 0, 98, 42, 180, 0, 98, 158, 0, 5, 3, 172, 42, 180, 0, 25, 27, 46, 54, 4]
abbrev dktX3_examine_4 : List UInt8 := dkwX3_examine_4 ++ dktX3_examine_5
def dkwX3_examine_3 : List UInt8 := [159, 0, 15, 42, 27, 182, 0, 125, 154, 0, 7, 4, 167, 0, 4, 3, 62, 42, 29, 153, 0, 7, 3]
abbrev dktX3_examine_3 : List UInt8 := dkwX3_examine_3 ++ dktX3_examine_4
def dkwX3_examine_2 : List UInt8 := [28, 42, 180, 0, 71, 42, 180, 0, 7, 27, 46, 46, 100, 161, 0, 26, 42, 180, 0, 19, 27, 46, 16, 254]
abbrev dktX3_examine_2 : List UInt8 := dkwX3_examine_2 ++ dktX3_examine_3
def dkwX3_examine_1 : List UInt8 := [3, 172, 42, 180, 0, 68, 42, 180, 0, 7, 27, 46, 46, 61, 28, 158, 0, 48, 42, 180, 0, 25, 27, 46]
abbrev dktX3_examine_1 : List UInt8 := dkwX3_examine_1 ++ dktX3_examine_2
def dkwX3_examine_0 : List UInt8 := [42, 42, 27, 182, 0, 109, 153, 0, 7, 3, 167, 0, 4, 4, 181, 0, 98, 42, 180, 0, 98, 158, 0, 5]
abbrev dktX3_examine_0 : List UInt8 := dkwX3_examine_0 ++ dktX3_examine_1
theorem dksX3_examine_0 : cX3_examine.data.toList.drop 0 = dktX3_examine_0 := by decide +kernel
theorem dksX3_examine_1 : cX3_examine.data.toList.drop 24 = dktX3_examine_1 := dk_seg dksX3_examine_0 24 rfl rfl
theorem dksX3_examine_2 : cX3_examine.data.toList.drop 48 = dktX3_examine_2 := dk_seg dksX3_examine_1 24 rfl rfl
theorem dksX3_examine_3 : cX3_examine.data.toList.drop 72 = dktX3_examine_3 := dk_seg dksX3_examine_2 24 rfl rfl
theorem dksX3_examine_4 : cX3_examine.data.toList.drop 95 = dktX3_examine_4 := dk_seg dksX3_examine_3 23 rfl rfl
theorem dksX3_examine_5 : cX3_examine.data.toList.drop 119 = dktX3_examine_5 := dk_seg dksX3_examine_4 24 rfl rfl
theorem dX3_examine_0 : decode cX3_examine 0 = .ok (.aload_n 0, 1) := dk_42 (dk_at dksX3_examine_0 0 rfl rfl)
theorem dX3_examine_1 : decode cX3_examine 1 = .ok (.aload_n 0, 1) := dk_42 (dk_at dksX3_examine_0 1 rfl rfl)
theorem dX3_examine_2 : decode cX3_examine 2 = .ok (.iload_n 1, 1) := dk_27 (dk_at dksX3_examine_0 2 rfl rfl)
theorem dX3_examine_3 : decode cX3_examine 3 = .ok (.invokevirtual 109, 3) := dk_182 0 109 (dk_at dksX3_examine_0 3 rfl rfl)
theorem dX3_examine_6 : decode cX3_examine 6 = .ok (.ifCond .eq 7, 3) := dk_153 0 7 (dk_at dksX3_examine_0 6 rfl rfl)
theorem dX3_examine_9 : decode cX3_examine 9 = .ok (.iconst 0, 1) := dk_3 (dk_at dksX3_examine_0 9 rfl rfl)
theorem dX3_examine_10 : decode cX3_examine 10 = .ok (.goto 4, 3) := dk_167 0 4 (dk_at dksX3_examine_0 10 rfl rfl)
theorem dX3_examine_13 : decode cX3_examine 13 = .ok (.iconst 1, 1) := dk_4 (dk_at dksX3_examine_0 13 rfl rfl)
theorem dX3_examine_14 : decode cX3_examine 14 = .ok (.putfield 98, 3) := dk_181 0 98 (dk_at dksX3_examine_0 14 rfl rfl)
theorem dX3_examine_17 : decode cX3_examine 17 = .ok (.aload_n 0, 1) := dk_42 (dk_at dksX3_examine_0 17 rfl rfl)
theorem dX3_examine_18 : decode cX3_examine 18 = .ok (.getfield 98, 3) := dk_180 0 98 (dk_at dksX3_examine_0 18 rfl rfl)
theorem dX3_examine_21 : decode cX3_examine 21 = .ok (.ifCond .le 5, 3) := dk_158 0 5 (dk_at dksX3_examine_0 21 rfl rfl)
theorem dX3_examine_24 : decode cX3_examine 24 = .ok (.iconst 0, 1) := dk_3 (dk_at dksX3_examine_1 0 rfl rfl)
theorem dX3_examine_25 : decode cX3_examine 25 = .ok (.ireturn, 1) := dk_172 (dk_at dksX3_examine_1 1 rfl rfl)
theorem dX3_examine_26 : decode cX3_examine 26 = .ok (.aload_n 0, 1) := dk_42 (dk_at dksX3_examine_1 2 rfl rfl)
theorem dX3_examine_27 : decode cX3_examine 27 = .ok (.getfield 68, 3) := dk_180 0 68 (dk_at dksX3_examine_1 3 rfl rfl)
theorem dX3_examine_30 : decode cX3_examine 30 = .ok (.aload_n 0, 1) := dk_42 (dk_at dksX3_examine_1 6 rfl rfl)
theorem dX3_examine_31 : decode cX3_examine 31 = .ok (.getfield 7, 3) := dk_180 0 7 (dk_at dksX3_examine_1 7 rfl rfl)
theorem dX3_examine_34 : decode cX3_examine 34 = .ok (.iload_n 1, 1) := dk_27 (dk_at dksX3_examine_1 10 rfl rfl)
theorem dX3_examine_35 : decode cX3_examine 35 = .ok (.iaload, 1) := dk_46 (dk_at dksX3_examine_1 11 rfl rfl)
theorem dX3_examine_36 : decode cX3_examine 36 = .ok (.iaload, 1) := dk_46 (dk_at dksX3_examine_1 12 rfl rfl)
theorem dX3_examine_37 : decode cX3_examine 37 = .ok (.istore_n 2, 1) := dk_61 (dk_at dksX3_examine_1 13 rfl rfl)
theorem dX3_examine_38 : decode cX3_examine 38 = .ok (.iload_n 2, 1) := dk_28 (dk_at dksX3_examine_1 14 rfl rfl)
theorem dX3_examine_39 : decode cX3_examine 39 = .ok (.ifCond .le 48, 3) := dk_158 0 48 (dk_at dksX3_examine_1 15 rfl rfl)
theorem dX3_examine_42 : decode cX3_examine 42 = .ok (.aload_n 0, 1) := dk_42 (dk_at dksX3_examine_1 18 rfl rfl)
theorem dX3_examine_43 : decode cX3_examine 43 = .ok (.getfield 25, 3) := dk_180 0 25 (dk_at dksX3_examine_1 19 rfl rfl)
theorem dX3_examine_46 : decode cX3_examine 46 = .ok (.iload_n 1, 1) := dk_27 (dk_at dksX3_examine_1 22 rfl rfl)
theorem dX3_examine_47 : decode cX3_examine 47 = .ok (.iaload, 1) := dk_46 (dk_at dksX3_examine_1 23 rfl rfl)
theorem dX3_examine_48 : decode cX3_examine 48 = .ok (.iload_n 2, 1) := dk_28 (dk_at dksX3_examine_2 0 rfl rfl)
theorem dX3_examine_49 : decode cX3_examine 49 = .ok (.aload_n 0, 1) := dk_42 (dk_at dksX3_examine_2 1 rfl rfl)
theorem dX3_examine_50 : decode cX3_examine 50 = .ok (.getfield 71, 3) := dk_180 0 71 (dk_at dksX3_examine_2 2 rfl rfl)
theorem dX3_examine_53 : decode cX3_examine 53 = .ok (.aload_n 0, 1) := dk_42 (dk_at dksX3_examine_2 5 rfl rfl)
theorem dX3_examine_54 : decode cX3_examine 54 = .ok (.getfield 7, 3) := dk_180 0 7 (dk_at dksX3_examine_2 6 rfl rfl)
theorem dX3_examine_57 : decode cX3_examine 57 = .ok (.iload_n 1, 1) := dk_27 (dk_at dksX3_examine_2 9 rfl rfl)
theorem dX3_examine_58 : decode cX3_examine 58 = .ok (.iaload, 1) := dk_46 (dk_at dksX3_examine_2 10 rfl rfl)
theorem dX3_examine_59 : decode cX3_examine 59 = .ok (.iaload, 1) := dk_46 (dk_at dksX3_examine_2 11 rfl rfl)
theorem dX3_examine_60 : decode cX3_examine 60 = .ok (.isub, 1) := dk_100 (dk_at dksX3_examine_2 12 rfl rfl)
theorem dX3_examine_61 : decode cX3_examine 61 = .ok (.if_icmp .lt 26, 3) := dk_161 0 26 (dk_at dksX3_examine_2 13 rfl rfl)
theorem dX3_examine_64 : decode cX3_examine 64 = .ok (.aload_n 0, 1) := dk_42 (dk_at dksX3_examine_2 16 rfl rfl)
theorem dX3_examine_65 : decode cX3_examine 65 = .ok (.getfield 19, 3) := dk_180 0 19 (dk_at dksX3_examine_2 17 rfl rfl)
theorem dX3_examine_68 : decode cX3_examine 68 = .ok (.iload_n 1, 1) := dk_27 (dk_at dksX3_examine_2 20 rfl rfl)
theorem dX3_examine_69 : decode cX3_examine 69 = .ok (.iaload, 1) := dk_46 (dk_at dksX3_examine_2 21 rfl rfl)
theorem dX3_examine_70 : decode cX3_examine 70 = .ok (.bipush (-2), 2) := dk_16 254 (dk_at dksX3_examine_2 22 rfl rfl)
theorem dX3_examine_72 : decode cX3_examine 72 = .ok (.if_icmp .eq 15, 3) := dk_159 0 15 (dk_at dksX3_examine_3 0 rfl rfl)
theorem dX3_examine_75 : decode cX3_examine 75 = .ok (.aload_n 0, 1) := dk_42 (dk_at dksX3_examine_3 3 rfl rfl)
theorem dX3_examine_76 : decode cX3_examine 76 = .ok (.iload_n 1, 1) := dk_27 (dk_at dksX3_examine_3 4 rfl rfl)
theorem dX3_examine_77 : decode cX3_examine 77 = .ok (.invokevirtual 125, 3) := dk_182 0 125 (dk_at dksX3_examine_3 5 rfl rfl)
theorem dX3_examine_80 : decode cX3_examine 80 = .ok (.ifCond .ne 7, 3) := dk_154 0 7 (dk_at dksX3_examine_3 8 rfl rfl)
theorem dX3_examine_83 : decode cX3_examine 83 = .ok (.iconst 1, 1) := dk_4 (dk_at dksX3_examine_3 11 rfl rfl)
theorem dX3_examine_84 : decode cX3_examine 84 = .ok (.goto 4, 3) := dk_167 0 4 (dk_at dksX3_examine_3 12 rfl rfl)
theorem dX3_examine_87 : decode cX3_examine 87 = .ok (.iconst 0, 1) := dk_3 (dk_at dksX3_examine_3 15 rfl rfl)
theorem dX3_examine_88 : decode cX3_examine 88 = .ok (.istore_n 3, 1) := dk_62 (dk_at dksX3_examine_3 16 rfl rfl)
theorem dX3_examine_89 : decode cX3_examine 89 = .ok (.aload_n 0, 1) := dk_42 (dk_at dksX3_examine_3 17 rfl rfl)
theorem dX3_examine_90 : decode cX3_examine 90 = .ok (.iload_n 3, 1) := dk_29 (dk_at dksX3_examine_3 18 rfl rfl)
theorem dX3_examine_91 : decode cX3_examine 91 = .ok (.ifCond .eq 7, 3) := dk_153 0 7 (dk_at dksX3_examine_3 19 rfl rfl)
theorem dX3_examine_94 : decode cX3_examine 94 = .ok (.iconst 0, 1) := dk_3 (dk_at dksX3_examine_3 22 rfl rfl)
theorem dX3_examine_95 : decode cX3_examine 95 = .ok (.goto 4, 3) := dk_167 0 4 (dk_at dksX3_examine_4 0 rfl rfl)
theorem dX3_examine_98 : decode cX3_examine 98 = .ok (.iconst 2, 1) := dk_5 (dk_at dksX3_examine_4 3 rfl rfl)
theorem dX3_examine_99 : decode cX3_examine 99 = .ok (.putfield 98, 3) := dk_181 0 98 (dk_at dksX3_examine_4 4 rfl rfl)
theorem dX3_examine_102 : decode cX3_examine 102 = .ok (.aload_n 0, 1) := dk_42 (dk_at dksX3_examine_4 7 rfl rfl)
theorem dX3_examine_103 : decode cX3_examine 103 = .ok (.getfield 98, 3) := dk_180 0 98 (dk_at dksX3_examine_4 8 rfl rfl)
theorem dX3_examine_106 : decode cX3_examine 106 = .ok (.ifCond .le 5, 3) := dk_158 0 5 (dk_at dksX3_examine_4 11 rfl rfl)
theorem dX3_examine_109 : decode cX3_examine 109 = .ok (.iconst 0, 1) := dk_3 (dk_at dksX3_examine_4 14 rfl rfl)
theorem dX3_examine_110 : decode cX3_examine 110 = .ok (.ireturn, 1) := dk_172 (dk_at dksX3_examine_4 15 rfl rfl)
theorem dX3_examine_111 : decode cX3_examine 111 = .ok (.aload_n 0, 1) := dk_42 (dk_at dksX3_examine_4 16 rfl rfl)
theorem dX3_examine_112 : decode cX3_examine 112 = .ok (.getfield 25, 3) := dk_180 0 25 (dk_at dksX3_examine_4 17 rfl rfl)
theorem dX3_examine_115 : decode cX3_examine 115 = .ok (.iload_n 1, 1) := dk_27 (dk_at dksX3_examine_4 20 rfl rfl)
theorem dX3_examine_116 : decode cX3_examine 116 = .ok (.iaload, 1) := dk_46 (dk_at dksX3_examine_4 21 rfl rfl)
theorem dX3_examine_117 : decode cX3_examine 117 = .ok (.istore 4, 2) := dk_54 4 (dk_at dksX3_examine_4 22 rfl rfl)
theorem dX3_examine_119 : decode cX3_examine 119 = .ok (.aload_n 0, 1) := dk_42 (dk_at dksX3_examine_5 0 rfl rfl)
theorem dX3_examine_120 : decode cX3_examine 120 = .ok (.getfield 25, 3) := dk_180 0 25 (dk_at dksX3_examine_5 1 rfl rfl)
theorem dX3_examine_123 : decode cX3_examine 123 = .ok (.iload_n 1, 1) := dk_27 (dk_at dksX3_examine_5 4 rfl rfl)
theorem dX3_examine_124 : decode cX3_examine 124 = .ok (.iconst 0, 1) := dk_3 (dk_at dksX3_examine_5 5 rfl rfl)
theorem dX3_examine_125 : decode cX3_examine 125 = .ok (.iastore, 1) := dk_79 (dk_at dksX3_examine_5 6 rfl rfl)
theorem dX3_examine_126 : decode cX3_examine 126 = .ok (.aload_n 0, 1) := dk_42 (dk_at dksX3_examine_5 7 rfl rfl)
theorem dX3_examine_127 : decode cX3_examine 127 = .ok (.getfield 28, 3) := dk_180 0 28 (dk_at dksX3_examine_5 8 rfl rfl)
theorem dX3_examine_130 : decode cX3_examine 130 = .ok (.iload_n 1, 1) := dk_27 (dk_at dksX3_examine_5 11 rfl rfl)
theorem dX3_examine_131 : decode cX3_examine 131 = .ok (.iconst 0, 1) := dk_3 (dk_at dksX3_examine_5 12 rfl rfl)
theorem dX3_examine_132 : decode cX3_examine 132 = .ok (.iastore, 1) := dk_79 (dk_at dksX3_examine_5 13 rfl rfl)
theorem dX3_examine_133 : decode cX3_examine 133 = .ok (.iload 4, 2) := dk_21 4 (dk_at dksX3_examine_5 14 rfl rfl)
theorem dX3_examine_135 : decode cX3_examine 135 = .ok (.ireturn, 1) := dk_172 (dk_at dksX3_examine_5 16 rfl rfl)
abbrev cX3_waive : ByteArray := prog_12_method_27_code
def yX3_waive : MethodName := ⟨RX3, "waive", "(II)V"⟩
def dkwX3_waive_3 : List UInt8 := [180, 0, 98, 154, 0, 10, 42, 180, 0, 28, 27, 28, 79, 177]
abbrev dktX3_waive_3 : List UInt8 := dkwX3_waive_3 ++ []
def dkwX3_waive_2 : List UInt8 := [27, 46, 46, 153, 0, 12, 42, 180, 0, 28, 27, 46, 158, 0, 7, 6, 167, 0, 4, 3, 181, 0, 98, 42]
abbrev dktX3_waive_2 : List UInt8 := dkwX3_waive_2 ++ dktX3_waive_3
def dkwX3_waive_1 : List UInt8 := [3, 167, 0, 4, 5, 181, 0, 98, 42, 180, 0, 98, 154, 0, 35, 42, 42, 180, 0, 68, 42, 180, 0, 7]
abbrev dktX3_waive_1 : List UInt8 := dkwX3_waive_1 ++ dktX3_waive_2
def dkwX3_waive_0 : List UInt8 := [42, 42, 27, 182, 0, 109, 154, 0, 7, 4, 167, 0, 19, 28, 4, 17, 3, 231, 184, 0, 105, 153, 0, 7]
abbrev dktX3_waive_0 : List UInt8 := dkwX3_waive_0 ++ dktX3_waive_1
theorem dksX3_waive_0 : cX3_waive.data.toList.drop 0 = dktX3_waive_0 := by decide +kernel
theorem dksX3_waive_1 : cX3_waive.data.toList.drop 24 = dktX3_waive_1 := dk_seg dksX3_waive_0 24 rfl rfl
theorem dksX3_waive_2 : cX3_waive.data.toList.drop 48 = dktX3_waive_2 := dk_seg dksX3_waive_1 24 rfl rfl
theorem dksX3_waive_3 : cX3_waive.data.toList.drop 72 = dktX3_waive_3 := dk_seg dksX3_waive_2 24 rfl rfl
theorem dX3_waive_0 : decode cX3_waive 0 = .ok (.aload_n 0, 1) := dk_42 (dk_at dksX3_waive_0 0 rfl rfl)
theorem dX3_waive_1 : decode cX3_waive 1 = .ok (.aload_n 0, 1) := dk_42 (dk_at dksX3_waive_0 1 rfl rfl)
theorem dX3_waive_2 : decode cX3_waive 2 = .ok (.iload_n 1, 1) := dk_27 (dk_at dksX3_waive_0 2 rfl rfl)
theorem dX3_waive_3 : decode cX3_waive 3 = .ok (.invokevirtual 109, 3) := dk_182 0 109 (dk_at dksX3_waive_0 3 rfl rfl)
theorem dX3_waive_6 : decode cX3_waive 6 = .ok (.ifCond .ne 7, 3) := dk_154 0 7 (dk_at dksX3_waive_0 6 rfl rfl)
theorem dX3_waive_9 : decode cX3_waive 9 = .ok (.iconst 1, 1) := dk_4 (dk_at dksX3_waive_0 9 rfl rfl)
theorem dX3_waive_10 : decode cX3_waive 10 = .ok (.goto 19, 3) := dk_167 0 19 (dk_at dksX3_waive_0 10 rfl rfl)
theorem dX3_waive_13 : decode cX3_waive 13 = .ok (.iload_n 2, 1) := dk_28 (dk_at dksX3_waive_0 13 rfl rfl)
theorem dX3_waive_14 : decode cX3_waive 14 = .ok (.iconst 1, 1) := dk_4 (dk_at dksX3_waive_0 14 rfl rfl)
theorem dX3_waive_15 : decode cX3_waive 15 = .ok (.sipush 999, 3) := dk_17 3 231 (dk_at dksX3_waive_0 15 rfl rfl)
theorem dX3_waive_18 : decode cX3_waive 18 = .ok (.invokestatic 105, 3) := dk_184 0 105 (dk_at dksX3_waive_0 18 rfl rfl)
theorem dX3_waive_21 : decode cX3_waive 21 = .ok (.ifCond .eq 7, 3) := dk_153 0 7 (dk_at dksX3_waive_0 21 rfl rfl)
theorem dX3_waive_24 : decode cX3_waive 24 = .ok (.iconst 0, 1) := dk_3 (dk_at dksX3_waive_1 0 rfl rfl)
theorem dX3_waive_25 : decode cX3_waive 25 = .ok (.goto 4, 3) := dk_167 0 4 (dk_at dksX3_waive_1 1 rfl rfl)
theorem dX3_waive_28 : decode cX3_waive 28 = .ok (.iconst 2, 1) := dk_5 (dk_at dksX3_waive_1 4 rfl rfl)
theorem dX3_waive_29 : decode cX3_waive 29 = .ok (.putfield 98, 3) := dk_181 0 98 (dk_at dksX3_waive_1 5 rfl rfl)
theorem dX3_waive_32 : decode cX3_waive 32 = .ok (.aload_n 0, 1) := dk_42 (dk_at dksX3_waive_1 8 rfl rfl)
theorem dX3_waive_33 : decode cX3_waive 33 = .ok (.getfield 98, 3) := dk_180 0 98 (dk_at dksX3_waive_1 9 rfl rfl)
theorem dX3_waive_36 : decode cX3_waive 36 = .ok (.ifCond .ne 35, 3) := dk_154 0 35 (dk_at dksX3_waive_1 12 rfl rfl)
theorem dX3_waive_39 : decode cX3_waive 39 = .ok (.aload_n 0, 1) := dk_42 (dk_at dksX3_waive_1 15 rfl rfl)
theorem dX3_waive_40 : decode cX3_waive 40 = .ok (.aload_n 0, 1) := dk_42 (dk_at dksX3_waive_1 16 rfl rfl)
theorem dX3_waive_41 : decode cX3_waive 41 = .ok (.getfield 68, 3) := dk_180 0 68 (dk_at dksX3_waive_1 17 rfl rfl)
theorem dX3_waive_44 : decode cX3_waive 44 = .ok (.aload_n 0, 1) := dk_42 (dk_at dksX3_waive_1 20 rfl rfl)
theorem dX3_waive_45 : decode cX3_waive 45 = .ok (.getfield 7, 3) := dk_180 0 7 (dk_at dksX3_waive_1 21 rfl rfl)
theorem dX3_waive_48 : decode cX3_waive 48 = .ok (.iload_n 1, 1) := dk_27 (dk_at dksX3_waive_2 0 rfl rfl)
theorem dX3_waive_49 : decode cX3_waive 49 = .ok (.iaload, 1) := dk_46 (dk_at dksX3_waive_2 1 rfl rfl)
theorem dX3_waive_50 : decode cX3_waive 50 = .ok (.iaload, 1) := dk_46 (dk_at dksX3_waive_2 2 rfl rfl)
theorem dX3_waive_51 : decode cX3_waive 51 = .ok (.ifCond .eq 12, 3) := dk_153 0 12 (dk_at dksX3_waive_2 3 rfl rfl)
theorem dX3_waive_54 : decode cX3_waive 54 = .ok (.aload_n 0, 1) := dk_42 (dk_at dksX3_waive_2 6 rfl rfl)
theorem dX3_waive_55 : decode cX3_waive 55 = .ok (.getfield 28, 3) := dk_180 0 28 (dk_at dksX3_waive_2 7 rfl rfl)
theorem dX3_waive_58 : decode cX3_waive 58 = .ok (.iload_n 1, 1) := dk_27 (dk_at dksX3_waive_2 10 rfl rfl)
theorem dX3_waive_59 : decode cX3_waive 59 = .ok (.iaload, 1) := dk_46 (dk_at dksX3_waive_2 11 rfl rfl)
theorem dX3_waive_60 : decode cX3_waive 60 = .ok (.ifCond .le 7, 3) := dk_158 0 7 (dk_at dksX3_waive_2 12 rfl rfl)
theorem dX3_waive_63 : decode cX3_waive 63 = .ok (.iconst 3, 1) := dk_6 (dk_at dksX3_waive_2 15 rfl rfl)
theorem dX3_waive_64 : decode cX3_waive 64 = .ok (.goto 4, 3) := dk_167 0 4 (dk_at dksX3_waive_2 16 rfl rfl)
theorem dX3_waive_67 : decode cX3_waive 67 = .ok (.iconst 0, 1) := dk_3 (dk_at dksX3_waive_2 19 rfl rfl)
theorem dX3_waive_68 : decode cX3_waive 68 = .ok (.putfield 98, 3) := dk_181 0 98 (dk_at dksX3_waive_2 20 rfl rfl)
theorem dX3_waive_71 : decode cX3_waive 71 = .ok (.aload_n 0, 1) := dk_42 (dk_at dksX3_waive_2 23 rfl rfl)
theorem dX3_waive_72 : decode cX3_waive 72 = .ok (.getfield 98, 3) := dk_180 0 98 (dk_at dksX3_waive_3 0 rfl rfl)
theorem dX3_waive_75 : decode cX3_waive 75 = .ok (.ifCond .ne 10, 3) := dk_154 0 10 (dk_at dksX3_waive_3 3 rfl rfl)
theorem dX3_waive_78 : decode cX3_waive 78 = .ok (.aload_n 0, 1) := dk_42 (dk_at dksX3_waive_3 6 rfl rfl)
theorem dX3_waive_79 : decode cX3_waive 79 = .ok (.getfield 28, 3) := dk_180 0 28 (dk_at dksX3_waive_3 7 rfl rfl)
theorem dX3_waive_82 : decode cX3_waive 82 = .ok (.iload_n 1, 1) := dk_27 (dk_at dksX3_waive_3 10 rfl rfl)
theorem dX3_waive_83 : decode cX3_waive 83 = .ok (.iload_n 2, 1) := dk_28 (dk_at dksX3_waive_3 11 rfl rfl)
theorem dX3_waive_84 : decode cX3_waive 84 = .ok (.iastore, 1) := dk_79 (dk_at dksX3_waive_3 12 rfl rfl)
theorem dX3_waive_85 : decode cX3_waive 85 = .ok (.return_, 1) := dk_177 (dk_at dksX3_waive_3 13 rfl rfl)
abbrev cX3_flaw : ByteArray := prog_12_method_28_code
def yX3_flaw : MethodName := ⟨RX3, "flaw", "(II)I"⟩
def dkwX3_flaw_3 : List UInt8 := [180, 0, 22, 27, 46, 79, 29, 172]
abbrev dktX3_flaw_3 : List UInt8 := dkwX3_flaw_3 ++ []
def dkwX3_flaw_2 : List UInt8 := [3, 172, 42, 180, 0, 59, 27, 46, 62, 42, 180, 0, 59, 27, 28, 79, 42, 180, 0, 62, 27, 42]
abbrev dktX3_flaw_2 : List UInt8 := dkwX3_flaw_2 ++ dktX3_flaw_3
def dkwX3_flaw_1 : List UInt8 := [4, 16, 99, 184, 0, 105, 154, 0, 7, 5, 167, 0, 4, 3, 181, 0, 98, 42, 180, 0, 98, 158, 0, 5]
abbrev dktX3_flaw_1 : List UInt8 := dkwX3_flaw_1 ++ dktX3_flaw_2
def dkwX3_flaw_0 : List UInt8 := [42, 42, 27, 182, 0, 109, 154, 0, 7, 4, 167, 0, 28, 42, 180, 0, 7, 27, 46, 6, 161, 0, 13, 28]
abbrev dktX3_flaw_0 : List UInt8 := dkwX3_flaw_0 ++ dktX3_flaw_1
theorem dksX3_flaw_0 : cX3_flaw.data.toList.drop 0 = dktX3_flaw_0 := by decide +kernel
theorem dksX3_flaw_1 : cX3_flaw.data.toList.drop 24 = dktX3_flaw_1 := dk_seg dksX3_flaw_0 24 rfl rfl
theorem dksX3_flaw_2 : cX3_flaw.data.toList.drop 48 = dktX3_flaw_2 := dk_seg dksX3_flaw_1 24 rfl rfl
theorem dksX3_flaw_3 : cX3_flaw.data.toList.drop 70 = dktX3_flaw_3 := dk_seg dksX3_flaw_2 22 rfl rfl
theorem dX3_flaw_0 : decode cX3_flaw 0 = .ok (.aload_n 0, 1) := dk_42 (dk_at dksX3_flaw_0 0 rfl rfl)
theorem dX3_flaw_1 : decode cX3_flaw 1 = .ok (.aload_n 0, 1) := dk_42 (dk_at dksX3_flaw_0 1 rfl rfl)
theorem dX3_flaw_2 : decode cX3_flaw 2 = .ok (.iload_n 1, 1) := dk_27 (dk_at dksX3_flaw_0 2 rfl rfl)
theorem dX3_flaw_3 : decode cX3_flaw 3 = .ok (.invokevirtual 109, 3) := dk_182 0 109 (dk_at dksX3_flaw_0 3 rfl rfl)
theorem dX3_flaw_6 : decode cX3_flaw 6 = .ok (.ifCond .ne 7, 3) := dk_154 0 7 (dk_at dksX3_flaw_0 6 rfl rfl)
theorem dX3_flaw_9 : decode cX3_flaw 9 = .ok (.iconst 1, 1) := dk_4 (dk_at dksX3_flaw_0 9 rfl rfl)
theorem dX3_flaw_10 : decode cX3_flaw 10 = .ok (.goto 28, 3) := dk_167 0 28 (dk_at dksX3_flaw_0 10 rfl rfl)
theorem dX3_flaw_13 : decode cX3_flaw 13 = .ok (.aload_n 0, 1) := dk_42 (dk_at dksX3_flaw_0 13 rfl rfl)
theorem dX3_flaw_14 : decode cX3_flaw 14 = .ok (.getfield 7, 3) := dk_180 0 7 (dk_at dksX3_flaw_0 14 rfl rfl)
theorem dX3_flaw_17 : decode cX3_flaw 17 = .ok (.iload_n 1, 1) := dk_27 (dk_at dksX3_flaw_0 17 rfl rfl)
theorem dX3_flaw_18 : decode cX3_flaw 18 = .ok (.iaload, 1) := dk_46 (dk_at dksX3_flaw_0 18 rfl rfl)
theorem dX3_flaw_19 : decode cX3_flaw 19 = .ok (.iconst 3, 1) := dk_6 (dk_at dksX3_flaw_0 19 rfl rfl)
theorem dX3_flaw_20 : decode cX3_flaw 20 = .ok (.if_icmp .lt 13, 3) := dk_161 0 13 (dk_at dksX3_flaw_0 20 rfl rfl)
theorem dX3_flaw_23 : decode cX3_flaw 23 = .ok (.iload_n 2, 1) := dk_28 (dk_at dksX3_flaw_0 23 rfl rfl)
theorem dX3_flaw_24 : decode cX3_flaw 24 = .ok (.iconst 1, 1) := dk_4 (dk_at dksX3_flaw_1 0 rfl rfl)
theorem dX3_flaw_25 : decode cX3_flaw 25 = .ok (.bipush 99, 2) := dk_16 99 (dk_at dksX3_flaw_1 1 rfl rfl)
theorem dX3_flaw_27 : decode cX3_flaw 27 = .ok (.invokestatic 105, 3) := dk_184 0 105 (dk_at dksX3_flaw_1 3 rfl rfl)
theorem dX3_flaw_30 : decode cX3_flaw 30 = .ok (.ifCond .ne 7, 3) := dk_154 0 7 (dk_at dksX3_flaw_1 6 rfl rfl)
theorem dX3_flaw_33 : decode cX3_flaw 33 = .ok (.iconst 2, 1) := dk_5 (dk_at dksX3_flaw_1 9 rfl rfl)
theorem dX3_flaw_34 : decode cX3_flaw 34 = .ok (.goto 4, 3) := dk_167 0 4 (dk_at dksX3_flaw_1 10 rfl rfl)
theorem dX3_flaw_37 : decode cX3_flaw 37 = .ok (.iconst 0, 1) := dk_3 (dk_at dksX3_flaw_1 13 rfl rfl)
theorem dX3_flaw_38 : decode cX3_flaw 38 = .ok (.putfield 98, 3) := dk_181 0 98 (dk_at dksX3_flaw_1 14 rfl rfl)
theorem dX3_flaw_41 : decode cX3_flaw 41 = .ok (.aload_n 0, 1) := dk_42 (dk_at dksX3_flaw_1 17 rfl rfl)
theorem dX3_flaw_42 : decode cX3_flaw 42 = .ok (.getfield 98, 3) := dk_180 0 98 (dk_at dksX3_flaw_1 18 rfl rfl)
theorem dX3_flaw_45 : decode cX3_flaw 45 = .ok (.ifCond .le 5, 3) := dk_158 0 5 (dk_at dksX3_flaw_1 21 rfl rfl)
theorem dX3_flaw_48 : decode cX3_flaw 48 = .ok (.iconst 0, 1) := dk_3 (dk_at dksX3_flaw_2 0 rfl rfl)
theorem dX3_flaw_49 : decode cX3_flaw 49 = .ok (.ireturn, 1) := dk_172 (dk_at dksX3_flaw_2 1 rfl rfl)
theorem dX3_flaw_50 : decode cX3_flaw 50 = .ok (.aload_n 0, 1) := dk_42 (dk_at dksX3_flaw_2 2 rfl rfl)
theorem dX3_flaw_51 : decode cX3_flaw 51 = .ok (.getfield 59, 3) := dk_180 0 59 (dk_at dksX3_flaw_2 3 rfl rfl)
theorem dX3_flaw_54 : decode cX3_flaw 54 = .ok (.iload_n 1, 1) := dk_27 (dk_at dksX3_flaw_2 6 rfl rfl)
theorem dX3_flaw_55 : decode cX3_flaw 55 = .ok (.iaload, 1) := dk_46 (dk_at dksX3_flaw_2 7 rfl rfl)
theorem dX3_flaw_56 : decode cX3_flaw 56 = .ok (.istore_n 3, 1) := dk_62 (dk_at dksX3_flaw_2 8 rfl rfl)
theorem dX3_flaw_57 : decode cX3_flaw 57 = .ok (.aload_n 0, 1) := dk_42 (dk_at dksX3_flaw_2 9 rfl rfl)
theorem dX3_flaw_58 : decode cX3_flaw 58 = .ok (.getfield 59, 3) := dk_180 0 59 (dk_at dksX3_flaw_2 10 rfl rfl)
theorem dX3_flaw_61 : decode cX3_flaw 61 = .ok (.iload_n 1, 1) := dk_27 (dk_at dksX3_flaw_2 13 rfl rfl)
theorem dX3_flaw_62 : decode cX3_flaw 62 = .ok (.iload_n 2, 1) := dk_28 (dk_at dksX3_flaw_2 14 rfl rfl)
theorem dX3_flaw_63 : decode cX3_flaw 63 = .ok (.iastore, 1) := dk_79 (dk_at dksX3_flaw_2 15 rfl rfl)
theorem dX3_flaw_64 : decode cX3_flaw 64 = .ok (.aload_n 0, 1) := dk_42 (dk_at dksX3_flaw_2 16 rfl rfl)
theorem dX3_flaw_65 : decode cX3_flaw 65 = .ok (.getfield 62, 3) := dk_180 0 62 (dk_at dksX3_flaw_2 17 rfl rfl)
theorem dX3_flaw_68 : decode cX3_flaw 68 = .ok (.iload_n 1, 1) := dk_27 (dk_at dksX3_flaw_2 20 rfl rfl)
theorem dX3_flaw_69 : decode cX3_flaw 69 = .ok (.aload_n 0, 1) := dk_42 (dk_at dksX3_flaw_2 21 rfl rfl)
theorem dX3_flaw_70 : decode cX3_flaw 70 = .ok (.getfield 22, 3) := dk_180 0 22 (dk_at dksX3_flaw_3 0 rfl rfl)
theorem dX3_flaw_73 : decode cX3_flaw 73 = .ok (.iload_n 1, 1) := dk_27 (dk_at dksX3_flaw_3 3 rfl rfl)
theorem dX3_flaw_74 : decode cX3_flaw 74 = .ok (.iaload, 1) := dk_46 (dk_at dksX3_flaw_3 4 rfl rfl)
theorem dX3_flaw_75 : decode cX3_flaw 75 = .ok (.iastore, 1) := dk_79 (dk_at dksX3_flaw_3 5 rfl rfl)
theorem dX3_flaw_76 : decode cX3_flaw 76 = .ok (.iload_n 3, 1) := dk_29 (dk_at dksX3_flaw_3 6 rfl rfl)
theorem dX3_flaw_77 : decode cX3_flaw 77 = .ok (.ireturn, 1) := dk_172 (dk_at dksX3_flaw_3 7 rfl rfl)
abbrev cX3_look : ByteArray := prog_12_method_30_code
def yX3_look : MethodName := ⟨RX3, "look", "(IZ)I"⟩
def dkwX3_look_5 : List UInt8 := [3, 172]
abbrev dktX3_look_5 : List UInt8 := dkwX3_look_5 ++ []
def dkwX3_look_4 : List UInt8 := [42, 180, 0, 35, 27, 42, 180, 0, 35, 27, 51, 153, 0, 11, 28, 154, 0, 7, 4, 167, 0, 4, 3, 84]
abbrev dktX3_look_4 : List UInt8 := dkwX3_look_4 ++ dktX3_look_5
def dkwX3_look_3 : List UInt8 := [153, 0, 7, 6, 167, 0, 5, 16, 10, 161, 0, 15, 42, 27, 182, 0, 166, 42, 180, 0, 59, 27, 46, 172]
abbrev dktX3_look_3 : List UInt8 := dkwX3_look_3 ++ dktX3_look_4
def dkwX3_look_2 : List UInt8 := [167, 0, 4, 3, 181, 0, 98, 42, 180, 0, 98, 158, 0, 5, 3, 172, 42, 180, 0, 59, 27, 46, 28]
abbrev dktX3_look_2 : List UInt8 := dkwX3_look_2 ++ dktX3_look_3
def dkwX3_look_1 : List UInt8 := [42, 27, 182, 0, 125, 154, 0, 17, 28, 153, 0, 17, 42, 180, 0, 19, 27, 46, 2, 159, 0, 7, 5]
abbrev dktX3_look_1 : List UInt8 := dkwX3_look_1 ++ dktX3_look_2
def dkwX3_look_0 : List UInt8 := [42, 42, 27, 182, 0, 109, 154, 0, 7, 4, 167, 0, 41, 42, 180, 0, 19, 27, 46, 16, 254, 159, 0, 25]
abbrev dktX3_look_0 : List UInt8 := dkwX3_look_0 ++ dktX3_look_1
theorem dksX3_look_0 : cX3_look.data.toList.drop 0 = dktX3_look_0 := by decide +kernel
theorem dksX3_look_1 : cX3_look.data.toList.drop 24 = dktX3_look_1 := dk_seg dksX3_look_0 24 rfl rfl
theorem dksX3_look_2 : cX3_look.data.toList.drop 47 = dktX3_look_2 := dk_seg dksX3_look_1 23 rfl rfl
theorem dksX3_look_3 : cX3_look.data.toList.drop 70 = dktX3_look_3 := dk_seg dksX3_look_2 23 rfl rfl
theorem dksX3_look_4 : cX3_look.data.toList.drop 94 = dktX3_look_4 := dk_seg dksX3_look_3 24 rfl rfl
theorem dksX3_look_5 : cX3_look.data.toList.drop 118 = dktX3_look_5 := dk_seg dksX3_look_4 24 rfl rfl
theorem dX3_look_0 : decode cX3_look 0 = .ok (.aload_n 0, 1) := dk_42 (dk_at dksX3_look_0 0 rfl rfl)
theorem dX3_look_1 : decode cX3_look 1 = .ok (.aload_n 0, 1) := dk_42 (dk_at dksX3_look_0 1 rfl rfl)
theorem dX3_look_2 : decode cX3_look 2 = .ok (.iload_n 1, 1) := dk_27 (dk_at dksX3_look_0 2 rfl rfl)
theorem dX3_look_3 : decode cX3_look 3 = .ok (.invokevirtual 109, 3) := dk_182 0 109 (dk_at dksX3_look_0 3 rfl rfl)
theorem dX3_look_6 : decode cX3_look 6 = .ok (.ifCond .ne 7, 3) := dk_154 0 7 (dk_at dksX3_look_0 6 rfl rfl)
theorem dX3_look_9 : decode cX3_look 9 = .ok (.iconst 1, 1) := dk_4 (dk_at dksX3_look_0 9 rfl rfl)
theorem dX3_look_10 : decode cX3_look 10 = .ok (.goto 41, 3) := dk_167 0 41 (dk_at dksX3_look_0 10 rfl rfl)
theorem dX3_look_13 : decode cX3_look 13 = .ok (.aload_n 0, 1) := dk_42 (dk_at dksX3_look_0 13 rfl rfl)
theorem dX3_look_14 : decode cX3_look 14 = .ok (.getfield 19, 3) := dk_180 0 19 (dk_at dksX3_look_0 14 rfl rfl)
theorem dX3_look_17 : decode cX3_look 17 = .ok (.iload_n 1, 1) := dk_27 (dk_at dksX3_look_0 17 rfl rfl)
theorem dX3_look_18 : decode cX3_look 18 = .ok (.iaload, 1) := dk_46 (dk_at dksX3_look_0 18 rfl rfl)
theorem dX3_look_19 : decode cX3_look 19 = .ok (.bipush (-2), 2) := dk_16 254 (dk_at dksX3_look_0 19 rfl rfl)
theorem dX3_look_21 : decode cX3_look 21 = .ok (.if_icmp .eq 25, 3) := dk_159 0 25 (dk_at dksX3_look_0 21 rfl rfl)
theorem dX3_look_24 : decode cX3_look 24 = .ok (.aload_n 0, 1) := dk_42 (dk_at dksX3_look_1 0 rfl rfl)
theorem dX3_look_25 : decode cX3_look 25 = .ok (.iload_n 1, 1) := dk_27 (dk_at dksX3_look_1 1 rfl rfl)
theorem dX3_look_26 : decode cX3_look 26 = .ok (.invokevirtual 125, 3) := dk_182 0 125 (dk_at dksX3_look_1 2 rfl rfl)
theorem dX3_look_29 : decode cX3_look 29 = .ok (.ifCond .ne 17, 3) := dk_154 0 17 (dk_at dksX3_look_1 5 rfl rfl)
theorem dX3_look_32 : decode cX3_look 32 = .ok (.iload_n 2, 1) := dk_28 (dk_at dksX3_look_1 8 rfl rfl)
theorem dX3_look_33 : decode cX3_look 33 = .ok (.ifCond .eq 17, 3) := dk_153 0 17 (dk_at dksX3_look_1 9 rfl rfl)
theorem dX3_look_36 : decode cX3_look 36 = .ok (.aload_n 0, 1) := dk_42 (dk_at dksX3_look_1 12 rfl rfl)
theorem dX3_look_37 : decode cX3_look 37 = .ok (.getfield 19, 3) := dk_180 0 19 (dk_at dksX3_look_1 13 rfl rfl)
theorem dX3_look_40 : decode cX3_look 40 = .ok (.iload_n 1, 1) := dk_27 (dk_at dksX3_look_1 16 rfl rfl)
theorem dX3_look_41 : decode cX3_look 41 = .ok (.iaload, 1) := dk_46 (dk_at dksX3_look_1 17 rfl rfl)
theorem dX3_look_42 : decode cX3_look 42 = .ok (.iconst (-1), 1) := dk_2 (dk_at dksX3_look_1 18 rfl rfl)
theorem dX3_look_43 : decode cX3_look 43 = .ok (.if_icmp .eq 7, 3) := dk_159 0 7 (dk_at dksX3_look_1 19 rfl rfl)
theorem dX3_look_46 : decode cX3_look 46 = .ok (.iconst 2, 1) := dk_5 (dk_at dksX3_look_1 22 rfl rfl)
theorem dX3_look_47 : decode cX3_look 47 = .ok (.goto 4, 3) := dk_167 0 4 (dk_at dksX3_look_2 0 rfl rfl)
theorem dX3_look_50 : decode cX3_look 50 = .ok (.iconst 0, 1) := dk_3 (dk_at dksX3_look_2 3 rfl rfl)
theorem dX3_look_51 : decode cX3_look 51 = .ok (.putfield 98, 3) := dk_181 0 98 (dk_at dksX3_look_2 4 rfl rfl)
theorem dX3_look_54 : decode cX3_look 54 = .ok (.aload_n 0, 1) := dk_42 (dk_at dksX3_look_2 7 rfl rfl)
theorem dX3_look_55 : decode cX3_look 55 = .ok (.getfield 98, 3) := dk_180 0 98 (dk_at dksX3_look_2 8 rfl rfl)
theorem dX3_look_58 : decode cX3_look 58 = .ok (.ifCond .le 5, 3) := dk_158 0 5 (dk_at dksX3_look_2 11 rfl rfl)
theorem dX3_look_61 : decode cX3_look 61 = .ok (.iconst 0, 1) := dk_3 (dk_at dksX3_look_2 14 rfl rfl)
theorem dX3_look_62 : decode cX3_look 62 = .ok (.ireturn, 1) := dk_172 (dk_at dksX3_look_2 15 rfl rfl)
theorem dX3_look_63 : decode cX3_look 63 = .ok (.aload_n 0, 1) := dk_42 (dk_at dksX3_look_2 16 rfl rfl)
theorem dX3_look_64 : decode cX3_look 64 = .ok (.getfield 59, 3) := dk_180 0 59 (dk_at dksX3_look_2 17 rfl rfl)
theorem dX3_look_67 : decode cX3_look 67 = .ok (.iload_n 1, 1) := dk_27 (dk_at dksX3_look_2 20 rfl rfl)
theorem dX3_look_68 : decode cX3_look 68 = .ok (.iaload, 1) := dk_46 (dk_at dksX3_look_2 21 rfl rfl)
theorem dX3_look_69 : decode cX3_look 69 = .ok (.iload_n 2, 1) := dk_28 (dk_at dksX3_look_2 22 rfl rfl)
theorem dX3_look_70 : decode cX3_look 70 = .ok (.ifCond .eq 7, 3) := dk_153 0 7 (dk_at dksX3_look_3 0 rfl rfl)
theorem dX3_look_73 : decode cX3_look 73 = .ok (.iconst 3, 1) := dk_6 (dk_at dksX3_look_3 3 rfl rfl)
theorem dX3_look_74 : decode cX3_look 74 = .ok (.goto 5, 3) := dk_167 0 5 (dk_at dksX3_look_3 4 rfl rfl)
theorem dX3_look_77 : decode cX3_look 77 = .ok (.bipush 10, 2) := dk_16 10 (dk_at dksX3_look_3 7 rfl rfl)
theorem dX3_look_79 : decode cX3_look 79 = .ok (.if_icmp .lt 15, 3) := dk_161 0 15 (dk_at dksX3_look_3 9 rfl rfl)
theorem dX3_look_82 : decode cX3_look 82 = .ok (.aload_n 0, 1) := dk_42 (dk_at dksX3_look_3 12 rfl rfl)
theorem dX3_look_83 : decode cX3_look 83 = .ok (.iload_n 1, 1) := dk_27 (dk_at dksX3_look_3 13 rfl rfl)
theorem dX3_look_84 : decode cX3_look 84 = .ok (.invokevirtual 166, 3) := dk_182 0 166 (dk_at dksX3_look_3 14 rfl rfl)
theorem dX3_look_87 : decode cX3_look 87 = .ok (.aload_n 0, 1) := dk_42 (dk_at dksX3_look_3 17 rfl rfl)
theorem dX3_look_88 : decode cX3_look 88 = .ok (.getfield 59, 3) := dk_180 0 59 (dk_at dksX3_look_3 18 rfl rfl)
theorem dX3_look_91 : decode cX3_look 91 = .ok (.iload_n 1, 1) := dk_27 (dk_at dksX3_look_3 21 rfl rfl)
theorem dX3_look_92 : decode cX3_look 92 = .ok (.iaload, 1) := dk_46 (dk_at dksX3_look_3 22 rfl rfl)
theorem dX3_look_93 : decode cX3_look 93 = .ok (.ireturn, 1) := dk_172 (dk_at dksX3_look_3 23 rfl rfl)
theorem dX3_look_94 : decode cX3_look 94 = .ok (.aload_n 0, 1) := dk_42 (dk_at dksX3_look_4 0 rfl rfl)
theorem dX3_look_95 : decode cX3_look 95 = .ok (.getfield 35, 3) := dk_180 0 35 (dk_at dksX3_look_4 1 rfl rfl)
theorem dX3_look_98 : decode cX3_look 98 = .ok (.iload_n 1, 1) := dk_27 (dk_at dksX3_look_4 4 rfl rfl)
theorem dX3_look_99 : decode cX3_look 99 = .ok (.aload_n 0, 1) := dk_42 (dk_at dksX3_look_4 5 rfl rfl)
theorem dX3_look_100 : decode cX3_look 100 = .ok (.getfield 35, 3) := dk_180 0 35 (dk_at dksX3_look_4 6 rfl rfl)
theorem dX3_look_103 : decode cX3_look 103 = .ok (.iload_n 1, 1) := dk_27 (dk_at dksX3_look_4 9 rfl rfl)
theorem dX3_look_104 : decode cX3_look 104 = .ok (.baload, 1) := dk_51 (dk_at dksX3_look_4 10 rfl rfl)
theorem dX3_look_105 : decode cX3_look 105 = .ok (.ifCond .eq 11, 3) := dk_153 0 11 (dk_at dksX3_look_4 11 rfl rfl)
theorem dX3_look_108 : decode cX3_look 108 = .ok (.iload_n 2, 1) := dk_28 (dk_at dksX3_look_4 14 rfl rfl)
theorem dX3_look_109 : decode cX3_look 109 = .ok (.ifCond .ne 7, 3) := dk_154 0 7 (dk_at dksX3_look_4 15 rfl rfl)
theorem dX3_look_112 : decode cX3_look 112 = .ok (.iconst 1, 1) := dk_4 (dk_at dksX3_look_4 18 rfl rfl)
theorem dX3_look_113 : decode cX3_look 113 = .ok (.goto 4, 3) := dk_167 0 4 (dk_at dksX3_look_4 19 rfl rfl)
theorem dX3_look_116 : decode cX3_look 116 = .ok (.iconst 0, 1) := dk_3 (dk_at dksX3_look_4 22 rfl rfl)
theorem dX3_look_117 : decode cX3_look 117 = .ok (.bastore, 1) := dk_84 (dk_at dksX3_look_4 23 rfl rfl)
theorem dX3_look_118 : decode cX3_look 118 = .ok (.iconst 0, 1) := dk_3 (dk_at dksX3_look_5 0 rfl rfl)
theorem dX3_look_119 : decode cX3_look 119 = .ok (.ireturn, 1) := dk_172 (dk_at dksX3_look_5 1 rfl rfl)
abbrev cX3_holds : ByteArray := prog_12_method_29_code
def yX3_holds : MethodName := ⟨RX3, "holds", "(I)V"⟩
def dkwX3_holds_0 : List UInt8 := [42, 180, 0, 31, 27, 4, 84, 42, 27, 182, 0, 135, 177]
abbrev dktX3_holds_0 : List UInt8 := dkwX3_holds_0 ++ []
theorem dksX3_holds_0 : cX3_holds.data.toList.drop 0 = dktX3_holds_0 := by decide +kernel
theorem dX3_holds_0 : decode cX3_holds 0 = .ok (.aload_n 0, 1) := dk_42 (dk_at dksX3_holds_0 0 rfl rfl)
theorem dX3_holds_1 : decode cX3_holds 1 = .ok (.getfield 31, 3) := dk_180 0 31 (dk_at dksX3_holds_0 1 rfl rfl)
theorem dX3_holds_4 : decode cX3_holds 4 = .ok (.iload_n 1, 1) := dk_27 (dk_at dksX3_holds_0 4 rfl rfl)
theorem dX3_holds_5 : decode cX3_holds 5 = .ok (.iconst 1, 1) := dk_4 (dk_at dksX3_holds_0 5 rfl rfl)
theorem dX3_holds_6 : decode cX3_holds 6 = .ok (.bastore, 1) := dk_84 (dk_at dksX3_holds_0 6 rfl rfl)
theorem dX3_holds_7 : decode cX3_holds 7 = .ok (.aload_n 0, 1) := dk_42 (dk_at dksX3_holds_0 7 rfl rfl)
theorem dX3_holds_8 : decode cX3_holds 8 = .ok (.iload_n 1, 1) := dk_27 (dk_at dksX3_holds_0 8 rfl rfl)
theorem dX3_holds_9 : decode cX3_holds 9 = .ok (.invokevirtual 135, 3) := dk_182 0 135 (dk_at dksX3_holds_0 9 rfl rfl)
theorem dX3_holds_12 : decode cX3_holds 12 = .ok (.return_, 1) := dk_177 (dk_at dksX3_holds_0 12 rfl rfl)
abbrev cX3_clear : ByteArray := prog_12_method_31_code
def yX3_clear : MethodName := ⟨RX3, "clear", "(I)I"⟩
def dkwX3_clear_2 : List UInt8 := [180, 0, 59, 27, 46, 61, 42, 180, 0, 31, 27, 3, 84, 42, 180, 0, 59, 27, 3, 79, 28, 172]
abbrev dktX3_clear_2 : List UInt8 := dkwX3_clear_2 ++ []
def dkwX3_clear_1 : List UInt8 := [182, 0, 125, 153, 0, 7, 5, 167, 0, 4, 3, 181, 0, 98, 42, 180, 0, 98, 158, 0, 5, 3, 172, 42]
abbrev dktX3_clear_1 : List UInt8 := dkwX3_clear_1 ++ dktX3_clear_2
def dkwX3_clear_0 : List UInt8 := [42, 42, 27, 182, 0, 109, 154, 0, 7, 4, 167, 0, 25, 42, 180, 0, 31, 27, 51, 153, 0, 11, 42, 27]
abbrev dktX3_clear_0 : List UInt8 := dkwX3_clear_0 ++ dktX3_clear_1
theorem dksX3_clear_0 : cX3_clear.data.toList.drop 0 = dktX3_clear_0 := by decide +kernel
theorem dksX3_clear_1 : cX3_clear.data.toList.drop 24 = dktX3_clear_1 := dk_seg dksX3_clear_0 24 rfl rfl
theorem dksX3_clear_2 : cX3_clear.data.toList.drop 48 = dktX3_clear_2 := dk_seg dksX3_clear_1 24 rfl rfl
theorem dX3_clear_0 : decode cX3_clear 0 = .ok (.aload_n 0, 1) := dk_42 (dk_at dksX3_clear_0 0 rfl rfl)
theorem dX3_clear_1 : decode cX3_clear 1 = .ok (.aload_n 0, 1) := dk_42 (dk_at dksX3_clear_0 1 rfl rfl)
theorem dX3_clear_2 : decode cX3_clear 2 = .ok (.iload_n 1, 1) := dk_27 (dk_at dksX3_clear_0 2 rfl rfl)
theorem dX3_clear_3 : decode cX3_clear 3 = .ok (.invokevirtual 109, 3) := dk_182 0 109 (dk_at dksX3_clear_0 3 rfl rfl)
theorem dX3_clear_6 : decode cX3_clear 6 = .ok (.ifCond .ne 7, 3) := dk_154 0 7 (dk_at dksX3_clear_0 6 rfl rfl)
theorem dX3_clear_9 : decode cX3_clear 9 = .ok (.iconst 1, 1) := dk_4 (dk_at dksX3_clear_0 9 rfl rfl)
theorem dX3_clear_10 : decode cX3_clear 10 = .ok (.goto 25, 3) := dk_167 0 25 (dk_at dksX3_clear_0 10 rfl rfl)
theorem dX3_clear_13 : decode cX3_clear 13 = .ok (.aload_n 0, 1) := dk_42 (dk_at dksX3_clear_0 13 rfl rfl)
theorem dX3_clear_14 : decode cX3_clear 14 = .ok (.getfield 31, 3) := dk_180 0 31 (dk_at dksX3_clear_0 14 rfl rfl)
theorem dX3_clear_17 : decode cX3_clear 17 = .ok (.iload_n 1, 1) := dk_27 (dk_at dksX3_clear_0 17 rfl rfl)
theorem dX3_clear_18 : decode cX3_clear 18 = .ok (.baload, 1) := dk_51 (dk_at dksX3_clear_0 18 rfl rfl)
theorem dX3_clear_19 : decode cX3_clear 19 = .ok (.ifCond .eq 11, 3) := dk_153 0 11 (dk_at dksX3_clear_0 19 rfl rfl)
theorem dX3_clear_22 : decode cX3_clear 22 = .ok (.aload_n 0, 1) := dk_42 (dk_at dksX3_clear_0 22 rfl rfl)
theorem dX3_clear_23 : decode cX3_clear 23 = .ok (.iload_n 1, 1) := dk_27 (dk_at dksX3_clear_0 23 rfl rfl)
theorem dX3_clear_24 : decode cX3_clear 24 = .ok (.invokevirtual 125, 3) := dk_182 0 125 (dk_at dksX3_clear_1 0 rfl rfl)
theorem dX3_clear_27 : decode cX3_clear 27 = .ok (.ifCond .eq 7, 3) := dk_153 0 7 (dk_at dksX3_clear_1 3 rfl rfl)
theorem dX3_clear_30 : decode cX3_clear 30 = .ok (.iconst 2, 1) := dk_5 (dk_at dksX3_clear_1 6 rfl rfl)
theorem dX3_clear_31 : decode cX3_clear 31 = .ok (.goto 4, 3) := dk_167 0 4 (dk_at dksX3_clear_1 7 rfl rfl)
theorem dX3_clear_34 : decode cX3_clear 34 = .ok (.iconst 0, 1) := dk_3 (dk_at dksX3_clear_1 10 rfl rfl)
theorem dX3_clear_35 : decode cX3_clear 35 = .ok (.putfield 98, 3) := dk_181 0 98 (dk_at dksX3_clear_1 11 rfl rfl)
theorem dX3_clear_38 : decode cX3_clear 38 = .ok (.aload_n 0, 1) := dk_42 (dk_at dksX3_clear_1 14 rfl rfl)
theorem dX3_clear_39 : decode cX3_clear 39 = .ok (.getfield 98, 3) := dk_180 0 98 (dk_at dksX3_clear_1 15 rfl rfl)
theorem dX3_clear_42 : decode cX3_clear 42 = .ok (.ifCond .le 5, 3) := dk_158 0 5 (dk_at dksX3_clear_1 18 rfl rfl)
theorem dX3_clear_45 : decode cX3_clear 45 = .ok (.iconst 0, 1) := dk_3 (dk_at dksX3_clear_1 21 rfl rfl)
theorem dX3_clear_46 : decode cX3_clear 46 = .ok (.ireturn, 1) := dk_172 (dk_at dksX3_clear_1 22 rfl rfl)
theorem dX3_clear_47 : decode cX3_clear 47 = .ok (.aload_n 0, 1) := dk_42 (dk_at dksX3_clear_1 23 rfl rfl)
theorem dX3_clear_48 : decode cX3_clear 48 = .ok (.getfield 59, 3) := dk_180 0 59 (dk_at dksX3_clear_2 0 rfl rfl)
theorem dX3_clear_51 : decode cX3_clear 51 = .ok (.iload_n 1, 1) := dk_27 (dk_at dksX3_clear_2 3 rfl rfl)
theorem dX3_clear_52 : decode cX3_clear 52 = .ok (.iaload, 1) := dk_46 (dk_at dksX3_clear_2 4 rfl rfl)
theorem dX3_clear_53 : decode cX3_clear 53 = .ok (.istore_n 2, 1) := dk_61 (dk_at dksX3_clear_2 5 rfl rfl)
theorem dX3_clear_54 : decode cX3_clear 54 = .ok (.aload_n 0, 1) := dk_42 (dk_at dksX3_clear_2 6 rfl rfl)
theorem dX3_clear_55 : decode cX3_clear 55 = .ok (.getfield 31, 3) := dk_180 0 31 (dk_at dksX3_clear_2 7 rfl rfl)
theorem dX3_clear_58 : decode cX3_clear 58 = .ok (.iload_n 1, 1) := dk_27 (dk_at dksX3_clear_2 10 rfl rfl)
theorem dX3_clear_59 : decode cX3_clear 59 = .ok (.iconst 0, 1) := dk_3 (dk_at dksX3_clear_2 11 rfl rfl)
theorem dX3_clear_60 : decode cX3_clear 60 = .ok (.bastore, 1) := dk_84 (dk_at dksX3_clear_2 12 rfl rfl)
theorem dX3_clear_61 : decode cX3_clear 61 = .ok (.aload_n 0, 1) := dk_42 (dk_at dksX3_clear_2 13 rfl rfl)
theorem dX3_clear_62 : decode cX3_clear 62 = .ok (.getfield 59, 3) := dk_180 0 59 (dk_at dksX3_clear_2 14 rfl rfl)
theorem dX3_clear_65 : decode cX3_clear 65 = .ok (.iload_n 1, 1) := dk_27 (dk_at dksX3_clear_2 17 rfl rfl)
theorem dX3_clear_66 : decode cX3_clear 66 = .ok (.iconst 0, 1) := dk_3 (dk_at dksX3_clear_2 18 rfl rfl)
theorem dX3_clear_67 : decode cX3_clear 67 = .ok (.iastore, 1) := dk_79 (dk_at dksX3_clear_2 19 rfl rfl)
theorem dX3_clear_68 : decode cX3_clear 68 = .ok (.iload_n 2, 1) := dk_28 (dk_at dksX3_clear_2 20 rfl rfl)
theorem dX3_clear_69 : decode cX3_clear 69 = .ok (.ireturn, 1) := dk_172 (dk_at dksX3_clear_2 21 rfl rfl)
abbrev cX3_recall : ByteArray := prog_12_method_32_code
def yX3_recall : MethodName := ⟨RX3, "recall", "(I)I"⟩
def dkwX3_recall_3 : List UInt8 := [29, 4, 84, 42, 29, 182, 0, 135, 132, 2, 1, 132, 3, 1, 167, 255, 193, 28, 172]
abbrev dktX3_recall_3 : List UInt8 := dkwX3_recall_3 ++ []
def dkwX3_recall_2 : List UInt8 := [42, 180, 0, 19, 29, 46, 16, 254, 159, 0, 27, 42, 180, 0, 35, 29, 51, 154, 0, 18, 42, 180, 0, 35]
abbrev dktX3_recall_2 : List UInt8 := dkwX3_recall_2 ++ dktX3_recall_3
def dkwX3_recall_1 : List UInt8 := [42, 180, 0, 102, 162, 0, 61, 42, 180, 0, 98, 154, 0, 54, 42, 180, 0, 13, 29, 46, 27, 160, 0, 38]
abbrev dktX3_recall_1 : List UInt8 := dkwX3_recall_1 ++ dktX3_recall_2
def dkwX3_recall_0 : List UInt8 := [42, 27, 3, 16, 9, 184, 0, 105, 153, 0, 7, 3, 167, 0, 4, 4, 181, 0, 98, 3, 61, 3, 62, 29]
abbrev dktX3_recall_0 : List UInt8 := dkwX3_recall_0 ++ dktX3_recall_1
theorem dksX3_recall_0 : cX3_recall.data.toList.drop 0 = dktX3_recall_0 := by decide +kernel
theorem dksX3_recall_1 : cX3_recall.data.toList.drop 24 = dktX3_recall_1 := dk_seg dksX3_recall_0 24 rfl rfl
theorem dksX3_recall_2 : cX3_recall.data.toList.drop 48 = dktX3_recall_2 := dk_seg dksX3_recall_1 24 rfl rfl
theorem dksX3_recall_3 : cX3_recall.data.toList.drop 72 = dktX3_recall_3 := dk_seg dksX3_recall_2 24 rfl rfl
theorem dX3_recall_0 : decode cX3_recall 0 = .ok (.aload_n 0, 1) := dk_42 (dk_at dksX3_recall_0 0 rfl rfl)
theorem dX3_recall_1 : decode cX3_recall 1 = .ok (.iload_n 1, 1) := dk_27 (dk_at dksX3_recall_0 1 rfl rfl)
theorem dX3_recall_2 : decode cX3_recall 2 = .ok (.iconst 0, 1) := dk_3 (dk_at dksX3_recall_0 2 rfl rfl)
theorem dX3_recall_3 : decode cX3_recall 3 = .ok (.bipush 9, 2) := dk_16 9 (dk_at dksX3_recall_0 3 rfl rfl)
theorem dX3_recall_5 : decode cX3_recall 5 = .ok (.invokestatic 105, 3) := dk_184 0 105 (dk_at dksX3_recall_0 5 rfl rfl)
theorem dX3_recall_8 : decode cX3_recall 8 = .ok (.ifCond .eq 7, 3) := dk_153 0 7 (dk_at dksX3_recall_0 8 rfl rfl)
theorem dX3_recall_11 : decode cX3_recall 11 = .ok (.iconst 0, 1) := dk_3 (dk_at dksX3_recall_0 11 rfl rfl)
theorem dX3_recall_12 : decode cX3_recall 12 = .ok (.goto 4, 3) := dk_167 0 4 (dk_at dksX3_recall_0 12 rfl rfl)
theorem dX3_recall_15 : decode cX3_recall 15 = .ok (.iconst 1, 1) := dk_4 (dk_at dksX3_recall_0 15 rfl rfl)
theorem dX3_recall_16 : decode cX3_recall 16 = .ok (.putfield 98, 3) := dk_181 0 98 (dk_at dksX3_recall_0 16 rfl rfl)
theorem dX3_recall_19 : decode cX3_recall 19 = .ok (.iconst 0, 1) := dk_3 (dk_at dksX3_recall_0 19 rfl rfl)
theorem dX3_recall_20 : decode cX3_recall 20 = .ok (.istore_n 2, 1) := dk_61 (dk_at dksX3_recall_0 20 rfl rfl)
theorem dX3_recall_21 : decode cX3_recall 21 = .ok (.iconst 0, 1) := dk_3 (dk_at dksX3_recall_0 21 rfl rfl)
theorem dX3_recall_22 : decode cX3_recall 22 = .ok (.istore_n 3, 1) := dk_62 (dk_at dksX3_recall_0 22 rfl rfl)
theorem dX3_recall_23 : decode cX3_recall 23 = .ok (.iload_n 3, 1) := dk_29 (dk_at dksX3_recall_0 23 rfl rfl)
theorem dX3_recall_24 : decode cX3_recall 24 = .ok (.aload_n 0, 1) := dk_42 (dk_at dksX3_recall_1 0 rfl rfl)
theorem dX3_recall_25 : decode cX3_recall 25 = .ok (.getfield 102, 3) := dk_180 0 102 (dk_at dksX3_recall_1 1 rfl rfl)
theorem dX3_recall_28 : decode cX3_recall 28 = .ok (.if_icmp .ge 61, 3) := dk_162 0 61 (dk_at dksX3_recall_1 4 rfl rfl)
theorem dX3_recall_31 : decode cX3_recall 31 = .ok (.aload_n 0, 1) := dk_42 (dk_at dksX3_recall_1 7 rfl rfl)
theorem dX3_recall_32 : decode cX3_recall 32 = .ok (.getfield 98, 3) := dk_180 0 98 (dk_at dksX3_recall_1 8 rfl rfl)
theorem dX3_recall_35 : decode cX3_recall 35 = .ok (.ifCond .ne 54, 3) := dk_154 0 54 (dk_at dksX3_recall_1 11 rfl rfl)
theorem dX3_recall_38 : decode cX3_recall 38 = .ok (.aload_n 0, 1) := dk_42 (dk_at dksX3_recall_1 14 rfl rfl)
theorem dX3_recall_39 : decode cX3_recall 39 = .ok (.getfield 13, 3) := dk_180 0 13 (dk_at dksX3_recall_1 15 rfl rfl)
theorem dX3_recall_42 : decode cX3_recall 42 = .ok (.iload_n 3, 1) := dk_29 (dk_at dksX3_recall_1 18 rfl rfl)
theorem dX3_recall_43 : decode cX3_recall 43 = .ok (.iaload, 1) := dk_46 (dk_at dksX3_recall_1 19 rfl rfl)
theorem dX3_recall_44 : decode cX3_recall 44 = .ok (.iload_n 1, 1) := dk_27 (dk_at dksX3_recall_1 20 rfl rfl)
theorem dX3_recall_45 : decode cX3_recall 45 = .ok (.if_icmp .ne 38, 3) := dk_160 0 38 (dk_at dksX3_recall_1 21 rfl rfl)
theorem dX3_recall_48 : decode cX3_recall 48 = .ok (.aload_n 0, 1) := dk_42 (dk_at dksX3_recall_2 0 rfl rfl)
theorem dX3_recall_49 : decode cX3_recall 49 = .ok (.getfield 19, 3) := dk_180 0 19 (dk_at dksX3_recall_2 1 rfl rfl)
theorem dX3_recall_52 : decode cX3_recall 52 = .ok (.iload_n 3, 1) := dk_29 (dk_at dksX3_recall_2 4 rfl rfl)
theorem dX3_recall_53 : decode cX3_recall 53 = .ok (.iaload, 1) := dk_46 (dk_at dksX3_recall_2 5 rfl rfl)
theorem dX3_recall_54 : decode cX3_recall 54 = .ok (.bipush (-2), 2) := dk_16 254 (dk_at dksX3_recall_2 6 rfl rfl)
theorem dX3_recall_56 : decode cX3_recall 56 = .ok (.if_icmp .eq 27, 3) := dk_159 0 27 (dk_at dksX3_recall_2 8 rfl rfl)
theorem dX3_recall_59 : decode cX3_recall 59 = .ok (.aload_n 0, 1) := dk_42 (dk_at dksX3_recall_2 11 rfl rfl)
theorem dX3_recall_60 : decode cX3_recall 60 = .ok (.getfield 35, 3) := dk_180 0 35 (dk_at dksX3_recall_2 12 rfl rfl)
theorem dX3_recall_63 : decode cX3_recall 63 = .ok (.iload_n 3, 1) := dk_29 (dk_at dksX3_recall_2 15 rfl rfl)
theorem dX3_recall_64 : decode cX3_recall 64 = .ok (.baload, 1) := dk_51 (dk_at dksX3_recall_2 16 rfl rfl)
theorem dX3_recall_65 : decode cX3_recall 65 = .ok (.ifCond .ne 18, 3) := dk_154 0 18 (dk_at dksX3_recall_2 17 rfl rfl)
theorem dX3_recall_68 : decode cX3_recall 68 = .ok (.aload_n 0, 1) := dk_42 (dk_at dksX3_recall_2 20 rfl rfl)
theorem dX3_recall_69 : decode cX3_recall 69 = .ok (.getfield 35, 3) := dk_180 0 35 (dk_at dksX3_recall_2 21 rfl rfl)
theorem dX3_recall_72 : decode cX3_recall 72 = .ok (.iload_n 3, 1) := dk_29 (dk_at dksX3_recall_3 0 rfl rfl)
theorem dX3_recall_73 : decode cX3_recall 73 = .ok (.iconst 1, 1) := dk_4 (dk_at dksX3_recall_3 1 rfl rfl)
theorem dX3_recall_74 : decode cX3_recall 74 = .ok (.bastore, 1) := dk_84 (dk_at dksX3_recall_3 2 rfl rfl)
theorem dX3_recall_75 : decode cX3_recall 75 = .ok (.aload_n 0, 1) := dk_42 (dk_at dksX3_recall_3 3 rfl rfl)
theorem dX3_recall_76 : decode cX3_recall 76 = .ok (.iload_n 3, 1) := dk_29 (dk_at dksX3_recall_3 4 rfl rfl)
theorem dX3_recall_77 : decode cX3_recall 77 = .ok (.invokevirtual 135, 3) := dk_182 0 135 (dk_at dksX3_recall_3 5 rfl rfl)
theorem dX3_recall_80 : decode cX3_recall 80 = .ok (.iinc 2 1, 3) := dk_132 2 1 (dk_at dksX3_recall_3 8 rfl rfl)
theorem dX3_recall_83 : decode cX3_recall 83 = .ok (.iinc 3 1, 3) := dk_132 3 1 (dk_at dksX3_recall_3 11 rfl rfl)
theorem dX3_recall_86 : decode cX3_recall 86 = .ok (.goto (-63), 3) := dk_167 255 193 (dk_at dksX3_recall_3 14 rfl rfl)
theorem dX3_recall_89 : decode cX3_recall 89 = .ok (.iload_n 2, 1) := dk_28 (dk_at dksX3_recall_3 17 rfl rfl)
theorem dX3_recall_90 : decode cX3_recall 90 = .ok (.ireturn, 1) := dk_172 (dk_at dksX3_recall_3 18 rfl rfl)
abbrev cX3_release : ByteArray := prog_12_method_39_code
def yX3_release : MethodName := ⟨RX3, "release", "(I)I"⟩
def dkwX3_release_1 : List UInt8 := [16, 100, 108, 61, 42, 180, 0, 38, 27, 28, 154, 0, 7, 4, 167, 0, 4, 3, 84, 28, 172]
abbrev dktX3_release_1 : List UInt8 := dkwX3_release_1 ++ []
def dkwX3_release_0 : List UInt8 := [42, 42, 27, 3, 182, 0, 148, 181, 0, 98, 42, 180, 0, 98, 158, 0, 5, 3, 172, 42, 27, 182, 0, 186]
abbrev dktX3_release_0 : List UInt8 := dkwX3_release_0 ++ dktX3_release_1
theorem dksX3_release_0 : cX3_release.data.toList.drop 0 = dktX3_release_0 := by decide +kernel
theorem dksX3_release_1 : cX3_release.data.toList.drop 24 = dktX3_release_1 := dk_seg dksX3_release_0 24 rfl rfl
theorem dX3_release_0 : decode cX3_release 0 = .ok (.aload_n 0, 1) := dk_42 (dk_at dksX3_release_0 0 rfl rfl)
theorem dX3_release_1 : decode cX3_release 1 = .ok (.aload_n 0, 1) := dk_42 (dk_at dksX3_release_0 1 rfl rfl)
theorem dX3_release_2 : decode cX3_release 2 = .ok (.iload_n 1, 1) := dk_27 (dk_at dksX3_release_0 2 rfl rfl)
theorem dX3_release_3 : decode cX3_release 3 = .ok (.iconst 0, 1) := dk_3 (dk_at dksX3_release_0 3 rfl rfl)
theorem dX3_release_4 : decode cX3_release 4 = .ok (.invokevirtual 148, 3) := dk_182 0 148 (dk_at dksX3_release_0 4 rfl rfl)
theorem dX3_release_7 : decode cX3_release 7 = .ok (.putfield 98, 3) := dk_181 0 98 (dk_at dksX3_release_0 7 rfl rfl)
theorem dX3_release_10 : decode cX3_release 10 = .ok (.aload_n 0, 1) := dk_42 (dk_at dksX3_release_0 10 rfl rfl)
theorem dX3_release_11 : decode cX3_release 11 = .ok (.getfield 98, 3) := dk_180 0 98 (dk_at dksX3_release_0 11 rfl rfl)
theorem dX3_release_14 : decode cX3_release 14 = .ok (.ifCond .le 5, 3) := dk_158 0 5 (dk_at dksX3_release_0 14 rfl rfl)
theorem dX3_release_17 : decode cX3_release 17 = .ok (.iconst 0, 1) := dk_3 (dk_at dksX3_release_0 17 rfl rfl)
theorem dX3_release_18 : decode cX3_release 18 = .ok (.ireturn, 1) := dk_172 (dk_at dksX3_release_0 18 rfl rfl)
theorem dX3_release_19 : decode cX3_release 19 = .ok (.aload_n 0, 1) := dk_42 (dk_at dksX3_release_0 19 rfl rfl)
theorem dX3_release_20 : decode cX3_release 20 = .ok (.iload_n 1, 1) := dk_27 (dk_at dksX3_release_0 20 rfl rfl)
theorem dX3_release_21 : decode cX3_release 21 = .ok (.invokevirtual 186, 3) := dk_182 0 186 (dk_at dksX3_release_0 21 rfl rfl)
theorem dX3_release_24 : decode cX3_release 24 = .ok (.bipush 100, 2) := dk_16 100 (dk_at dksX3_release_1 0 rfl rfl)
theorem dX3_release_26 : decode cX3_release 26 = .ok (.idiv, 1) := dk_108 (dk_at dksX3_release_1 2 rfl rfl)
theorem dX3_release_27 : decode cX3_release 27 = .ok (.istore_n 2, 1) := dk_61 (dk_at dksX3_release_1 3 rfl rfl)
theorem dX3_release_28 : decode cX3_release 28 = .ok (.aload_n 0, 1) := dk_42 (dk_at dksX3_release_1 4 rfl rfl)
theorem dX3_release_29 : decode cX3_release 29 = .ok (.getfield 38, 3) := dk_180 0 38 (dk_at dksX3_release_1 5 rfl rfl)
theorem dX3_release_32 : decode cX3_release 32 = .ok (.iload_n 1, 1) := dk_27 (dk_at dksX3_release_1 8 rfl rfl)
theorem dX3_release_33 : decode cX3_release 33 = .ok (.iload_n 2, 1) := dk_28 (dk_at dksX3_release_1 9 rfl rfl)
theorem dX3_release_34 : decode cX3_release 34 = .ok (.ifCond .ne 7, 3) := dk_154 0 7 (dk_at dksX3_release_1 10 rfl rfl)
theorem dX3_release_37 : decode cX3_release 37 = .ok (.iconst 1, 1) := dk_4 (dk_at dksX3_release_1 13 rfl rfl)
theorem dX3_release_38 : decode cX3_release 38 = .ok (.goto 4, 3) := dk_167 0 4 (dk_at dksX3_release_1 14 rfl rfl)
theorem dX3_release_41 : decode cX3_release 41 = .ok (.iconst 0, 1) := dk_3 (dk_at dksX3_release_1 17 rfl rfl)
theorem dX3_release_42 : decode cX3_release 42 = .ok (.bastore, 1) := dk_84 (dk_at dksX3_release_1 18 rfl rfl)
theorem dX3_release_43 : decode cX3_release 43 = .ok (.iload_n 2, 1) := dk_28 (dk_at dksX3_release_1 19 rfl rfl)
theorem dX3_release_44 : decode cX3_release 44 = .ok (.ireturn, 1) := dk_172 (dk_at dksX3_release_1 20 rfl rfl)
abbrev cX3_barOf : ByteArray := prog_12_method_38_code
def yX3_barOf : MethodName := ⟨RX3, "barOf", "(I)I"⟩
def dkwX3_barOf_2 : List UInt8 := [167, 255, 220, 132, 2, 1, 167, 255, 206, 3, 172]
abbrev dktX3_barOf_2 : List UInt8 := dkwX3_barOf_2 ++ []
def dkwX3_barOf_1 : List UInt8 := [153, 0, 19, 42, 29, 28, 182, 0, 183, 153, 0, 10, 16, 100, 28, 104, 29, 96, 172, 132, 3, 1]
abbrev dktX3_barOf_1 : List UInt8 := dkwX3_barOf_1 ++ dktX3_barOf_2
def dkwX3_barOf_0 : List UInt8 := [4, 61, 28, 16, 8, 162, 0, 50, 3, 62, 29, 42, 180, 0, 102, 162, 0, 34, 42, 29, 27, 182, 0, 151]
abbrev dktX3_barOf_0 : List UInt8 := dkwX3_barOf_0 ++ dktX3_barOf_1
theorem dksX3_barOf_0 : cX3_barOf.data.toList.drop 0 = dktX3_barOf_0 := by decide +kernel
theorem dksX3_barOf_1 : cX3_barOf.data.toList.drop 24 = dktX3_barOf_1 := dk_seg dksX3_barOf_0 24 rfl rfl
theorem dksX3_barOf_2 : cX3_barOf.data.toList.drop 46 = dktX3_barOf_2 := dk_seg dksX3_barOf_1 22 rfl rfl
theorem dX3_barOf_0 : decode cX3_barOf 0 = .ok (.iconst 1, 1) := dk_4 (dk_at dksX3_barOf_0 0 rfl rfl)
theorem dX3_barOf_1 : decode cX3_barOf 1 = .ok (.istore_n 2, 1) := dk_61 (dk_at dksX3_barOf_0 1 rfl rfl)
theorem dX3_barOf_2 : decode cX3_barOf 2 = .ok (.iload_n 2, 1) := dk_28 (dk_at dksX3_barOf_0 2 rfl rfl)
theorem dX3_barOf_3 : decode cX3_barOf 3 = .ok (.bipush 8, 2) := dk_16 8 (dk_at dksX3_barOf_0 3 rfl rfl)
theorem dX3_barOf_5 : decode cX3_barOf 5 = .ok (.if_icmp .ge 50, 3) := dk_162 0 50 (dk_at dksX3_barOf_0 5 rfl rfl)
theorem dX3_barOf_8 : decode cX3_barOf 8 = .ok (.iconst 0, 1) := dk_3 (dk_at dksX3_barOf_0 8 rfl rfl)
theorem dX3_barOf_9 : decode cX3_barOf 9 = .ok (.istore_n 3, 1) := dk_62 (dk_at dksX3_barOf_0 9 rfl rfl)
theorem dX3_barOf_10 : decode cX3_barOf 10 = .ok (.iload_n 3, 1) := dk_29 (dk_at dksX3_barOf_0 10 rfl rfl)
theorem dX3_barOf_11 : decode cX3_barOf 11 = .ok (.aload_n 0, 1) := dk_42 (dk_at dksX3_barOf_0 11 rfl rfl)
theorem dX3_barOf_12 : decode cX3_barOf 12 = .ok (.getfield 102, 3) := dk_180 0 102 (dk_at dksX3_barOf_0 12 rfl rfl)
theorem dX3_barOf_15 : decode cX3_barOf 15 = .ok (.if_icmp .ge 34, 3) := dk_162 0 34 (dk_at dksX3_barOf_0 15 rfl rfl)
theorem dX3_barOf_18 : decode cX3_barOf 18 = .ok (.aload_n 0, 1) := dk_42 (dk_at dksX3_barOf_0 18 rfl rfl)
theorem dX3_barOf_19 : decode cX3_barOf 19 = .ok (.iload_n 3, 1) := dk_29 (dk_at dksX3_barOf_0 19 rfl rfl)
theorem dX3_barOf_20 : decode cX3_barOf 20 = .ok (.iload_n 1, 1) := dk_27 (dk_at dksX3_barOf_0 20 rfl rfl)
theorem dX3_barOf_21 : decode cX3_barOf 21 = .ok (.invokevirtual 151, 3) := dk_182 0 151 (dk_at dksX3_barOf_0 21 rfl rfl)
theorem dX3_barOf_24 : decode cX3_barOf 24 = .ok (.ifCond .eq 19, 3) := dk_153 0 19 (dk_at dksX3_barOf_1 0 rfl rfl)
theorem dX3_barOf_27 : decode cX3_barOf 27 = .ok (.aload_n 0, 1) := dk_42 (dk_at dksX3_barOf_1 3 rfl rfl)
theorem dX3_barOf_28 : decode cX3_barOf 28 = .ok (.iload_n 3, 1) := dk_29 (dk_at dksX3_barOf_1 4 rfl rfl)
theorem dX3_barOf_29 : decode cX3_barOf 29 = .ok (.iload_n 2, 1) := dk_28 (dk_at dksX3_barOf_1 5 rfl rfl)
theorem dX3_barOf_30 : decode cX3_barOf 30 = .ok (.invokevirtual 183, 3) := dk_182 0 183 (dk_at dksX3_barOf_1 6 rfl rfl)
theorem dX3_barOf_33 : decode cX3_barOf 33 = .ok (.ifCond .eq 10, 3) := dk_153 0 10 (dk_at dksX3_barOf_1 9 rfl rfl)
theorem dX3_barOf_36 : decode cX3_barOf 36 = .ok (.bipush 100, 2) := dk_16 100 (dk_at dksX3_barOf_1 12 rfl rfl)
theorem dX3_barOf_38 : decode cX3_barOf 38 = .ok (.iload_n 2, 1) := dk_28 (dk_at dksX3_barOf_1 14 rfl rfl)
theorem dX3_barOf_39 : decode cX3_barOf 39 = .ok (.imul, 1) := dk_104 (dk_at dksX3_barOf_1 15 rfl rfl)
theorem dX3_barOf_40 : decode cX3_barOf 40 = .ok (.iload_n 3, 1) := dk_29 (dk_at dksX3_barOf_1 16 rfl rfl)
theorem dX3_barOf_41 : decode cX3_barOf 41 = .ok (.iadd, 1) := dk_96 (dk_at dksX3_barOf_1 17 rfl rfl)
theorem dX3_barOf_42 : decode cX3_barOf 42 = .ok (.ireturn, 1) := dk_172 (dk_at dksX3_barOf_1 18 rfl rfl)
theorem dX3_barOf_43 : decode cX3_barOf 43 = .ok (.iinc 3 1, 3) := dk_132 3 1 (dk_at dksX3_barOf_1 19 rfl rfl)
theorem dX3_barOf_46 : decode cX3_barOf 46 = .ok (.goto (-36), 3) := dk_167 255 220 (dk_at dksX3_barOf_2 0 rfl rfl)
theorem dX3_barOf_49 : decode cX3_barOf 49 = .ok (.iinc 2 1, 3) := dk_132 2 1 (dk_at dksX3_barOf_2 3 rfl rfl)
theorem dX3_barOf_52 : decode cX3_barOf 52 = .ok (.goto (-50), 3) := dk_167 255 206 (dk_at dksX3_barOf_2 6 rfl rfl)
theorem dX3_barOf_55 : decode cX3_barOf 55 = .ok (.iconst 0, 1) := dk_3 (dk_at dksX3_barOf_2 9 rfl rfl)
theorem dX3_barOf_56 : decode cX3_barOf 56 = .ok (.ireturn, 1) := dk_172 (dk_at dksX3_barOf_2 10 rfl rfl)
abbrev cX3_barsBy : ByteArray := prog_12_method_37_code
def yX3_barsBy : MethodName := ⟨RX3, "barsBy", "(II)Z"⟩
def dkwX3_barsBy_6 : List UInt8 := [42, 27, 182, 0, 177, 16, 60, 164, 0, 7, 4, 167, 0, 4, 3, 172, 42, 27, 182, 0, 180, 172]
abbrev dktX3_barsBy_6 : List UInt8 := dkwX3_barsBy_6 ++ []
def dkwX3_barsBy_5 : List UInt8 := [5, 160, 0, 13, 42, 27, 182, 0, 177, 16, 20, 163, 0, 23, 42, 180, 0, 7, 27, 46, 4, 160, 0, 17]
abbrev dktX3_barsBy_5 : List UInt8 := dkwX3_barsBy_5 ++ dktX3_barsBy_6
def dkwX3_barsBy_4 : List UInt8 := [27, 46, 46, 164, 0, 7, 4, 167, 0, 4, 3, 172, 42, 27, 182, 0, 174, 172, 42, 180, 0, 7, 27, 46]
abbrev dktX3_barsBy_4 : List UInt8 := dkwX3_barsBy_4 ++ dktX3_barsBy_5
def dkwX3_barsBy_3 : List UInt8 := [42, 180, 0, 7, 27, 46, 46, 158, 0, 27, 42, 180, 0, 22, 27, 46, 42, 180, 0, 65, 42, 180, 0, 7]
abbrev dktX3_barsBy_3 : List UInt8 := dkwX3_barsBy_3 ++ dktX3_barsBy_4
def dkwX3_barsBy_2 : List UInt8 := [42, 27, 182, 0, 171, 172, 42, 180, 0, 31, 27, 51, 172, 42, 180, 0, 35, 27, 51, 172, 42, 180, 0, 65]
abbrev dktX3_barsBy_2 : List UInt8 := dkwX3_barsBy_2 ++ dktX3_barsBy_3
def dkwX3_barsBy_1 : List UInt8 := [170, 0, 0, 0, 0, 0, 151, 0, 0, 0, 1, 0, 0, 0, 6, 0, 0, 0, 39, 0, 0, 0, 45, 0, 0, 0, 52, 0, 0, 0, 59, 0, 0, 0, 99, 0, 0, 0, 105]
abbrev dktX3_barsBy_1 : List UInt8 := dkwX3_barsBy_1 ++ dktX3_barsBy_2
def dkwX3_barsBy_0 : List UInt8 := [28]
abbrev dktX3_barsBy_0 : List UInt8 := dkwX3_barsBy_0 ++ dktX3_barsBy_1
theorem dksX3_barsBy_0 : cX3_barsBy.data.toList.drop 0 = dktX3_barsBy_0 := by decide +kernel
theorem dksX3_barsBy_1 : cX3_barsBy.data.toList.drop 1 = dktX3_barsBy_1 := dk_seg dksX3_barsBy_0 1 rfl rfl
theorem dksX3_barsBy_2 : cX3_barsBy.data.toList.drop 40 = dktX3_barsBy_2 := dk_seg dksX3_barsBy_1 39 rfl rfl
theorem dksX3_barsBy_3 : cX3_barsBy.data.toList.drop 64 = dktX3_barsBy_3 := dk_seg dksX3_barsBy_2 24 rfl rfl
theorem dksX3_barsBy_4 : cX3_barsBy.data.toList.drop 88 = dktX3_barsBy_4 := dk_seg dksX3_barsBy_3 24 rfl rfl
theorem dksX3_barsBy_5 : cX3_barsBy.data.toList.drop 112 = dktX3_barsBy_5 := dk_seg dksX3_barsBy_4 24 rfl rfl
theorem dksX3_barsBy_6 : cX3_barsBy.data.toList.drop 136 = dktX3_barsBy_6 := dk_seg dksX3_barsBy_5 24 rfl rfl
theorem dX3_barsBy_0 : decode cX3_barsBy 0 = .ok (.iload_n 2, 1) := dk_28 (dk_at dksX3_barsBy_0 0 rfl rfl)
theorem dX3_barsBy_1 : decode cX3_barsBy 1 = .ok (.tableswitch 151 1 6 #[39, 45, 52, 59, 99, 105], 39) := by decide +kernel
theorem dX3_barsBy_40 : decode cX3_barsBy 40 = .ok (.aload_n 0, 1) := dk_42 (dk_at dksX3_barsBy_2 0 rfl rfl)
theorem dX3_barsBy_41 : decode cX3_barsBy 41 = .ok (.iload_n 1, 1) := dk_27 (dk_at dksX3_barsBy_2 1 rfl rfl)
theorem dX3_barsBy_42 : decode cX3_barsBy 42 = .ok (.invokevirtual 171, 3) := dk_182 0 171 (dk_at dksX3_barsBy_2 2 rfl rfl)
theorem dX3_barsBy_45 : decode cX3_barsBy 45 = .ok (.ireturn, 1) := dk_172 (dk_at dksX3_barsBy_2 5 rfl rfl)
theorem dX3_barsBy_46 : decode cX3_barsBy 46 = .ok (.aload_n 0, 1) := dk_42 (dk_at dksX3_barsBy_2 6 rfl rfl)
theorem dX3_barsBy_47 : decode cX3_barsBy 47 = .ok (.getfield 31, 3) := dk_180 0 31 (dk_at dksX3_barsBy_2 7 rfl rfl)
theorem dX3_barsBy_50 : decode cX3_barsBy 50 = .ok (.iload_n 1, 1) := dk_27 (dk_at dksX3_barsBy_2 10 rfl rfl)
theorem dX3_barsBy_51 : decode cX3_barsBy 51 = .ok (.baload, 1) := dk_51 (dk_at dksX3_barsBy_2 11 rfl rfl)
theorem dX3_barsBy_52 : decode cX3_barsBy 52 = .ok (.ireturn, 1) := dk_172 (dk_at dksX3_barsBy_2 12 rfl rfl)
theorem dX3_barsBy_53 : decode cX3_barsBy 53 = .ok (.aload_n 0, 1) := dk_42 (dk_at dksX3_barsBy_2 13 rfl rfl)
theorem dX3_barsBy_54 : decode cX3_barsBy 54 = .ok (.getfield 35, 3) := dk_180 0 35 (dk_at dksX3_barsBy_2 14 rfl rfl)
theorem dX3_barsBy_57 : decode cX3_barsBy 57 = .ok (.iload_n 1, 1) := dk_27 (dk_at dksX3_barsBy_2 17 rfl rfl)
theorem dX3_barsBy_58 : decode cX3_barsBy 58 = .ok (.baload, 1) := dk_51 (dk_at dksX3_barsBy_2 18 rfl rfl)
theorem dX3_barsBy_59 : decode cX3_barsBy 59 = .ok (.ireturn, 1) := dk_172 (dk_at dksX3_barsBy_2 19 rfl rfl)
theorem dX3_barsBy_60 : decode cX3_barsBy 60 = .ok (.aload_n 0, 1) := dk_42 (dk_at dksX3_barsBy_2 20 rfl rfl)
theorem dX3_barsBy_61 : decode cX3_barsBy 61 = .ok (.getfield 65, 3) := dk_180 0 65 (dk_at dksX3_barsBy_2 21 rfl rfl)
theorem dX3_barsBy_64 : decode cX3_barsBy 64 = .ok (.aload_n 0, 1) := dk_42 (dk_at dksX3_barsBy_3 0 rfl rfl)
theorem dX3_barsBy_65 : decode cX3_barsBy 65 = .ok (.getfield 7, 3) := dk_180 0 7 (dk_at dksX3_barsBy_3 1 rfl rfl)
theorem dX3_barsBy_68 : decode cX3_barsBy 68 = .ok (.iload_n 1, 1) := dk_27 (dk_at dksX3_barsBy_3 4 rfl rfl)
theorem dX3_barsBy_69 : decode cX3_barsBy 69 = .ok (.iaload, 1) := dk_46 (dk_at dksX3_barsBy_3 5 rfl rfl)
theorem dX3_barsBy_70 : decode cX3_barsBy 70 = .ok (.iaload, 1) := dk_46 (dk_at dksX3_barsBy_3 6 rfl rfl)
theorem dX3_barsBy_71 : decode cX3_barsBy 71 = .ok (.ifCond .le 27, 3) := dk_158 0 27 (dk_at dksX3_barsBy_3 7 rfl rfl)
theorem dX3_barsBy_74 : decode cX3_barsBy 74 = .ok (.aload_n 0, 1) := dk_42 (dk_at dksX3_barsBy_3 10 rfl rfl)
theorem dX3_barsBy_75 : decode cX3_barsBy 75 = .ok (.getfield 22, 3) := dk_180 0 22 (dk_at dksX3_barsBy_3 11 rfl rfl)
theorem dX3_barsBy_78 : decode cX3_barsBy 78 = .ok (.iload_n 1, 1) := dk_27 (dk_at dksX3_barsBy_3 14 rfl rfl)
theorem dX3_barsBy_79 : decode cX3_barsBy 79 = .ok (.iaload, 1) := dk_46 (dk_at dksX3_barsBy_3 15 rfl rfl)
theorem dX3_barsBy_80 : decode cX3_barsBy 80 = .ok (.aload_n 0, 1) := dk_42 (dk_at dksX3_barsBy_3 16 rfl rfl)
theorem dX3_barsBy_81 : decode cX3_barsBy 81 = .ok (.getfield 65, 3) := dk_180 0 65 (dk_at dksX3_barsBy_3 17 rfl rfl)
theorem dX3_barsBy_84 : decode cX3_barsBy 84 = .ok (.aload_n 0, 1) := dk_42 (dk_at dksX3_barsBy_3 20 rfl rfl)
theorem dX3_barsBy_85 : decode cX3_barsBy 85 = .ok (.getfield 7, 3) := dk_180 0 7 (dk_at dksX3_barsBy_3 21 rfl rfl)
theorem dX3_barsBy_88 : decode cX3_barsBy 88 = .ok (.iload_n 1, 1) := dk_27 (dk_at dksX3_barsBy_4 0 rfl rfl)
theorem dX3_barsBy_89 : decode cX3_barsBy 89 = .ok (.iaload, 1) := dk_46 (dk_at dksX3_barsBy_4 1 rfl rfl)
theorem dX3_barsBy_90 : decode cX3_barsBy 90 = .ok (.iaload, 1) := dk_46 (dk_at dksX3_barsBy_4 2 rfl rfl)
theorem dX3_barsBy_91 : decode cX3_barsBy 91 = .ok (.if_icmp .le 7, 3) := dk_164 0 7 (dk_at dksX3_barsBy_4 3 rfl rfl)
theorem dX3_barsBy_94 : decode cX3_barsBy 94 = .ok (.iconst 1, 1) := dk_4 (dk_at dksX3_barsBy_4 6 rfl rfl)
theorem dX3_barsBy_95 : decode cX3_barsBy 95 = .ok (.goto 4, 3) := dk_167 0 4 (dk_at dksX3_barsBy_4 7 rfl rfl)
theorem dX3_barsBy_98 : decode cX3_barsBy 98 = .ok (.iconst 0, 1) := dk_3 (dk_at dksX3_barsBy_4 10 rfl rfl)
theorem dX3_barsBy_99 : decode cX3_barsBy 99 = .ok (.ireturn, 1) := dk_172 (dk_at dksX3_barsBy_4 11 rfl rfl)
theorem dX3_barsBy_100 : decode cX3_barsBy 100 = .ok (.aload_n 0, 1) := dk_42 (dk_at dksX3_barsBy_4 12 rfl rfl)
theorem dX3_barsBy_101 : decode cX3_barsBy 101 = .ok (.iload_n 1, 1) := dk_27 (dk_at dksX3_barsBy_4 13 rfl rfl)
theorem dX3_barsBy_102 : decode cX3_barsBy 102 = .ok (.invokevirtual 174, 3) := dk_182 0 174 (dk_at dksX3_barsBy_4 14 rfl rfl)
theorem dX3_barsBy_105 : decode cX3_barsBy 105 = .ok (.ireturn, 1) := dk_172 (dk_at dksX3_barsBy_4 17 rfl rfl)
theorem dX3_barsBy_106 : decode cX3_barsBy 106 = .ok (.aload_n 0, 1) := dk_42 (dk_at dksX3_barsBy_4 18 rfl rfl)
theorem dX3_barsBy_107 : decode cX3_barsBy 107 = .ok (.getfield 7, 3) := dk_180 0 7 (dk_at dksX3_barsBy_4 19 rfl rfl)
theorem dX3_barsBy_110 : decode cX3_barsBy 110 = .ok (.iload_n 1, 1) := dk_27 (dk_at dksX3_barsBy_4 22 rfl rfl)
theorem dX3_barsBy_111 : decode cX3_barsBy 111 = .ok (.iaload, 1) := dk_46 (dk_at dksX3_barsBy_4 23 rfl rfl)
theorem dX3_barsBy_112 : decode cX3_barsBy 112 = .ok (.iconst 2, 1) := dk_5 (dk_at dksX3_barsBy_5 0 rfl rfl)
theorem dX3_barsBy_113 : decode cX3_barsBy 113 = .ok (.if_icmp .ne 13, 3) := dk_160 0 13 (dk_at dksX3_barsBy_5 1 rfl rfl)
theorem dX3_barsBy_116 : decode cX3_barsBy 116 = .ok (.aload_n 0, 1) := dk_42 (dk_at dksX3_barsBy_5 4 rfl rfl)
theorem dX3_barsBy_117 : decode cX3_barsBy 117 = .ok (.iload_n 1, 1) := dk_27 (dk_at dksX3_barsBy_5 5 rfl rfl)
theorem dX3_barsBy_118 : decode cX3_barsBy 118 = .ok (.invokevirtual 177, 3) := dk_182 0 177 (dk_at dksX3_barsBy_5 6 rfl rfl)
theorem dX3_barsBy_121 : decode cX3_barsBy 121 = .ok (.bipush 20, 2) := dk_16 20 (dk_at dksX3_barsBy_5 9 rfl rfl)
theorem dX3_barsBy_123 : decode cX3_barsBy 123 = .ok (.if_icmp .gt 23, 3) := dk_163 0 23 (dk_at dksX3_barsBy_5 11 rfl rfl)
theorem dX3_barsBy_126 : decode cX3_barsBy 126 = .ok (.aload_n 0, 1) := dk_42 (dk_at dksX3_barsBy_5 14 rfl rfl)
theorem dX3_barsBy_127 : decode cX3_barsBy 127 = .ok (.getfield 7, 3) := dk_180 0 7 (dk_at dksX3_barsBy_5 15 rfl rfl)
theorem dX3_barsBy_130 : decode cX3_barsBy 130 = .ok (.iload_n 1, 1) := dk_27 (dk_at dksX3_barsBy_5 18 rfl rfl)
theorem dX3_barsBy_131 : decode cX3_barsBy 131 = .ok (.iaload, 1) := dk_46 (dk_at dksX3_barsBy_5 19 rfl rfl)
theorem dX3_barsBy_132 : decode cX3_barsBy 132 = .ok (.iconst 1, 1) := dk_4 (dk_at dksX3_barsBy_5 20 rfl rfl)
theorem dX3_barsBy_133 : decode cX3_barsBy 133 = .ok (.if_icmp .ne 17, 3) := dk_160 0 17 (dk_at dksX3_barsBy_5 21 rfl rfl)
theorem dX3_barsBy_136 : decode cX3_barsBy 136 = .ok (.aload_n 0, 1) := dk_42 (dk_at dksX3_barsBy_6 0 rfl rfl)
theorem dX3_barsBy_137 : decode cX3_barsBy 137 = .ok (.iload_n 1, 1) := dk_27 (dk_at dksX3_barsBy_6 1 rfl rfl)
theorem dX3_barsBy_138 : decode cX3_barsBy 138 = .ok (.invokevirtual 177, 3) := dk_182 0 177 (dk_at dksX3_barsBy_6 2 rfl rfl)
theorem dX3_barsBy_141 : decode cX3_barsBy 141 = .ok (.bipush 60, 2) := dk_16 60 (dk_at dksX3_barsBy_6 5 rfl rfl)
theorem dX3_barsBy_143 : decode cX3_barsBy 143 = .ok (.if_icmp .le 7, 3) := dk_164 0 7 (dk_at dksX3_barsBy_6 7 rfl rfl)
theorem dX3_barsBy_146 : decode cX3_barsBy 146 = .ok (.iconst 1, 1) := dk_4 (dk_at dksX3_barsBy_6 10 rfl rfl)
theorem dX3_barsBy_147 : decode cX3_barsBy 147 = .ok (.goto 4, 3) := dk_167 0 4 (dk_at dksX3_barsBy_6 11 rfl rfl)
theorem dX3_barsBy_150 : decode cX3_barsBy 150 = .ok (.iconst 0, 1) := dk_3 (dk_at dksX3_barsBy_6 14 rfl rfl)
theorem dX3_barsBy_151 : decode cX3_barsBy 151 = .ok (.ireturn, 1) := dk_172 (dk_at dksX3_barsBy_6 15 rfl rfl)
theorem dX3_barsBy_152 : decode cX3_barsBy 152 = .ok (.aload_n 0, 1) := dk_42 (dk_at dksX3_barsBy_6 16 rfl rfl)
theorem dX3_barsBy_153 : decode cX3_barsBy 153 = .ok (.iload_n 1, 1) := dk_27 (dk_at dksX3_barsBy_6 17 rfl rfl)
theorem dX3_barsBy_154 : decode cX3_barsBy 154 = .ok (.invokevirtual 180, 3) := dk_182 0 180 (dk_at dksX3_barsBy_6 18 rfl rfl)
theorem dX3_barsBy_157 : decode cX3_barsBy 157 = .ok (.ireturn, 1) := dk_172 (dk_at dksX3_barsBy_6 21 rfl rfl)
abbrev cX3_hasEmpty : ByteArray := prog_12_method_33_code
def yX3_hasEmpty : MethodName := ⟨RX3, "hasEmpty", "(I)Z"⟩
def dkwX3_hasEmpty_2 : List UInt8 := [167, 0, 4, 3, 172]
abbrev dktX3_hasEmpty_2 : List UInt8 := dkwX3_hasEmpty_2 ++ []
def dkwX3_hasEmpty_1 : List UInt8 := [3, 172, 42, 180, 0, 7, 27, 46, 5, 162, 0, 17, 42, 27, 2, 182, 0, 128, 5, 162, 0, 7, 4]
abbrev dktX3_hasEmpty_1 : List UInt8 := dkwX3_hasEmpty_1 ++ dktX3_hasEmpty_2
def dkwX3_hasEmpty_0 : List UInt8 := [42, 180, 0, 7, 27, 46, 5, 160, 0, 19, 42, 27, 2, 182, 0, 128, 6, 162, 0, 7, 4, 167, 0, 4]
abbrev dktX3_hasEmpty_0 : List UInt8 := dkwX3_hasEmpty_0 ++ dktX3_hasEmpty_1
theorem dksX3_hasEmpty_0 : cX3_hasEmpty.data.toList.drop 0 = dktX3_hasEmpty_0 := by decide +kernel
theorem dksX3_hasEmpty_1 : cX3_hasEmpty.data.toList.drop 24 = dktX3_hasEmpty_1 := dk_seg dksX3_hasEmpty_0 24 rfl rfl
theorem dksX3_hasEmpty_2 : cX3_hasEmpty.data.toList.drop 47 = dktX3_hasEmpty_2 := dk_seg dksX3_hasEmpty_1 23 rfl rfl
theorem dX3_hasEmpty_0 : decode cX3_hasEmpty 0 = .ok (.aload_n 0, 1) := dk_42 (dk_at dksX3_hasEmpty_0 0 rfl rfl)
theorem dX3_hasEmpty_1 : decode cX3_hasEmpty 1 = .ok (.getfield 7, 3) := dk_180 0 7 (dk_at dksX3_hasEmpty_0 1 rfl rfl)
theorem dX3_hasEmpty_4 : decode cX3_hasEmpty 4 = .ok (.iload_n 1, 1) := dk_27 (dk_at dksX3_hasEmpty_0 4 rfl rfl)
theorem dX3_hasEmpty_5 : decode cX3_hasEmpty 5 = .ok (.iaload, 1) := dk_46 (dk_at dksX3_hasEmpty_0 5 rfl rfl)
theorem dX3_hasEmpty_6 : decode cX3_hasEmpty 6 = .ok (.iconst 2, 1) := dk_5 (dk_at dksX3_hasEmpty_0 6 rfl rfl)
theorem dX3_hasEmpty_7 : decode cX3_hasEmpty 7 = .ok (.if_icmp .ne 19, 3) := dk_160 0 19 (dk_at dksX3_hasEmpty_0 7 rfl rfl)
theorem dX3_hasEmpty_10 : decode cX3_hasEmpty 10 = .ok (.aload_n 0, 1) := dk_42 (dk_at dksX3_hasEmpty_0 10 rfl rfl)
theorem dX3_hasEmpty_11 : decode cX3_hasEmpty 11 = .ok (.iload_n 1, 1) := dk_27 (dk_at dksX3_hasEmpty_0 11 rfl rfl)
theorem dX3_hasEmpty_12 : decode cX3_hasEmpty 12 = .ok (.iconst (-1), 1) := dk_2 (dk_at dksX3_hasEmpty_0 12 rfl rfl)
theorem dX3_hasEmpty_13 : decode cX3_hasEmpty 13 = .ok (.invokevirtual 128, 3) := dk_182 0 128 (dk_at dksX3_hasEmpty_0 13 rfl rfl)
theorem dX3_hasEmpty_16 : decode cX3_hasEmpty 16 = .ok (.iconst 3, 1) := dk_6 (dk_at dksX3_hasEmpty_0 16 rfl rfl)
theorem dX3_hasEmpty_17 : decode cX3_hasEmpty 17 = .ok (.if_icmp .ge 7, 3) := dk_162 0 7 (dk_at dksX3_hasEmpty_0 17 rfl rfl)
theorem dX3_hasEmpty_20 : decode cX3_hasEmpty 20 = .ok (.iconst 1, 1) := dk_4 (dk_at dksX3_hasEmpty_0 20 rfl rfl)
theorem dX3_hasEmpty_21 : decode cX3_hasEmpty 21 = .ok (.goto 4, 3) := dk_167 0 4 (dk_at dksX3_hasEmpty_0 21 rfl rfl)
theorem dX3_hasEmpty_24 : decode cX3_hasEmpty 24 = .ok (.iconst 0, 1) := dk_3 (dk_at dksX3_hasEmpty_1 0 rfl rfl)
theorem dX3_hasEmpty_25 : decode cX3_hasEmpty 25 = .ok (.ireturn, 1) := dk_172 (dk_at dksX3_hasEmpty_1 1 rfl rfl)
theorem dX3_hasEmpty_26 : decode cX3_hasEmpty 26 = .ok (.aload_n 0, 1) := dk_42 (dk_at dksX3_hasEmpty_1 2 rfl rfl)
theorem dX3_hasEmpty_27 : decode cX3_hasEmpty 27 = .ok (.getfield 7, 3) := dk_180 0 7 (dk_at dksX3_hasEmpty_1 3 rfl rfl)
theorem dX3_hasEmpty_30 : decode cX3_hasEmpty 30 = .ok (.iload_n 1, 1) := dk_27 (dk_at dksX3_hasEmpty_1 6 rfl rfl)
theorem dX3_hasEmpty_31 : decode cX3_hasEmpty 31 = .ok (.iaload, 1) := dk_46 (dk_at dksX3_hasEmpty_1 7 rfl rfl)
theorem dX3_hasEmpty_32 : decode cX3_hasEmpty 32 = .ok (.iconst 2, 1) := dk_5 (dk_at dksX3_hasEmpty_1 8 rfl rfl)
theorem dX3_hasEmpty_33 : decode cX3_hasEmpty 33 = .ok (.if_icmp .ge 17, 3) := dk_162 0 17 (dk_at dksX3_hasEmpty_1 9 rfl rfl)
theorem dX3_hasEmpty_36 : decode cX3_hasEmpty 36 = .ok (.aload_n 0, 1) := dk_42 (dk_at dksX3_hasEmpty_1 12 rfl rfl)
theorem dX3_hasEmpty_37 : decode cX3_hasEmpty 37 = .ok (.iload_n 1, 1) := dk_27 (dk_at dksX3_hasEmpty_1 13 rfl rfl)
theorem dX3_hasEmpty_38 : decode cX3_hasEmpty 38 = .ok (.iconst (-1), 1) := dk_2 (dk_at dksX3_hasEmpty_1 14 rfl rfl)
theorem dX3_hasEmpty_39 : decode cX3_hasEmpty 39 = .ok (.invokevirtual 128, 3) := dk_182 0 128 (dk_at dksX3_hasEmpty_1 15 rfl rfl)
theorem dX3_hasEmpty_42 : decode cX3_hasEmpty 42 = .ok (.iconst 2, 1) := dk_5 (dk_at dksX3_hasEmpty_1 18 rfl rfl)
theorem dX3_hasEmpty_43 : decode cX3_hasEmpty 43 = .ok (.if_icmp .ge 7, 3) := dk_162 0 7 (dk_at dksX3_hasEmpty_1 19 rfl rfl)
theorem dX3_hasEmpty_46 : decode cX3_hasEmpty 46 = .ok (.iconst 1, 1) := dk_4 (dk_at dksX3_hasEmpty_1 22 rfl rfl)
theorem dX3_hasEmpty_47 : decode cX3_hasEmpty 47 = .ok (.goto 4, 3) := dk_167 0 4 (dk_at dksX3_hasEmpty_2 0 rfl rfl)
theorem dX3_hasEmpty_50 : decode cX3_hasEmpty 50 = .ok (.iconst 0, 1) := dk_3 (dk_at dksX3_hasEmpty_2 3 rfl rfl)
theorem dX3_hasEmpty_51 : decode cX3_hasEmpty 51 = .ok (.ireturn, 1) := dk_172 (dk_at dksX3_hasEmpty_2 4 rfl rfl)
abbrev cX3_isWorn : ByteArray := prog_12_method_34_code
def yX3_isWorn : MethodName := ⟨RX3, "isWorn", "(I)Z"⟩
def dkwX3_isWorn_1 : List UInt8 := [180, 0, 47, 27, 46, 17, 0, 250, 162, 0, 7, 4, 167, 0, 4, 3, 172]
abbrev dktX3_isWorn_1 : List UInt8 := dkwX3_isWorn_1 ++ []
def dkwX3_isWorn_0 : List UInt8 := [42, 180, 0, 7, 27, 46, 6, 160, 0, 31, 42, 180, 0, 44, 27, 46, 17, 33, 52, 161, 0, 15, 42]
abbrev dktX3_isWorn_0 : List UInt8 := dkwX3_isWorn_0 ++ dktX3_isWorn_1
theorem dksX3_isWorn_0 : cX3_isWorn.data.toList.drop 0 = dktX3_isWorn_0 := by decide +kernel
theorem dksX3_isWorn_1 : cX3_isWorn.data.toList.drop 23 = dktX3_isWorn_1 := dk_seg dksX3_isWorn_0 23 rfl rfl
theorem dX3_isWorn_0 : decode cX3_isWorn 0 = .ok (.aload_n 0, 1) := dk_42 (dk_at dksX3_isWorn_0 0 rfl rfl)
theorem dX3_isWorn_1 : decode cX3_isWorn 1 = .ok (.getfield 7, 3) := dk_180 0 7 (dk_at dksX3_isWorn_0 1 rfl rfl)
theorem dX3_isWorn_4 : decode cX3_isWorn 4 = .ok (.iload_n 1, 1) := dk_27 (dk_at dksX3_isWorn_0 4 rfl rfl)
theorem dX3_isWorn_5 : decode cX3_isWorn 5 = .ok (.iaload, 1) := dk_46 (dk_at dksX3_isWorn_0 5 rfl rfl)
theorem dX3_isWorn_6 : decode cX3_isWorn 6 = .ok (.iconst 3, 1) := dk_6 (dk_at dksX3_isWorn_0 6 rfl rfl)
theorem dX3_isWorn_7 : decode cX3_isWorn 7 = .ok (.if_icmp .ne 31, 3) := dk_160 0 31 (dk_at dksX3_isWorn_0 7 rfl rfl)
theorem dX3_isWorn_10 : decode cX3_isWorn 10 = .ok (.aload_n 0, 1) := dk_42 (dk_at dksX3_isWorn_0 10 rfl rfl)
theorem dX3_isWorn_11 : decode cX3_isWorn 11 = .ok (.getfield 44, 3) := dk_180 0 44 (dk_at dksX3_isWorn_0 11 rfl rfl)
theorem dX3_isWorn_14 : decode cX3_isWorn 14 = .ok (.iload_n 1, 1) := dk_27 (dk_at dksX3_isWorn_0 14 rfl rfl)
theorem dX3_isWorn_15 : decode cX3_isWorn 15 = .ok (.iaload, 1) := dk_46 (dk_at dksX3_isWorn_0 15 rfl rfl)
theorem dX3_isWorn_16 : decode cX3_isWorn 16 = .ok (.sipush 8500, 3) := dk_17 33 52 (dk_at dksX3_isWorn_0 16 rfl rfl)
theorem dX3_isWorn_19 : decode cX3_isWorn 19 = .ok (.if_icmp .lt 15, 3) := dk_161 0 15 (dk_at dksX3_isWorn_0 19 rfl rfl)
theorem dX3_isWorn_22 : decode cX3_isWorn 22 = .ok (.aload_n 0, 1) := dk_42 (dk_at dksX3_isWorn_0 22 rfl rfl)
theorem dX3_isWorn_23 : decode cX3_isWorn 23 = .ok (.getfield 47, 3) := dk_180 0 47 (dk_at dksX3_isWorn_1 0 rfl rfl)
theorem dX3_isWorn_26 : decode cX3_isWorn 26 = .ok (.iload_n 1, 1) := dk_27 (dk_at dksX3_isWorn_1 3 rfl rfl)
theorem dX3_isWorn_27 : decode cX3_isWorn 27 = .ok (.iaload, 1) := dk_46 (dk_at dksX3_isWorn_1 4 rfl rfl)
theorem dX3_isWorn_28 : decode cX3_isWorn 28 = .ok (.sipush 250, 3) := dk_17 0 250 (dk_at dksX3_isWorn_1 5 rfl rfl)
theorem dX3_isWorn_31 : decode cX3_isWorn 31 = .ok (.if_icmp .ge 7, 3) := dk_162 0 7 (dk_at dksX3_isWorn_1 8 rfl rfl)
theorem dX3_isWorn_34 : decode cX3_isWorn 34 = .ok (.iconst 1, 1) := dk_4 (dk_at dksX3_isWorn_1 11 rfl rfl)
theorem dX3_isWorn_35 : decode cX3_isWorn 35 = .ok (.goto 4, 3) := dk_167 0 4 (dk_at dksX3_isWorn_1 12 rfl rfl)
theorem dX3_isWorn_38 : decode cX3_isWorn 38 = .ok (.iconst 0, 1) := dk_3 (dk_at dksX3_isWorn_1 15 rfl rfl)
theorem dX3_isWorn_39 : decode cX3_isWorn 39 = .ok (.ireturn, 1) := dk_172 (dk_at dksX3_isWorn_1 16 rfl rfl)
abbrev cX3_apartIn : ByteArray := prog_12_method_35_code
def yX3_apartIn : MethodName := ⟨RX3, "apartIn", "(I)I"⟩
def dkwX3_apartIn_5 : List UInt8 := [180, 0, 44, 21, 4, 46, 167, 0, 4, 29, 62, 132, 4, 1, 167, 255, 133, 29, 28, 100, 172]
abbrev dktX3_apartIn_5 : List UInt8 := dkwX3_apartIn_5 ++ []
def dkwX3_apartIn_4 : List UInt8 := [46, 167, 0, 4, 28, 61, 21, 5, 153, 0, 24, 42, 180, 0, 44, 21, 4, 46, 29, 164, 0, 13, 42]
abbrev dktX3_apartIn_4 : List UInt8 := dkwX3_apartIn_4 ++ dktX3_apartIn_5
def dkwX3_apartIn_3 : List UInt8 := [54, 5, 21, 5, 153, 0, 24, 42, 180, 0, 44, 21, 4, 46, 28, 162, 0, 13, 42, 180, 0, 44, 21, 4]
abbrev dktX3_apartIn_3 : List UInt8 := dkwX3_apartIn_3 ++ dktX3_apartIn_4
def dkwX3_apartIn_2 : List UInt8 := [159, 0, 19, 42, 180, 0, 19, 42, 180, 0, 19, 21, 4, 46, 46, 27, 160, 0, 7, 4, 167, 0, 4, 3]
abbrev dktX3_apartIn_2 : List UInt8 := dkwX3_apartIn_2 ++ dktX3_apartIn_3
def dkwX3_apartIn_1 : List UInt8 := [46, 6, 160, 0, 44, 42, 180, 0, 19, 21, 4, 46, 155, 0, 34, 42, 180, 0, 19, 21, 4, 46, 27]
abbrev dktX3_apartIn_1 : List UInt8 := dkwX3_apartIn_1 ++ dktX3_apartIn_2
def dkwX3_apartIn_0 : List UInt8 := [18, 169, 61, 18, 170, 62, 3, 54, 4, 21, 4, 42, 180, 0, 102, 162, 0, 120, 42, 180, 0, 7, 21, 4]
abbrev dktX3_apartIn_0 : List UInt8 := dkwX3_apartIn_0 ++ dktX3_apartIn_1
theorem dksX3_apartIn_0 : cX3_apartIn.data.toList.drop 0 = dktX3_apartIn_0 := by decide +kernel
theorem dksX3_apartIn_1 : cX3_apartIn.data.toList.drop 24 = dktX3_apartIn_1 := dk_seg dksX3_apartIn_0 24 rfl rfl
theorem dksX3_apartIn_2 : cX3_apartIn.data.toList.drop 47 = dktX3_apartIn_2 := dk_seg dksX3_apartIn_1 23 rfl rfl
theorem dksX3_apartIn_3 : cX3_apartIn.data.toList.drop 71 = dktX3_apartIn_3 := dk_seg dksX3_apartIn_2 24 rfl rfl
theorem dksX3_apartIn_4 : cX3_apartIn.data.toList.drop 95 = dktX3_apartIn_4 := dk_seg dksX3_apartIn_3 24 rfl rfl
theorem dksX3_apartIn_5 : cX3_apartIn.data.toList.drop 118 = dktX3_apartIn_5 := dk_seg dksX3_apartIn_4 23 rfl rfl
theorem dX3_apartIn_0 : decode cX3_apartIn 0 = .ok (.ldc 169, 2) := dk_18 169 (dk_at dksX3_apartIn_0 0 rfl rfl)
theorem dX3_apartIn_2 : decode cX3_apartIn 2 = .ok (.istore_n 2, 1) := dk_61 (dk_at dksX3_apartIn_0 2 rfl rfl)
theorem dX3_apartIn_3 : decode cX3_apartIn 3 = .ok (.ldc 170, 2) := dk_18 170 (dk_at dksX3_apartIn_0 3 rfl rfl)
theorem dX3_apartIn_5 : decode cX3_apartIn 5 = .ok (.istore_n 3, 1) := dk_62 (dk_at dksX3_apartIn_0 5 rfl rfl)
theorem dX3_apartIn_6 : decode cX3_apartIn 6 = .ok (.iconst 0, 1) := dk_3 (dk_at dksX3_apartIn_0 6 rfl rfl)
theorem dX3_apartIn_7 : decode cX3_apartIn 7 = .ok (.istore 4, 2) := dk_54 4 (dk_at dksX3_apartIn_0 7 rfl rfl)
theorem dX3_apartIn_9 : decode cX3_apartIn 9 = .ok (.iload 4, 2) := dk_21 4 (dk_at dksX3_apartIn_0 9 rfl rfl)
theorem dX3_apartIn_11 : decode cX3_apartIn 11 = .ok (.aload_n 0, 1) := dk_42 (dk_at dksX3_apartIn_0 11 rfl rfl)
theorem dX3_apartIn_12 : decode cX3_apartIn 12 = .ok (.getfield 102, 3) := dk_180 0 102 (dk_at dksX3_apartIn_0 12 rfl rfl)
theorem dX3_apartIn_15 : decode cX3_apartIn 15 = .ok (.if_icmp .ge 120, 3) := dk_162 0 120 (dk_at dksX3_apartIn_0 15 rfl rfl)
theorem dX3_apartIn_18 : decode cX3_apartIn 18 = .ok (.aload_n 0, 1) := dk_42 (dk_at dksX3_apartIn_0 18 rfl rfl)
theorem dX3_apartIn_19 : decode cX3_apartIn 19 = .ok (.getfield 7, 3) := dk_180 0 7 (dk_at dksX3_apartIn_0 19 rfl rfl)
theorem dX3_apartIn_22 : decode cX3_apartIn 22 = .ok (.iload 4, 2) := dk_21 4 (dk_at dksX3_apartIn_0 22 rfl rfl)
theorem dX3_apartIn_24 : decode cX3_apartIn 24 = .ok (.iaload, 1) := dk_46 (dk_at dksX3_apartIn_1 0 rfl rfl)
theorem dX3_apartIn_25 : decode cX3_apartIn 25 = .ok (.iconst 3, 1) := dk_6 (dk_at dksX3_apartIn_1 1 rfl rfl)
theorem dX3_apartIn_26 : decode cX3_apartIn 26 = .ok (.if_icmp .ne 44, 3) := dk_160 0 44 (dk_at dksX3_apartIn_1 2 rfl rfl)
theorem dX3_apartIn_29 : decode cX3_apartIn 29 = .ok (.aload_n 0, 1) := dk_42 (dk_at dksX3_apartIn_1 5 rfl rfl)
theorem dX3_apartIn_30 : decode cX3_apartIn 30 = .ok (.getfield 19, 3) := dk_180 0 19 (dk_at dksX3_apartIn_1 6 rfl rfl)
theorem dX3_apartIn_33 : decode cX3_apartIn 33 = .ok (.iload 4, 2) := dk_21 4 (dk_at dksX3_apartIn_1 9 rfl rfl)
theorem dX3_apartIn_35 : decode cX3_apartIn 35 = .ok (.iaload, 1) := dk_46 (dk_at dksX3_apartIn_1 11 rfl rfl)
theorem dX3_apartIn_36 : decode cX3_apartIn 36 = .ok (.ifCond .lt 34, 3) := dk_155 0 34 (dk_at dksX3_apartIn_1 12 rfl rfl)
theorem dX3_apartIn_39 : decode cX3_apartIn 39 = .ok (.aload_n 0, 1) := dk_42 (dk_at dksX3_apartIn_1 15 rfl rfl)
theorem dX3_apartIn_40 : decode cX3_apartIn 40 = .ok (.getfield 19, 3) := dk_180 0 19 (dk_at dksX3_apartIn_1 16 rfl rfl)
theorem dX3_apartIn_43 : decode cX3_apartIn 43 = .ok (.iload 4, 2) := dk_21 4 (dk_at dksX3_apartIn_1 19 rfl rfl)
theorem dX3_apartIn_45 : decode cX3_apartIn 45 = .ok (.iaload, 1) := dk_46 (dk_at dksX3_apartIn_1 21 rfl rfl)
theorem dX3_apartIn_46 : decode cX3_apartIn 46 = .ok (.iload_n 1, 1) := dk_27 (dk_at dksX3_apartIn_1 22 rfl rfl)
theorem dX3_apartIn_47 : decode cX3_apartIn 47 = .ok (.if_icmp .eq 19, 3) := dk_159 0 19 (dk_at dksX3_apartIn_2 0 rfl rfl)
theorem dX3_apartIn_50 : decode cX3_apartIn 50 = .ok (.aload_n 0, 1) := dk_42 (dk_at dksX3_apartIn_2 3 rfl rfl)
theorem dX3_apartIn_51 : decode cX3_apartIn 51 = .ok (.getfield 19, 3) := dk_180 0 19 (dk_at dksX3_apartIn_2 4 rfl rfl)
theorem dX3_apartIn_54 : decode cX3_apartIn 54 = .ok (.aload_n 0, 1) := dk_42 (dk_at dksX3_apartIn_2 7 rfl rfl)
theorem dX3_apartIn_55 : decode cX3_apartIn 55 = .ok (.getfield 19, 3) := dk_180 0 19 (dk_at dksX3_apartIn_2 8 rfl rfl)
theorem dX3_apartIn_58 : decode cX3_apartIn 58 = .ok (.iload 4, 2) := dk_21 4 (dk_at dksX3_apartIn_2 11 rfl rfl)
theorem dX3_apartIn_60 : decode cX3_apartIn 60 = .ok (.iaload, 1) := dk_46 (dk_at dksX3_apartIn_2 13 rfl rfl)
theorem dX3_apartIn_61 : decode cX3_apartIn 61 = .ok (.iaload, 1) := dk_46 (dk_at dksX3_apartIn_2 14 rfl rfl)
theorem dX3_apartIn_62 : decode cX3_apartIn 62 = .ok (.iload_n 1, 1) := dk_27 (dk_at dksX3_apartIn_2 15 rfl rfl)
theorem dX3_apartIn_63 : decode cX3_apartIn 63 = .ok (.if_icmp .ne 7, 3) := dk_160 0 7 (dk_at dksX3_apartIn_2 16 rfl rfl)
theorem dX3_apartIn_66 : decode cX3_apartIn 66 = .ok (.iconst 1, 1) := dk_4 (dk_at dksX3_apartIn_2 19 rfl rfl)
theorem dX3_apartIn_67 : decode cX3_apartIn 67 = .ok (.goto 4, 3) := dk_167 0 4 (dk_at dksX3_apartIn_2 20 rfl rfl)
theorem dX3_apartIn_70 : decode cX3_apartIn 70 = .ok (.iconst 0, 1) := dk_3 (dk_at dksX3_apartIn_2 23 rfl rfl)
theorem dX3_apartIn_71 : decode cX3_apartIn 71 = .ok (.istore 5, 2) := dk_54 5 (dk_at dksX3_apartIn_3 0 rfl rfl)
theorem dX3_apartIn_73 : decode cX3_apartIn 73 = .ok (.iload 5, 2) := dk_21 5 (dk_at dksX3_apartIn_3 2 rfl rfl)
theorem dX3_apartIn_75 : decode cX3_apartIn 75 = .ok (.ifCond .eq 24, 3) := dk_153 0 24 (dk_at dksX3_apartIn_3 4 rfl rfl)
theorem dX3_apartIn_78 : decode cX3_apartIn 78 = .ok (.aload_n 0, 1) := dk_42 (dk_at dksX3_apartIn_3 7 rfl rfl)
theorem dX3_apartIn_79 : decode cX3_apartIn 79 = .ok (.getfield 44, 3) := dk_180 0 44 (dk_at dksX3_apartIn_3 8 rfl rfl)
theorem dX3_apartIn_82 : decode cX3_apartIn 82 = .ok (.iload 4, 2) := dk_21 4 (dk_at dksX3_apartIn_3 11 rfl rfl)
theorem dX3_apartIn_84 : decode cX3_apartIn 84 = .ok (.iaload, 1) := dk_46 (dk_at dksX3_apartIn_3 13 rfl rfl)
theorem dX3_apartIn_85 : decode cX3_apartIn 85 = .ok (.iload_n 2, 1) := dk_28 (dk_at dksX3_apartIn_3 14 rfl rfl)
theorem dX3_apartIn_86 : decode cX3_apartIn 86 = .ok (.if_icmp .ge 13, 3) := dk_162 0 13 (dk_at dksX3_apartIn_3 15 rfl rfl)
theorem dX3_apartIn_89 : decode cX3_apartIn 89 = .ok (.aload_n 0, 1) := dk_42 (dk_at dksX3_apartIn_3 18 rfl rfl)
theorem dX3_apartIn_90 : decode cX3_apartIn 90 = .ok (.getfield 44, 3) := dk_180 0 44 (dk_at dksX3_apartIn_3 19 rfl rfl)
theorem dX3_apartIn_93 : decode cX3_apartIn 93 = .ok (.iload 4, 2) := dk_21 4 (dk_at dksX3_apartIn_3 22 rfl rfl)
theorem dX3_apartIn_95 : decode cX3_apartIn 95 = .ok (.iaload, 1) := dk_46 (dk_at dksX3_apartIn_4 0 rfl rfl)
theorem dX3_apartIn_96 : decode cX3_apartIn 96 = .ok (.goto 4, 3) := dk_167 0 4 (dk_at dksX3_apartIn_4 1 rfl rfl)
theorem dX3_apartIn_99 : decode cX3_apartIn 99 = .ok (.iload_n 2, 1) := dk_28 (dk_at dksX3_apartIn_4 4 rfl rfl)
theorem dX3_apartIn_100 : decode cX3_apartIn 100 = .ok (.istore_n 2, 1) := dk_61 (dk_at dksX3_apartIn_4 5 rfl rfl)
theorem dX3_apartIn_101 : decode cX3_apartIn 101 = .ok (.iload 5, 2) := dk_21 5 (dk_at dksX3_apartIn_4 6 rfl rfl)
theorem dX3_apartIn_103 : decode cX3_apartIn 103 = .ok (.ifCond .eq 24, 3) := dk_153 0 24 (dk_at dksX3_apartIn_4 8 rfl rfl)
theorem dX3_apartIn_106 : decode cX3_apartIn 106 = .ok (.aload_n 0, 1) := dk_42 (dk_at dksX3_apartIn_4 11 rfl rfl)
theorem dX3_apartIn_107 : decode cX3_apartIn 107 = .ok (.getfield 44, 3) := dk_180 0 44 (dk_at dksX3_apartIn_4 12 rfl rfl)
theorem dX3_apartIn_110 : decode cX3_apartIn 110 = .ok (.iload 4, 2) := dk_21 4 (dk_at dksX3_apartIn_4 15 rfl rfl)
theorem dX3_apartIn_112 : decode cX3_apartIn 112 = .ok (.iaload, 1) := dk_46 (dk_at dksX3_apartIn_4 17 rfl rfl)
theorem dX3_apartIn_113 : decode cX3_apartIn 113 = .ok (.iload_n 3, 1) := dk_29 (dk_at dksX3_apartIn_4 18 rfl rfl)
theorem dX3_apartIn_114 : decode cX3_apartIn 114 = .ok (.if_icmp .le 13, 3) := dk_164 0 13 (dk_at dksX3_apartIn_4 19 rfl rfl)
theorem dX3_apartIn_117 : decode cX3_apartIn 117 = .ok (.aload_n 0, 1) := dk_42 (dk_at dksX3_apartIn_4 22 rfl rfl)
theorem dX3_apartIn_118 : decode cX3_apartIn 118 = .ok (.getfield 44, 3) := dk_180 0 44 (dk_at dksX3_apartIn_5 0 rfl rfl)
theorem dX3_apartIn_121 : decode cX3_apartIn 121 = .ok (.iload 4, 2) := dk_21 4 (dk_at dksX3_apartIn_5 3 rfl rfl)
theorem dX3_apartIn_123 : decode cX3_apartIn 123 = .ok (.iaload, 1) := dk_46 (dk_at dksX3_apartIn_5 5 rfl rfl)
theorem dX3_apartIn_124 : decode cX3_apartIn 124 = .ok (.goto 4, 3) := dk_167 0 4 (dk_at dksX3_apartIn_5 6 rfl rfl)
theorem dX3_apartIn_127 : decode cX3_apartIn 127 = .ok (.iload_n 3, 1) := dk_29 (dk_at dksX3_apartIn_5 9 rfl rfl)
theorem dX3_apartIn_128 : decode cX3_apartIn 128 = .ok (.istore_n 3, 1) := dk_62 (dk_at dksX3_apartIn_5 10 rfl rfl)
theorem dX3_apartIn_129 : decode cX3_apartIn 129 = .ok (.iinc 4 1, 3) := dk_132 4 1 (dk_at dksX3_apartIn_5 11 rfl rfl)
theorem dX3_apartIn_132 : decode cX3_apartIn 132 = .ok (.goto (-123), 3) := dk_167 255 133 (dk_at dksX3_apartIn_5 14 rfl rfl)
theorem dX3_apartIn_135 : decode cX3_apartIn 135 = .ok (.iload_n 3, 1) := dk_29 (dk_at dksX3_apartIn_5 17 rfl rfl)
theorem dX3_apartIn_136 : decode cX3_apartIn 136 = .ok (.iload_n 2, 1) := dk_28 (dk_at dksX3_apartIn_5 18 rfl rfl)
theorem dX3_apartIn_137 : decode cX3_apartIn 137 = .ok (.isub, 1) := dk_100 (dk_at dksX3_apartIn_5 19 rfl rfl)
theorem dX3_apartIn_138 : decode cX3_apartIn 138 = .ok (.ireturn, 1) := dk_172 (dk_at dksX3_apartIn_5 20 rfl rfl)
abbrev cX3_isDue : ByteArray := prog_12_method_36_code
def yX3_isDue : MethodName := ⟨RX3, "isDue", "(I)Z"⟩
def dkwX3_isDue_1 : List UInt8 := [180, 0, 28, 27, 46, 96, 164, 0, 7, 4, 167, 0, 4, 3, 172]
abbrev dktX3_isDue_1 : List UInt8 := dkwX3_isDue_1 ++ []
def dkwX3_isDue_0 : List UInt8 := [42, 180, 0, 68, 42, 180, 0, 7, 27, 46, 46, 61, 28, 158, 0, 24, 42, 180, 0, 25, 27, 46, 28, 42]
abbrev dktX3_isDue_0 : List UInt8 := dkwX3_isDue_0 ++ dktX3_isDue_1
theorem dksX3_isDue_0 : cX3_isDue.data.toList.drop 0 = dktX3_isDue_0 := by decide +kernel
theorem dksX3_isDue_1 : cX3_isDue.data.toList.drop 24 = dktX3_isDue_1 := dk_seg dksX3_isDue_0 24 rfl rfl
theorem dX3_isDue_0 : decode cX3_isDue 0 = .ok (.aload_n 0, 1) := dk_42 (dk_at dksX3_isDue_0 0 rfl rfl)
theorem dX3_isDue_1 : decode cX3_isDue 1 = .ok (.getfield 68, 3) := dk_180 0 68 (dk_at dksX3_isDue_0 1 rfl rfl)
theorem dX3_isDue_4 : decode cX3_isDue 4 = .ok (.aload_n 0, 1) := dk_42 (dk_at dksX3_isDue_0 4 rfl rfl)
theorem dX3_isDue_5 : decode cX3_isDue 5 = .ok (.getfield 7, 3) := dk_180 0 7 (dk_at dksX3_isDue_0 5 rfl rfl)
theorem dX3_isDue_8 : decode cX3_isDue 8 = .ok (.iload_n 1, 1) := dk_27 (dk_at dksX3_isDue_0 8 rfl rfl)
theorem dX3_isDue_9 : decode cX3_isDue 9 = .ok (.iaload, 1) := dk_46 (dk_at dksX3_isDue_0 9 rfl rfl)
theorem dX3_isDue_10 : decode cX3_isDue 10 = .ok (.iaload, 1) := dk_46 (dk_at dksX3_isDue_0 10 rfl rfl)
theorem dX3_isDue_11 : decode cX3_isDue 11 = .ok (.istore_n 2, 1) := dk_61 (dk_at dksX3_isDue_0 11 rfl rfl)
theorem dX3_isDue_12 : decode cX3_isDue 12 = .ok (.iload_n 2, 1) := dk_28 (dk_at dksX3_isDue_0 12 rfl rfl)
theorem dX3_isDue_13 : decode cX3_isDue 13 = .ok (.ifCond .le 24, 3) := dk_158 0 24 (dk_at dksX3_isDue_0 13 rfl rfl)
theorem dX3_isDue_16 : decode cX3_isDue 16 = .ok (.aload_n 0, 1) := dk_42 (dk_at dksX3_isDue_0 16 rfl rfl)
theorem dX3_isDue_17 : decode cX3_isDue 17 = .ok (.getfield 25, 3) := dk_180 0 25 (dk_at dksX3_isDue_0 17 rfl rfl)
theorem dX3_isDue_20 : decode cX3_isDue 20 = .ok (.iload_n 1, 1) := dk_27 (dk_at dksX3_isDue_0 20 rfl rfl)
theorem dX3_isDue_21 : decode cX3_isDue 21 = .ok (.iaload, 1) := dk_46 (dk_at dksX3_isDue_0 21 rfl rfl)
theorem dX3_isDue_22 : decode cX3_isDue 22 = .ok (.iload_n 2, 1) := dk_28 (dk_at dksX3_isDue_0 22 rfl rfl)
theorem dX3_isDue_23 : decode cX3_isDue 23 = .ok (.aload_n 0, 1) := dk_42 (dk_at dksX3_isDue_0 23 rfl rfl)
theorem dX3_isDue_24 : decode cX3_isDue 24 = .ok (.getfield 28, 3) := dk_180 0 28 (dk_at dksX3_isDue_1 0 rfl rfl)
theorem dX3_isDue_27 : decode cX3_isDue 27 = .ok (.iload_n 1, 1) := dk_27 (dk_at dksX3_isDue_1 3 rfl rfl)
theorem dX3_isDue_28 : decode cX3_isDue 28 = .ok (.iaload, 1) := dk_46 (dk_at dksX3_isDue_1 4 rfl rfl)
theorem dX3_isDue_29 : decode cX3_isDue 29 = .ok (.iadd, 1) := dk_96 (dk_at dksX3_isDue_1 5 rfl rfl)
theorem dX3_isDue_30 : decode cX3_isDue 30 = .ok (.if_icmp .le 7, 3) := dk_164 0 7 (dk_at dksX3_isDue_1 6 rfl rfl)
theorem dX3_isDue_33 : decode cX3_isDue 33 = .ok (.iconst 1, 1) := dk_4 (dk_at dksX3_isDue_1 9 rfl rfl)
theorem dX3_isDue_34 : decode cX3_isDue 34 = .ok (.goto 4, 3) := dk_167 0 4 (dk_at dksX3_isDue_1 10 rfl rfl)
theorem dX3_isDue_37 : decode cX3_isDue 37 = .ok (.iconst 0, 1) := dk_3 (dk_at dksX3_isDue_1 13 rfl rfl)
theorem dX3_isDue_38 : decode cX3_isDue 38 = .ok (.ireturn, 1) := dk_172 (dk_at dksX3_isDue_1 14 rfl rfl)
abbrev cX3_comes : ByteArray := prog_12_method_40_code
def yX3_comes : MethodName := ⟨RX3, "comes", "(II)I"⟩
def dkwX3_comes_7 : List UInt8 := [27, 79, 42, 180, 0, 83, 27, 28, 79, 42, 89, 180, 0, 139, 4, 96, 181, 0, 139, 42, 180, 0, 139, 172]
abbrev dktX3_comes_7 : List UInt8 := dkwX3_comes_7 ++ []
def dkwX3_comes_6 : List UInt8 := [167, 0, 4, 6, 181, 0, 98, 42, 180, 0, 98, 158, 0, 5, 3, 172, 42, 180, 0, 80, 42, 180, 0, 139]
abbrev dktX3_comes_6 : List UInt8 := dkwX3_comes_6 ++ dktX3_comes_7
def dkwX3_comes_5 : List UInt8 := [46, 28, 159, 0, 7, 4, 167, 0, 4, 3, 62, 132, 4, 1, 167, 255, 218, 42, 29, 153, 0, 7, 3]
abbrev dktX3_comes_5 : List UInt8 := dkwX3_comes_5 ++ dktX3_comes_6
def dkwX3_comes_4 : List UInt8 := [21, 4, 42, 180, 0, 139, 162, 0, 35, 29, 153, 0, 23, 42, 180, 0, 83, 42, 180, 0, 80, 21, 4, 46]
abbrev dktX3_comes_4 : List UInt8 := dkwX3_comes_4 ++ dktX3_comes_5
def dkwX3_comes_3 : List UInt8 := [51, 154, 0, 18, 42, 180, 0, 19, 27, 46, 16, 254, 159, 0, 7, 4, 167, 0, 4, 3, 62, 3, 54, 4]
abbrev dktX3_comes_3 : List UInt8 := dkwX3_comes_3 ++ dktX3_comes_4
def dkwX3_comes_2 : List UInt8 := [3, 172, 42, 180, 0, 139, 16, 8, 162, 0, 35, 42, 27, 182, 0, 142, 154, 0, 27, 42, 180, 0, 41, 27]
abbrev dktX3_comes_2 : List UInt8 := dkwX3_comes_2 ++ dktX3_comes_3
def dkwX3_comes_1 : List UInt8 := [184, 0, 105, 154, 0, 7, 5, 167, 0, 7, 42, 180, 0, 98, 181, 0, 98, 42, 180, 0, 98, 158, 0, 5]
abbrev dktX3_comes_1 : List UInt8 := dkwX3_comes_1 ++ dktX3_comes_2
def dkwX3_comes_0 : List UInt8 := [42, 42, 27, 3, 182, 0, 148, 181, 0, 98, 42, 42, 180, 0, 98, 154, 0, 17, 28, 3, 16, 99]
abbrev dktX3_comes_0 : List UInt8 := dkwX3_comes_0 ++ dktX3_comes_1
theorem dksX3_comes_0 : cX3_comes.data.toList.drop 0 = dktX3_comes_0 := by decide +kernel
theorem dksX3_comes_1 : cX3_comes.data.toList.drop 22 = dktX3_comes_1 := dk_seg dksX3_comes_0 22 rfl rfl
theorem dksX3_comes_2 : cX3_comes.data.toList.drop 46 = dktX3_comes_2 := dk_seg dksX3_comes_1 24 rfl rfl
theorem dksX3_comes_3 : cX3_comes.data.toList.drop 70 = dktX3_comes_3 := dk_seg dksX3_comes_2 24 rfl rfl
theorem dksX3_comes_4 : cX3_comes.data.toList.drop 94 = dktX3_comes_4 := dk_seg dksX3_comes_3 24 rfl rfl
theorem dksX3_comes_5 : cX3_comes.data.toList.drop 118 = dktX3_comes_5 := dk_seg dksX3_comes_4 24 rfl rfl
theorem dksX3_comes_6 : cX3_comes.data.toList.drop 141 = dktX3_comes_6 := dk_seg dksX3_comes_5 23 rfl rfl
theorem dksX3_comes_7 : cX3_comes.data.toList.drop 165 = dktX3_comes_7 := dk_seg dksX3_comes_6 24 rfl rfl
theorem dX3_comes_0 : decode cX3_comes 0 = .ok (.aload_n 0, 1) := dk_42 (dk_at dksX3_comes_0 0 rfl rfl)
theorem dX3_comes_1 : decode cX3_comes 1 = .ok (.aload_n 0, 1) := dk_42 (dk_at dksX3_comes_0 1 rfl rfl)
theorem dX3_comes_2 : decode cX3_comes 2 = .ok (.iload_n 1, 1) := dk_27 (dk_at dksX3_comes_0 2 rfl rfl)
theorem dX3_comes_3 : decode cX3_comes 3 = .ok (.iconst 0, 1) := dk_3 (dk_at dksX3_comes_0 3 rfl rfl)
theorem dX3_comes_4 : decode cX3_comes 4 = .ok (.invokevirtual 148, 3) := dk_182 0 148 (dk_at dksX3_comes_0 4 rfl rfl)
theorem dX3_comes_7 : decode cX3_comes 7 = .ok (.putfield 98, 3) := dk_181 0 98 (dk_at dksX3_comes_0 7 rfl rfl)
theorem dX3_comes_10 : decode cX3_comes 10 = .ok (.aload_n 0, 1) := dk_42 (dk_at dksX3_comes_0 10 rfl rfl)
theorem dX3_comes_11 : decode cX3_comes 11 = .ok (.aload_n 0, 1) := dk_42 (dk_at dksX3_comes_0 11 rfl rfl)
theorem dX3_comes_12 : decode cX3_comes 12 = .ok (.getfield 98, 3) := dk_180 0 98 (dk_at dksX3_comes_0 12 rfl rfl)
theorem dX3_comes_15 : decode cX3_comes 15 = .ok (.ifCond .ne 17, 3) := dk_154 0 17 (dk_at dksX3_comes_0 15 rfl rfl)
theorem dX3_comes_18 : decode cX3_comes 18 = .ok (.iload_n 2, 1) := dk_28 (dk_at dksX3_comes_0 18 rfl rfl)
theorem dX3_comes_19 : decode cX3_comes 19 = .ok (.iconst 0, 1) := dk_3 (dk_at dksX3_comes_0 19 rfl rfl)
theorem dX3_comes_20 : decode cX3_comes 20 = .ok (.bipush 99, 2) := dk_16 99 (dk_at dksX3_comes_0 20 rfl rfl)
theorem dX3_comes_22 : decode cX3_comes 22 = .ok (.invokestatic 105, 3) := dk_184 0 105 (dk_at dksX3_comes_1 0 rfl rfl)
theorem dX3_comes_25 : decode cX3_comes 25 = .ok (.ifCond .ne 7, 3) := dk_154 0 7 (dk_at dksX3_comes_1 3 rfl rfl)
theorem dX3_comes_28 : decode cX3_comes 28 = .ok (.iconst 2, 1) := dk_5 (dk_at dksX3_comes_1 6 rfl rfl)
theorem dX3_comes_29 : decode cX3_comes 29 = .ok (.goto 7, 3) := dk_167 0 7 (dk_at dksX3_comes_1 7 rfl rfl)
theorem dX3_comes_32 : decode cX3_comes 32 = .ok (.aload_n 0, 1) := dk_42 (dk_at dksX3_comes_1 10 rfl rfl)
theorem dX3_comes_33 : decode cX3_comes 33 = .ok (.getfield 98, 3) := dk_180 0 98 (dk_at dksX3_comes_1 11 rfl rfl)
theorem dX3_comes_36 : decode cX3_comes 36 = .ok (.putfield 98, 3) := dk_181 0 98 (dk_at dksX3_comes_1 14 rfl rfl)
theorem dX3_comes_39 : decode cX3_comes 39 = .ok (.aload_n 0, 1) := dk_42 (dk_at dksX3_comes_1 17 rfl rfl)
theorem dX3_comes_40 : decode cX3_comes 40 = .ok (.getfield 98, 3) := dk_180 0 98 (dk_at dksX3_comes_1 18 rfl rfl)
theorem dX3_comes_43 : decode cX3_comes 43 = .ok (.ifCond .le 5, 3) := dk_158 0 5 (dk_at dksX3_comes_1 21 rfl rfl)
theorem dX3_comes_46 : decode cX3_comes 46 = .ok (.iconst 0, 1) := dk_3 (dk_at dksX3_comes_2 0 rfl rfl)
theorem dX3_comes_47 : decode cX3_comes 47 = .ok (.ireturn, 1) := dk_172 (dk_at dksX3_comes_2 1 rfl rfl)
theorem dX3_comes_48 : decode cX3_comes 48 = .ok (.aload_n 0, 1) := dk_42 (dk_at dksX3_comes_2 2 rfl rfl)
theorem dX3_comes_49 : decode cX3_comes 49 = .ok (.getfield 139, 3) := dk_180 0 139 (dk_at dksX3_comes_2 3 rfl rfl)
theorem dX3_comes_52 : decode cX3_comes 52 = .ok (.bipush 8, 2) := dk_16 8 (dk_at dksX3_comes_2 6 rfl rfl)
theorem dX3_comes_54 : decode cX3_comes 54 = .ok (.if_icmp .ge 35, 3) := dk_162 0 35 (dk_at dksX3_comes_2 8 rfl rfl)
theorem dX3_comes_57 : decode cX3_comes 57 = .ok (.aload_n 0, 1) := dk_42 (dk_at dksX3_comes_2 11 rfl rfl)
theorem dX3_comes_58 : decode cX3_comes 58 = .ok (.iload_n 1, 1) := dk_27 (dk_at dksX3_comes_2 12 rfl rfl)
theorem dX3_comes_59 : decode cX3_comes 59 = .ok (.invokevirtual 142, 3) := dk_182 0 142 (dk_at dksX3_comes_2 13 rfl rfl)
theorem dX3_comes_62 : decode cX3_comes 62 = .ok (.ifCond .ne 27, 3) := dk_154 0 27 (dk_at dksX3_comes_2 16 rfl rfl)
theorem dX3_comes_65 : decode cX3_comes 65 = .ok (.aload_n 0, 1) := dk_42 (dk_at dksX3_comes_2 19 rfl rfl)
theorem dX3_comes_66 : decode cX3_comes 66 = .ok (.getfield 41, 3) := dk_180 0 41 (dk_at dksX3_comes_2 20 rfl rfl)
theorem dX3_comes_69 : decode cX3_comes 69 = .ok (.iload_n 1, 1) := dk_27 (dk_at dksX3_comes_2 23 rfl rfl)
theorem dX3_comes_70 : decode cX3_comes 70 = .ok (.baload, 1) := dk_51 (dk_at dksX3_comes_3 0 rfl rfl)
theorem dX3_comes_71 : decode cX3_comes 71 = .ok (.ifCond .ne 18, 3) := dk_154 0 18 (dk_at dksX3_comes_3 1 rfl rfl)
theorem dX3_comes_74 : decode cX3_comes 74 = .ok (.aload_n 0, 1) := dk_42 (dk_at dksX3_comes_3 4 rfl rfl)
theorem dX3_comes_75 : decode cX3_comes 75 = .ok (.getfield 19, 3) := dk_180 0 19 (dk_at dksX3_comes_3 5 rfl rfl)
theorem dX3_comes_78 : decode cX3_comes 78 = .ok (.iload_n 1, 1) := dk_27 (dk_at dksX3_comes_3 8 rfl rfl)
theorem dX3_comes_79 : decode cX3_comes 79 = .ok (.iaload, 1) := dk_46 (dk_at dksX3_comes_3 9 rfl rfl)
theorem dX3_comes_80 : decode cX3_comes 80 = .ok (.bipush (-2), 2) := dk_16 254 (dk_at dksX3_comes_3 10 rfl rfl)
theorem dX3_comes_82 : decode cX3_comes 82 = .ok (.if_icmp .eq 7, 3) := dk_159 0 7 (dk_at dksX3_comes_3 12 rfl rfl)
theorem dX3_comes_85 : decode cX3_comes 85 = .ok (.iconst 1, 1) := dk_4 (dk_at dksX3_comes_3 15 rfl rfl)
theorem dX3_comes_86 : decode cX3_comes 86 = .ok (.goto 4, 3) := dk_167 0 4 (dk_at dksX3_comes_3 16 rfl rfl)
theorem dX3_comes_89 : decode cX3_comes 89 = .ok (.iconst 0, 1) := dk_3 (dk_at dksX3_comes_3 19 rfl rfl)
theorem dX3_comes_90 : decode cX3_comes 90 = .ok (.istore_n 3, 1) := dk_62 (dk_at dksX3_comes_3 20 rfl rfl)
theorem dX3_comes_91 : decode cX3_comes 91 = .ok (.iconst 0, 1) := dk_3 (dk_at dksX3_comes_3 21 rfl rfl)
theorem dX3_comes_92 : decode cX3_comes 92 = .ok (.istore 4, 2) := dk_54 4 (dk_at dksX3_comes_3 22 rfl rfl)
theorem dX3_comes_94 : decode cX3_comes 94 = .ok (.iload 4, 2) := dk_21 4 (dk_at dksX3_comes_4 0 rfl rfl)
theorem dX3_comes_96 : decode cX3_comes 96 = .ok (.aload_n 0, 1) := dk_42 (dk_at dksX3_comes_4 2 rfl rfl)
theorem dX3_comes_97 : decode cX3_comes 97 = .ok (.getfield 139, 3) := dk_180 0 139 (dk_at dksX3_comes_4 3 rfl rfl)
theorem dX3_comes_100 : decode cX3_comes 100 = .ok (.if_icmp .ge 35, 3) := dk_162 0 35 (dk_at dksX3_comes_4 6 rfl rfl)
theorem dX3_comes_103 : decode cX3_comes 103 = .ok (.iload_n 3, 1) := dk_29 (dk_at dksX3_comes_4 9 rfl rfl)
theorem dX3_comes_104 : decode cX3_comes 104 = .ok (.ifCond .eq 23, 3) := dk_153 0 23 (dk_at dksX3_comes_4 10 rfl rfl)
theorem dX3_comes_107 : decode cX3_comes 107 = .ok (.aload_n 0, 1) := dk_42 (dk_at dksX3_comes_4 13 rfl rfl)
theorem dX3_comes_108 : decode cX3_comes 108 = .ok (.getfield 83, 3) := dk_180 0 83 (dk_at dksX3_comes_4 14 rfl rfl)
theorem dX3_comes_111 : decode cX3_comes 111 = .ok (.aload_n 0, 1) := dk_42 (dk_at dksX3_comes_4 17 rfl rfl)
theorem dX3_comes_112 : decode cX3_comes 112 = .ok (.getfield 80, 3) := dk_180 0 80 (dk_at dksX3_comes_4 18 rfl rfl)
theorem dX3_comes_115 : decode cX3_comes 115 = .ok (.iload 4, 2) := dk_21 4 (dk_at dksX3_comes_4 21 rfl rfl)
theorem dX3_comes_117 : decode cX3_comes 117 = .ok (.iaload, 1) := dk_46 (dk_at dksX3_comes_4 23 rfl rfl)
theorem dX3_comes_118 : decode cX3_comes 118 = .ok (.iaload, 1) := dk_46 (dk_at dksX3_comes_5 0 rfl rfl)
theorem dX3_comes_119 : decode cX3_comes 119 = .ok (.iload_n 2, 1) := dk_28 (dk_at dksX3_comes_5 1 rfl rfl)
theorem dX3_comes_120 : decode cX3_comes 120 = .ok (.if_icmp .eq 7, 3) := dk_159 0 7 (dk_at dksX3_comes_5 2 rfl rfl)
theorem dX3_comes_123 : decode cX3_comes 123 = .ok (.iconst 1, 1) := dk_4 (dk_at dksX3_comes_5 5 rfl rfl)
theorem dX3_comes_124 : decode cX3_comes 124 = .ok (.goto 4, 3) := dk_167 0 4 (dk_at dksX3_comes_5 6 rfl rfl)
theorem dX3_comes_127 : decode cX3_comes 127 = .ok (.iconst 0, 1) := dk_3 (dk_at dksX3_comes_5 9 rfl rfl)
theorem dX3_comes_128 : decode cX3_comes 128 = .ok (.istore_n 3, 1) := dk_62 (dk_at dksX3_comes_5 10 rfl rfl)
theorem dX3_comes_129 : decode cX3_comes 129 = .ok (.iinc 4 1, 3) := dk_132 4 1 (dk_at dksX3_comes_5 11 rfl rfl)
theorem dX3_comes_132 : decode cX3_comes 132 = .ok (.goto (-38), 3) := dk_167 255 218 (dk_at dksX3_comes_5 14 rfl rfl)
theorem dX3_comes_135 : decode cX3_comes 135 = .ok (.aload_n 0, 1) := dk_42 (dk_at dksX3_comes_5 17 rfl rfl)
theorem dX3_comes_136 : decode cX3_comes 136 = .ok (.iload_n 3, 1) := dk_29 (dk_at dksX3_comes_5 18 rfl rfl)
theorem dX3_comes_137 : decode cX3_comes 137 = .ok (.ifCond .eq 7, 3) := dk_153 0 7 (dk_at dksX3_comes_5 19 rfl rfl)
theorem dX3_comes_140 : decode cX3_comes 140 = .ok (.iconst 0, 1) := dk_3 (dk_at dksX3_comes_5 22 rfl rfl)
theorem dX3_comes_141 : decode cX3_comes 141 = .ok (.goto 4, 3) := dk_167 0 4 (dk_at dksX3_comes_6 0 rfl rfl)
theorem dX3_comes_144 : decode cX3_comes 144 = .ok (.iconst 3, 1) := dk_6 (dk_at dksX3_comes_6 3 rfl rfl)
theorem dX3_comes_145 : decode cX3_comes 145 = .ok (.putfield 98, 3) := dk_181 0 98 (dk_at dksX3_comes_6 4 rfl rfl)
theorem dX3_comes_148 : decode cX3_comes 148 = .ok (.aload_n 0, 1) := dk_42 (dk_at dksX3_comes_6 7 rfl rfl)
theorem dX3_comes_149 : decode cX3_comes 149 = .ok (.getfield 98, 3) := dk_180 0 98 (dk_at dksX3_comes_6 8 rfl rfl)
theorem dX3_comes_152 : decode cX3_comes 152 = .ok (.ifCond .le 5, 3) := dk_158 0 5 (dk_at dksX3_comes_6 11 rfl rfl)
theorem dX3_comes_155 : decode cX3_comes 155 = .ok (.iconst 0, 1) := dk_3 (dk_at dksX3_comes_6 14 rfl rfl)
theorem dX3_comes_156 : decode cX3_comes 156 = .ok (.ireturn, 1) := dk_172 (dk_at dksX3_comes_6 15 rfl rfl)
theorem dX3_comes_157 : decode cX3_comes 157 = .ok (.aload_n 0, 1) := dk_42 (dk_at dksX3_comes_6 16 rfl rfl)
theorem dX3_comes_158 : decode cX3_comes 158 = .ok (.getfield 80, 3) := dk_180 0 80 (dk_at dksX3_comes_6 17 rfl rfl)
theorem dX3_comes_161 : decode cX3_comes 161 = .ok (.aload_n 0, 1) := dk_42 (dk_at dksX3_comes_6 20 rfl rfl)
theorem dX3_comes_162 : decode cX3_comes 162 = .ok (.getfield 139, 3) := dk_180 0 139 (dk_at dksX3_comes_6 21 rfl rfl)
theorem dX3_comes_165 : decode cX3_comes 165 = .ok (.iload_n 1, 1) := dk_27 (dk_at dksX3_comes_7 0 rfl rfl)
theorem dX3_comes_166 : decode cX3_comes 166 = .ok (.iastore, 1) := dk_79 (dk_at dksX3_comes_7 1 rfl rfl)
theorem dX3_comes_167 : decode cX3_comes 167 = .ok (.aload_n 0, 1) := dk_42 (dk_at dksX3_comes_7 2 rfl rfl)
theorem dX3_comes_168 : decode cX3_comes 168 = .ok (.getfield 83, 3) := dk_180 0 83 (dk_at dksX3_comes_7 3 rfl rfl)
theorem dX3_comes_171 : decode cX3_comes 171 = .ok (.iload_n 1, 1) := dk_27 (dk_at dksX3_comes_7 6 rfl rfl)
theorem dX3_comes_172 : decode cX3_comes 172 = .ok (.iload_n 2, 1) := dk_28 (dk_at dksX3_comes_7 7 rfl rfl)
theorem dX3_comes_173 : decode cX3_comes 173 = .ok (.iastore, 1) := dk_79 (dk_at dksX3_comes_7 8 rfl rfl)
theorem dX3_comes_174 : decode cX3_comes 174 = .ok (.aload_n 0, 1) := dk_42 (dk_at dksX3_comes_7 9 rfl rfl)
theorem dX3_comes_175 : decode cX3_comes 175 = .ok (.dup, 1) := dk_89 (dk_at dksX3_comes_7 10 rfl rfl)
theorem dX3_comes_176 : decode cX3_comes 176 = .ok (.getfield 139, 3) := dk_180 0 139 (dk_at dksX3_comes_7 11 rfl rfl)
theorem dX3_comes_179 : decode cX3_comes 179 = .ok (.iconst 1, 1) := dk_4 (dk_at dksX3_comes_7 14 rfl rfl)
theorem dX3_comes_180 : decode cX3_comes 180 = .ok (.iadd, 1) := dk_96 (dk_at dksX3_comes_7 15 rfl rfl)
theorem dX3_comes_181 : decode cX3_comes 181 = .ok (.putfield 139, 3) := dk_181 0 139 (dk_at dksX3_comes_7 16 rfl rfl)
theorem dX3_comes_184 : decode cX3_comes 184 = .ok (.aload_n 0, 1) := dk_42 (dk_at dksX3_comes_7 19 rfl rfl)
theorem dX3_comes_185 : decode cX3_comes 185 = .ok (.getfield 139, 3) := dk_180 0 139 (dk_at dksX3_comes_7 20 rfl rfl)
theorem dX3_comes_188 : decode cX3_comes 188 = .ok (.ireturn, 1) := dk_172 (dk_at dksX3_comes_7 23 rfl rfl)
abbrev cX3_night : ByteArray := prog_12_method_43_code
def yX3_night : MethodName := ⟨RX3, "night", "()I"⟩
def dkwX3_night_5 : List UInt8 := [28, 46, 4, 84, 132, 2, 1, 167, 255, 187, 42, 3, 181, 0, 139, 27, 172]
abbrev dktX3_night_5 : List UInt8 := dkwX3_night_5 ++ []
def dkwX3_night_4 : List UInt8 := [79, 42, 180, 0, 92, 42, 180, 0, 86, 28, 46, 92, 46, 4, 96, 79, 42, 180, 0, 41, 42, 180, 0, 80]
abbrev dktX3_night_4 : List UInt8 := dkwX3_night_4 ++ dktX3_night_5
def dkwX3_night_3 : List UInt8 := [180, 0, 86, 28, 46, 104, 42, 180, 0, 92, 42, 180, 0, 86, 28, 46, 46, 96, 42, 180, 0, 80, 28, 46]
abbrev dktX3_night_3 : List UInt8 := dkwX3_night_3 ++ dktX3_night_4
def dkwX3_night_2 : List UInt8 := [3, 172, 42, 182, 0, 193, 60, 3, 61, 28, 42, 180, 0, 139, 162, 0, 67, 42, 180, 0, 95, 7, 42]
abbrev dktX3_night_2 : List UInt8 := dkwX3_night_2 ++ dktX3_night_3
def dkwX3_night_1 : List UInt8 := [180, 0, 92, 5, 46, 96, 158, 0, 7, 4, 167, 0, 4, 3, 181, 0, 98, 42, 180, 0, 98, 158, 0, 5]
abbrev dktX3_night_1 : List UInt8 := dkwX3_night_1 ++ dktX3_night_2
def dkwX3_night_0 : List UInt8 := [42, 42, 180, 0, 139, 153, 0, 26, 42, 180, 0, 92, 3, 46, 42, 180, 0, 92, 4, 46, 96, 42]
abbrev dktX3_night_0 : List UInt8 := dkwX3_night_0 ++ dktX3_night_1
theorem dksX3_night_0 : cX3_night.data.toList.drop 0 = dktX3_night_0 := by decide +kernel
theorem dksX3_night_1 : cX3_night.data.toList.drop 22 = dktX3_night_1 := dk_seg dksX3_night_0 22 rfl rfl
theorem dksX3_night_2 : cX3_night.data.toList.drop 46 = dktX3_night_2 := dk_seg dksX3_night_1 24 rfl rfl
theorem dksX3_night_3 : cX3_night.data.toList.drop 69 = dktX3_night_3 := dk_seg dksX3_night_2 23 rfl rfl
theorem dksX3_night_4 : cX3_night.data.toList.drop 93 = dktX3_night_4 := dk_seg dksX3_night_3 24 rfl rfl
theorem dksX3_night_5 : cX3_night.data.toList.drop 117 = dktX3_night_5 := dk_seg dksX3_night_4 24 rfl rfl
theorem dX3_night_0 : decode cX3_night 0 = .ok (.aload_n 0, 1) := dk_42 (dk_at dksX3_night_0 0 rfl rfl)
theorem dX3_night_1 : decode cX3_night 1 = .ok (.aload_n 0, 1) := dk_42 (dk_at dksX3_night_0 1 rfl rfl)
theorem dX3_night_2 : decode cX3_night 2 = .ok (.getfield 139, 3) := dk_180 0 139 (dk_at dksX3_night_0 2 rfl rfl)
theorem dX3_night_5 : decode cX3_night 5 = .ok (.ifCond .eq 26, 3) := dk_153 0 26 (dk_at dksX3_night_0 5 rfl rfl)
theorem dX3_night_8 : decode cX3_night 8 = .ok (.aload_n 0, 1) := dk_42 (dk_at dksX3_night_0 8 rfl rfl)
theorem dX3_night_9 : decode cX3_night 9 = .ok (.getfield 92, 3) := dk_180 0 92 (dk_at dksX3_night_0 9 rfl rfl)
theorem dX3_night_12 : decode cX3_night 12 = .ok (.iconst 0, 1) := dk_3 (dk_at dksX3_night_0 12 rfl rfl)
theorem dX3_night_13 : decode cX3_night 13 = .ok (.iaload, 1) := dk_46 (dk_at dksX3_night_0 13 rfl rfl)
theorem dX3_night_14 : decode cX3_night 14 = .ok (.aload_n 0, 1) := dk_42 (dk_at dksX3_night_0 14 rfl rfl)
theorem dX3_night_15 : decode cX3_night 15 = .ok (.getfield 92, 3) := dk_180 0 92 (dk_at dksX3_night_0 15 rfl rfl)
theorem dX3_night_18 : decode cX3_night 18 = .ok (.iconst 1, 1) := dk_4 (dk_at dksX3_night_0 18 rfl rfl)
theorem dX3_night_19 : decode cX3_night 19 = .ok (.iaload, 1) := dk_46 (dk_at dksX3_night_0 19 rfl rfl)
theorem dX3_night_20 : decode cX3_night 20 = .ok (.iadd, 1) := dk_96 (dk_at dksX3_night_0 20 rfl rfl)
theorem dX3_night_21 : decode cX3_night 21 = .ok (.aload_n 0, 1) := dk_42 (dk_at dksX3_night_0 21 rfl rfl)
theorem dX3_night_22 : decode cX3_night 22 = .ok (.getfield 92, 3) := dk_180 0 92 (dk_at dksX3_night_1 0 rfl rfl)
theorem dX3_night_25 : decode cX3_night 25 = .ok (.iconst 2, 1) := dk_5 (dk_at dksX3_night_1 3 rfl rfl)
theorem dX3_night_26 : decode cX3_night 26 = .ok (.iaload, 1) := dk_46 (dk_at dksX3_night_1 4 rfl rfl)
theorem dX3_night_27 : decode cX3_night 27 = .ok (.iadd, 1) := dk_96 (dk_at dksX3_night_1 5 rfl rfl)
theorem dX3_night_28 : decode cX3_night 28 = .ok (.ifCond .le 7, 3) := dk_158 0 7 (dk_at dksX3_night_1 6 rfl rfl)
theorem dX3_night_31 : decode cX3_night 31 = .ok (.iconst 1, 1) := dk_4 (dk_at dksX3_night_1 9 rfl rfl)
theorem dX3_night_32 : decode cX3_night 32 = .ok (.goto 4, 3) := dk_167 0 4 (dk_at dksX3_night_1 10 rfl rfl)
theorem dX3_night_35 : decode cX3_night 35 = .ok (.iconst 0, 1) := dk_3 (dk_at dksX3_night_1 13 rfl rfl)
theorem dX3_night_36 : decode cX3_night 36 = .ok (.putfield 98, 3) := dk_181 0 98 (dk_at dksX3_night_1 14 rfl rfl)
theorem dX3_night_39 : decode cX3_night 39 = .ok (.aload_n 0, 1) := dk_42 (dk_at dksX3_night_1 17 rfl rfl)
theorem dX3_night_40 : decode cX3_night 40 = .ok (.getfield 98, 3) := dk_180 0 98 (dk_at dksX3_night_1 18 rfl rfl)
theorem dX3_night_43 : decode cX3_night 43 = .ok (.ifCond .le 5, 3) := dk_158 0 5 (dk_at dksX3_night_1 21 rfl rfl)
theorem dX3_night_46 : decode cX3_night 46 = .ok (.iconst 0, 1) := dk_3 (dk_at dksX3_night_2 0 rfl rfl)
theorem dX3_night_47 : decode cX3_night 47 = .ok (.ireturn, 1) := dk_172 (dk_at dksX3_night_2 1 rfl rfl)
theorem dX3_night_48 : decode cX3_night 48 = .ok (.aload_n 0, 1) := dk_42 (dk_at dksX3_night_2 2 rfl rfl)
theorem dX3_night_49 : decode cX3_night 49 = .ok (.invokevirtual 193, 3) := dk_182 0 193 (dk_at dksX3_night_2 3 rfl rfl)
theorem dX3_night_52 : decode cX3_night 52 = .ok (.istore_n 1, 1) := dk_60 (dk_at dksX3_night_2 6 rfl rfl)
theorem dX3_night_53 : decode cX3_night 53 = .ok (.iconst 0, 1) := dk_3 (dk_at dksX3_night_2 7 rfl rfl)
theorem dX3_night_54 : decode cX3_night 54 = .ok (.istore_n 2, 1) := dk_61 (dk_at dksX3_night_2 8 rfl rfl)
theorem dX3_night_55 : decode cX3_night 55 = .ok (.iload_n 2, 1) := dk_28 (dk_at dksX3_night_2 9 rfl rfl)
theorem dX3_night_56 : decode cX3_night 56 = .ok (.aload_n 0, 1) := dk_42 (dk_at dksX3_night_2 10 rfl rfl)
theorem dX3_night_57 : decode cX3_night 57 = .ok (.getfield 139, 3) := dk_180 0 139 (dk_at dksX3_night_2 11 rfl rfl)
theorem dX3_night_60 : decode cX3_night 60 = .ok (.if_icmp .ge 67, 3) := dk_162 0 67 (dk_at dksX3_night_2 14 rfl rfl)
theorem dX3_night_63 : decode cX3_night 63 = .ok (.aload_n 0, 1) := dk_42 (dk_at dksX3_night_2 17 rfl rfl)
theorem dX3_night_64 : decode cX3_night 64 = .ok (.getfield 95, 3) := dk_180 0 95 (dk_at dksX3_night_2 18 rfl rfl)
theorem dX3_night_67 : decode cX3_night 67 = .ok (.iconst 4, 1) := dk_7 (dk_at dksX3_night_2 21 rfl rfl)
theorem dX3_night_68 : decode cX3_night 68 = .ok (.aload_n 0, 1) := dk_42 (dk_at dksX3_night_2 22 rfl rfl)
theorem dX3_night_69 : decode cX3_night 69 = .ok (.getfield 86, 3) := dk_180 0 86 (dk_at dksX3_night_3 0 rfl rfl)
theorem dX3_night_72 : decode cX3_night 72 = .ok (.iload_n 2, 1) := dk_28 (dk_at dksX3_night_3 3 rfl rfl)
theorem dX3_night_73 : decode cX3_night 73 = .ok (.iaload, 1) := dk_46 (dk_at dksX3_night_3 4 rfl rfl)
theorem dX3_night_74 : decode cX3_night 74 = .ok (.imul, 1) := dk_104 (dk_at dksX3_night_3 5 rfl rfl)
theorem dX3_night_75 : decode cX3_night 75 = .ok (.aload_n 0, 1) := dk_42 (dk_at dksX3_night_3 6 rfl rfl)
theorem dX3_night_76 : decode cX3_night 76 = .ok (.getfield 92, 3) := dk_180 0 92 (dk_at dksX3_night_3 7 rfl rfl)
theorem dX3_night_79 : decode cX3_night 79 = .ok (.aload_n 0, 1) := dk_42 (dk_at dksX3_night_3 10 rfl rfl)
theorem dX3_night_80 : decode cX3_night 80 = .ok (.getfield 86, 3) := dk_180 0 86 (dk_at dksX3_night_3 11 rfl rfl)
theorem dX3_night_83 : decode cX3_night 83 = .ok (.iload_n 2, 1) := dk_28 (dk_at dksX3_night_3 14 rfl rfl)
theorem dX3_night_84 : decode cX3_night 84 = .ok (.iaload, 1) := dk_46 (dk_at dksX3_night_3 15 rfl rfl)
theorem dX3_night_85 : decode cX3_night 85 = .ok (.iaload, 1) := dk_46 (dk_at dksX3_night_3 16 rfl rfl)
theorem dX3_night_86 : decode cX3_night 86 = .ok (.iadd, 1) := dk_96 (dk_at dksX3_night_3 17 rfl rfl)
theorem dX3_night_87 : decode cX3_night 87 = .ok (.aload_n 0, 1) := dk_42 (dk_at dksX3_night_3 18 rfl rfl)
theorem dX3_night_88 : decode cX3_night 88 = .ok (.getfield 80, 3) := dk_180 0 80 (dk_at dksX3_night_3 19 rfl rfl)
theorem dX3_night_91 : decode cX3_night 91 = .ok (.iload_n 2, 1) := dk_28 (dk_at dksX3_night_3 22 rfl rfl)
theorem dX3_night_92 : decode cX3_night 92 = .ok (.iaload, 1) := dk_46 (dk_at dksX3_night_3 23 rfl rfl)
theorem dX3_night_93 : decode cX3_night 93 = .ok (.iastore, 1) := dk_79 (dk_at dksX3_night_4 0 rfl rfl)
theorem dX3_night_94 : decode cX3_night 94 = .ok (.aload_n 0, 1) := dk_42 (dk_at dksX3_night_4 1 rfl rfl)
theorem dX3_night_95 : decode cX3_night 95 = .ok (.getfield 92, 3) := dk_180 0 92 (dk_at dksX3_night_4 2 rfl rfl)
theorem dX3_night_98 : decode cX3_night 98 = .ok (.aload_n 0, 1) := dk_42 (dk_at dksX3_night_4 5 rfl rfl)
theorem dX3_night_99 : decode cX3_night 99 = .ok (.getfield 86, 3) := dk_180 0 86 (dk_at dksX3_night_4 6 rfl rfl)
theorem dX3_night_102 : decode cX3_night 102 = .ok (.iload_n 2, 1) := dk_28 (dk_at dksX3_night_4 9 rfl rfl)
theorem dX3_night_103 : decode cX3_night 103 = .ok (.iaload, 1) := dk_46 (dk_at dksX3_night_4 10 rfl rfl)
theorem dX3_night_104 : decode cX3_night 104 = .ok (.dup2, 1) := dk_92 (dk_at dksX3_night_4 11 rfl rfl)
theorem dX3_night_105 : decode cX3_night 105 = .ok (.iaload, 1) := dk_46 (dk_at dksX3_night_4 12 rfl rfl)
theorem dX3_night_106 : decode cX3_night 106 = .ok (.iconst 1, 1) := dk_4 (dk_at dksX3_night_4 13 rfl rfl)
theorem dX3_night_107 : decode cX3_night 107 = .ok (.iadd, 1) := dk_96 (dk_at dksX3_night_4 14 rfl rfl)
theorem dX3_night_108 : decode cX3_night 108 = .ok (.iastore, 1) := dk_79 (dk_at dksX3_night_4 15 rfl rfl)
theorem dX3_night_109 : decode cX3_night 109 = .ok (.aload_n 0, 1) := dk_42 (dk_at dksX3_night_4 16 rfl rfl)
theorem dX3_night_110 : decode cX3_night 110 = .ok (.getfield 41, 3) := dk_180 0 41 (dk_at dksX3_night_4 17 rfl rfl)
theorem dX3_night_113 : decode cX3_night 113 = .ok (.aload_n 0, 1) := dk_42 (dk_at dksX3_night_4 20 rfl rfl)
theorem dX3_night_114 : decode cX3_night 114 = .ok (.getfield 80, 3) := dk_180 0 80 (dk_at dksX3_night_4 21 rfl rfl)
theorem dX3_night_117 : decode cX3_night 117 = .ok (.iload_n 2, 1) := dk_28 (dk_at dksX3_night_5 0 rfl rfl)
theorem dX3_night_118 : decode cX3_night 118 = .ok (.iaload, 1) := dk_46 (dk_at dksX3_night_5 1 rfl rfl)
theorem dX3_night_119 : decode cX3_night 119 = .ok (.iconst 1, 1) := dk_4 (dk_at dksX3_night_5 2 rfl rfl)
theorem dX3_night_120 : decode cX3_night 120 = .ok (.bastore, 1) := dk_84 (dk_at dksX3_night_5 3 rfl rfl)
theorem dX3_night_121 : decode cX3_night 121 = .ok (.iinc 2 1, 3) := dk_132 2 1 (dk_at dksX3_night_5 4 rfl rfl)
theorem dX3_night_124 : decode cX3_night 124 = .ok (.goto (-69), 3) := dk_167 255 187 (dk_at dksX3_night_5 7 rfl rfl)
theorem dX3_night_127 : decode cX3_night 127 = .ok (.aload_n 0, 1) := dk_42 (dk_at dksX3_night_5 10 rfl rfl)
theorem dX3_night_128 : decode cX3_night 128 = .ok (.iconst 0, 1) := dk_3 (dk_at dksX3_night_5 11 rfl rfl)
theorem dX3_night_129 : decode cX3_night 129 = .ok (.putfield 139, 3) := dk_181 0 139 (dk_at dksX3_night_5 12 rfl rfl)
theorem dX3_night_132 : decode cX3_night 132 = .ok (.iload_n 1, 1) := dk_27 (dk_at dksX3_night_5 15 rfl rfl)
theorem dX3_night_133 : decode cX3_night 133 = .ok (.ireturn, 1) := dk_172 (dk_at dksX3_night_5 16 rfl rfl)
abbrev cX3_plans : ByteArray := prog_12_method_42_code
def yX3_plans : MethodName := ⟨RX3, "plans", "()I"⟩
def dkwX3_plans_5 : List UInt8 := [21, 6, 46, 79, 132, 6, 1, 167, 255, 230, 132, 3, 1, 167, 255, 151, 28, 172]
abbrev dktX3_plans_5 : List UInt8 := dkwX3_plans_5 ++ []
def dkwX3_plans_4 : List UInt8 := [61, 3, 54, 6, 21, 6, 42, 180, 0, 139, 162, 0, 23, 42, 180, 0, 86, 21, 6, 42, 180, 0, 89]
abbrev dktX3_plans_4 : List UInt8 := dkwX3_plans_4 ++ dktX3_plans_5
def dkwX3_plans_3 : List UInt8 := [182, 0, 189, 54, 5, 21, 5, 2, 159, 0, 49, 28, 2, 159, 0, 9, 21, 5, 28, 162, 0, 38, 21, 5]
abbrev dktX3_plans_3 : List UInt8 := dkwX3_plans_3 ++ dktX3_plans_4
def dkwX3_plans_2 : List UInt8 := [180, 0, 89, 21, 5, 21, 4, 6, 112, 79, 21, 4, 6, 108, 54, 4, 132, 5, 255, 167, 255, 231, 42]
abbrev dktX3_plans_2 : List UInt8 := dkwX3_plans_2 ++ dktX3_plans_3
def dkwX3_plans_1 : List UInt8 := [3, 62, 29, 27, 162, 0, 106, 29, 54, 4, 42, 180, 0, 139, 4, 100, 54, 5, 21, 5, 155, 0, 26, 42]
abbrev dktX3_plans_1 : List UInt8 := dkwX3_plans_1 ++ dktX3_plans_2
def dkwX3_plans_0 : List UInt8 := [4, 60, 3, 61, 28, 42, 180, 0, 139, 162, 0, 13, 27, 6, 104, 60, 132, 2, 1, 167, 255, 241, 2, 61]
abbrev dktX3_plans_0 : List UInt8 := dkwX3_plans_0 ++ dktX3_plans_1
theorem dksX3_plans_0 : cX3_plans.data.toList.drop 0 = dktX3_plans_0 := by decide +kernel
theorem dksX3_plans_1 : cX3_plans.data.toList.drop 24 = dktX3_plans_1 := dk_seg dksX3_plans_0 24 rfl rfl
theorem dksX3_plans_2 : cX3_plans.data.toList.drop 48 = dktX3_plans_2 := dk_seg dksX3_plans_1 24 rfl rfl
theorem dksX3_plans_3 : cX3_plans.data.toList.drop 71 = dktX3_plans_3 := dk_seg dksX3_plans_2 23 rfl rfl
theorem dksX3_plans_4 : cX3_plans.data.toList.drop 95 = dktX3_plans_4 := dk_seg dksX3_plans_3 24 rfl rfl
theorem dksX3_plans_5 : cX3_plans.data.toList.drop 118 = dktX3_plans_5 := dk_seg dksX3_plans_4 23 rfl rfl
theorem dX3_plans_0 : decode cX3_plans 0 = .ok (.iconst 1, 1) := dk_4 (dk_at dksX3_plans_0 0 rfl rfl)
theorem dX3_plans_1 : decode cX3_plans 1 = .ok (.istore_n 1, 1) := dk_60 (dk_at dksX3_plans_0 1 rfl rfl)
theorem dX3_plans_2 : decode cX3_plans 2 = .ok (.iconst 0, 1) := dk_3 (dk_at dksX3_plans_0 2 rfl rfl)
theorem dX3_plans_3 : decode cX3_plans 3 = .ok (.istore_n 2, 1) := dk_61 (dk_at dksX3_plans_0 3 rfl rfl)
theorem dX3_plans_4 : decode cX3_plans 4 = .ok (.iload_n 2, 1) := dk_28 (dk_at dksX3_plans_0 4 rfl rfl)
theorem dX3_plans_5 : decode cX3_plans 5 = .ok (.aload_n 0, 1) := dk_42 (dk_at dksX3_plans_0 5 rfl rfl)
theorem dX3_plans_6 : decode cX3_plans 6 = .ok (.getfield 139, 3) := dk_180 0 139 (dk_at dksX3_plans_0 6 rfl rfl)
theorem dX3_plans_9 : decode cX3_plans 9 = .ok (.if_icmp .ge 13, 3) := dk_162 0 13 (dk_at dksX3_plans_0 9 rfl rfl)
theorem dX3_plans_12 : decode cX3_plans 12 = .ok (.iload_n 1, 1) := dk_27 (dk_at dksX3_plans_0 12 rfl rfl)
theorem dX3_plans_13 : decode cX3_plans 13 = .ok (.iconst 3, 1) := dk_6 (dk_at dksX3_plans_0 13 rfl rfl)
theorem dX3_plans_14 : decode cX3_plans 14 = .ok (.imul, 1) := dk_104 (dk_at dksX3_plans_0 14 rfl rfl)
theorem dX3_plans_15 : decode cX3_plans 15 = .ok (.istore_n 1, 1) := dk_60 (dk_at dksX3_plans_0 15 rfl rfl)
theorem dX3_plans_16 : decode cX3_plans 16 = .ok (.iinc 2 1, 3) := dk_132 2 1 (dk_at dksX3_plans_0 16 rfl rfl)
theorem dX3_plans_19 : decode cX3_plans 19 = .ok (.goto (-15), 3) := dk_167 255 241 (dk_at dksX3_plans_0 19 rfl rfl)
theorem dX3_plans_22 : decode cX3_plans 22 = .ok (.iconst (-1), 1) := dk_2 (dk_at dksX3_plans_0 22 rfl rfl)
theorem dX3_plans_23 : decode cX3_plans 23 = .ok (.istore_n 2, 1) := dk_61 (dk_at dksX3_plans_0 23 rfl rfl)
theorem dX3_plans_24 : decode cX3_plans 24 = .ok (.iconst 0, 1) := dk_3 (dk_at dksX3_plans_1 0 rfl rfl)
theorem dX3_plans_25 : decode cX3_plans 25 = .ok (.istore_n 3, 1) := dk_62 (dk_at dksX3_plans_1 1 rfl rfl)
theorem dX3_plans_26 : decode cX3_plans 26 = .ok (.iload_n 3, 1) := dk_29 (dk_at dksX3_plans_1 2 rfl rfl)
theorem dX3_plans_27 : decode cX3_plans 27 = .ok (.iload_n 1, 1) := dk_27 (dk_at dksX3_plans_1 3 rfl rfl)
theorem dX3_plans_28 : decode cX3_plans 28 = .ok (.if_icmp .ge 106, 3) := dk_162 0 106 (dk_at dksX3_plans_1 4 rfl rfl)
theorem dX3_plans_31 : decode cX3_plans 31 = .ok (.iload_n 3, 1) := dk_29 (dk_at dksX3_plans_1 7 rfl rfl)
theorem dX3_plans_32 : decode cX3_plans 32 = .ok (.istore 4, 2) := dk_54 4 (dk_at dksX3_plans_1 8 rfl rfl)
theorem dX3_plans_34 : decode cX3_plans 34 = .ok (.aload_n 0, 1) := dk_42 (dk_at dksX3_plans_1 10 rfl rfl)
theorem dX3_plans_35 : decode cX3_plans 35 = .ok (.getfield 139, 3) := dk_180 0 139 (dk_at dksX3_plans_1 11 rfl rfl)
theorem dX3_plans_38 : decode cX3_plans 38 = .ok (.iconst 1, 1) := dk_4 (dk_at dksX3_plans_1 14 rfl rfl)
theorem dX3_plans_39 : decode cX3_plans 39 = .ok (.isub, 1) := dk_100 (dk_at dksX3_plans_1 15 rfl rfl)
theorem dX3_plans_40 : decode cX3_plans 40 = .ok (.istore 5, 2) := dk_54 5 (dk_at dksX3_plans_1 16 rfl rfl)
theorem dX3_plans_42 : decode cX3_plans 42 = .ok (.iload 5, 2) := dk_21 5 (dk_at dksX3_plans_1 18 rfl rfl)
theorem dX3_plans_44 : decode cX3_plans 44 = .ok (.ifCond .lt 26, 3) := dk_155 0 26 (dk_at dksX3_plans_1 20 rfl rfl)
theorem dX3_plans_47 : decode cX3_plans 47 = .ok (.aload_n 0, 1) := dk_42 (dk_at dksX3_plans_1 23 rfl rfl)
theorem dX3_plans_48 : decode cX3_plans 48 = .ok (.getfield 89, 3) := dk_180 0 89 (dk_at dksX3_plans_2 0 rfl rfl)
theorem dX3_plans_51 : decode cX3_plans 51 = .ok (.iload 5, 2) := dk_21 5 (dk_at dksX3_plans_2 3 rfl rfl)
theorem dX3_plans_53 : decode cX3_plans 53 = .ok (.iload 4, 2) := dk_21 4 (dk_at dksX3_plans_2 5 rfl rfl)
theorem dX3_plans_55 : decode cX3_plans 55 = .ok (.iconst 3, 1) := dk_6 (dk_at dksX3_plans_2 7 rfl rfl)
theorem dX3_plans_56 : decode cX3_plans 56 = .ok (.irem, 1) := dk_112 (dk_at dksX3_plans_2 8 rfl rfl)
theorem dX3_plans_57 : decode cX3_plans 57 = .ok (.iastore, 1) := dk_79 (dk_at dksX3_plans_2 9 rfl rfl)
theorem dX3_plans_58 : decode cX3_plans 58 = .ok (.iload 4, 2) := dk_21 4 (dk_at dksX3_plans_2 10 rfl rfl)
theorem dX3_plans_60 : decode cX3_plans 60 = .ok (.iconst 3, 1) := dk_6 (dk_at dksX3_plans_2 12 rfl rfl)
theorem dX3_plans_61 : decode cX3_plans 61 = .ok (.idiv, 1) := dk_108 (dk_at dksX3_plans_2 13 rfl rfl)
theorem dX3_plans_62 : decode cX3_plans 62 = .ok (.istore 4, 2) := dk_54 4 (dk_at dksX3_plans_2 14 rfl rfl)
theorem dX3_plans_64 : decode cX3_plans 64 = .ok (.iinc 5 (-1), 3) := dk_132 5 255 (dk_at dksX3_plans_2 16 rfl rfl)
theorem dX3_plans_67 : decode cX3_plans 67 = .ok (.goto (-25), 3) := dk_167 255 231 (dk_at dksX3_plans_2 19 rfl rfl)
theorem dX3_plans_70 : decode cX3_plans 70 = .ok (.aload_n 0, 1) := dk_42 (dk_at dksX3_plans_2 22 rfl rfl)
theorem dX3_plans_71 : decode cX3_plans 71 = .ok (.invokevirtual 189, 3) := dk_182 0 189 (dk_at dksX3_plans_3 0 rfl rfl)
theorem dX3_plans_74 : decode cX3_plans 74 = .ok (.istore 5, 2) := dk_54 5 (dk_at dksX3_plans_3 3 rfl rfl)
theorem dX3_plans_76 : decode cX3_plans 76 = .ok (.iload 5, 2) := dk_21 5 (dk_at dksX3_plans_3 5 rfl rfl)
theorem dX3_plans_78 : decode cX3_plans 78 = .ok (.iconst (-1), 1) := dk_2 (dk_at dksX3_plans_3 7 rfl rfl)
theorem dX3_plans_79 : decode cX3_plans 79 = .ok (.if_icmp .eq 49, 3) := dk_159 0 49 (dk_at dksX3_plans_3 8 rfl rfl)
theorem dX3_plans_82 : decode cX3_plans 82 = .ok (.iload_n 2, 1) := dk_28 (dk_at dksX3_plans_3 11 rfl rfl)
theorem dX3_plans_83 : decode cX3_plans 83 = .ok (.iconst (-1), 1) := dk_2 (dk_at dksX3_plans_3 12 rfl rfl)
theorem dX3_plans_84 : decode cX3_plans 84 = .ok (.if_icmp .eq 9, 3) := dk_159 0 9 (dk_at dksX3_plans_3 13 rfl rfl)
theorem dX3_plans_87 : decode cX3_plans 87 = .ok (.iload 5, 2) := dk_21 5 (dk_at dksX3_plans_3 16 rfl rfl)
theorem dX3_plans_89 : decode cX3_plans 89 = .ok (.iload_n 2, 1) := dk_28 (dk_at dksX3_plans_3 18 rfl rfl)
theorem dX3_plans_90 : decode cX3_plans 90 = .ok (.if_icmp .ge 38, 3) := dk_162 0 38 (dk_at dksX3_plans_3 19 rfl rfl)
theorem dX3_plans_93 : decode cX3_plans 93 = .ok (.iload 5, 2) := dk_21 5 (dk_at dksX3_plans_3 22 rfl rfl)
theorem dX3_plans_95 : decode cX3_plans 95 = .ok (.istore_n 2, 1) := dk_61 (dk_at dksX3_plans_4 0 rfl rfl)
theorem dX3_plans_96 : decode cX3_plans 96 = .ok (.iconst 0, 1) := dk_3 (dk_at dksX3_plans_4 1 rfl rfl)
theorem dX3_plans_97 : decode cX3_plans 97 = .ok (.istore 6, 2) := dk_54 6 (dk_at dksX3_plans_4 2 rfl rfl)
theorem dX3_plans_99 : decode cX3_plans 99 = .ok (.iload 6, 2) := dk_21 6 (dk_at dksX3_plans_4 4 rfl rfl)
theorem dX3_plans_101 : decode cX3_plans 101 = .ok (.aload_n 0, 1) := dk_42 (dk_at dksX3_plans_4 6 rfl rfl)
theorem dX3_plans_102 : decode cX3_plans 102 = .ok (.getfield 139, 3) := dk_180 0 139 (dk_at dksX3_plans_4 7 rfl rfl)
theorem dX3_plans_105 : decode cX3_plans 105 = .ok (.if_icmp .ge 23, 3) := dk_162 0 23 (dk_at dksX3_plans_4 10 rfl rfl)
theorem dX3_plans_108 : decode cX3_plans 108 = .ok (.aload_n 0, 1) := dk_42 (dk_at dksX3_plans_4 13 rfl rfl)
theorem dX3_plans_109 : decode cX3_plans 109 = .ok (.getfield 86, 3) := dk_180 0 86 (dk_at dksX3_plans_4 14 rfl rfl)
theorem dX3_plans_112 : decode cX3_plans 112 = .ok (.iload 6, 2) := dk_21 6 (dk_at dksX3_plans_4 17 rfl rfl)
theorem dX3_plans_114 : decode cX3_plans 114 = .ok (.aload_n 0, 1) := dk_42 (dk_at dksX3_plans_4 19 rfl rfl)
theorem dX3_plans_115 : decode cX3_plans 115 = .ok (.getfield 89, 3) := dk_180 0 89 (dk_at dksX3_plans_4 20 rfl rfl)
theorem dX3_plans_118 : decode cX3_plans 118 = .ok (.iload 6, 2) := dk_21 6 (dk_at dksX3_plans_5 0 rfl rfl)
theorem dX3_plans_120 : decode cX3_plans 120 = .ok (.iaload, 1) := dk_46 (dk_at dksX3_plans_5 2 rfl rfl)
theorem dX3_plans_121 : decode cX3_plans 121 = .ok (.iastore, 1) := dk_79 (dk_at dksX3_plans_5 3 rfl rfl)
theorem dX3_plans_122 : decode cX3_plans 122 = .ok (.iinc 6 1, 3) := dk_132 6 1 (dk_at dksX3_plans_5 4 rfl rfl)
theorem dX3_plans_125 : decode cX3_plans 125 = .ok (.goto (-26), 3) := dk_167 255 230 (dk_at dksX3_plans_5 7 rfl rfl)
theorem dX3_plans_128 : decode cX3_plans 128 = .ok (.iinc 3 1, 3) := dk_132 3 1 (dk_at dksX3_plans_5 10 rfl rfl)
theorem dX3_plans_131 : decode cX3_plans 131 = .ok (.goto (-105), 3) := dk_167 255 151 (dk_at dksX3_plans_5 13 rfl rfl)
theorem dX3_plans_134 : decode cX3_plans 134 = .ok (.iload_n 2, 1) := dk_28 (dk_at dksX3_plans_5 16 rfl rfl)
theorem dX3_plans_135 : decode cX3_plans 135 = .ok (.ireturn, 1) := dk_172 (dk_at dksX3_plans_5 17 rfl rfl)
abbrev cX3_movesOf : ByteArray := prog_12_method_41_code
def yX3_movesOf : MethodName := ⟨RX3, "movesOf", "()I"⟩
def dkwX3_movesOf_5 : List UInt8 := [172, 132, 2, 1, 167, 255, 137, 27, 172]
abbrev dktX3_movesOf_5 : List UInt8 := dkwX3_movesOf_5 ++ []
def dkwX3_movesOf_4 : List UInt8 := [46, 46, 162, 0, 7, 4, 167, 0, 4, 3, 96, 60, 132, 4, 1, 167, 255, 163, 29, 7, 164, 0, 5, 2]
abbrev dktX3_movesOf_4 : List UInt8 := dkwX3_movesOf_4 ++ dktX3_movesOf_5
def dkwX3_movesOf_3 : List UInt8 := [164, 0, 33, 42, 180, 0, 83, 42, 180, 0, 80, 28, 46, 46, 42, 180, 0, 83, 42, 180, 0, 80, 21, 4]
abbrev dktX3_movesOf_3 : List UInt8 := dkwX3_movesOf_3 ++ dktX3_movesOf_4
def dkwX3_movesOf_2 : List UInt8 := [54, 5, 29, 21, 5, 153, 0, 7, 4, 167, 0, 4, 3, 96, 62, 27, 21, 5, 153, 0, 39, 21, 4, 28]
abbrev dktX3_movesOf_2 : List UInt8 := dkwX3_movesOf_2 ++ dktX3_movesOf_3
def dkwX3_movesOf_1 : List UInt8 := [162, 0, 90, 42, 180, 0, 89, 28, 46, 42, 180, 0, 89, 21, 4, 46, 160, 0, 7, 4, 167, 0, 4, 3]
abbrev dktX3_movesOf_1 : List UInt8 := dkwX3_movesOf_1 ++ dktX3_movesOf_2
def dkwX3_movesOf_0 : List UInt8 := [3, 60, 3, 61, 28, 42, 180, 0, 139, 162, 0, 117, 3, 62, 3, 54, 4, 21, 4, 42, 180, 0, 139]
abbrev dktX3_movesOf_0 : List UInt8 := dkwX3_movesOf_0 ++ dktX3_movesOf_1
theorem dksX3_movesOf_0 : cX3_movesOf.data.toList.drop 0 = dktX3_movesOf_0 := by decide +kernel
theorem dksX3_movesOf_1 : cX3_movesOf.data.toList.drop 23 = dktX3_movesOf_1 := dk_seg dksX3_movesOf_0 23 rfl rfl
theorem dksX3_movesOf_2 : cX3_movesOf.data.toList.drop 47 = dktX3_movesOf_2 := dk_seg dksX3_movesOf_1 24 rfl rfl
theorem dksX3_movesOf_3 : cX3_movesOf.data.toList.drop 71 = dktX3_movesOf_3 := dk_seg dksX3_movesOf_2 24 rfl rfl
theorem dksX3_movesOf_4 : cX3_movesOf.data.toList.drop 95 = dktX3_movesOf_4 := dk_seg dksX3_movesOf_3 24 rfl rfl
theorem dksX3_movesOf_5 : cX3_movesOf.data.toList.drop 119 = dktX3_movesOf_5 := dk_seg dksX3_movesOf_4 24 rfl rfl
theorem dX3_movesOf_0 : decode cX3_movesOf 0 = .ok (.iconst 0, 1) := dk_3 (dk_at dksX3_movesOf_0 0 rfl rfl)
theorem dX3_movesOf_1 : decode cX3_movesOf 1 = .ok (.istore_n 1, 1) := dk_60 (dk_at dksX3_movesOf_0 1 rfl rfl)
theorem dX3_movesOf_2 : decode cX3_movesOf 2 = .ok (.iconst 0, 1) := dk_3 (dk_at dksX3_movesOf_0 2 rfl rfl)
theorem dX3_movesOf_3 : decode cX3_movesOf 3 = .ok (.istore_n 2, 1) := dk_61 (dk_at dksX3_movesOf_0 3 rfl rfl)
theorem dX3_movesOf_4 : decode cX3_movesOf 4 = .ok (.iload_n 2, 1) := dk_28 (dk_at dksX3_movesOf_0 4 rfl rfl)
theorem dX3_movesOf_5 : decode cX3_movesOf 5 = .ok (.aload_n 0, 1) := dk_42 (dk_at dksX3_movesOf_0 5 rfl rfl)
theorem dX3_movesOf_6 : decode cX3_movesOf 6 = .ok (.getfield 139, 3) := dk_180 0 139 (dk_at dksX3_movesOf_0 6 rfl rfl)
theorem dX3_movesOf_9 : decode cX3_movesOf 9 = .ok (.if_icmp .ge 117, 3) := dk_162 0 117 (dk_at dksX3_movesOf_0 9 rfl rfl)
theorem dX3_movesOf_12 : decode cX3_movesOf 12 = .ok (.iconst 0, 1) := dk_3 (dk_at dksX3_movesOf_0 12 rfl rfl)
theorem dX3_movesOf_13 : decode cX3_movesOf 13 = .ok (.istore_n 3, 1) := dk_62 (dk_at dksX3_movesOf_0 13 rfl rfl)
theorem dX3_movesOf_14 : decode cX3_movesOf 14 = .ok (.iconst 0, 1) := dk_3 (dk_at dksX3_movesOf_0 14 rfl rfl)
theorem dX3_movesOf_15 : decode cX3_movesOf 15 = .ok (.istore 4, 2) := dk_54 4 (dk_at dksX3_movesOf_0 15 rfl rfl)
theorem dX3_movesOf_17 : decode cX3_movesOf 17 = .ok (.iload 4, 2) := dk_21 4 (dk_at dksX3_movesOf_0 17 rfl rfl)
theorem dX3_movesOf_19 : decode cX3_movesOf 19 = .ok (.aload_n 0, 1) := dk_42 (dk_at dksX3_movesOf_0 19 rfl rfl)
theorem dX3_movesOf_20 : decode cX3_movesOf 20 = .ok (.getfield 139, 3) := dk_180 0 139 (dk_at dksX3_movesOf_0 20 rfl rfl)
theorem dX3_movesOf_23 : decode cX3_movesOf 23 = .ok (.if_icmp .ge 90, 3) := dk_162 0 90 (dk_at dksX3_movesOf_1 0 rfl rfl)
theorem dX3_movesOf_26 : decode cX3_movesOf 26 = .ok (.aload_n 0, 1) := dk_42 (dk_at dksX3_movesOf_1 3 rfl rfl)
theorem dX3_movesOf_27 : decode cX3_movesOf 27 = .ok (.getfield 89, 3) := dk_180 0 89 (dk_at dksX3_movesOf_1 4 rfl rfl)
theorem dX3_movesOf_30 : decode cX3_movesOf 30 = .ok (.iload_n 2, 1) := dk_28 (dk_at dksX3_movesOf_1 7 rfl rfl)
theorem dX3_movesOf_31 : decode cX3_movesOf 31 = .ok (.iaload, 1) := dk_46 (dk_at dksX3_movesOf_1 8 rfl rfl)
theorem dX3_movesOf_32 : decode cX3_movesOf 32 = .ok (.aload_n 0, 1) := dk_42 (dk_at dksX3_movesOf_1 9 rfl rfl)
theorem dX3_movesOf_33 : decode cX3_movesOf 33 = .ok (.getfield 89, 3) := dk_180 0 89 (dk_at dksX3_movesOf_1 10 rfl rfl)
theorem dX3_movesOf_36 : decode cX3_movesOf 36 = .ok (.iload 4, 2) := dk_21 4 (dk_at dksX3_movesOf_1 13 rfl rfl)
theorem dX3_movesOf_38 : decode cX3_movesOf 38 = .ok (.iaload, 1) := dk_46 (dk_at dksX3_movesOf_1 15 rfl rfl)
theorem dX3_movesOf_39 : decode cX3_movesOf 39 = .ok (.if_icmp .ne 7, 3) := dk_160 0 7 (dk_at dksX3_movesOf_1 16 rfl rfl)
theorem dX3_movesOf_42 : decode cX3_movesOf 42 = .ok (.iconst 1, 1) := dk_4 (dk_at dksX3_movesOf_1 19 rfl rfl)
theorem dX3_movesOf_43 : decode cX3_movesOf 43 = .ok (.goto 4, 3) := dk_167 0 4 (dk_at dksX3_movesOf_1 20 rfl rfl)
theorem dX3_movesOf_46 : decode cX3_movesOf 46 = .ok (.iconst 0, 1) := dk_3 (dk_at dksX3_movesOf_1 23 rfl rfl)
theorem dX3_movesOf_47 : decode cX3_movesOf 47 = .ok (.istore 5, 2) := dk_54 5 (dk_at dksX3_movesOf_2 0 rfl rfl)
theorem dX3_movesOf_49 : decode cX3_movesOf 49 = .ok (.iload_n 3, 1) := dk_29 (dk_at dksX3_movesOf_2 2 rfl rfl)
theorem dX3_movesOf_50 : decode cX3_movesOf 50 = .ok (.iload 5, 2) := dk_21 5 (dk_at dksX3_movesOf_2 3 rfl rfl)
theorem dX3_movesOf_52 : decode cX3_movesOf 52 = .ok (.ifCond .eq 7, 3) := dk_153 0 7 (dk_at dksX3_movesOf_2 5 rfl rfl)
theorem dX3_movesOf_55 : decode cX3_movesOf 55 = .ok (.iconst 1, 1) := dk_4 (dk_at dksX3_movesOf_2 8 rfl rfl)
theorem dX3_movesOf_56 : decode cX3_movesOf 56 = .ok (.goto 4, 3) := dk_167 0 4 (dk_at dksX3_movesOf_2 9 rfl rfl)
theorem dX3_movesOf_59 : decode cX3_movesOf 59 = .ok (.iconst 0, 1) := dk_3 (dk_at dksX3_movesOf_2 12 rfl rfl)
theorem dX3_movesOf_60 : decode cX3_movesOf 60 = .ok (.iadd, 1) := dk_96 (dk_at dksX3_movesOf_2 13 rfl rfl)
theorem dX3_movesOf_61 : decode cX3_movesOf 61 = .ok (.istore_n 3, 1) := dk_62 (dk_at dksX3_movesOf_2 14 rfl rfl)
theorem dX3_movesOf_62 : decode cX3_movesOf 62 = .ok (.iload_n 1, 1) := dk_27 (dk_at dksX3_movesOf_2 15 rfl rfl)
theorem dX3_movesOf_63 : decode cX3_movesOf 63 = .ok (.iload 5, 2) := dk_21 5 (dk_at dksX3_movesOf_2 16 rfl rfl)
theorem dX3_movesOf_65 : decode cX3_movesOf 65 = .ok (.ifCond .eq 39, 3) := dk_153 0 39 (dk_at dksX3_movesOf_2 18 rfl rfl)
theorem dX3_movesOf_68 : decode cX3_movesOf 68 = .ok (.iload 4, 2) := dk_21 4 (dk_at dksX3_movesOf_2 21 rfl rfl)
theorem dX3_movesOf_70 : decode cX3_movesOf 70 = .ok (.iload_n 2, 1) := dk_28 (dk_at dksX3_movesOf_2 23 rfl rfl)
theorem dX3_movesOf_71 : decode cX3_movesOf 71 = .ok (.if_icmp .le 33, 3) := dk_164 0 33 (dk_at dksX3_movesOf_3 0 rfl rfl)
theorem dX3_movesOf_74 : decode cX3_movesOf 74 = .ok (.aload_n 0, 1) := dk_42 (dk_at dksX3_movesOf_3 3 rfl rfl)
theorem dX3_movesOf_75 : decode cX3_movesOf 75 = .ok (.getfield 83, 3) := dk_180 0 83 (dk_at dksX3_movesOf_3 4 rfl rfl)
theorem dX3_movesOf_78 : decode cX3_movesOf 78 = .ok (.aload_n 0, 1) := dk_42 (dk_at dksX3_movesOf_3 7 rfl rfl)
theorem dX3_movesOf_79 : decode cX3_movesOf 79 = .ok (.getfield 80, 3) := dk_180 0 80 (dk_at dksX3_movesOf_3 8 rfl rfl)
theorem dX3_movesOf_82 : decode cX3_movesOf 82 = .ok (.iload_n 2, 1) := dk_28 (dk_at dksX3_movesOf_3 11 rfl rfl)
theorem dX3_movesOf_83 : decode cX3_movesOf 83 = .ok (.iaload, 1) := dk_46 (dk_at dksX3_movesOf_3 12 rfl rfl)
theorem dX3_movesOf_84 : decode cX3_movesOf 84 = .ok (.iaload, 1) := dk_46 (dk_at dksX3_movesOf_3 13 rfl rfl)
theorem dX3_movesOf_85 : decode cX3_movesOf 85 = .ok (.aload_n 0, 1) := dk_42 (dk_at dksX3_movesOf_3 14 rfl rfl)
theorem dX3_movesOf_86 : decode cX3_movesOf 86 = .ok (.getfield 83, 3) := dk_180 0 83 (dk_at dksX3_movesOf_3 15 rfl rfl)
theorem dX3_movesOf_89 : decode cX3_movesOf 89 = .ok (.aload_n 0, 1) := dk_42 (dk_at dksX3_movesOf_3 18 rfl rfl)
theorem dX3_movesOf_90 : decode cX3_movesOf 90 = .ok (.getfield 80, 3) := dk_180 0 80 (dk_at dksX3_movesOf_3 19 rfl rfl)
theorem dX3_movesOf_93 : decode cX3_movesOf 93 = .ok (.iload 4, 2) := dk_21 4 (dk_at dksX3_movesOf_3 22 rfl rfl)
theorem dX3_movesOf_95 : decode cX3_movesOf 95 = .ok (.iaload, 1) := dk_46 (dk_at dksX3_movesOf_4 0 rfl rfl)
theorem dX3_movesOf_96 : decode cX3_movesOf 96 = .ok (.iaload, 1) := dk_46 (dk_at dksX3_movesOf_4 1 rfl rfl)
theorem dX3_movesOf_97 : decode cX3_movesOf 97 = .ok (.if_icmp .ge 7, 3) := dk_162 0 7 (dk_at dksX3_movesOf_4 2 rfl rfl)
theorem dX3_movesOf_100 : decode cX3_movesOf 100 = .ok (.iconst 1, 1) := dk_4 (dk_at dksX3_movesOf_4 5 rfl rfl)
theorem dX3_movesOf_101 : decode cX3_movesOf 101 = .ok (.goto 4, 3) := dk_167 0 4 (dk_at dksX3_movesOf_4 6 rfl rfl)
theorem dX3_movesOf_104 : decode cX3_movesOf 104 = .ok (.iconst 0, 1) := dk_3 (dk_at dksX3_movesOf_4 9 rfl rfl)
theorem dX3_movesOf_105 : decode cX3_movesOf 105 = .ok (.iadd, 1) := dk_96 (dk_at dksX3_movesOf_4 10 rfl rfl)
theorem dX3_movesOf_106 : decode cX3_movesOf 106 = .ok (.istore_n 1, 1) := dk_60 (dk_at dksX3_movesOf_4 11 rfl rfl)
theorem dX3_movesOf_107 : decode cX3_movesOf 107 = .ok (.iinc 4 1, 3) := dk_132 4 1 (dk_at dksX3_movesOf_4 12 rfl rfl)
theorem dX3_movesOf_110 : decode cX3_movesOf 110 = .ok (.goto (-93), 3) := dk_167 255 163 (dk_at dksX3_movesOf_4 15 rfl rfl)
theorem dX3_movesOf_113 : decode cX3_movesOf 113 = .ok (.iload_n 3, 1) := dk_29 (dk_at dksX3_movesOf_4 18 rfl rfl)
theorem dX3_movesOf_114 : decode cX3_movesOf 114 = .ok (.iconst 4, 1) := dk_7 (dk_at dksX3_movesOf_4 19 rfl rfl)
theorem dX3_movesOf_115 : decode cX3_movesOf 115 = .ok (.if_icmp .le 5, 3) := dk_164 0 5 (dk_at dksX3_movesOf_4 20 rfl rfl)
theorem dX3_movesOf_118 : decode cX3_movesOf 118 = .ok (.iconst (-1), 1) := dk_2 (dk_at dksX3_movesOf_4 23 rfl rfl)
theorem dX3_movesOf_119 : decode cX3_movesOf 119 = .ok (.ireturn, 1) := dk_172 (dk_at dksX3_movesOf_5 0 rfl rfl)
theorem dX3_movesOf_120 : decode cX3_movesOf 120 = .ok (.iinc 2 1, 3) := dk_132 2 1 (dk_at dksX3_movesOf_5 1 rfl rfl)
theorem dX3_movesOf_123 : decode cX3_movesOf 123 = .ok (.goto (-119), 3) := dk_167 255 137 (dk_at dksX3_movesOf_5 4 rfl rfl)
theorem dX3_movesOf_126 : decode cX3_movesOf 126 = .ok (.iload_n 1, 1) := dk_27 (dk_at dksX3_movesOf_5 7 rfl rfl)
theorem dX3_movesOf_127 : decode cX3_movesOf 127 = .ok (.ireturn, 1) := dk_172 (dk_at dksX3_movesOf_5 8 rfl rfl)
abbrev cX3_out : ByteArray := prog_12_method_44_code
def yX3_out : MethodName := ⟨RX3, "out", "()I"⟩
def dkwX3_out_9 : List UInt8 := [29, 172]
abbrev dktX3_out_9 : List UInt8 := dkwX3_out_9 ++ []
def dkwX3_out_8 : List UInt8 := [104, 21, 4, 96, 4, 96, 46, 79, 132, 4, 1, 167, 255, 216, 42, 180, 0, 92, 27, 92, 46, 4, 100, 79]
abbrev dktX3_out_8 : List UInt8 := dkwX3_out_8 ++ dktX3_out_9
def dkwX3_out_7 : List UInt8 := [180, 0, 92, 27, 46, 162, 0, 33, 42, 180, 0, 95, 7, 27, 104, 21, 4, 96, 42, 180, 0, 95, 7, 27]
abbrev dktX3_out_7 : List UInt8 := dkwX3_out_7 ++ dktX3_out_8
def dkwX3_out_6 : List UInt8 := [96, 46, 3, 84, 42, 180, 0, 92, 27, 46, 4, 100, 28, 100, 62, 28, 54, 4, 21, 4, 4, 96, 42]
abbrev dktX3_out_6 : List UInt8 := dkwX3_out_6 ++ dktX3_out_7
def dkwX3_out_5 : List UInt8 := [181, 0, 98, 42, 180, 0, 98, 158, 0, 5, 3, 172, 42, 180, 0, 41, 42, 180, 0, 95, 7, 27, 104, 28]
abbrev dktX3_out_5 : List UInt8 := dkwX3_out_5 ++ dktX3_out_6
def dkwX3_out_4 : List UInt8 := [60, 132, 4, 1, 167, 255, 173, 132, 3, 1, 167, 255, 159, 42, 27, 2, 160, 0, 7, 4, 167, 0, 4, 3]
abbrev dktX3_out_4 : List UInt8 := dkwX3_out_4 ++ dktX3_out_5
def dkwX3_out_3 : List UInt8 := [54, 5, 21, 5, 153, 0, 8, 21, 4, 167, 0, 4, 28, 61, 21, 5, 153, 0, 7, 29, 167, 0, 4, 27]
abbrev dktX3_out_3 : List UInt8 := dkwX3_out_3 ++ dktX3_out_4
def dkwX3_out_2 : List UInt8 := [42, 180, 0, 83, 42, 180, 0, 95, 7, 27, 104, 28, 96, 46, 46, 162, 0, 7, 4, 167, 0, 4, 3]
abbrev dktX3_out_2 : List UInt8 := dkwX3_out_2 ++ dktX3_out_3
def dkwX3_out_1 : List UInt8 := [162, 0, 78, 27, 2, 159, 0, 37, 42, 180, 0, 83, 42, 180, 0, 95, 7, 29, 104, 21, 4, 96, 46, 46]
abbrev dktX3_out_1 : List UInt8 := dkwX3_out_1 ++ dktX3_out_2
def dkwX3_out_0 : List UInt8 := [2, 60, 3, 61, 3, 62, 29, 6, 162, 0, 98, 3, 54, 4, 21, 4, 42, 180, 0, 92, 29, 46]
abbrev dktX3_out_0 : List UInt8 := dkwX3_out_0 ++ dktX3_out_1
theorem dksX3_out_0 : cX3_out.data.toList.drop 0 = dktX3_out_0 := by decide +kernel
theorem dksX3_out_1 : cX3_out.data.toList.drop 22 = dktX3_out_1 := dk_seg dksX3_out_0 22 rfl rfl
theorem dksX3_out_2 : cX3_out.data.toList.drop 46 = dktX3_out_2 := dk_seg dksX3_out_1 24 rfl rfl
theorem dksX3_out_3 : cX3_out.data.toList.drop 69 = dktX3_out_3 := dk_seg dksX3_out_2 23 rfl rfl
theorem dksX3_out_4 : cX3_out.data.toList.drop 93 = dktX3_out_4 := dk_seg dksX3_out_3 24 rfl rfl
theorem dksX3_out_5 : cX3_out.data.toList.drop 117 = dktX3_out_5 := dk_seg dksX3_out_4 24 rfl rfl
theorem dksX3_out_6 : cX3_out.data.toList.drop 141 = dktX3_out_6 := dk_seg dksX3_out_5 24 rfl rfl
theorem dksX3_out_7 : cX3_out.data.toList.drop 164 = dktX3_out_7 := dk_seg dksX3_out_6 23 rfl rfl
theorem dksX3_out_8 : cX3_out.data.toList.drop 188 = dktX3_out_8 := dk_seg dksX3_out_7 24 rfl rfl
theorem dksX3_out_9 : cX3_out.data.toList.drop 212 = dktX3_out_9 := dk_seg dksX3_out_8 24 rfl rfl
theorem dX3_out_0 : decode cX3_out 0 = .ok (.iconst (-1), 1) := dk_2 (dk_at dksX3_out_0 0 rfl rfl)
theorem dX3_out_1 : decode cX3_out 1 = .ok (.istore_n 1, 1) := dk_60 (dk_at dksX3_out_0 1 rfl rfl)
theorem dX3_out_2 : decode cX3_out 2 = .ok (.iconst 0, 1) := dk_3 (dk_at dksX3_out_0 2 rfl rfl)
theorem dX3_out_3 : decode cX3_out 3 = .ok (.istore_n 2, 1) := dk_61 (dk_at dksX3_out_0 3 rfl rfl)
theorem dX3_out_4 : decode cX3_out 4 = .ok (.iconst 0, 1) := dk_3 (dk_at dksX3_out_0 4 rfl rfl)
theorem dX3_out_5 : decode cX3_out 5 = .ok (.istore_n 3, 1) := dk_62 (dk_at dksX3_out_0 5 rfl rfl)
theorem dX3_out_6 : decode cX3_out 6 = .ok (.iload_n 3, 1) := dk_29 (dk_at dksX3_out_0 6 rfl rfl)
theorem dX3_out_7 : decode cX3_out 7 = .ok (.iconst 3, 1) := dk_6 (dk_at dksX3_out_0 7 rfl rfl)
theorem dX3_out_8 : decode cX3_out 8 = .ok (.if_icmp .ge 98, 3) := dk_162 0 98 (dk_at dksX3_out_0 8 rfl rfl)
theorem dX3_out_11 : decode cX3_out 11 = .ok (.iconst 0, 1) := dk_3 (dk_at dksX3_out_0 11 rfl rfl)
theorem dX3_out_12 : decode cX3_out 12 = .ok (.istore 4, 2) := dk_54 4 (dk_at dksX3_out_0 12 rfl rfl)
theorem dX3_out_14 : decode cX3_out 14 = .ok (.iload 4, 2) := dk_21 4 (dk_at dksX3_out_0 14 rfl rfl)
theorem dX3_out_16 : decode cX3_out 16 = .ok (.aload_n 0, 1) := dk_42 (dk_at dksX3_out_0 16 rfl rfl)
theorem dX3_out_17 : decode cX3_out 17 = .ok (.getfield 92, 3) := dk_180 0 92 (dk_at dksX3_out_0 17 rfl rfl)
theorem dX3_out_20 : decode cX3_out 20 = .ok (.iload_n 3, 1) := dk_29 (dk_at dksX3_out_0 20 rfl rfl)
theorem dX3_out_21 : decode cX3_out 21 = .ok (.iaload, 1) := dk_46 (dk_at dksX3_out_0 21 rfl rfl)
theorem dX3_out_22 : decode cX3_out 22 = .ok (.if_icmp .ge 78, 3) := dk_162 0 78 (dk_at dksX3_out_1 0 rfl rfl)
theorem dX3_out_25 : decode cX3_out 25 = .ok (.iload_n 1, 1) := dk_27 (dk_at dksX3_out_1 3 rfl rfl)
theorem dX3_out_26 : decode cX3_out 26 = .ok (.iconst (-1), 1) := dk_2 (dk_at dksX3_out_1 4 rfl rfl)
theorem dX3_out_27 : decode cX3_out 27 = .ok (.if_icmp .eq 37, 3) := dk_159 0 37 (dk_at dksX3_out_1 5 rfl rfl)
theorem dX3_out_30 : decode cX3_out 30 = .ok (.aload_n 0, 1) := dk_42 (dk_at dksX3_out_1 8 rfl rfl)
theorem dX3_out_31 : decode cX3_out 31 = .ok (.getfield 83, 3) := dk_180 0 83 (dk_at dksX3_out_1 9 rfl rfl)
theorem dX3_out_34 : decode cX3_out 34 = .ok (.aload_n 0, 1) := dk_42 (dk_at dksX3_out_1 12 rfl rfl)
theorem dX3_out_35 : decode cX3_out 35 = .ok (.getfield 95, 3) := dk_180 0 95 (dk_at dksX3_out_1 13 rfl rfl)
theorem dX3_out_38 : decode cX3_out 38 = .ok (.iconst 4, 1) := dk_7 (dk_at dksX3_out_1 16 rfl rfl)
theorem dX3_out_39 : decode cX3_out 39 = .ok (.iload_n 3, 1) := dk_29 (dk_at dksX3_out_1 17 rfl rfl)
theorem dX3_out_40 : decode cX3_out 40 = .ok (.imul, 1) := dk_104 (dk_at dksX3_out_1 18 rfl rfl)
theorem dX3_out_41 : decode cX3_out 41 = .ok (.iload 4, 2) := dk_21 4 (dk_at dksX3_out_1 19 rfl rfl)
theorem dX3_out_43 : decode cX3_out 43 = .ok (.iadd, 1) := dk_96 (dk_at dksX3_out_1 21 rfl rfl)
theorem dX3_out_44 : decode cX3_out 44 = .ok (.iaload, 1) := dk_46 (dk_at dksX3_out_1 22 rfl rfl)
theorem dX3_out_45 : decode cX3_out 45 = .ok (.iaload, 1) := dk_46 (dk_at dksX3_out_1 23 rfl rfl)
theorem dX3_out_46 : decode cX3_out 46 = .ok (.aload_n 0, 1) := dk_42 (dk_at dksX3_out_2 0 rfl rfl)
theorem dX3_out_47 : decode cX3_out 47 = .ok (.getfield 83, 3) := dk_180 0 83 (dk_at dksX3_out_2 1 rfl rfl)
theorem dX3_out_50 : decode cX3_out 50 = .ok (.aload_n 0, 1) := dk_42 (dk_at dksX3_out_2 4 rfl rfl)
theorem dX3_out_51 : decode cX3_out 51 = .ok (.getfield 95, 3) := dk_180 0 95 (dk_at dksX3_out_2 5 rfl rfl)
theorem dX3_out_54 : decode cX3_out 54 = .ok (.iconst 4, 1) := dk_7 (dk_at dksX3_out_2 8 rfl rfl)
theorem dX3_out_55 : decode cX3_out 55 = .ok (.iload_n 1, 1) := dk_27 (dk_at dksX3_out_2 9 rfl rfl)
theorem dX3_out_56 : decode cX3_out 56 = .ok (.imul, 1) := dk_104 (dk_at dksX3_out_2 10 rfl rfl)
theorem dX3_out_57 : decode cX3_out 57 = .ok (.iload_n 2, 1) := dk_28 (dk_at dksX3_out_2 11 rfl rfl)
theorem dX3_out_58 : decode cX3_out 58 = .ok (.iadd, 1) := dk_96 (dk_at dksX3_out_2 12 rfl rfl)
theorem dX3_out_59 : decode cX3_out 59 = .ok (.iaload, 1) := dk_46 (dk_at dksX3_out_2 13 rfl rfl)
theorem dX3_out_60 : decode cX3_out 60 = .ok (.iaload, 1) := dk_46 (dk_at dksX3_out_2 14 rfl rfl)
theorem dX3_out_61 : decode cX3_out 61 = .ok (.if_icmp .ge 7, 3) := dk_162 0 7 (dk_at dksX3_out_2 15 rfl rfl)
theorem dX3_out_64 : decode cX3_out 64 = .ok (.iconst 1, 1) := dk_4 (dk_at dksX3_out_2 18 rfl rfl)
theorem dX3_out_65 : decode cX3_out 65 = .ok (.goto 4, 3) := dk_167 0 4 (dk_at dksX3_out_2 19 rfl rfl)
theorem dX3_out_68 : decode cX3_out 68 = .ok (.iconst 0, 1) := dk_3 (dk_at dksX3_out_2 22 rfl rfl)
theorem dX3_out_69 : decode cX3_out 69 = .ok (.istore 5, 2) := dk_54 5 (dk_at dksX3_out_3 0 rfl rfl)
theorem dX3_out_71 : decode cX3_out 71 = .ok (.iload 5, 2) := dk_21 5 (dk_at dksX3_out_3 2 rfl rfl)
theorem dX3_out_73 : decode cX3_out 73 = .ok (.ifCond .eq 8, 3) := dk_153 0 8 (dk_at dksX3_out_3 4 rfl rfl)
theorem dX3_out_76 : decode cX3_out 76 = .ok (.iload 4, 2) := dk_21 4 (dk_at dksX3_out_3 7 rfl rfl)
theorem dX3_out_78 : decode cX3_out 78 = .ok (.goto 4, 3) := dk_167 0 4 (dk_at dksX3_out_3 9 rfl rfl)
theorem dX3_out_81 : decode cX3_out 81 = .ok (.iload_n 2, 1) := dk_28 (dk_at dksX3_out_3 12 rfl rfl)
theorem dX3_out_82 : decode cX3_out 82 = .ok (.istore_n 2, 1) := dk_61 (dk_at dksX3_out_3 13 rfl rfl)
theorem dX3_out_83 : decode cX3_out 83 = .ok (.iload 5, 2) := dk_21 5 (dk_at dksX3_out_3 14 rfl rfl)
theorem dX3_out_85 : decode cX3_out 85 = .ok (.ifCond .eq 7, 3) := dk_153 0 7 (dk_at dksX3_out_3 16 rfl rfl)
theorem dX3_out_88 : decode cX3_out 88 = .ok (.iload_n 3, 1) := dk_29 (dk_at dksX3_out_3 19 rfl rfl)
theorem dX3_out_89 : decode cX3_out 89 = .ok (.goto 4, 3) := dk_167 0 4 (dk_at dksX3_out_3 20 rfl rfl)
theorem dX3_out_92 : decode cX3_out 92 = .ok (.iload_n 1, 1) := dk_27 (dk_at dksX3_out_3 23 rfl rfl)
theorem dX3_out_93 : decode cX3_out 93 = .ok (.istore_n 1, 1) := dk_60 (dk_at dksX3_out_4 0 rfl rfl)
theorem dX3_out_94 : decode cX3_out 94 = .ok (.iinc 4 1, 3) := dk_132 4 1 (dk_at dksX3_out_4 1 rfl rfl)
theorem dX3_out_97 : decode cX3_out 97 = .ok (.goto (-83), 3) := dk_167 255 173 (dk_at dksX3_out_4 4 rfl rfl)
theorem dX3_out_100 : decode cX3_out 100 = .ok (.iinc 3 1, 3) := dk_132 3 1 (dk_at dksX3_out_4 7 rfl rfl)
theorem dX3_out_103 : decode cX3_out 103 = .ok (.goto (-97), 3) := dk_167 255 159 (dk_at dksX3_out_4 10 rfl rfl)
theorem dX3_out_106 : decode cX3_out 106 = .ok (.aload_n 0, 1) := dk_42 (dk_at dksX3_out_4 13 rfl rfl)
theorem dX3_out_107 : decode cX3_out 107 = .ok (.iload_n 1, 1) := dk_27 (dk_at dksX3_out_4 14 rfl rfl)
theorem dX3_out_108 : decode cX3_out 108 = .ok (.iconst (-1), 1) := dk_2 (dk_at dksX3_out_4 15 rfl rfl)
theorem dX3_out_109 : decode cX3_out 109 = .ok (.if_icmp .ne 7, 3) := dk_160 0 7 (dk_at dksX3_out_4 16 rfl rfl)
theorem dX3_out_112 : decode cX3_out 112 = .ok (.iconst 1, 1) := dk_4 (dk_at dksX3_out_4 19 rfl rfl)
theorem dX3_out_113 : decode cX3_out 113 = .ok (.goto 4, 3) := dk_167 0 4 (dk_at dksX3_out_4 20 rfl rfl)
theorem dX3_out_116 : decode cX3_out 116 = .ok (.iconst 0, 1) := dk_3 (dk_at dksX3_out_4 23 rfl rfl)
theorem dX3_out_117 : decode cX3_out 117 = .ok (.putfield 98, 3) := dk_181 0 98 (dk_at dksX3_out_5 0 rfl rfl)
theorem dX3_out_120 : decode cX3_out 120 = .ok (.aload_n 0, 1) := dk_42 (dk_at dksX3_out_5 3 rfl rfl)
theorem dX3_out_121 : decode cX3_out 121 = .ok (.getfield 98, 3) := dk_180 0 98 (dk_at dksX3_out_5 4 rfl rfl)
theorem dX3_out_124 : decode cX3_out 124 = .ok (.ifCond .le 5, 3) := dk_158 0 5 (dk_at dksX3_out_5 7 rfl rfl)
theorem dX3_out_127 : decode cX3_out 127 = .ok (.iconst 0, 1) := dk_3 (dk_at dksX3_out_5 10 rfl rfl)
theorem dX3_out_128 : decode cX3_out 128 = .ok (.ireturn, 1) := dk_172 (dk_at dksX3_out_5 11 rfl rfl)
theorem dX3_out_129 : decode cX3_out 129 = .ok (.aload_n 0, 1) := dk_42 (dk_at dksX3_out_5 12 rfl rfl)
theorem dX3_out_130 : decode cX3_out 130 = .ok (.getfield 41, 3) := dk_180 0 41 (dk_at dksX3_out_5 13 rfl rfl)
theorem dX3_out_133 : decode cX3_out 133 = .ok (.aload_n 0, 1) := dk_42 (dk_at dksX3_out_5 16 rfl rfl)
theorem dX3_out_134 : decode cX3_out 134 = .ok (.getfield 95, 3) := dk_180 0 95 (dk_at dksX3_out_5 17 rfl rfl)
theorem dX3_out_137 : decode cX3_out 137 = .ok (.iconst 4, 1) := dk_7 (dk_at dksX3_out_5 20 rfl rfl)
theorem dX3_out_138 : decode cX3_out 138 = .ok (.iload_n 1, 1) := dk_27 (dk_at dksX3_out_5 21 rfl rfl)
theorem dX3_out_139 : decode cX3_out 139 = .ok (.imul, 1) := dk_104 (dk_at dksX3_out_5 22 rfl rfl)
theorem dX3_out_140 : decode cX3_out 140 = .ok (.iload_n 2, 1) := dk_28 (dk_at dksX3_out_5 23 rfl rfl)
theorem dX3_out_141 : decode cX3_out 141 = .ok (.iadd, 1) := dk_96 (dk_at dksX3_out_6 0 rfl rfl)
theorem dX3_out_142 : decode cX3_out 142 = .ok (.iaload, 1) := dk_46 (dk_at dksX3_out_6 1 rfl rfl)
theorem dX3_out_143 : decode cX3_out 143 = .ok (.iconst 0, 1) := dk_3 (dk_at dksX3_out_6 2 rfl rfl)
theorem dX3_out_144 : decode cX3_out 144 = .ok (.bastore, 1) := dk_84 (dk_at dksX3_out_6 3 rfl rfl)
theorem dX3_out_145 : decode cX3_out 145 = .ok (.aload_n 0, 1) := dk_42 (dk_at dksX3_out_6 4 rfl rfl)
theorem dX3_out_146 : decode cX3_out 146 = .ok (.getfield 92, 3) := dk_180 0 92 (dk_at dksX3_out_6 5 rfl rfl)
theorem dX3_out_149 : decode cX3_out 149 = .ok (.iload_n 1, 1) := dk_27 (dk_at dksX3_out_6 8 rfl rfl)
theorem dX3_out_150 : decode cX3_out 150 = .ok (.iaload, 1) := dk_46 (dk_at dksX3_out_6 9 rfl rfl)
theorem dX3_out_151 : decode cX3_out 151 = .ok (.iconst 1, 1) := dk_4 (dk_at dksX3_out_6 10 rfl rfl)
theorem dX3_out_152 : decode cX3_out 152 = .ok (.isub, 1) := dk_100 (dk_at dksX3_out_6 11 rfl rfl)
theorem dX3_out_153 : decode cX3_out 153 = .ok (.iload_n 2, 1) := dk_28 (dk_at dksX3_out_6 12 rfl rfl)
theorem dX3_out_154 : decode cX3_out 154 = .ok (.isub, 1) := dk_100 (dk_at dksX3_out_6 13 rfl rfl)
theorem dX3_out_155 : decode cX3_out 155 = .ok (.istore_n 3, 1) := dk_62 (dk_at dksX3_out_6 14 rfl rfl)
theorem dX3_out_156 : decode cX3_out 156 = .ok (.iload_n 2, 1) := dk_28 (dk_at dksX3_out_6 15 rfl rfl)
theorem dX3_out_157 : decode cX3_out 157 = .ok (.istore 4, 2) := dk_54 4 (dk_at dksX3_out_6 16 rfl rfl)
theorem dX3_out_159 : decode cX3_out 159 = .ok (.iload 4, 2) := dk_21 4 (dk_at dksX3_out_6 18 rfl rfl)
theorem dX3_out_161 : decode cX3_out 161 = .ok (.iconst 1, 1) := dk_4 (dk_at dksX3_out_6 20 rfl rfl)
theorem dX3_out_162 : decode cX3_out 162 = .ok (.iadd, 1) := dk_96 (dk_at dksX3_out_6 21 rfl rfl)
theorem dX3_out_163 : decode cX3_out 163 = .ok (.aload_n 0, 1) := dk_42 (dk_at dksX3_out_6 22 rfl rfl)
theorem dX3_out_164 : decode cX3_out 164 = .ok (.getfield 92, 3) := dk_180 0 92 (dk_at dksX3_out_7 0 rfl rfl)
theorem dX3_out_167 : decode cX3_out 167 = .ok (.iload_n 1, 1) := dk_27 (dk_at dksX3_out_7 3 rfl rfl)
theorem dX3_out_168 : decode cX3_out 168 = .ok (.iaload, 1) := dk_46 (dk_at dksX3_out_7 4 rfl rfl)
theorem dX3_out_169 : decode cX3_out 169 = .ok (.if_icmp .ge 33, 3) := dk_162 0 33 (dk_at dksX3_out_7 5 rfl rfl)
theorem dX3_out_172 : decode cX3_out 172 = .ok (.aload_n 0, 1) := dk_42 (dk_at dksX3_out_7 8 rfl rfl)
theorem dX3_out_173 : decode cX3_out 173 = .ok (.getfield 95, 3) := dk_180 0 95 (dk_at dksX3_out_7 9 rfl rfl)
theorem dX3_out_176 : decode cX3_out 176 = .ok (.iconst 4, 1) := dk_7 (dk_at dksX3_out_7 12 rfl rfl)
theorem dX3_out_177 : decode cX3_out 177 = .ok (.iload_n 1, 1) := dk_27 (dk_at dksX3_out_7 13 rfl rfl)
theorem dX3_out_178 : decode cX3_out 178 = .ok (.imul, 1) := dk_104 (dk_at dksX3_out_7 14 rfl rfl)
theorem dX3_out_179 : decode cX3_out 179 = .ok (.iload 4, 2) := dk_21 4 (dk_at dksX3_out_7 15 rfl rfl)
theorem dX3_out_181 : decode cX3_out 181 = .ok (.iadd, 1) := dk_96 (dk_at dksX3_out_7 17 rfl rfl)
theorem dX3_out_182 : decode cX3_out 182 = .ok (.aload_n 0, 1) := dk_42 (dk_at dksX3_out_7 18 rfl rfl)
theorem dX3_out_183 : decode cX3_out 183 = .ok (.getfield 95, 3) := dk_180 0 95 (dk_at dksX3_out_7 19 rfl rfl)
theorem dX3_out_186 : decode cX3_out 186 = .ok (.iconst 4, 1) := dk_7 (dk_at dksX3_out_7 22 rfl rfl)
theorem dX3_out_187 : decode cX3_out 187 = .ok (.iload_n 1, 1) := dk_27 (dk_at dksX3_out_7 23 rfl rfl)
theorem dX3_out_188 : decode cX3_out 188 = .ok (.imul, 1) := dk_104 (dk_at dksX3_out_8 0 rfl rfl)
theorem dX3_out_189 : decode cX3_out 189 = .ok (.iload 4, 2) := dk_21 4 (dk_at dksX3_out_8 1 rfl rfl)
theorem dX3_out_191 : decode cX3_out 191 = .ok (.iadd, 1) := dk_96 (dk_at dksX3_out_8 3 rfl rfl)
theorem dX3_out_192 : decode cX3_out 192 = .ok (.iconst 1, 1) := dk_4 (dk_at dksX3_out_8 4 rfl rfl)
theorem dX3_out_193 : decode cX3_out 193 = .ok (.iadd, 1) := dk_96 (dk_at dksX3_out_8 5 rfl rfl)
theorem dX3_out_194 : decode cX3_out 194 = .ok (.iaload, 1) := dk_46 (dk_at dksX3_out_8 6 rfl rfl)
theorem dX3_out_195 : decode cX3_out 195 = .ok (.iastore, 1) := dk_79 (dk_at dksX3_out_8 7 rfl rfl)
theorem dX3_out_196 : decode cX3_out 196 = .ok (.iinc 4 1, 3) := dk_132 4 1 (dk_at dksX3_out_8 8 rfl rfl)
theorem dX3_out_199 : decode cX3_out 199 = .ok (.goto (-40), 3) := dk_167 255 216 (dk_at dksX3_out_8 11 rfl rfl)
theorem dX3_out_202 : decode cX3_out 202 = .ok (.aload_n 0, 1) := dk_42 (dk_at dksX3_out_8 14 rfl rfl)
theorem dX3_out_203 : decode cX3_out 203 = .ok (.getfield 92, 3) := dk_180 0 92 (dk_at dksX3_out_8 15 rfl rfl)
theorem dX3_out_206 : decode cX3_out 206 = .ok (.iload_n 1, 1) := dk_27 (dk_at dksX3_out_8 18 rfl rfl)
theorem dX3_out_207 : decode cX3_out 207 = .ok (.dup2, 1) := dk_92 (dk_at dksX3_out_8 19 rfl rfl)
theorem dX3_out_208 : decode cX3_out 208 = .ok (.iaload, 1) := dk_46 (dk_at dksX3_out_8 20 rfl rfl)
theorem dX3_out_209 : decode cX3_out 209 = .ok (.iconst 1, 1) := dk_4 (dk_at dksX3_out_8 21 rfl rfl)
theorem dX3_out_210 : decode cX3_out 210 = .ok (.isub, 1) := dk_100 (dk_at dksX3_out_8 22 rfl rfl)
theorem dX3_out_211 : decode cX3_out 211 = .ok (.iastore, 1) := dk_79 (dk_at dksX3_out_8 23 rfl rfl)
theorem dX3_out_212 : decode cX3_out 212 = .ok (.iload_n 3, 1) := dk_29 (dk_at dksX3_out_9 0 rfl rfl)
theorem dX3_out_213 : decode cX3_out 213 = .ok (.ireturn, 1) := dk_172 (dk_at dksX3_out_9 1 rfl rfl)
abbrev cX3_host : ByteArray := prog_12_method_45_code
def yX3_host : MethodName := ⟨RX3, "host", "(I)I"⟩
def dkwX3_host_1 : List UInt8 := [3, 167, 0, 9, 42, 180, 0, 19, 27, 46, 172]
abbrev dktX3_host_1 : List UInt8 := dkwX3_host_1 ++ []
def dkwX3_host_0 : List UInt8 := [42, 42, 27, 182, 0, 109, 153, 0, 7, 3, 167, 0, 4, 4, 181, 0, 98, 42, 180, 0, 98, 158, 0, 7]
abbrev dktX3_host_0 : List UInt8 := dkwX3_host_0 ++ dktX3_host_1
theorem dksX3_host_0 : cX3_host.data.toList.drop 0 = dktX3_host_0 := by decide +kernel
theorem dksX3_host_1 : cX3_host.data.toList.drop 24 = dktX3_host_1 := dk_seg dksX3_host_0 24 rfl rfl
theorem dX3_host_0 : decode cX3_host 0 = .ok (.aload_n 0, 1) := dk_42 (dk_at dksX3_host_0 0 rfl rfl)
theorem dX3_host_1 : decode cX3_host 1 = .ok (.aload_n 0, 1) := dk_42 (dk_at dksX3_host_0 1 rfl rfl)
theorem dX3_host_2 : decode cX3_host 2 = .ok (.iload_n 1, 1) := dk_27 (dk_at dksX3_host_0 2 rfl rfl)
theorem dX3_host_3 : decode cX3_host 3 = .ok (.invokevirtual 109, 3) := dk_182 0 109 (dk_at dksX3_host_0 3 rfl rfl)
theorem dX3_host_6 : decode cX3_host 6 = .ok (.ifCond .eq 7, 3) := dk_153 0 7 (dk_at dksX3_host_0 6 rfl rfl)
theorem dX3_host_9 : decode cX3_host 9 = .ok (.iconst 0, 1) := dk_3 (dk_at dksX3_host_0 9 rfl rfl)
theorem dX3_host_10 : decode cX3_host 10 = .ok (.goto 4, 3) := dk_167 0 4 (dk_at dksX3_host_0 10 rfl rfl)
theorem dX3_host_13 : decode cX3_host 13 = .ok (.iconst 1, 1) := dk_4 (dk_at dksX3_host_0 13 rfl rfl)
theorem dX3_host_14 : decode cX3_host 14 = .ok (.putfield 98, 3) := dk_181 0 98 (dk_at dksX3_host_0 14 rfl rfl)
theorem dX3_host_17 : decode cX3_host 17 = .ok (.aload_n 0, 1) := dk_42 (dk_at dksX3_host_0 17 rfl rfl)
theorem dX3_host_18 : decode cX3_host 18 = .ok (.getfield 98, 3) := dk_180 0 98 (dk_at dksX3_host_0 18 rfl rfl)
theorem dX3_host_21 : decode cX3_host 21 = .ok (.ifCond .le 7, 3) := dk_158 0 7 (dk_at dksX3_host_0 21 rfl rfl)
theorem dX3_host_24 : decode cX3_host 24 = .ok (.iconst 0, 1) := dk_3 (dk_at dksX3_host_1 0 rfl rfl)
theorem dX3_host_25 : decode cX3_host 25 = .ok (.goto 9, 3) := dk_167 0 9 (dk_at dksX3_host_1 1 rfl rfl)
theorem dX3_host_28 : decode cX3_host 28 = .ok (.aload_n 0, 1) := dk_42 (dk_at dksX3_host_1 4 rfl rfl)
theorem dX3_host_29 : decode cX3_host 29 = .ok (.getfield 19, 3) := dk_180 0 19 (dk_at dksX3_host_1 5 rfl rfl)
theorem dX3_host_32 : decode cX3_host 32 = .ok (.iload_n 1, 1) := dk_27 (dk_at dksX3_host_1 8 rfl rfl)
theorem dX3_host_33 : decode cX3_host 33 = .ok (.iaload, 1) := dk_46 (dk_at dksX3_host_1 9 rfl rfl)
theorem dX3_host_34 : decode cX3_host 34 = .ok (.ireturn, 1) := dk_172 (dk_at dksX3_host_1 10 rfl rfl)
abbrev cX3_head : ByteArray := prog_12_method_46_code
def yX3_head : MethodName := ⟨RX3, "head", "(I)I"⟩
def dkwX3_head_1 : List UInt8 := [3, 167, 0, 8, 42, 27, 182, 0, 114, 172]
abbrev dktX3_head_1 : List UInt8 := dkwX3_head_1 ++ []
def dkwX3_head_0 : List UInt8 := [42, 42, 27, 182, 0, 109, 153, 0, 7, 3, 167, 0, 4, 4, 181, 0, 98, 42, 180, 0, 98, 158, 0, 7]
abbrev dktX3_head_0 : List UInt8 := dkwX3_head_0 ++ dktX3_head_1
theorem dksX3_head_0 : cX3_head.data.toList.drop 0 = dktX3_head_0 := by decide +kernel
theorem dksX3_head_1 : cX3_head.data.toList.drop 24 = dktX3_head_1 := dk_seg dksX3_head_0 24 rfl rfl
theorem dX3_head_0 : decode cX3_head 0 = .ok (.aload_n 0, 1) := dk_42 (dk_at dksX3_head_0 0 rfl rfl)
theorem dX3_head_1 : decode cX3_head 1 = .ok (.aload_n 0, 1) := dk_42 (dk_at dksX3_head_0 1 rfl rfl)
theorem dX3_head_2 : decode cX3_head 2 = .ok (.iload_n 1, 1) := dk_27 (dk_at dksX3_head_0 2 rfl rfl)
theorem dX3_head_3 : decode cX3_head 3 = .ok (.invokevirtual 109, 3) := dk_182 0 109 (dk_at dksX3_head_0 3 rfl rfl)
theorem dX3_head_6 : decode cX3_head 6 = .ok (.ifCond .eq 7, 3) := dk_153 0 7 (dk_at dksX3_head_0 6 rfl rfl)
theorem dX3_head_9 : decode cX3_head 9 = .ok (.iconst 0, 1) := dk_3 (dk_at dksX3_head_0 9 rfl rfl)
theorem dX3_head_10 : decode cX3_head 10 = .ok (.goto 4, 3) := dk_167 0 4 (dk_at dksX3_head_0 10 rfl rfl)
theorem dX3_head_13 : decode cX3_head 13 = .ok (.iconst 1, 1) := dk_4 (dk_at dksX3_head_0 13 rfl rfl)
theorem dX3_head_14 : decode cX3_head 14 = .ok (.putfield 98, 3) := dk_181 0 98 (dk_at dksX3_head_0 14 rfl rfl)
theorem dX3_head_17 : decode cX3_head 17 = .ok (.aload_n 0, 1) := dk_42 (dk_at dksX3_head_0 17 rfl rfl)
theorem dX3_head_18 : decode cX3_head 18 = .ok (.getfield 98, 3) := dk_180 0 98 (dk_at dksX3_head_0 18 rfl rfl)
theorem dX3_head_21 : decode cX3_head 21 = .ok (.ifCond .le 7, 3) := dk_158 0 7 (dk_at dksX3_head_0 21 rfl rfl)
theorem dX3_head_24 : decode cX3_head 24 = .ok (.iconst 0, 1) := dk_3 (dk_at dksX3_head_1 0 rfl rfl)
theorem dX3_head_25 : decode cX3_head 25 = .ok (.goto 8, 3) := dk_167 0 8 (dk_at dksX3_head_1 1 rfl rfl)
theorem dX3_head_28 : decode cX3_head 28 = .ok (.aload_n 0, 1) := dk_42 (dk_at dksX3_head_1 4 rfl rfl)
theorem dX3_head_29 : decode cX3_head 29 = .ok (.iload_n 1, 1) := dk_27 (dk_at dksX3_head_1 5 rfl rfl)
theorem dX3_head_30 : decode cX3_head 30 = .ok (.invokevirtual 114, 3) := dk_182 0 114 (dk_at dksX3_head_1 6 rfl rfl)
theorem dX3_head_33 : decode cX3_head 33 = .ok (.ireturn, 1) := dk_172 (dk_at dksX3_head_1 9 rfl rfl)
abbrev cX3_ofPart : ByteArray := prog_12_method_48_code
def yX3_ofPart : MethodName := ⟨RX3, "ofPart", "(II)I"⟩
def dkwX3_ofPart_7 : List UInt8 := [167, 0, 12, 3, 167, 0, 8, 42, 27, 182, 0, 196, 172]
abbrev dktX3_ofPart_7 : List UInt8 := dkwX3_ofPart_7 ++ []
def dkwX3_ofPart_6 : List UInt8 := [167, 0, 35, 3, 167, 0, 31, 28, 16, 7, 160, 0, 20, 42, 180, 0, 35, 27, 51, 153, 0, 7, 4]
abbrev dktX3_ofPart_6 : List UInt8 := dkwX3_ofPart_6 ++ dktX3_ofPart_7
def dkwX3_ofPart_5 : List UInt8 := [180, 0, 28, 27, 46, 172, 28, 16, 6, 160, 0, 20, 42, 180, 0, 31, 27, 51, 153, 0, 7, 4]
abbrev dktX3_ofPart_5 : List UInt8 := dkwX3_ofPart_5 ++ dktX3_ofPart_6
def dkwX3_ofPart_4 : List UInt8 := [180, 0, 22, 27, 46, 167, 0, 23, 28, 7, 160, 0, 12, 42, 180, 0, 25, 27, 46, 167, 0, 9, 42]
abbrev dktX3_ofPart_4 : List UInt8 := dkwX3_ofPart_4 ++ dktX3_ofPart_5
def dkwX3_ofPart_3 : List UInt8 := [167, 0, 9, 42, 180, 0, 16, 27, 46, 172, 28, 16, 6, 162, 0, 38, 28, 6, 160, 0, 12, 42]
abbrev dktX3_ofPart_3 : List UInt8 := dkwX3_ofPart_3 ++ dktX3_ofPart_4
def dkwX3_ofPart_2 : List UInt8 := [154, 0, 12, 42, 180, 0, 7, 27, 46, 167, 0, 23, 28, 4, 160, 0, 12, 42, 180, 0, 13, 27, 46]
abbrev dktX3_ofPart_2 : List UInt8 := dkwX3_ofPart_2 ++ dktX3_ofPart_3
def dkwX3_ofPart_1 : List UInt8 := [167, 0, 4, 5, 181, 0, 98, 42, 180, 0, 98, 158, 0, 5, 3, 172, 28, 6, 162, 0, 37, 28]
abbrev dktX3_ofPart_1 : List UInt8 := dkwX3_ofPart_1 ++ dktX3_ofPart_2
def dkwX3_ofPart_0 : List UInt8 := [42, 42, 27, 182, 0, 109, 154, 0, 7, 4, 167, 0, 18, 28, 3, 16, 8, 184, 0, 105, 153, 0, 7, 3]
abbrev dktX3_ofPart_0 : List UInt8 := dkwX3_ofPart_0 ++ dktX3_ofPart_1
theorem dksX3_ofPart_0 : cX3_ofPart.data.toList.drop 0 = dktX3_ofPart_0 := by decide +kernel
theorem dksX3_ofPart_1 : cX3_ofPart.data.toList.drop 24 = dktX3_ofPart_1 := dk_seg dksX3_ofPart_0 24 rfl rfl
theorem dksX3_ofPart_2 : cX3_ofPart.data.toList.drop 46 = dktX3_ofPart_2 := dk_seg dksX3_ofPart_1 22 rfl rfl
theorem dksX3_ofPart_3 : cX3_ofPart.data.toList.drop 69 = dktX3_ofPart_3 := dk_seg dksX3_ofPart_2 23 rfl rfl
theorem dksX3_ofPart_4 : cX3_ofPart.data.toList.drop 91 = dktX3_ofPart_4 := dk_seg dksX3_ofPart_3 22 rfl rfl
theorem dksX3_ofPart_5 : cX3_ofPart.data.toList.drop 114 = dktX3_ofPart_5 := dk_seg dksX3_ofPart_4 23 rfl rfl
theorem dksX3_ofPart_6 : cX3_ofPart.data.toList.drop 136 = dktX3_ofPart_6 := dk_seg dksX3_ofPart_5 22 rfl rfl
theorem dksX3_ofPart_7 : cX3_ofPart.data.toList.drop 159 = dktX3_ofPart_7 := dk_seg dksX3_ofPart_6 23 rfl rfl
theorem dX3_ofPart_0 : decode cX3_ofPart 0 = .ok (.aload_n 0, 1) := dk_42 (dk_at dksX3_ofPart_0 0 rfl rfl)
theorem dX3_ofPart_1 : decode cX3_ofPart 1 = .ok (.aload_n 0, 1) := dk_42 (dk_at dksX3_ofPart_0 1 rfl rfl)
theorem dX3_ofPart_2 : decode cX3_ofPart 2 = .ok (.iload_n 1, 1) := dk_27 (dk_at dksX3_ofPart_0 2 rfl rfl)
theorem dX3_ofPart_3 : decode cX3_ofPart 3 = .ok (.invokevirtual 109, 3) := dk_182 0 109 (dk_at dksX3_ofPart_0 3 rfl rfl)
theorem dX3_ofPart_6 : decode cX3_ofPart 6 = .ok (.ifCond .ne 7, 3) := dk_154 0 7 (dk_at dksX3_ofPart_0 6 rfl rfl)
theorem dX3_ofPart_9 : decode cX3_ofPart 9 = .ok (.iconst 1, 1) := dk_4 (dk_at dksX3_ofPart_0 9 rfl rfl)
theorem dX3_ofPart_10 : decode cX3_ofPart 10 = .ok (.goto 18, 3) := dk_167 0 18 (dk_at dksX3_ofPart_0 10 rfl rfl)
theorem dX3_ofPart_13 : decode cX3_ofPart 13 = .ok (.iload_n 2, 1) := dk_28 (dk_at dksX3_ofPart_0 13 rfl rfl)
theorem dX3_ofPart_14 : decode cX3_ofPart 14 = .ok (.iconst 0, 1) := dk_3 (dk_at dksX3_ofPart_0 14 rfl rfl)
theorem dX3_ofPart_15 : decode cX3_ofPart 15 = .ok (.bipush 8, 2) := dk_16 8 (dk_at dksX3_ofPart_0 15 rfl rfl)
theorem dX3_ofPart_17 : decode cX3_ofPart 17 = .ok (.invokestatic 105, 3) := dk_184 0 105 (dk_at dksX3_ofPart_0 17 rfl rfl)
theorem dX3_ofPart_20 : decode cX3_ofPart 20 = .ok (.ifCond .eq 7, 3) := dk_153 0 7 (dk_at dksX3_ofPart_0 20 rfl rfl)
theorem dX3_ofPart_23 : decode cX3_ofPart 23 = .ok (.iconst 0, 1) := dk_3 (dk_at dksX3_ofPart_0 23 rfl rfl)
theorem dX3_ofPart_24 : decode cX3_ofPart 24 = .ok (.goto 4, 3) := dk_167 0 4 (dk_at dksX3_ofPart_1 0 rfl rfl)
theorem dX3_ofPart_27 : decode cX3_ofPart 27 = .ok (.iconst 2, 1) := dk_5 (dk_at dksX3_ofPart_1 3 rfl rfl)
theorem dX3_ofPart_28 : decode cX3_ofPart 28 = .ok (.putfield 98, 3) := dk_181 0 98 (dk_at dksX3_ofPart_1 4 rfl rfl)
theorem dX3_ofPart_31 : decode cX3_ofPart 31 = .ok (.aload_n 0, 1) := dk_42 (dk_at dksX3_ofPart_1 7 rfl rfl)
theorem dX3_ofPart_32 : decode cX3_ofPart 32 = .ok (.getfield 98, 3) := dk_180 0 98 (dk_at dksX3_ofPart_1 8 rfl rfl)
theorem dX3_ofPart_35 : decode cX3_ofPart 35 = .ok (.ifCond .le 5, 3) := dk_158 0 5 (dk_at dksX3_ofPart_1 11 rfl rfl)
theorem dX3_ofPart_38 : decode cX3_ofPart 38 = .ok (.iconst 0, 1) := dk_3 (dk_at dksX3_ofPart_1 14 rfl rfl)
theorem dX3_ofPart_39 : decode cX3_ofPart 39 = .ok (.ireturn, 1) := dk_172 (dk_at dksX3_ofPart_1 15 rfl rfl)
theorem dX3_ofPart_40 : decode cX3_ofPart 40 = .ok (.iload_n 2, 1) := dk_28 (dk_at dksX3_ofPart_1 16 rfl rfl)
theorem dX3_ofPart_41 : decode cX3_ofPart 41 = .ok (.iconst 3, 1) := dk_6 (dk_at dksX3_ofPart_1 17 rfl rfl)
theorem dX3_ofPart_42 : decode cX3_ofPart 42 = .ok (.if_icmp .ge 37, 3) := dk_162 0 37 (dk_at dksX3_ofPart_1 18 rfl rfl)
theorem dX3_ofPart_45 : decode cX3_ofPart 45 = .ok (.iload_n 2, 1) := dk_28 (dk_at dksX3_ofPart_1 21 rfl rfl)
theorem dX3_ofPart_46 : decode cX3_ofPart 46 = .ok (.ifCond .ne 12, 3) := dk_154 0 12 (dk_at dksX3_ofPart_2 0 rfl rfl)
theorem dX3_ofPart_49 : decode cX3_ofPart 49 = .ok (.aload_n 0, 1) := dk_42 (dk_at dksX3_ofPart_2 3 rfl rfl)
theorem dX3_ofPart_50 : decode cX3_ofPart 50 = .ok (.getfield 7, 3) := dk_180 0 7 (dk_at dksX3_ofPart_2 4 rfl rfl)
theorem dX3_ofPart_53 : decode cX3_ofPart 53 = .ok (.iload_n 1, 1) := dk_27 (dk_at dksX3_ofPart_2 7 rfl rfl)
theorem dX3_ofPart_54 : decode cX3_ofPart 54 = .ok (.iaload, 1) := dk_46 (dk_at dksX3_ofPart_2 8 rfl rfl)
theorem dX3_ofPart_55 : decode cX3_ofPart 55 = .ok (.goto 23, 3) := dk_167 0 23 (dk_at dksX3_ofPart_2 9 rfl rfl)
theorem dX3_ofPart_58 : decode cX3_ofPart 58 = .ok (.iload_n 2, 1) := dk_28 (dk_at dksX3_ofPart_2 12 rfl rfl)
theorem dX3_ofPart_59 : decode cX3_ofPart 59 = .ok (.iconst 1, 1) := dk_4 (dk_at dksX3_ofPart_2 13 rfl rfl)
theorem dX3_ofPart_60 : decode cX3_ofPart 60 = .ok (.if_icmp .ne 12, 3) := dk_160 0 12 (dk_at dksX3_ofPart_2 14 rfl rfl)
theorem dX3_ofPart_63 : decode cX3_ofPart 63 = .ok (.aload_n 0, 1) := dk_42 (dk_at dksX3_ofPart_2 17 rfl rfl)
theorem dX3_ofPart_64 : decode cX3_ofPart 64 = .ok (.getfield 13, 3) := dk_180 0 13 (dk_at dksX3_ofPart_2 18 rfl rfl)
theorem dX3_ofPart_67 : decode cX3_ofPart 67 = .ok (.iload_n 1, 1) := dk_27 (dk_at dksX3_ofPart_2 21 rfl rfl)
theorem dX3_ofPart_68 : decode cX3_ofPart 68 = .ok (.iaload, 1) := dk_46 (dk_at dksX3_ofPart_2 22 rfl rfl)
theorem dX3_ofPart_69 : decode cX3_ofPart 69 = .ok (.goto 9, 3) := dk_167 0 9 (dk_at dksX3_ofPart_3 0 rfl rfl)
theorem dX3_ofPart_72 : decode cX3_ofPart 72 = .ok (.aload_n 0, 1) := dk_42 (dk_at dksX3_ofPart_3 3 rfl rfl)
theorem dX3_ofPart_73 : decode cX3_ofPart 73 = .ok (.getfield 16, 3) := dk_180 0 16 (dk_at dksX3_ofPart_3 4 rfl rfl)
theorem dX3_ofPart_76 : decode cX3_ofPart 76 = .ok (.iload_n 1, 1) := dk_27 (dk_at dksX3_ofPart_3 7 rfl rfl)
theorem dX3_ofPart_77 : decode cX3_ofPart 77 = .ok (.iaload, 1) := dk_46 (dk_at dksX3_ofPart_3 8 rfl rfl)
theorem dX3_ofPart_78 : decode cX3_ofPart 78 = .ok (.ireturn, 1) := dk_172 (dk_at dksX3_ofPart_3 9 rfl rfl)
theorem dX3_ofPart_79 : decode cX3_ofPart 79 = .ok (.iload_n 2, 1) := dk_28 (dk_at dksX3_ofPart_3 10 rfl rfl)
theorem dX3_ofPart_80 : decode cX3_ofPart 80 = .ok (.bipush 6, 2) := dk_16 6 (dk_at dksX3_ofPart_3 11 rfl rfl)
theorem dX3_ofPart_82 : decode cX3_ofPart 82 = .ok (.if_icmp .ge 38, 3) := dk_162 0 38 (dk_at dksX3_ofPart_3 13 rfl rfl)
theorem dX3_ofPart_85 : decode cX3_ofPart 85 = .ok (.iload_n 2, 1) := dk_28 (dk_at dksX3_ofPart_3 16 rfl rfl)
theorem dX3_ofPart_86 : decode cX3_ofPart 86 = .ok (.iconst 3, 1) := dk_6 (dk_at dksX3_ofPart_3 17 rfl rfl)
theorem dX3_ofPart_87 : decode cX3_ofPart 87 = .ok (.if_icmp .ne 12, 3) := dk_160 0 12 (dk_at dksX3_ofPart_3 18 rfl rfl)
theorem dX3_ofPart_90 : decode cX3_ofPart 90 = .ok (.aload_n 0, 1) := dk_42 (dk_at dksX3_ofPart_3 21 rfl rfl)
theorem dX3_ofPart_91 : decode cX3_ofPart 91 = .ok (.getfield 22, 3) := dk_180 0 22 (dk_at dksX3_ofPart_4 0 rfl rfl)
theorem dX3_ofPart_94 : decode cX3_ofPart 94 = .ok (.iload_n 1, 1) := dk_27 (dk_at dksX3_ofPart_4 3 rfl rfl)
theorem dX3_ofPart_95 : decode cX3_ofPart 95 = .ok (.iaload, 1) := dk_46 (dk_at dksX3_ofPart_4 4 rfl rfl)
theorem dX3_ofPart_96 : decode cX3_ofPart 96 = .ok (.goto 23, 3) := dk_167 0 23 (dk_at dksX3_ofPart_4 5 rfl rfl)
theorem dX3_ofPart_99 : decode cX3_ofPart 99 = .ok (.iload_n 2, 1) := dk_28 (dk_at dksX3_ofPart_4 8 rfl rfl)
theorem dX3_ofPart_100 : decode cX3_ofPart 100 = .ok (.iconst 4, 1) := dk_7 (dk_at dksX3_ofPart_4 9 rfl rfl)
theorem dX3_ofPart_101 : decode cX3_ofPart 101 = .ok (.if_icmp .ne 12, 3) := dk_160 0 12 (dk_at dksX3_ofPart_4 10 rfl rfl)
theorem dX3_ofPart_104 : decode cX3_ofPart 104 = .ok (.aload_n 0, 1) := dk_42 (dk_at dksX3_ofPart_4 13 rfl rfl)
theorem dX3_ofPart_105 : decode cX3_ofPart 105 = .ok (.getfield 25, 3) := dk_180 0 25 (dk_at dksX3_ofPart_4 14 rfl rfl)
theorem dX3_ofPart_108 : decode cX3_ofPart 108 = .ok (.iload_n 1, 1) := dk_27 (dk_at dksX3_ofPart_4 17 rfl rfl)
theorem dX3_ofPart_109 : decode cX3_ofPart 109 = .ok (.iaload, 1) := dk_46 (dk_at dksX3_ofPart_4 18 rfl rfl)
theorem dX3_ofPart_110 : decode cX3_ofPart 110 = .ok (.goto 9, 3) := dk_167 0 9 (dk_at dksX3_ofPart_4 19 rfl rfl)
theorem dX3_ofPart_113 : decode cX3_ofPart 113 = .ok (.aload_n 0, 1) := dk_42 (dk_at dksX3_ofPart_4 22 rfl rfl)
theorem dX3_ofPart_114 : decode cX3_ofPart 114 = .ok (.getfield 28, 3) := dk_180 0 28 (dk_at dksX3_ofPart_5 0 rfl rfl)
theorem dX3_ofPart_117 : decode cX3_ofPart 117 = .ok (.iload_n 1, 1) := dk_27 (dk_at dksX3_ofPart_5 3 rfl rfl)
theorem dX3_ofPart_118 : decode cX3_ofPart 118 = .ok (.iaload, 1) := dk_46 (dk_at dksX3_ofPart_5 4 rfl rfl)
theorem dX3_ofPart_119 : decode cX3_ofPart 119 = .ok (.ireturn, 1) := dk_172 (dk_at dksX3_ofPart_5 5 rfl rfl)
theorem dX3_ofPart_120 : decode cX3_ofPart 120 = .ok (.iload_n 2, 1) := dk_28 (dk_at dksX3_ofPart_5 6 rfl rfl)
theorem dX3_ofPart_121 : decode cX3_ofPart 121 = .ok (.bipush 6, 2) := dk_16 6 (dk_at dksX3_ofPart_5 7 rfl rfl)
theorem dX3_ofPart_123 : decode cX3_ofPart 123 = .ok (.if_icmp .ne 20, 3) := dk_160 0 20 (dk_at dksX3_ofPart_5 9 rfl rfl)
theorem dX3_ofPart_126 : decode cX3_ofPart 126 = .ok (.aload_n 0, 1) := dk_42 (dk_at dksX3_ofPart_5 12 rfl rfl)
theorem dX3_ofPart_127 : decode cX3_ofPart 127 = .ok (.getfield 31, 3) := dk_180 0 31 (dk_at dksX3_ofPart_5 13 rfl rfl)
theorem dX3_ofPart_130 : decode cX3_ofPart 130 = .ok (.iload_n 1, 1) := dk_27 (dk_at dksX3_ofPart_5 16 rfl rfl)
theorem dX3_ofPart_131 : decode cX3_ofPart 131 = .ok (.baload, 1) := dk_51 (dk_at dksX3_ofPart_5 17 rfl rfl)
theorem dX3_ofPart_132 : decode cX3_ofPart 132 = .ok (.ifCond .eq 7, 3) := dk_153 0 7 (dk_at dksX3_ofPart_5 18 rfl rfl)
theorem dX3_ofPart_135 : decode cX3_ofPart 135 = .ok (.iconst 1, 1) := dk_4 (dk_at dksX3_ofPart_5 21 rfl rfl)
theorem dX3_ofPart_136 : decode cX3_ofPart 136 = .ok (.goto 35, 3) := dk_167 0 35 (dk_at dksX3_ofPart_6 0 rfl rfl)
theorem dX3_ofPart_139 : decode cX3_ofPart 139 = .ok (.iconst 0, 1) := dk_3 (dk_at dksX3_ofPart_6 3 rfl rfl)
theorem dX3_ofPart_140 : decode cX3_ofPart 140 = .ok (.goto 31, 3) := dk_167 0 31 (dk_at dksX3_ofPart_6 4 rfl rfl)
theorem dX3_ofPart_143 : decode cX3_ofPart 143 = .ok (.iload_n 2, 1) := dk_28 (dk_at dksX3_ofPart_6 7 rfl rfl)
theorem dX3_ofPart_144 : decode cX3_ofPart 144 = .ok (.bipush 7, 2) := dk_16 7 (dk_at dksX3_ofPart_6 8 rfl rfl)
theorem dX3_ofPart_146 : decode cX3_ofPart 146 = .ok (.if_icmp .ne 20, 3) := dk_160 0 20 (dk_at dksX3_ofPart_6 10 rfl rfl)
theorem dX3_ofPart_149 : decode cX3_ofPart 149 = .ok (.aload_n 0, 1) := dk_42 (dk_at dksX3_ofPart_6 13 rfl rfl)
theorem dX3_ofPart_150 : decode cX3_ofPart 150 = .ok (.getfield 35, 3) := dk_180 0 35 (dk_at dksX3_ofPart_6 14 rfl rfl)
theorem dX3_ofPart_153 : decode cX3_ofPart 153 = .ok (.iload_n 1, 1) := dk_27 (dk_at dksX3_ofPart_6 17 rfl rfl)
theorem dX3_ofPart_154 : decode cX3_ofPart 154 = .ok (.baload, 1) := dk_51 (dk_at dksX3_ofPart_6 18 rfl rfl)
theorem dX3_ofPart_155 : decode cX3_ofPart 155 = .ok (.ifCond .eq 7, 3) := dk_153 0 7 (dk_at dksX3_ofPart_6 19 rfl rfl)
theorem dX3_ofPart_158 : decode cX3_ofPart 158 = .ok (.iconst 1, 1) := dk_4 (dk_at dksX3_ofPart_6 22 rfl rfl)
theorem dX3_ofPart_159 : decode cX3_ofPart 159 = .ok (.goto 12, 3) := dk_167 0 12 (dk_at dksX3_ofPart_7 0 rfl rfl)
theorem dX3_ofPart_162 : decode cX3_ofPart 162 = .ok (.iconst 0, 1) := dk_3 (dk_at dksX3_ofPart_7 3 rfl rfl)
theorem dX3_ofPart_163 : decode cX3_ofPart 163 = .ok (.goto 8, 3) := dk_167 0 8 (dk_at dksX3_ofPart_7 4 rfl rfl)
theorem dX3_ofPart_166 : decode cX3_ofPart 166 = .ok (.aload_n 0, 1) := dk_42 (dk_at dksX3_ofPart_7 7 rfl rfl)
theorem dX3_ofPart_167 : decode cX3_ofPart 167 = .ok (.iload_n 1, 1) := dk_27 (dk_at dksX3_ofPart_7 8 rfl rfl)
theorem dX3_ofPart_168 : decode cX3_ofPart 168 = .ok (.invokevirtual 196, 3) := dk_182 0 196 (dk_at dksX3_ofPart_7 9 rfl rfl)
theorem dX3_ofPart_171 : decode cX3_ofPart 171 = .ok (.ireturn, 1) := dk_172 (dk_at dksX3_ofPart_7 12 rfl rfl)
abbrev cX3_movesOfPart : ByteArray := prog_12_method_47_code
def yX3_movesOfPart : MethodName := ⟨RX3, "movesOfPart", "(I)I"⟩
def dkwX3_movesOfPart_1 : List UInt8 := [167, 0, 4, 3, 96, 61, 132, 3, 1, 167, 255, 227, 28, 172]
abbrev dktX3_movesOfPart_1 : List UInt8 := dkwX3_movesOfPart_1 ++ []
def dkwX3_movesOfPart_0 : List UInt8 := [3, 61, 3, 62, 29, 42, 180, 0, 118, 162, 0, 27, 28, 42, 180, 0, 74, 29, 46, 27, 160, 0, 7, 4]
abbrev dktX3_movesOfPart_0 : List UInt8 := dkwX3_movesOfPart_0 ++ dktX3_movesOfPart_1
theorem dksX3_movesOfPart_0 : cX3_movesOfPart.data.toList.drop 0 = dktX3_movesOfPart_0 := by decide +kernel
theorem dksX3_movesOfPart_1 : cX3_movesOfPart.data.toList.drop 24 = dktX3_movesOfPart_1 := dk_seg dksX3_movesOfPart_0 24 rfl rfl
theorem dX3_movesOfPart_0 : decode cX3_movesOfPart 0 = .ok (.iconst 0, 1) := dk_3 (dk_at dksX3_movesOfPart_0 0 rfl rfl)
theorem dX3_movesOfPart_1 : decode cX3_movesOfPart 1 = .ok (.istore_n 2, 1) := dk_61 (dk_at dksX3_movesOfPart_0 1 rfl rfl)
theorem dX3_movesOfPart_2 : decode cX3_movesOfPart 2 = .ok (.iconst 0, 1) := dk_3 (dk_at dksX3_movesOfPart_0 2 rfl rfl)
theorem dX3_movesOfPart_3 : decode cX3_movesOfPart 3 = .ok (.istore_n 3, 1) := dk_62 (dk_at dksX3_movesOfPart_0 3 rfl rfl)
theorem dX3_movesOfPart_4 : decode cX3_movesOfPart 4 = .ok (.iload_n 3, 1) := dk_29 (dk_at dksX3_movesOfPart_0 4 rfl rfl)
theorem dX3_movesOfPart_5 : decode cX3_movesOfPart 5 = .ok (.aload_n 0, 1) := dk_42 (dk_at dksX3_movesOfPart_0 5 rfl rfl)
theorem dX3_movesOfPart_6 : decode cX3_movesOfPart 6 = .ok (.getfield 118, 3) := dk_180 0 118 (dk_at dksX3_movesOfPart_0 6 rfl rfl)
theorem dX3_movesOfPart_9 : decode cX3_movesOfPart 9 = .ok (.if_icmp .ge 27, 3) := dk_162 0 27 (dk_at dksX3_movesOfPart_0 9 rfl rfl)
theorem dX3_movesOfPart_12 : decode cX3_movesOfPart 12 = .ok (.iload_n 2, 1) := dk_28 (dk_at dksX3_movesOfPart_0 12 rfl rfl)
theorem dX3_movesOfPart_13 : decode cX3_movesOfPart 13 = .ok (.aload_n 0, 1) := dk_42 (dk_at dksX3_movesOfPart_0 13 rfl rfl)
theorem dX3_movesOfPart_14 : decode cX3_movesOfPart 14 = .ok (.getfield 74, 3) := dk_180 0 74 (dk_at dksX3_movesOfPart_0 14 rfl rfl)
theorem dX3_movesOfPart_17 : decode cX3_movesOfPart 17 = .ok (.iload_n 3, 1) := dk_29 (dk_at dksX3_movesOfPart_0 17 rfl rfl)
theorem dX3_movesOfPart_18 : decode cX3_movesOfPart 18 = .ok (.iaload, 1) := dk_46 (dk_at dksX3_movesOfPart_0 18 rfl rfl)
theorem dX3_movesOfPart_19 : decode cX3_movesOfPart 19 = .ok (.iload_n 1, 1) := dk_27 (dk_at dksX3_movesOfPart_0 19 rfl rfl)
theorem dX3_movesOfPart_20 : decode cX3_movesOfPart 20 = .ok (.if_icmp .ne 7, 3) := dk_160 0 7 (dk_at dksX3_movesOfPart_0 20 rfl rfl)
theorem dX3_movesOfPart_23 : decode cX3_movesOfPart 23 = .ok (.iconst 1, 1) := dk_4 (dk_at dksX3_movesOfPart_0 23 rfl rfl)
theorem dX3_movesOfPart_24 : decode cX3_movesOfPart 24 = .ok (.goto 4, 3) := dk_167 0 4 (dk_at dksX3_movesOfPart_1 0 rfl rfl)
theorem dX3_movesOfPart_27 : decode cX3_movesOfPart 27 = .ok (.iconst 0, 1) := dk_3 (dk_at dksX3_movesOfPart_1 3 rfl rfl)
theorem dX3_movesOfPart_28 : decode cX3_movesOfPart 28 = .ok (.iadd, 1) := dk_96 (dk_at dksX3_movesOfPart_1 4 rfl rfl)
theorem dX3_movesOfPart_29 : decode cX3_movesOfPart 29 = .ok (.istore_n 2, 1) := dk_61 (dk_at dksX3_movesOfPart_1 5 rfl rfl)
theorem dX3_movesOfPart_30 : decode cX3_movesOfPart 30 = .ok (.iinc 3 1, 3) := dk_132 3 1 (dk_at dksX3_movesOfPart_1 6 rfl rfl)
theorem dX3_movesOfPart_33 : decode cX3_movesOfPart 33 = .ok (.goto (-29), 3) := dk_167 255 227 (dk_at dksX3_movesOfPart_1 9 rfl rfl)
theorem dX3_movesOfPart_36 : decode cX3_movesOfPart 36 = .ok (.iload_n 2, 1) := dk_28 (dk_at dksX3_movesOfPart_1 12 rfl rfl)
theorem dX3_movesOfPart_37 : decode cX3_movesOfPart 37 = .ok (.ireturn, 1) := dk_172 (dk_at dksX3_movesOfPart_1 13 rfl rfl)
abbrev cX3_trace : ByteArray := prog_12_method_49_code
def yX3_trace : MethodName := ⟨RX3, "trace", "(II)I"⟩
def dkwX3_trace_3 : List UInt8 := [160, 0, 7, 4, 167, 0, 4, 3, 100, 62, 132, 4, 1, 167, 255, 219, 42, 180, 0, 77, 21, 4, 46, 172]
abbrev dktX3_trace_3 : List UInt8 := dkwX3_trace_3 ++ []
def dkwX3_trace_2 : List UInt8 := [180, 0, 74, 21, 4, 46, 27, 160, 0, 7, 29, 158, 0, 28, 29, 42, 180, 0, 74, 21, 4, 46, 27]
abbrev dktX3_trace_2 : List UInt8 := dkwX3_trace_2 ++ dktX3_trace_3
def dkwX3_trace_1 : List UInt8 := [3, 167, 0, 4, 4, 181, 0, 98, 42, 180, 0, 98, 158, 0, 5, 3, 172, 28, 62, 3, 54, 4, 42]
abbrev dktX3_trace_1 : List UInt8 := dkwX3_trace_1 ++ dktX3_trace_2
def dkwX3_trace_0 : List UInt8 := [42, 42, 27, 182, 0, 109, 153, 0, 22, 28, 3, 42, 27, 182, 0, 196, 4, 100, 184, 0, 105, 153, 0, 7]
abbrev dktX3_trace_0 : List UInt8 := dkwX3_trace_0 ++ dktX3_trace_1
theorem dksX3_trace_0 : cX3_trace.data.toList.drop 0 = dktX3_trace_0 := by decide +kernel
theorem dksX3_trace_1 : cX3_trace.data.toList.drop 24 = dktX3_trace_1 := dk_seg dksX3_trace_0 24 rfl rfl
theorem dksX3_trace_2 : cX3_trace.data.toList.drop 47 = dktX3_trace_2 := dk_seg dksX3_trace_1 23 rfl rfl
theorem dksX3_trace_3 : cX3_trace.data.toList.drop 70 = dktX3_trace_3 := dk_seg dksX3_trace_2 23 rfl rfl
theorem dX3_trace_0 : decode cX3_trace 0 = .ok (.aload_n 0, 1) := dk_42 (dk_at dksX3_trace_0 0 rfl rfl)
theorem dX3_trace_1 : decode cX3_trace 1 = .ok (.aload_n 0, 1) := dk_42 (dk_at dksX3_trace_0 1 rfl rfl)
theorem dX3_trace_2 : decode cX3_trace 2 = .ok (.iload_n 1, 1) := dk_27 (dk_at dksX3_trace_0 2 rfl rfl)
theorem dX3_trace_3 : decode cX3_trace 3 = .ok (.invokevirtual 109, 3) := dk_182 0 109 (dk_at dksX3_trace_0 3 rfl rfl)
theorem dX3_trace_6 : decode cX3_trace 6 = .ok (.ifCond .eq 22, 3) := dk_153 0 22 (dk_at dksX3_trace_0 6 rfl rfl)
theorem dX3_trace_9 : decode cX3_trace 9 = .ok (.iload_n 2, 1) := dk_28 (dk_at dksX3_trace_0 9 rfl rfl)
theorem dX3_trace_10 : decode cX3_trace 10 = .ok (.iconst 0, 1) := dk_3 (dk_at dksX3_trace_0 10 rfl rfl)
theorem dX3_trace_11 : decode cX3_trace 11 = .ok (.aload_n 0, 1) := dk_42 (dk_at dksX3_trace_0 11 rfl rfl)
theorem dX3_trace_12 : decode cX3_trace 12 = .ok (.iload_n 1, 1) := dk_27 (dk_at dksX3_trace_0 12 rfl rfl)
theorem dX3_trace_13 : decode cX3_trace 13 = .ok (.invokevirtual 196, 3) := dk_182 0 196 (dk_at dksX3_trace_0 13 rfl rfl)
theorem dX3_trace_16 : decode cX3_trace 16 = .ok (.iconst 1, 1) := dk_4 (dk_at dksX3_trace_0 16 rfl rfl)
theorem dX3_trace_17 : decode cX3_trace 17 = .ok (.isub, 1) := dk_100 (dk_at dksX3_trace_0 17 rfl rfl)
theorem dX3_trace_18 : decode cX3_trace 18 = .ok (.invokestatic 105, 3) := dk_184 0 105 (dk_at dksX3_trace_0 18 rfl rfl)
theorem dX3_trace_21 : decode cX3_trace 21 = .ok (.ifCond .eq 7, 3) := dk_153 0 7 (dk_at dksX3_trace_0 21 rfl rfl)
theorem dX3_trace_24 : decode cX3_trace 24 = .ok (.iconst 0, 1) := dk_3 (dk_at dksX3_trace_1 0 rfl rfl)
theorem dX3_trace_25 : decode cX3_trace 25 = .ok (.goto 4, 3) := dk_167 0 4 (dk_at dksX3_trace_1 1 rfl rfl)
theorem dX3_trace_28 : decode cX3_trace 28 = .ok (.iconst 1, 1) := dk_4 (dk_at dksX3_trace_1 4 rfl rfl)
theorem dX3_trace_29 : decode cX3_trace 29 = .ok (.putfield 98, 3) := dk_181 0 98 (dk_at dksX3_trace_1 5 rfl rfl)
theorem dX3_trace_32 : decode cX3_trace 32 = .ok (.aload_n 0, 1) := dk_42 (dk_at dksX3_trace_1 8 rfl rfl)
theorem dX3_trace_33 : decode cX3_trace 33 = .ok (.getfield 98, 3) := dk_180 0 98 (dk_at dksX3_trace_1 9 rfl rfl)
theorem dX3_trace_36 : decode cX3_trace 36 = .ok (.ifCond .le 5, 3) := dk_158 0 5 (dk_at dksX3_trace_1 12 rfl rfl)
theorem dX3_trace_39 : decode cX3_trace 39 = .ok (.iconst 0, 1) := dk_3 (dk_at dksX3_trace_1 15 rfl rfl)
theorem dX3_trace_40 : decode cX3_trace 40 = .ok (.ireturn, 1) := dk_172 (dk_at dksX3_trace_1 16 rfl rfl)
theorem dX3_trace_41 : decode cX3_trace 41 = .ok (.iload_n 2, 1) := dk_28 (dk_at dksX3_trace_1 17 rfl rfl)
theorem dX3_trace_42 : decode cX3_trace 42 = .ok (.istore_n 3, 1) := dk_62 (dk_at dksX3_trace_1 18 rfl rfl)
theorem dX3_trace_43 : decode cX3_trace 43 = .ok (.iconst 0, 1) := dk_3 (dk_at dksX3_trace_1 19 rfl rfl)
theorem dX3_trace_44 : decode cX3_trace 44 = .ok (.istore 4, 2) := dk_54 4 (dk_at dksX3_trace_1 20 rfl rfl)
theorem dX3_trace_46 : decode cX3_trace 46 = .ok (.aload_n 0, 1) := dk_42 (dk_at dksX3_trace_1 22 rfl rfl)
theorem dX3_trace_47 : decode cX3_trace 47 = .ok (.getfield 74, 3) := dk_180 0 74 (dk_at dksX3_trace_2 0 rfl rfl)
theorem dX3_trace_50 : decode cX3_trace 50 = .ok (.iload 4, 2) := dk_21 4 (dk_at dksX3_trace_2 3 rfl rfl)
theorem dX3_trace_52 : decode cX3_trace 52 = .ok (.iaload, 1) := dk_46 (dk_at dksX3_trace_2 5 rfl rfl)
theorem dX3_trace_53 : decode cX3_trace 53 = .ok (.iload_n 1, 1) := dk_27 (dk_at dksX3_trace_2 6 rfl rfl)
theorem dX3_trace_54 : decode cX3_trace 54 = .ok (.if_icmp .ne 7, 3) := dk_160 0 7 (dk_at dksX3_trace_2 7 rfl rfl)
theorem dX3_trace_57 : decode cX3_trace 57 = .ok (.iload_n 3, 1) := dk_29 (dk_at dksX3_trace_2 10 rfl rfl)
theorem dX3_trace_58 : decode cX3_trace 58 = .ok (.ifCond .le 28, 3) := dk_158 0 28 (dk_at dksX3_trace_2 11 rfl rfl)
theorem dX3_trace_61 : decode cX3_trace 61 = .ok (.iload_n 3, 1) := dk_29 (dk_at dksX3_trace_2 14 rfl rfl)
theorem dX3_trace_62 : decode cX3_trace 62 = .ok (.aload_n 0, 1) := dk_42 (dk_at dksX3_trace_2 15 rfl rfl)
theorem dX3_trace_63 : decode cX3_trace 63 = .ok (.getfield 74, 3) := dk_180 0 74 (dk_at dksX3_trace_2 16 rfl rfl)
theorem dX3_trace_66 : decode cX3_trace 66 = .ok (.iload 4, 2) := dk_21 4 (dk_at dksX3_trace_2 19 rfl rfl)
theorem dX3_trace_68 : decode cX3_trace 68 = .ok (.iaload, 1) := dk_46 (dk_at dksX3_trace_2 21 rfl rfl)
theorem dX3_trace_69 : decode cX3_trace 69 = .ok (.iload_n 1, 1) := dk_27 (dk_at dksX3_trace_2 22 rfl rfl)
theorem dX3_trace_70 : decode cX3_trace 70 = .ok (.if_icmp .ne 7, 3) := dk_160 0 7 (dk_at dksX3_trace_3 0 rfl rfl)
theorem dX3_trace_73 : decode cX3_trace 73 = .ok (.iconst 1, 1) := dk_4 (dk_at dksX3_trace_3 3 rfl rfl)
theorem dX3_trace_74 : decode cX3_trace 74 = .ok (.goto 4, 3) := dk_167 0 4 (dk_at dksX3_trace_3 4 rfl rfl)
theorem dX3_trace_77 : decode cX3_trace 77 = .ok (.iconst 0, 1) := dk_3 (dk_at dksX3_trace_3 7 rfl rfl)
theorem dX3_trace_78 : decode cX3_trace 78 = .ok (.isub, 1) := dk_100 (dk_at dksX3_trace_3 8 rfl rfl)
theorem dX3_trace_79 : decode cX3_trace 79 = .ok (.istore_n 3, 1) := dk_62 (dk_at dksX3_trace_3 9 rfl rfl)
theorem dX3_trace_80 : decode cX3_trace 80 = .ok (.iinc 4 1, 3) := dk_132 4 1 (dk_at dksX3_trace_3 10 rfl rfl)
theorem dX3_trace_83 : decode cX3_trace 83 = .ok (.goto (-37), 3) := dk_167 255 219 (dk_at dksX3_trace_3 13 rfl rfl)
theorem dX3_trace_86 : decode cX3_trace 86 = .ok (.aload_n 0, 1) := dk_42 (dk_at dksX3_trace_3 16 rfl rfl)
theorem dX3_trace_87 : decode cX3_trace 87 = .ok (.getfield 77, 3) := dk_180 0 77 (dk_at dksX3_trace_3 17 rfl rfl)
theorem dX3_trace_90 : decode cX3_trace 90 = .ok (.iload 4, 2) := dk_21 4 (dk_at dksX3_trace_3 20 rfl rfl)
theorem dX3_trace_92 : decode cX3_trace 92 = .ok (.iaload, 1) := dk_46 (dk_at dksX3_trace_3 22 rfl rfl)
theorem dX3_trace_93 : decode cX3_trace 93 = .ok (.ireturn, 1) := dk_172 (dk_at dksX3_trace_3 23 rfl rfl)
abbrev cX3_lifeAnew : ByteArray := prog_12_method_50_code
def yX3_lifeAnew : MethodName := ⟨RX3, "lifeAnew", "(I)I"⟩
def dkwX3_lifeAnew_1 : List UInt8 := [3, 167, 0, 9, 42, 180, 0, 22, 27, 46, 172]
abbrev dktX3_lifeAnew_1 : List UInt8 := dkwX3_lifeAnew_1 ++ []
def dkwX3_lifeAnew_0 : List UInt8 := [42, 42, 27, 182, 0, 109, 153, 0, 7, 3, 167, 0, 4, 4, 181, 0, 98, 42, 180, 0, 98, 158, 0, 7]
abbrev dktX3_lifeAnew_0 : List UInt8 := dkwX3_lifeAnew_0 ++ dktX3_lifeAnew_1
theorem dksX3_lifeAnew_0 : cX3_lifeAnew.data.toList.drop 0 = dktX3_lifeAnew_0 := by decide +kernel
theorem dksX3_lifeAnew_1 : cX3_lifeAnew.data.toList.drop 24 = dktX3_lifeAnew_1 := dk_seg dksX3_lifeAnew_0 24 rfl rfl
theorem dX3_lifeAnew_0 : decode cX3_lifeAnew 0 = .ok (.aload_n 0, 1) := dk_42 (dk_at dksX3_lifeAnew_0 0 rfl rfl)
theorem dX3_lifeAnew_1 : decode cX3_lifeAnew 1 = .ok (.aload_n 0, 1) := dk_42 (dk_at dksX3_lifeAnew_0 1 rfl rfl)
theorem dX3_lifeAnew_2 : decode cX3_lifeAnew 2 = .ok (.iload_n 1, 1) := dk_27 (dk_at dksX3_lifeAnew_0 2 rfl rfl)
theorem dX3_lifeAnew_3 : decode cX3_lifeAnew 3 = .ok (.invokevirtual 109, 3) := dk_182 0 109 (dk_at dksX3_lifeAnew_0 3 rfl rfl)
theorem dX3_lifeAnew_6 : decode cX3_lifeAnew 6 = .ok (.ifCond .eq 7, 3) := dk_153 0 7 (dk_at dksX3_lifeAnew_0 6 rfl rfl)
theorem dX3_lifeAnew_9 : decode cX3_lifeAnew 9 = .ok (.iconst 0, 1) := dk_3 (dk_at dksX3_lifeAnew_0 9 rfl rfl)
theorem dX3_lifeAnew_10 : decode cX3_lifeAnew 10 = .ok (.goto 4, 3) := dk_167 0 4 (dk_at dksX3_lifeAnew_0 10 rfl rfl)
theorem dX3_lifeAnew_13 : decode cX3_lifeAnew 13 = .ok (.iconst 1, 1) := dk_4 (dk_at dksX3_lifeAnew_0 13 rfl rfl)
theorem dX3_lifeAnew_14 : decode cX3_lifeAnew 14 = .ok (.putfield 98, 3) := dk_181 0 98 (dk_at dksX3_lifeAnew_0 14 rfl rfl)
theorem dX3_lifeAnew_17 : decode cX3_lifeAnew 17 = .ok (.aload_n 0, 1) := dk_42 (dk_at dksX3_lifeAnew_0 17 rfl rfl)
theorem dX3_lifeAnew_18 : decode cX3_lifeAnew 18 = .ok (.getfield 98, 3) := dk_180 0 98 (dk_at dksX3_lifeAnew_0 18 rfl rfl)
theorem dX3_lifeAnew_21 : decode cX3_lifeAnew 21 = .ok (.ifCond .le 7, 3) := dk_158 0 7 (dk_at dksX3_lifeAnew_0 21 rfl rfl)
theorem dX3_lifeAnew_24 : decode cX3_lifeAnew 24 = .ok (.iconst 0, 1) := dk_3 (dk_at dksX3_lifeAnew_1 0 rfl rfl)
theorem dX3_lifeAnew_25 : decode cX3_lifeAnew 25 = .ok (.goto 9, 3) := dk_167 0 9 (dk_at dksX3_lifeAnew_1 1 rfl rfl)
theorem dX3_lifeAnew_28 : decode cX3_lifeAnew 28 = .ok (.aload_n 0, 1) := dk_42 (dk_at dksX3_lifeAnew_1 4 rfl rfl)
theorem dX3_lifeAnew_29 : decode cX3_lifeAnew 29 = .ok (.getfield 22, 3) := dk_180 0 22 (dk_at dksX3_lifeAnew_1 5 rfl rfl)
theorem dX3_lifeAnew_32 : decode cX3_lifeAnew 32 = .ok (.iload_n 1, 1) := dk_27 (dk_at dksX3_lifeAnew_1 8 rfl rfl)
theorem dX3_lifeAnew_33 : decode cX3_lifeAnew 33 = .ok (.iaload, 1) := dk_46 (dk_at dksX3_lifeAnew_1 9 rfl rfl)
theorem dX3_lifeAnew_34 : decode cX3_lifeAnew 34 = .ok (.ireturn, 1) := dk_172 (dk_at dksX3_lifeAnew_1 10 rfl rfl)
abbrev cX3_wheel : ByteArray := prog_12_method_51_code
def yX3_wheel : MethodName := ⟨RX3, "wheel", "(II)I"⟩
def dkwX3_wheel_3 : List UInt8 := [167, 0, 22, 42, 180, 0, 56, 27, 51, 153, 0, 12, 42, 180, 0, 53, 27, 46, 167, 0, 4, 2, 172]
abbrev dktX3_wheel_3 : List UInt8 := dkwX3_wheel_3 ++ []
def dkwX3_wheel_2 : List UInt8 := [154, 0, 12, 42, 180, 0, 44, 27, 46, 167, 0, 36, 28, 4, 160, 0, 12, 42, 180, 0, 47, 27, 46]
abbrev dktX3_wheel_2 : List UInt8 := dkwX3_wheel_2 ++ dktX3_wheel_3
def dkwX3_wheel_1 : List UInt8 := [154, 0, 7, 5, 167, 0, 7, 42, 180, 0, 98, 181, 0, 98, 42, 180, 0, 98, 158, 0, 5, 3, 172, 28]
abbrev dktX3_wheel_1 : List UInt8 := dkwX3_wheel_1 ++ dktX3_wheel_2
def dkwX3_wheel_0 : List UInt8 := [42, 42, 27, 6, 182, 0, 148, 181, 0, 98, 42, 42, 180, 0, 98, 154, 0, 16, 28, 3, 5, 184, 0, 105]
abbrev dktX3_wheel_0 : List UInt8 := dkwX3_wheel_0 ++ dktX3_wheel_1
theorem dksX3_wheel_0 : cX3_wheel.data.toList.drop 0 = dktX3_wheel_0 := by decide +kernel
theorem dksX3_wheel_1 : cX3_wheel.data.toList.drop 24 = dktX3_wheel_1 := dk_seg dksX3_wheel_0 24 rfl rfl
theorem dksX3_wheel_2 : cX3_wheel.data.toList.drop 48 = dktX3_wheel_2 := dk_seg dksX3_wheel_1 24 rfl rfl
theorem dksX3_wheel_3 : cX3_wheel.data.toList.drop 71 = dktX3_wheel_3 := dk_seg dksX3_wheel_2 23 rfl rfl
theorem dX3_wheel_0 : decode cX3_wheel 0 = .ok (.aload_n 0, 1) := dk_42 (dk_at dksX3_wheel_0 0 rfl rfl)
theorem dX3_wheel_1 : decode cX3_wheel 1 = .ok (.aload_n 0, 1) := dk_42 (dk_at dksX3_wheel_0 1 rfl rfl)
theorem dX3_wheel_2 : decode cX3_wheel 2 = .ok (.iload_n 1, 1) := dk_27 (dk_at dksX3_wheel_0 2 rfl rfl)
theorem dX3_wheel_3 : decode cX3_wheel 3 = .ok (.iconst 3, 1) := dk_6 (dk_at dksX3_wheel_0 3 rfl rfl)
theorem dX3_wheel_4 : decode cX3_wheel 4 = .ok (.invokevirtual 148, 3) := dk_182 0 148 (dk_at dksX3_wheel_0 4 rfl rfl)
theorem dX3_wheel_7 : decode cX3_wheel 7 = .ok (.putfield 98, 3) := dk_181 0 98 (dk_at dksX3_wheel_0 7 rfl rfl)
theorem dX3_wheel_10 : decode cX3_wheel 10 = .ok (.aload_n 0, 1) := dk_42 (dk_at dksX3_wheel_0 10 rfl rfl)
theorem dX3_wheel_11 : decode cX3_wheel 11 = .ok (.aload_n 0, 1) := dk_42 (dk_at dksX3_wheel_0 11 rfl rfl)
theorem dX3_wheel_12 : decode cX3_wheel 12 = .ok (.getfield 98, 3) := dk_180 0 98 (dk_at dksX3_wheel_0 12 rfl rfl)
theorem dX3_wheel_15 : decode cX3_wheel 15 = .ok (.ifCond .ne 16, 3) := dk_154 0 16 (dk_at dksX3_wheel_0 15 rfl rfl)
theorem dX3_wheel_18 : decode cX3_wheel 18 = .ok (.iload_n 2, 1) := dk_28 (dk_at dksX3_wheel_0 18 rfl rfl)
theorem dX3_wheel_19 : decode cX3_wheel 19 = .ok (.iconst 0, 1) := dk_3 (dk_at dksX3_wheel_0 19 rfl rfl)
theorem dX3_wheel_20 : decode cX3_wheel 20 = .ok (.iconst 2, 1) := dk_5 (dk_at dksX3_wheel_0 20 rfl rfl)
theorem dX3_wheel_21 : decode cX3_wheel 21 = .ok (.invokestatic 105, 3) := dk_184 0 105 (dk_at dksX3_wheel_0 21 rfl rfl)
theorem dX3_wheel_24 : decode cX3_wheel 24 = .ok (.ifCond .ne 7, 3) := dk_154 0 7 (dk_at dksX3_wheel_1 0 rfl rfl)
theorem dX3_wheel_27 : decode cX3_wheel 27 = .ok (.iconst 2, 1) := dk_5 (dk_at dksX3_wheel_1 3 rfl rfl)
theorem dX3_wheel_28 : decode cX3_wheel 28 = .ok (.goto 7, 3) := dk_167 0 7 (dk_at dksX3_wheel_1 4 rfl rfl)
theorem dX3_wheel_31 : decode cX3_wheel 31 = .ok (.aload_n 0, 1) := dk_42 (dk_at dksX3_wheel_1 7 rfl rfl)
theorem dX3_wheel_32 : decode cX3_wheel 32 = .ok (.getfield 98, 3) := dk_180 0 98 (dk_at dksX3_wheel_1 8 rfl rfl)
theorem dX3_wheel_35 : decode cX3_wheel 35 = .ok (.putfield 98, 3) := dk_181 0 98 (dk_at dksX3_wheel_1 11 rfl rfl)
theorem dX3_wheel_38 : decode cX3_wheel 38 = .ok (.aload_n 0, 1) := dk_42 (dk_at dksX3_wheel_1 14 rfl rfl)
theorem dX3_wheel_39 : decode cX3_wheel 39 = .ok (.getfield 98, 3) := dk_180 0 98 (dk_at dksX3_wheel_1 15 rfl rfl)
theorem dX3_wheel_42 : decode cX3_wheel 42 = .ok (.ifCond .le 5, 3) := dk_158 0 5 (dk_at dksX3_wheel_1 18 rfl rfl)
theorem dX3_wheel_45 : decode cX3_wheel 45 = .ok (.iconst 0, 1) := dk_3 (dk_at dksX3_wheel_1 21 rfl rfl)
theorem dX3_wheel_46 : decode cX3_wheel 46 = .ok (.ireturn, 1) := dk_172 (dk_at dksX3_wheel_1 22 rfl rfl)
theorem dX3_wheel_47 : decode cX3_wheel 47 = .ok (.iload_n 2, 1) := dk_28 (dk_at dksX3_wheel_1 23 rfl rfl)
theorem dX3_wheel_48 : decode cX3_wheel 48 = .ok (.ifCond .ne 12, 3) := dk_154 0 12 (dk_at dksX3_wheel_2 0 rfl rfl)
theorem dX3_wheel_51 : decode cX3_wheel 51 = .ok (.aload_n 0, 1) := dk_42 (dk_at dksX3_wheel_2 3 rfl rfl)
theorem dX3_wheel_52 : decode cX3_wheel 52 = .ok (.getfield 44, 3) := dk_180 0 44 (dk_at dksX3_wheel_2 4 rfl rfl)
theorem dX3_wheel_55 : decode cX3_wheel 55 = .ok (.iload_n 1, 1) := dk_27 (dk_at dksX3_wheel_2 7 rfl rfl)
theorem dX3_wheel_56 : decode cX3_wheel 56 = .ok (.iaload, 1) := dk_46 (dk_at dksX3_wheel_2 8 rfl rfl)
theorem dX3_wheel_57 : decode cX3_wheel 57 = .ok (.goto 36, 3) := dk_167 0 36 (dk_at dksX3_wheel_2 9 rfl rfl)
theorem dX3_wheel_60 : decode cX3_wheel 60 = .ok (.iload_n 2, 1) := dk_28 (dk_at dksX3_wheel_2 12 rfl rfl)
theorem dX3_wheel_61 : decode cX3_wheel 61 = .ok (.iconst 1, 1) := dk_4 (dk_at dksX3_wheel_2 13 rfl rfl)
theorem dX3_wheel_62 : decode cX3_wheel 62 = .ok (.if_icmp .ne 12, 3) := dk_160 0 12 (dk_at dksX3_wheel_2 14 rfl rfl)
theorem dX3_wheel_65 : decode cX3_wheel 65 = .ok (.aload_n 0, 1) := dk_42 (dk_at dksX3_wheel_2 17 rfl rfl)
theorem dX3_wheel_66 : decode cX3_wheel 66 = .ok (.getfield 47, 3) := dk_180 0 47 (dk_at dksX3_wheel_2 18 rfl rfl)
theorem dX3_wheel_69 : decode cX3_wheel 69 = .ok (.iload_n 1, 1) := dk_27 (dk_at dksX3_wheel_2 21 rfl rfl)
theorem dX3_wheel_70 : decode cX3_wheel 70 = .ok (.iaload, 1) := dk_46 (dk_at dksX3_wheel_2 22 rfl rfl)
theorem dX3_wheel_71 : decode cX3_wheel 71 = .ok (.goto 22, 3) := dk_167 0 22 (dk_at dksX3_wheel_3 0 rfl rfl)
theorem dX3_wheel_74 : decode cX3_wheel 74 = .ok (.aload_n 0, 1) := dk_42 (dk_at dksX3_wheel_3 3 rfl rfl)
theorem dX3_wheel_75 : decode cX3_wheel 75 = .ok (.getfield 56, 3) := dk_180 0 56 (dk_at dksX3_wheel_3 4 rfl rfl)
theorem dX3_wheel_78 : decode cX3_wheel 78 = .ok (.iload_n 1, 1) := dk_27 (dk_at dksX3_wheel_3 7 rfl rfl)
theorem dX3_wheel_79 : decode cX3_wheel 79 = .ok (.baload, 1) := dk_51 (dk_at dksX3_wheel_3 8 rfl rfl)
theorem dX3_wheel_80 : decode cX3_wheel 80 = .ok (.ifCond .eq 12, 3) := dk_153 0 12 (dk_at dksX3_wheel_3 9 rfl rfl)
theorem dX3_wheel_83 : decode cX3_wheel 83 = .ok (.aload_n 0, 1) := dk_42 (dk_at dksX3_wheel_3 12 rfl rfl)
theorem dX3_wheel_84 : decode cX3_wheel 84 = .ok (.getfield 53, 3) := dk_180 0 53 (dk_at dksX3_wheel_3 13 rfl rfl)
theorem dX3_wheel_87 : decode cX3_wheel 87 = .ok (.iload_n 1, 1) := dk_27 (dk_at dksX3_wheel_3 16 rfl rfl)
theorem dX3_wheel_88 : decode cX3_wheel 88 = .ok (.iaload, 1) := dk_46 (dk_at dksX3_wheel_3 17 rfl rfl)
theorem dX3_wheel_89 : decode cX3_wheel 89 = .ok (.goto 4, 3) := dk_167 0 4 (dk_at dksX3_wheel_3 18 rfl rfl)
theorem dX3_wheel_92 : decode cX3_wheel 92 = .ok (.iconst (-1), 1) := dk_2 (dk_at dksX3_wheel_3 21 rfl rfl)
theorem dX3_wheel_93 : decode cX3_wheel 93 = .ok (.ireturn, 1) := dk_172 (dk_at dksX3_wheel_3 22 rfl rfl)
abbrev cX3_foretell : ByteArray := prog_12_method_52_code
def yX3_foretell : MethodName := ⟨RX3, "foretell", "(III)I"⟩
def dkwX3_foretell_4 : List UInt8 := [17, 0, 200, 104, 28, 29, 184, 0, 145, 104, 108, 172]
abbrev dktX3_foretell_4 : List UInt8 := dkwX3_foretell_4 ++ []
def dkwX3_foretell_3 : List UInt8 := [42, 180, 0, 56, 27, 51, 154, 0, 7, 2, 167, 0, 25, 21, 4, 157, 0, 7, 3, 167, 0, 16, 21, 4]
abbrev dktX3_foretell_3 : List UInt8 := dkwX3_foretell_3 ++ dktX3_foretell_4
def dkwX3_foretell_2 : List UInt8 := [181, 0, 98, 42, 180, 0, 98, 158, 0, 5, 3, 172, 42, 180, 0, 53, 27, 46, 17, 0, 250, 100, 54, 4]
abbrev dktX3_foretell_2 : List UInt8 := dkwX3_foretell_2 ++ dktX3_foretell_3
def dkwX3_foretell_1 : List UInt8 := [184, 0, 105, 153, 0, 12, 29, 3, 6, 184, 0, 105, 154, 0, 7, 5, 167, 0, 7, 42, 180, 0, 98]
abbrev dktX3_foretell_1 : List UInt8 := dkwX3_foretell_1 ++ dktX3_foretell_2
def dkwX3_foretell_0 : List UInt8 := [42, 42, 27, 6, 182, 0, 148, 181, 0, 98, 42, 42, 180, 0, 98, 154, 0, 27, 28, 4, 17, 7, 208]
abbrev dktX3_foretell_0 : List UInt8 := dkwX3_foretell_0 ++ dktX3_foretell_1
theorem dksX3_foretell_0 : cX3_foretell.data.toList.drop 0 = dktX3_foretell_0 := by decide +kernel
theorem dksX3_foretell_1 : cX3_foretell.data.toList.drop 23 = dktX3_foretell_1 := dk_seg dksX3_foretell_0 23 rfl rfl
theorem dksX3_foretell_2 : cX3_foretell.data.toList.drop 46 = dktX3_foretell_2 := dk_seg dksX3_foretell_1 23 rfl rfl
theorem dksX3_foretell_3 : cX3_foretell.data.toList.drop 70 = dktX3_foretell_3 := dk_seg dksX3_foretell_2 24 rfl rfl
theorem dksX3_foretell_4 : cX3_foretell.data.toList.drop 94 = dktX3_foretell_4 := dk_seg dksX3_foretell_3 24 rfl rfl
theorem dX3_foretell_0 : decode cX3_foretell 0 = .ok (.aload_n 0, 1) := dk_42 (dk_at dksX3_foretell_0 0 rfl rfl)
theorem dX3_foretell_1 : decode cX3_foretell 1 = .ok (.aload_n 0, 1) := dk_42 (dk_at dksX3_foretell_0 1 rfl rfl)
theorem dX3_foretell_2 : decode cX3_foretell 2 = .ok (.iload_n 1, 1) := dk_27 (dk_at dksX3_foretell_0 2 rfl rfl)
theorem dX3_foretell_3 : decode cX3_foretell 3 = .ok (.iconst 3, 1) := dk_6 (dk_at dksX3_foretell_0 3 rfl rfl)
theorem dX3_foretell_4 : decode cX3_foretell 4 = .ok (.invokevirtual 148, 3) := dk_182 0 148 (dk_at dksX3_foretell_0 4 rfl rfl)
theorem dX3_foretell_7 : decode cX3_foretell 7 = .ok (.putfield 98, 3) := dk_181 0 98 (dk_at dksX3_foretell_0 7 rfl rfl)
theorem dX3_foretell_10 : decode cX3_foretell 10 = .ok (.aload_n 0, 1) := dk_42 (dk_at dksX3_foretell_0 10 rfl rfl)
theorem dX3_foretell_11 : decode cX3_foretell 11 = .ok (.aload_n 0, 1) := dk_42 (dk_at dksX3_foretell_0 11 rfl rfl)
theorem dX3_foretell_12 : decode cX3_foretell 12 = .ok (.getfield 98, 3) := dk_180 0 98 (dk_at dksX3_foretell_0 12 rfl rfl)
theorem dX3_foretell_15 : decode cX3_foretell 15 = .ok (.ifCond .ne 27, 3) := dk_154 0 27 (dk_at dksX3_foretell_0 15 rfl rfl)
theorem dX3_foretell_18 : decode cX3_foretell 18 = .ok (.iload_n 2, 1) := dk_28 (dk_at dksX3_foretell_0 18 rfl rfl)
theorem dX3_foretell_19 : decode cX3_foretell 19 = .ok (.iconst 1, 1) := dk_4 (dk_at dksX3_foretell_0 19 rfl rfl)
theorem dX3_foretell_20 : decode cX3_foretell 20 = .ok (.sipush 2000, 3) := dk_17 7 208 (dk_at dksX3_foretell_0 20 rfl rfl)
theorem dX3_foretell_23 : decode cX3_foretell 23 = .ok (.invokestatic 105, 3) := dk_184 0 105 (dk_at dksX3_foretell_1 0 rfl rfl)
theorem dX3_foretell_26 : decode cX3_foretell 26 = .ok (.ifCond .eq 12, 3) := dk_153 0 12 (dk_at dksX3_foretell_1 3 rfl rfl)
theorem dX3_foretell_29 : decode cX3_foretell 29 = .ok (.iload_n 3, 1) := dk_29 (dk_at dksX3_foretell_1 6 rfl rfl)
theorem dX3_foretell_30 : decode cX3_foretell 30 = .ok (.iconst 0, 1) := dk_3 (dk_at dksX3_foretell_1 7 rfl rfl)
theorem dX3_foretell_31 : decode cX3_foretell 31 = .ok (.iconst 3, 1) := dk_6 (dk_at dksX3_foretell_1 8 rfl rfl)
theorem dX3_foretell_32 : decode cX3_foretell 32 = .ok (.invokestatic 105, 3) := dk_184 0 105 (dk_at dksX3_foretell_1 9 rfl rfl)
theorem dX3_foretell_35 : decode cX3_foretell 35 = .ok (.ifCond .ne 7, 3) := dk_154 0 7 (dk_at dksX3_foretell_1 12 rfl rfl)
theorem dX3_foretell_38 : decode cX3_foretell 38 = .ok (.iconst 2, 1) := dk_5 (dk_at dksX3_foretell_1 15 rfl rfl)
theorem dX3_foretell_39 : decode cX3_foretell 39 = .ok (.goto 7, 3) := dk_167 0 7 (dk_at dksX3_foretell_1 16 rfl rfl)
theorem dX3_foretell_42 : decode cX3_foretell 42 = .ok (.aload_n 0, 1) := dk_42 (dk_at dksX3_foretell_1 19 rfl rfl)
theorem dX3_foretell_43 : decode cX3_foretell 43 = .ok (.getfield 98, 3) := dk_180 0 98 (dk_at dksX3_foretell_1 20 rfl rfl)
theorem dX3_foretell_46 : decode cX3_foretell 46 = .ok (.putfield 98, 3) := dk_181 0 98 (dk_at dksX3_foretell_2 0 rfl rfl)
theorem dX3_foretell_49 : decode cX3_foretell 49 = .ok (.aload_n 0, 1) := dk_42 (dk_at dksX3_foretell_2 3 rfl rfl)
theorem dX3_foretell_50 : decode cX3_foretell 50 = .ok (.getfield 98, 3) := dk_180 0 98 (dk_at dksX3_foretell_2 4 rfl rfl)
theorem dX3_foretell_53 : decode cX3_foretell 53 = .ok (.ifCond .le 5, 3) := dk_158 0 5 (dk_at dksX3_foretell_2 7 rfl rfl)
theorem dX3_foretell_56 : decode cX3_foretell 56 = .ok (.iconst 0, 1) := dk_3 (dk_at dksX3_foretell_2 10 rfl rfl)
theorem dX3_foretell_57 : decode cX3_foretell 57 = .ok (.ireturn, 1) := dk_172 (dk_at dksX3_foretell_2 11 rfl rfl)
theorem dX3_foretell_58 : decode cX3_foretell 58 = .ok (.aload_n 0, 1) := dk_42 (dk_at dksX3_foretell_2 12 rfl rfl)
theorem dX3_foretell_59 : decode cX3_foretell 59 = .ok (.getfield 53, 3) := dk_180 0 53 (dk_at dksX3_foretell_2 13 rfl rfl)
theorem dX3_foretell_62 : decode cX3_foretell 62 = .ok (.iload_n 1, 1) := dk_27 (dk_at dksX3_foretell_2 16 rfl rfl)
theorem dX3_foretell_63 : decode cX3_foretell 63 = .ok (.iaload, 1) := dk_46 (dk_at dksX3_foretell_2 17 rfl rfl)
theorem dX3_foretell_64 : decode cX3_foretell 64 = .ok (.sipush 250, 3) := dk_17 0 250 (dk_at dksX3_foretell_2 18 rfl rfl)
theorem dX3_foretell_67 : decode cX3_foretell 67 = .ok (.isub, 1) := dk_100 (dk_at dksX3_foretell_2 21 rfl rfl)
theorem dX3_foretell_68 : decode cX3_foretell 68 = .ok (.istore 4, 2) := dk_54 4 (dk_at dksX3_foretell_2 22 rfl rfl)
theorem dX3_foretell_70 : decode cX3_foretell 70 = .ok (.aload_n 0, 1) := dk_42 (dk_at dksX3_foretell_3 0 rfl rfl)
theorem dX3_foretell_71 : decode cX3_foretell 71 = .ok (.getfield 56, 3) := dk_180 0 56 (dk_at dksX3_foretell_3 1 rfl rfl)
theorem dX3_foretell_74 : decode cX3_foretell 74 = .ok (.iload_n 1, 1) := dk_27 (dk_at dksX3_foretell_3 4 rfl rfl)
theorem dX3_foretell_75 : decode cX3_foretell 75 = .ok (.baload, 1) := dk_51 (dk_at dksX3_foretell_3 5 rfl rfl)
theorem dX3_foretell_76 : decode cX3_foretell 76 = .ok (.ifCond .ne 7, 3) := dk_154 0 7 (dk_at dksX3_foretell_3 6 rfl rfl)
theorem dX3_foretell_79 : decode cX3_foretell 79 = .ok (.iconst (-1), 1) := dk_2 (dk_at dksX3_foretell_3 9 rfl rfl)
theorem dX3_foretell_80 : decode cX3_foretell 80 = .ok (.goto 25, 3) := dk_167 0 25 (dk_at dksX3_foretell_3 10 rfl rfl)
theorem dX3_foretell_83 : decode cX3_foretell 83 = .ok (.iload 4, 2) := dk_21 4 (dk_at dksX3_foretell_3 13 rfl rfl)
theorem dX3_foretell_85 : decode cX3_foretell 85 = .ok (.ifCond .gt 7, 3) := dk_157 0 7 (dk_at dksX3_foretell_3 15 rfl rfl)
theorem dX3_foretell_88 : decode cX3_foretell 88 = .ok (.iconst 0, 1) := dk_3 (dk_at dksX3_foretell_3 18 rfl rfl)
theorem dX3_foretell_89 : decode cX3_foretell 89 = .ok (.goto 16, 3) := dk_167 0 16 (dk_at dksX3_foretell_3 19 rfl rfl)
theorem dX3_foretell_92 : decode cX3_foretell 92 = .ok (.iload 4, 2) := dk_21 4 (dk_at dksX3_foretell_3 22 rfl rfl)
theorem dX3_foretell_94 : decode cX3_foretell 94 = .ok (.sipush 200, 3) := dk_17 0 200 (dk_at dksX3_foretell_4 0 rfl rfl)
theorem dX3_foretell_97 : decode cX3_foretell 97 = .ok (.imul, 1) := dk_104 (dk_at dksX3_foretell_4 3 rfl rfl)
theorem dX3_foretell_98 : decode cX3_foretell 98 = .ok (.iload_n 2, 1) := dk_28 (dk_at dksX3_foretell_4 4 rfl rfl)
theorem dX3_foretell_99 : decode cX3_foretell 99 = .ok (.iload_n 3, 1) := dk_29 (dk_at dksX3_foretell_4 5 rfl rfl)
theorem dX3_foretell_100 : decode cX3_foretell 100 = .ok (.invokestatic 145, 3) := dk_184 0 145 (dk_at dksX3_foretell_4 6 rfl rfl)
theorem dX3_foretell_103 : decode cX3_foretell 103 = .ok (.imul, 1) := dk_104 (dk_at dksX3_foretell_4 9 rfl rfl)
theorem dX3_foretell_104 : decode cX3_foretell 104 = .ok (.idiv, 1) := dk_108 (dk_at dksX3_foretell_4 10 rfl rfl)
theorem dX3_foretell_105 : decode cX3_foretell 105 = .ok (.ireturn, 1) := dk_172 (dk_at dksX3_foretell_4 11 rfl rfl)
abbrev cX3_bars : ByteArray := prog_12_method_53_code
def yX3_bars : MethodName := ⟨RX3, "bars", "(I)I"⟩
def dkwX3_bars_1 : List UInt8 := [182, 0, 186, 16, 100, 108, 172]
abbrev dktX3_bars_1 : List UInt8 := dkwX3_bars_1 ++ []
def dkwX3_bars_0 : List UInt8 := [42, 42, 27, 3, 182, 0, 148, 181, 0, 98, 42, 180, 0, 98, 158, 0, 7, 3, 167, 0, 11, 42, 27]
abbrev dktX3_bars_0 : List UInt8 := dkwX3_bars_0 ++ dktX3_bars_1
theorem dksX3_bars_0 : cX3_bars.data.toList.drop 0 = dktX3_bars_0 := by decide +kernel
theorem dksX3_bars_1 : cX3_bars.data.toList.drop 23 = dktX3_bars_1 := dk_seg dksX3_bars_0 23 rfl rfl
theorem dX3_bars_0 : decode cX3_bars 0 = .ok (.aload_n 0, 1) := dk_42 (dk_at dksX3_bars_0 0 rfl rfl)
theorem dX3_bars_1 : decode cX3_bars 1 = .ok (.aload_n 0, 1) := dk_42 (dk_at dksX3_bars_0 1 rfl rfl)
theorem dX3_bars_2 : decode cX3_bars 2 = .ok (.iload_n 1, 1) := dk_27 (dk_at dksX3_bars_0 2 rfl rfl)
theorem dX3_bars_3 : decode cX3_bars 3 = .ok (.iconst 0, 1) := dk_3 (dk_at dksX3_bars_0 3 rfl rfl)
theorem dX3_bars_4 : decode cX3_bars 4 = .ok (.invokevirtual 148, 3) := dk_182 0 148 (dk_at dksX3_bars_0 4 rfl rfl)
theorem dX3_bars_7 : decode cX3_bars 7 = .ok (.putfield 98, 3) := dk_181 0 98 (dk_at dksX3_bars_0 7 rfl rfl)
theorem dX3_bars_10 : decode cX3_bars 10 = .ok (.aload_n 0, 1) := dk_42 (dk_at dksX3_bars_0 10 rfl rfl)
theorem dX3_bars_11 : decode cX3_bars 11 = .ok (.getfield 98, 3) := dk_180 0 98 (dk_at dksX3_bars_0 11 rfl rfl)
theorem dX3_bars_14 : decode cX3_bars 14 = .ok (.ifCond .le 7, 3) := dk_158 0 7 (dk_at dksX3_bars_0 14 rfl rfl)
theorem dX3_bars_17 : decode cX3_bars 17 = .ok (.iconst 0, 1) := dk_3 (dk_at dksX3_bars_0 17 rfl rfl)
theorem dX3_bars_18 : decode cX3_bars 18 = .ok (.goto 11, 3) := dk_167 0 11 (dk_at dksX3_bars_0 18 rfl rfl)
theorem dX3_bars_21 : decode cX3_bars 21 = .ok (.aload_n 0, 1) := dk_42 (dk_at dksX3_bars_0 21 rfl rfl)
theorem dX3_bars_22 : decode cX3_bars 22 = .ok (.iload_n 1, 1) := dk_27 (dk_at dksX3_bars_0 22 rfl rfl)
theorem dX3_bars_23 : decode cX3_bars 23 = .ok (.invokevirtual 186, 3) := dk_182 0 186 (dk_at dksX3_bars_1 0 rfl rfl)
theorem dX3_bars_26 : decode cX3_bars 26 = .ok (.bipush 100, 2) := dk_16 100 (dk_at dksX3_bars_1 3 rfl rfl)
theorem dX3_bars_28 : decode cX3_bars 28 = .ok (.idiv, 1) := dk_108 (dk_at dksX3_bars_1 5 rfl rfl)
theorem dX3_bars_29 : decode cX3_bars 29 = .ok (.ireturn, 1) := dk_172 (dk_at dksX3_bars_1 6 rfl rfl)
abbrev cX3_barredBy : ByteArray := prog_12_method_54_code
def yX3_barredBy : MethodName := ⟨RX3, "barredBy", "(I)I"⟩
def dkwX3_barredBy_1 : List UInt8 := [61, 28, 154, 0, 7, 2, 167, 0, 7, 28, 16, 100, 112, 172]
abbrev dktX3_barredBy_1 : List UInt8 := dkwX3_barredBy_1 ++ []
def dkwX3_barredBy_0 : List UInt8 := [42, 42, 27, 3, 182, 0, 148, 181, 0, 98, 42, 180, 0, 98, 158, 0, 5, 3, 172, 42, 27, 182, 0, 186]
abbrev dktX3_barredBy_0 : List UInt8 := dkwX3_barredBy_0 ++ dktX3_barredBy_1
theorem dksX3_barredBy_0 : cX3_barredBy.data.toList.drop 0 = dktX3_barredBy_0 := by decide +kernel
theorem dksX3_barredBy_1 : cX3_barredBy.data.toList.drop 24 = dktX3_barredBy_1 := dk_seg dksX3_barredBy_0 24 rfl rfl
theorem dX3_barredBy_0 : decode cX3_barredBy 0 = .ok (.aload_n 0, 1) := dk_42 (dk_at dksX3_barredBy_0 0 rfl rfl)
theorem dX3_barredBy_1 : decode cX3_barredBy 1 = .ok (.aload_n 0, 1) := dk_42 (dk_at dksX3_barredBy_0 1 rfl rfl)
theorem dX3_barredBy_2 : decode cX3_barredBy 2 = .ok (.iload_n 1, 1) := dk_27 (dk_at dksX3_barredBy_0 2 rfl rfl)
theorem dX3_barredBy_3 : decode cX3_barredBy 3 = .ok (.iconst 0, 1) := dk_3 (dk_at dksX3_barredBy_0 3 rfl rfl)
theorem dX3_barredBy_4 : decode cX3_barredBy 4 = .ok (.invokevirtual 148, 3) := dk_182 0 148 (dk_at dksX3_barredBy_0 4 rfl rfl)
theorem dX3_barredBy_7 : decode cX3_barredBy 7 = .ok (.putfield 98, 3) := dk_181 0 98 (dk_at dksX3_barredBy_0 7 rfl rfl)
theorem dX3_barredBy_10 : decode cX3_barredBy 10 = .ok (.aload_n 0, 1) := dk_42 (dk_at dksX3_barredBy_0 10 rfl rfl)
theorem dX3_barredBy_11 : decode cX3_barredBy 11 = .ok (.getfield 98, 3) := dk_180 0 98 (dk_at dksX3_barredBy_0 11 rfl rfl)
theorem dX3_barredBy_14 : decode cX3_barredBy 14 = .ok (.ifCond .le 5, 3) := dk_158 0 5 (dk_at dksX3_barredBy_0 14 rfl rfl)
theorem dX3_barredBy_17 : decode cX3_barredBy 17 = .ok (.iconst 0, 1) := dk_3 (dk_at dksX3_barredBy_0 17 rfl rfl)
theorem dX3_barredBy_18 : decode cX3_barredBy 18 = .ok (.ireturn, 1) := dk_172 (dk_at dksX3_barredBy_0 18 rfl rfl)
theorem dX3_barredBy_19 : decode cX3_barredBy 19 = .ok (.aload_n 0, 1) := dk_42 (dk_at dksX3_barredBy_0 19 rfl rfl)
theorem dX3_barredBy_20 : decode cX3_barredBy 20 = .ok (.iload_n 1, 1) := dk_27 (dk_at dksX3_barredBy_0 20 rfl rfl)
theorem dX3_barredBy_21 : decode cX3_barredBy 21 = .ok (.invokevirtual 186, 3) := dk_182 0 186 (dk_at dksX3_barredBy_0 21 rfl rfl)
theorem dX3_barredBy_24 : decode cX3_barredBy 24 = .ok (.istore_n 2, 1) := dk_61 (dk_at dksX3_barredBy_1 0 rfl rfl)
theorem dX3_barredBy_25 : decode cX3_barredBy 25 = .ok (.iload_n 2, 1) := dk_28 (dk_at dksX3_barredBy_1 1 rfl rfl)
theorem dX3_barredBy_26 : decode cX3_barredBy 26 = .ok (.ifCond .ne 7, 3) := dk_154 0 7 (dk_at dksX3_barredBy_1 2 rfl rfl)
theorem dX3_barredBy_29 : decode cX3_barredBy 29 = .ok (.iconst (-1), 1) := dk_2 (dk_at dksX3_barredBy_1 5 rfl rfl)
theorem dX3_barredBy_30 : decode cX3_barredBy 30 = .ok (.goto 7, 3) := dk_167 0 7 (dk_at dksX3_barredBy_1 6 rfl rfl)
theorem dX3_barredBy_33 : decode cX3_barredBy 33 = .ok (.iload_n 2, 1) := dk_28 (dk_at dksX3_barredBy_1 9 rfl rfl)
theorem dX3_barredBy_34 : decode cX3_barredBy 34 = .ok (.bipush 100, 2) := dk_16 100 (dk_at dksX3_barredBy_1 10 rfl rfl)
theorem dX3_barredBy_36 : decode cX3_barredBy 36 = .ok (.irem, 1) := dk_112 (dk_at dksX3_barredBy_1 12 rfl rfl)
theorem dX3_barredBy_37 : decode cX3_barredBy 37 = .ok (.ireturn, 1) := dk_172 (dk_at dksX3_barredBy_1 13 rfl rfl)
abbrev cX3_isReleased : ByteArray := prog_12_method_55_code
def yX3_isReleased : MethodName := ⟨RX3, "isReleased", "(I)Z"⟩
def dkwX3_isReleased_1 : List UInt8 := [153, 0, 7, 4, 167, 0, 4, 3, 172]
abbrev dktX3_isReleased_1 : List UInt8 := dkwX3_isReleased_1 ++ []
def dkwX3_isReleased_0 : List UInt8 := [42, 42, 27, 3, 182, 0, 148, 181, 0, 98, 42, 180, 0, 98, 154, 0, 16, 42, 180, 0, 38, 27, 51]
abbrev dktX3_isReleased_0 : List UInt8 := dkwX3_isReleased_0 ++ dktX3_isReleased_1
theorem dksX3_isReleased_0 : cX3_isReleased.data.toList.drop 0 = dktX3_isReleased_0 := by decide +kernel
theorem dksX3_isReleased_1 : cX3_isReleased.data.toList.drop 23 = dktX3_isReleased_1 := dk_seg dksX3_isReleased_0 23 rfl rfl
theorem dX3_isReleased_0 : decode cX3_isReleased 0 = .ok (.aload_n 0, 1) := dk_42 (dk_at dksX3_isReleased_0 0 rfl rfl)
theorem dX3_isReleased_1 : decode cX3_isReleased 1 = .ok (.aload_n 0, 1) := dk_42 (dk_at dksX3_isReleased_0 1 rfl rfl)
theorem dX3_isReleased_2 : decode cX3_isReleased 2 = .ok (.iload_n 1, 1) := dk_27 (dk_at dksX3_isReleased_0 2 rfl rfl)
theorem dX3_isReleased_3 : decode cX3_isReleased 3 = .ok (.iconst 0, 1) := dk_3 (dk_at dksX3_isReleased_0 3 rfl rfl)
theorem dX3_isReleased_4 : decode cX3_isReleased 4 = .ok (.invokevirtual 148, 3) := dk_182 0 148 (dk_at dksX3_isReleased_0 4 rfl rfl)
theorem dX3_isReleased_7 : decode cX3_isReleased 7 = .ok (.putfield 98, 3) := dk_181 0 98 (dk_at dksX3_isReleased_0 7 rfl rfl)
theorem dX3_isReleased_10 : decode cX3_isReleased 10 = .ok (.aload_n 0, 1) := dk_42 (dk_at dksX3_isReleased_0 10 rfl rfl)
theorem dX3_isReleased_11 : decode cX3_isReleased 11 = .ok (.getfield 98, 3) := dk_180 0 98 (dk_at dksX3_isReleased_0 11 rfl rfl)
theorem dX3_isReleased_14 : decode cX3_isReleased 14 = .ok (.ifCond .ne 16, 3) := dk_154 0 16 (dk_at dksX3_isReleased_0 14 rfl rfl)
theorem dX3_isReleased_17 : decode cX3_isReleased 17 = .ok (.aload_n 0, 1) := dk_42 (dk_at dksX3_isReleased_0 17 rfl rfl)
theorem dX3_isReleased_18 : decode cX3_isReleased 18 = .ok (.getfield 38, 3) := dk_180 0 38 (dk_at dksX3_isReleased_0 18 rfl rfl)
theorem dX3_isReleased_21 : decode cX3_isReleased 21 = .ok (.iload_n 1, 1) := dk_27 (dk_at dksX3_isReleased_0 21 rfl rfl)
theorem dX3_isReleased_22 : decode cX3_isReleased 22 = .ok (.baload, 1) := dk_51 (dk_at dksX3_isReleased_0 22 rfl rfl)
theorem dX3_isReleased_23 : decode cX3_isReleased 23 = .ok (.ifCond .eq 7, 3) := dk_153 0 7 (dk_at dksX3_isReleased_1 0 rfl rfl)
theorem dX3_isReleased_26 : decode cX3_isReleased 26 = .ok (.iconst 1, 1) := dk_4 (dk_at dksX3_isReleased_1 3 rfl rfl)
theorem dX3_isReleased_27 : decode cX3_isReleased 27 = .ok (.goto 4, 3) := dk_167 0 4 (dk_at dksX3_isReleased_1 4 rfl rfl)
theorem dX3_isReleased_30 : decode cX3_isReleased 30 = .ok (.iconst 0, 1) := dk_3 (dk_at dksX3_isReleased_1 7 rfl rfl)
theorem dX3_isReleased_31 : decode cX3_isReleased 31 = .ok (.ireturn, 1) := dk_172 (dk_at dksX3_isReleased_1 8 rfl rfl)
abbrev cX3_plan : ByteArray := prog_12_method_56_code
def yX3_plan : MethodName := ⟨RX3, "plan", "()I"⟩
def dkwX3_plan_0 : List UInt8 := [42, 3, 181, 0, 98, 42, 180, 0, 139, 154, 0, 7, 3, 167, 0, 7, 42, 182, 0, 193, 172]
abbrev dktX3_plan_0 : List UInt8 := dkwX3_plan_0 ++ []
theorem dksX3_plan_0 : cX3_plan.data.toList.drop 0 = dktX3_plan_0 := by decide +kernel
theorem dX3_plan_0 : decode cX3_plan 0 = .ok (.aload_n 0, 1) := dk_42 (dk_at dksX3_plan_0 0 rfl rfl)
theorem dX3_plan_1 : decode cX3_plan 1 = .ok (.iconst 0, 1) := dk_3 (dk_at dksX3_plan_0 1 rfl rfl)
theorem dX3_plan_2 : decode cX3_plan 2 = .ok (.putfield 98, 3) := dk_181 0 98 (dk_at dksX3_plan_0 2 rfl rfl)
theorem dX3_plan_5 : decode cX3_plan 5 = .ok (.aload_n 0, 1) := dk_42 (dk_at dksX3_plan_0 5 rfl rfl)
theorem dX3_plan_6 : decode cX3_plan 6 = .ok (.getfield 139, 3) := dk_180 0 139 (dk_at dksX3_plan_0 6 rfl rfl)
theorem dX3_plan_9 : decode cX3_plan 9 = .ok (.ifCond .ne 7, 3) := dk_154 0 7 (dk_at dksX3_plan_0 9 rfl rfl)
theorem dX3_plan_12 : decode cX3_plan 12 = .ok (.iconst 0, 1) := dk_3 (dk_at dksX3_plan_0 12 rfl rfl)
theorem dX3_plan_13 : decode cX3_plan 13 = .ok (.goto 7, 3) := dk_167 0 7 (dk_at dksX3_plan_0 13 rfl rfl)
theorem dX3_plan_16 : decode cX3_plan 16 = .ok (.aload_n 0, 1) := dk_42 (dk_at dksX3_plan_0 16 rfl rfl)
theorem dX3_plan_17 : decode cX3_plan 17 = .ok (.invokevirtual 193, 3) := dk_182 0 193 (dk_at dksX3_plan_0 17 rfl rfl)
theorem dX3_plan_20 : decode cX3_plan 20 = .ok (.ireturn, 1) := dk_172 (dk_at dksX3_plan_0 20 rfl rfl)
abbrev cX3_planAnew : ByteArray := prog_12_method_57_code
def yX3_planAnew : MethodName := ⟨RX3, "planAnew", "()I"⟩
def dkwX3_planAnew_0 : List UInt8 := [42, 3, 181, 0, 98, 42, 180, 0, 139, 154, 0, 7, 3, 167, 0, 7, 42, 182, 0, 193, 172]
abbrev dktX3_planAnew_0 : List UInt8 := dkwX3_planAnew_0 ++ []
theorem dksX3_planAnew_0 : cX3_planAnew.data.toList.drop 0 = dktX3_planAnew_0 := by decide +kernel
theorem dX3_planAnew_0 : decode cX3_planAnew 0 = .ok (.aload_n 0, 1) := dk_42 (dk_at dksX3_planAnew_0 0 rfl rfl)
theorem dX3_planAnew_1 : decode cX3_planAnew 1 = .ok (.iconst 0, 1) := dk_3 (dk_at dksX3_planAnew_0 1 rfl rfl)
theorem dX3_planAnew_2 : decode cX3_planAnew 2 = .ok (.putfield 98, 3) := dk_181 0 98 (dk_at dksX3_planAnew_0 2 rfl rfl)
theorem dX3_planAnew_5 : decode cX3_planAnew 5 = .ok (.aload_n 0, 1) := dk_42 (dk_at dksX3_planAnew_0 5 rfl rfl)
theorem dX3_planAnew_6 : decode cX3_planAnew 6 = .ok (.getfield 139, 3) := dk_180 0 139 (dk_at dksX3_planAnew_0 6 rfl rfl)
theorem dX3_planAnew_9 : decode cX3_planAnew 9 = .ok (.ifCond .ne 7, 3) := dk_154 0 7 (dk_at dksX3_planAnew_0 9 rfl rfl)
theorem dX3_planAnew_12 : decode cX3_planAnew 12 = .ok (.iconst 0, 1) := dk_3 (dk_at dksX3_planAnew_0 12 rfl rfl)
theorem dX3_planAnew_13 : decode cX3_planAnew 13 = .ok (.goto 7, 3) := dk_167 0 7 (dk_at dksX3_planAnew_0 13 rfl rfl)
theorem dX3_planAnew_16 : decode cX3_planAnew 16 = .ok (.aload_n 0, 1) := dk_42 (dk_at dksX3_planAnew_0 16 rfl rfl)
theorem dX3_planAnew_17 : decode cX3_planAnew 17 = .ok (.invokevirtual 193, 3) := dk_182 0 193 (dk_at dksX3_planAnew_0 17 rfl rfl)
theorem dX3_planAnew_20 : decode cX3_planAnew 20 = .ok (.ireturn, 1) := dk_172 (dk_at dksX3_planAnew_0 20 rfl rfl)
abbrev cX3_road : ByteArray := prog_12_method_58_code
def yX3_road : MethodName := ⟨RX3, "road", "(II)I"⟩
def dkwX3_road_2 : List UInt8 := [104, 28, 96, 46, 167, 0, 4, 2, 172]
abbrev dktX3_road_2 : List UInt8 := dkwX3_road_2 ++ []
def dkwX3_road_1 : List UInt8 := [180, 0, 98, 158, 0, 5, 3, 172, 28, 42, 180, 0, 92, 27, 46, 162, 0, 16, 42, 180, 0, 95, 7, 27]
abbrev dktX3_road_1 : List UInt8 := dkwX3_road_1 ++ dktX3_road_2
def dkwX3_road_0 : List UInt8 := [42, 27, 3, 5, 184, 0, 105, 153, 0, 11, 28, 155, 0, 7, 3, 167, 0, 4, 4, 181, 0, 98, 42]
abbrev dktX3_road_0 : List UInt8 := dkwX3_road_0 ++ dktX3_road_1
theorem dksX3_road_0 : cX3_road.data.toList.drop 0 = dktX3_road_0 := by decide +kernel
theorem dksX3_road_1 : cX3_road.data.toList.drop 23 = dktX3_road_1 := dk_seg dksX3_road_0 23 rfl rfl
theorem dksX3_road_2 : cX3_road.data.toList.drop 47 = dktX3_road_2 := dk_seg dksX3_road_1 24 rfl rfl
theorem dX3_road_0 : decode cX3_road 0 = .ok (.aload_n 0, 1) := dk_42 (dk_at dksX3_road_0 0 rfl rfl)
theorem dX3_road_1 : decode cX3_road 1 = .ok (.iload_n 1, 1) := dk_27 (dk_at dksX3_road_0 1 rfl rfl)
theorem dX3_road_2 : decode cX3_road 2 = .ok (.iconst 0, 1) := dk_3 (dk_at dksX3_road_0 2 rfl rfl)
theorem dX3_road_3 : decode cX3_road 3 = .ok (.iconst 2, 1) := dk_5 (dk_at dksX3_road_0 3 rfl rfl)
theorem dX3_road_4 : decode cX3_road 4 = .ok (.invokestatic 105, 3) := dk_184 0 105 (dk_at dksX3_road_0 4 rfl rfl)
theorem dX3_road_7 : decode cX3_road 7 = .ok (.ifCond .eq 11, 3) := dk_153 0 11 (dk_at dksX3_road_0 7 rfl rfl)
theorem dX3_road_10 : decode cX3_road 10 = .ok (.iload_n 2, 1) := dk_28 (dk_at dksX3_road_0 10 rfl rfl)
theorem dX3_road_11 : decode cX3_road 11 = .ok (.ifCond .lt 7, 3) := dk_155 0 7 (dk_at dksX3_road_0 11 rfl rfl)
theorem dX3_road_14 : decode cX3_road 14 = .ok (.iconst 0, 1) := dk_3 (dk_at dksX3_road_0 14 rfl rfl)
theorem dX3_road_15 : decode cX3_road 15 = .ok (.goto 4, 3) := dk_167 0 4 (dk_at dksX3_road_0 15 rfl rfl)
theorem dX3_road_18 : decode cX3_road 18 = .ok (.iconst 1, 1) := dk_4 (dk_at dksX3_road_0 18 rfl rfl)
theorem dX3_road_19 : decode cX3_road 19 = .ok (.putfield 98, 3) := dk_181 0 98 (dk_at dksX3_road_0 19 rfl rfl)
theorem dX3_road_22 : decode cX3_road 22 = .ok (.aload_n 0, 1) := dk_42 (dk_at dksX3_road_0 22 rfl rfl)
theorem dX3_road_23 : decode cX3_road 23 = .ok (.getfield 98, 3) := dk_180 0 98 (dk_at dksX3_road_1 0 rfl rfl)
theorem dX3_road_26 : decode cX3_road 26 = .ok (.ifCond .le 5, 3) := dk_158 0 5 (dk_at dksX3_road_1 3 rfl rfl)
theorem dX3_road_29 : decode cX3_road 29 = .ok (.iconst 0, 1) := dk_3 (dk_at dksX3_road_1 6 rfl rfl)
theorem dX3_road_30 : decode cX3_road 30 = .ok (.ireturn, 1) := dk_172 (dk_at dksX3_road_1 7 rfl rfl)
theorem dX3_road_31 : decode cX3_road 31 = .ok (.iload_n 2, 1) := dk_28 (dk_at dksX3_road_1 8 rfl rfl)
theorem dX3_road_32 : decode cX3_road 32 = .ok (.aload_n 0, 1) := dk_42 (dk_at dksX3_road_1 9 rfl rfl)
theorem dX3_road_33 : decode cX3_road 33 = .ok (.getfield 92, 3) := dk_180 0 92 (dk_at dksX3_road_1 10 rfl rfl)
theorem dX3_road_36 : decode cX3_road 36 = .ok (.iload_n 1, 1) := dk_27 (dk_at dksX3_road_1 13 rfl rfl)
theorem dX3_road_37 : decode cX3_road 37 = .ok (.iaload, 1) := dk_46 (dk_at dksX3_road_1 14 rfl rfl)
theorem dX3_road_38 : decode cX3_road 38 = .ok (.if_icmp .ge 16, 3) := dk_162 0 16 (dk_at dksX3_road_1 15 rfl rfl)
theorem dX3_road_41 : decode cX3_road 41 = .ok (.aload_n 0, 1) := dk_42 (dk_at dksX3_road_1 18 rfl rfl)
theorem dX3_road_42 : decode cX3_road 42 = .ok (.getfield 95, 3) := dk_180 0 95 (dk_at dksX3_road_1 19 rfl rfl)
theorem dX3_road_45 : decode cX3_road 45 = .ok (.iconst 4, 1) := dk_7 (dk_at dksX3_road_1 22 rfl rfl)
theorem dX3_road_46 : decode cX3_road 46 = .ok (.iload_n 1, 1) := dk_27 (dk_at dksX3_road_1 23 rfl rfl)
theorem dX3_road_47 : decode cX3_road 47 = .ok (.imul, 1) := dk_104 (dk_at dksX3_road_2 0 rfl rfl)
theorem dX3_road_48 : decode cX3_road 48 = .ok (.iload_n 2, 1) := dk_28 (dk_at dksX3_road_2 1 rfl rfl)
theorem dX3_road_49 : decode cX3_road 49 = .ok (.iadd, 1) := dk_96 (dk_at dksX3_road_2 2 rfl rfl)
theorem dX3_road_50 : decode cX3_road 50 = .ok (.iaload, 1) := dk_46 (dk_at dksX3_road_2 3 rfl rfl)
theorem dX3_road_51 : decode cX3_road 51 = .ok (.goto 4, 3) := dk_167 0 4 (dk_at dksX3_road_2 4 rfl rfl)
theorem dX3_road_54 : decode cX3_road 54 = .ok (.iconst (-1), 1) := dk_2 (dk_at dksX3_road_2 7 rfl rfl)
theorem dX3_road_55 : decode cX3_road 55 = .ok (.ireturn, 1) := dk_172 (dk_at dksX3_road_2 8 rfl rfl)
theorem q48 : (Jvm.Cond.initialized "WheelWorksModel") ∈ lw_all := lw_g (lw_at lw_m1 10 rfl) rfl
theorem q155 : (Jvm.Cond.selects "WheelWorksModel" ({ cls := "java/lang/Object", name := "getClass", desc := "()Ljava/lang/Class;" } : Jvm.MethodName) ({ cls := "java/lang/Object", name := "getClass", desc := "()Ljava/lang/Class;" } : Jvm.MethodName)) ∈ lw_all := lw_g (lw_at lw_m1 117 rfl) rfl
theorem q613 : (Jvm.Cond.selects "WheelWorksModel" ({ cls := "java/lang/Object", name := "equals", desc := "(Ljava/lang/Object;)Z" } : Jvm.MethodName) ({ cls := "java/lang/Object", name := "equals", desc := "(Ljava/lang/Object;)Z" } : Jvm.MethodName)) ∈ lw_all := lw_g (lw_at lw_m3 95 rfl) rfl
theorem q1016 : (Jvm.Cond.instantiable "WheelWorksModel" (33 : Nat)) ∈ lw_all := lw_g (lw_at lw_m5 18 rfl) rfl
theorem q1018 : (Jvm.Cond.instanceMethod ({ cls := "WheelWorksModel", name := "<init>", desc := "()V" } : Jvm.MethodName)) ∈ lw_all := lw_g (lw_at lw_m5 20 rfl) rfl
theorem q1019 : (Jvm.Cond.code ({ cls := "WheelWorksModel", name := "<init>", desc := "()V" } : Jvm.MethodName) prog_12_method_1_code (1 : Nat) (Option.none : Option Jvm.ClassFile.FieldType)) ∈ lw_all := lw_g (lw_at lw_m5 21 rfl) rfl
theorem q1020 : (Jvm.Cond.methodLink "WheelWorksModel" (1 : Nat) ({ cls := "java/lang/Object", name := "<init>", desc := "()V" } : Jvm.MethodName)) ∈ lw_all := lw_g (lw_at lw_m5 22 rfl) rfl
theorem q1021 : (Jvm.Cond.fieldLink "WheelWorksModel" (98 : Nat) "WheelWorksModel" "thrown" "I") ∈ lw_all := lw_g (lw_at lw_m5 23 rfl) rfl
theorem q1022 : (Jvm.Cond.fieldLink "WheelWorksModel" (102 : Nat) "WheelWorksModel" "many" "I") ∈ lw_all := lw_g (lw_at lw_m5 24 rfl) rfl
theorem q1023 : (Jvm.Cond.fieldLink "WheelWorksModel" (7 : Nat) "WheelWorksModel" "kinds" "[I") ∈ lw_all := lw_g (lw_at lw_m5 25 rfl) rfl
theorem q1024 : (Jvm.Cond.fieldLink "WheelWorksModel" (13 : Nat) "WheelWorksModel" "melts" "[I") ∈ lw_all := lw_g (lw_at lw_m5 26 rfl) rfl
theorem q1025 : (Jvm.Cond.fieldLink "WheelWorksModel" (16 : Nat) "WheelWorksModel" "mods" "[I") ∈ lw_all := lw_g (lw_at lw_m5 27 rfl) rfl
theorem q1026 : (Jvm.Cond.fieldLink "WheelWorksModel" (19 : Nat) "WheelWorksModel" "hosts" "[I") ∈ lw_all := lw_g (lw_at lw_m5 28 rfl) rfl
theorem q1027 : (Jvm.Cond.fieldLink "WheelWorksModel" (22 : Nat) "WheelWorksModel" "lives" "[I") ∈ lw_all := lw_g (lw_at lw_m5 29 rfl) rfl
theorem q1028 : (Jvm.Cond.fieldLink "WheelWorksModel" (25 : Nat) "WheelWorksModel" "since" "[I") ∈ lw_all := lw_g (lw_at lw_m5 30 rfl) rfl
theorem q1029 : (Jvm.Cond.fieldLink "WheelWorksModel" (28 : Nat) "WheelWorksModel" "waived" "[I") ∈ lw_all := lw_g (lw_at lw_m5 31 rfl) rfl
theorem q1030 : (Jvm.Cond.fieldLink "WheelWorksModel" (31 : Nat) "WheelWorksModel" "isHeld" "[Z") ∈ lw_all := lw_g (lw_at lw_m5 32 rfl) rfl
theorem q1031 : (Jvm.Cond.fieldLink "WheelWorksModel" (35 : Nat) "WheelWorksModel" "isRecalled" "[Z") ∈ lw_all := lw_g (lw_at lw_m5 33 rfl) rfl
theorem q1032 : (Jvm.Cond.fieldLink "WheelWorksModel" (38 : Nat) "WheelWorksModel" "wasReleased" "[Z") ∈ lw_all := lw_g (lw_at lw_m5 34 rfl) rfl
theorem q1033 : (Jvm.Cond.fieldLink "WheelWorksModel" (41 : Nat) "WheelWorksModel" "standsOn" "[Z") ∈ lw_all := lw_g (lw_at lw_m5 35 rfl) rfl
theorem q1034 : (Jvm.Cond.fieldLink "WheelWorksModel" (44 : Nat) "WheelWorksModel" "diameters" "[I") ∈ lw_all := lw_g (lw_at lw_m5 36 rfl) rfl
theorem q1035 : (Jvm.Cond.fieldLink "WheelWorksModel" (47 : Nat) "WheelWorksModel" "flanges" "[I") ∈ lw_all := lw_g (lw_at lw_m5 37 rfl) rfl
theorem q1036 : (Jvm.Cond.fieldLink "WheelWorksModel" (50 : Nat) "WheelWorksModel" "rubbed" "[I") ∈ lw_all := lw_g (lw_at lw_m5 38 rfl) rfl
theorem q1037 : (Jvm.Cond.fieldLink "WheelWorksModel" (53 : Nat) "WheelWorksModel" "told" "[I") ∈ lw_all := lw_g (lw_at lw_m5 39 rfl) rfl
theorem q1038 : (Jvm.Cond.fieldLink "WheelWorksModel" (56 : Nat) "WheelWorksModel" "wasTold" "[Z") ∈ lw_all := lw_g (lw_at lw_m5 40 rfl) rfl
theorem q1039 : (Jvm.Cond.fieldLink "WheelWorksModel" (59 : Nat) "WheelWorksModel" "flaws" "[I") ∈ lw_all := lw_g (lw_at lw_m5 41 rfl) rfl
theorem q1040 : (Jvm.Cond.fieldLink "WheelWorksModel" (62 : Nat) "WheelWorksModel" "flawAt" "[I") ∈ lw_all := lw_g (lw_at lw_m5 42 rfl) rfl
theorem q1041 : (Jvm.Cond.fieldLink "WheelWorksModel" (65 : Nat) "WheelWorksModel" "lifeOf" "[I") ∈ lw_all := lw_g (lw_at lw_m5 43 rfl) rfl
theorem q1042 : (Jvm.Cond.fieldLink "WheelWorksModel" (68 : Nat) "WheelWorksModel" "intervals" "[I") ∈ lw_all := lw_g (lw_at lw_m5 44 rfl) rfl
theorem q1043 : (Jvm.Cond.fieldLink "WheelWorksModel" (71 : Nat) "WheelWorksModel" "windows" "[I") ∈ lw_all := lw_g (lw_at lw_m5 45 rfl) rfl
theorem q1044 : (Jvm.Cond.fieldLink "WheelWorksModel" (118 : Nat) "WheelWorksModel" "moveMany" "I") ∈ lw_all := lw_g (lw_at lw_m5 46 rfl) rfl
theorem q1045 : (Jvm.Cond.fieldLink "WheelWorksModel" (74 : Nat) "WheelWorksModel" "moved" "[I") ∈ lw_all := lw_g (lw_at lw_m5 47 rfl) rfl
theorem q1046 : (Jvm.Cond.fieldLink "WheelWorksModel" (77 : Nat) "WheelWorksModel" "movedTo" "[I") ∈ lw_all := lw_g (lw_at lw_m5 48 rfl) rfl
theorem q1047 : (Jvm.Cond.fieldLink "WheelWorksModel" (139 : Nat) "WheelWorksModel" "waitMany" "I") ∈ lw_all := lw_g (lw_at lw_m5 49 rfl) rfl
theorem q1048 : (Jvm.Cond.fieldLink "WheelWorksModel" (80 : Nat) "WheelWorksModel" "waiting" "[I") ∈ lw_all := lw_g (lw_at lw_m5 50 rfl) rfl
theorem q1049 : (Jvm.Cond.fieldLink "WheelWorksModel" (83 : Nat) "WheelWorksModel" "times" "[I") ∈ lw_all := lw_g (lw_at lw_m5 51 rfl) rfl
theorem q1050 : (Jvm.Cond.fieldLink "WheelWorksModel" (86 : Nat) "WheelWorksModel" "best" "[I") ∈ lw_all := lw_g (lw_at lw_m5 52 rfl) rfl
theorem q1051 : (Jvm.Cond.fieldLink "WheelWorksModel" (89 : Nat) "WheelWorksModel" "tried" "[I") ∈ lw_all := lw_g (lw_at lw_m5 53 rfl) rfl
theorem q1052 : (Jvm.Cond.fieldLink "WheelWorksModel" (92 : Nat) "WheelWorksModel" "roadMany" "[I") ∈ lw_all := lw_g (lw_at lw_m5 54 rfl) rfl
theorem q1053 : (Jvm.Cond.fieldLink "WheelWorksModel" (95 : Nat) "WheelWorksModel" "roads" "[I") ∈ lw_all := lw_g (lw_at lw_m5 55 rfl) rfl
theorem q1054 : (Jvm.Cond.lays "WheelWorksModel" "WheelWorksModel" "thrown" "I") ∈ lw_all := lw_g (lw_at lw_m5 56 rfl) rfl
theorem q1055 : (Jvm.Cond.soleField "WheelWorksModel" "thrown") ∈ lw_all := lw_g (lw_at lw_m5 57 rfl) rfl
theorem q1056 : (Jvm.Cond.lays "WheelWorksModel" "WheelWorksModel" "many" "I") ∈ lw_all := lw_g (lw_at lw_m5 58 rfl) rfl
theorem q1057 : (Jvm.Cond.soleField "WheelWorksModel" "many") ∈ lw_all := lw_g (lw_at lw_m5 59 rfl) rfl
theorem q1058 : (Jvm.Cond.laysFinal "WheelWorksModel" "WheelWorksModel" "kinds" "[I") ∈ lw_all := lw_g (lw_at lw_m5 60 rfl) rfl
theorem q1059 : (Jvm.Cond.soleField "WheelWorksModel" "kinds") ∈ lw_all := lw_g (lw_at lw_m5 61 rfl) rfl
theorem q1060 : (Jvm.Cond.laysFinal "WheelWorksModel" "WheelWorksModel" "melts" "[I") ∈ lw_all := lw_g (lw_at lw_m5 62 rfl) rfl
theorem q1061 : (Jvm.Cond.soleField "WheelWorksModel" "melts") ∈ lw_all := lw_g (lw_at lw_m5 63 rfl) rfl
theorem q1062 : (Jvm.Cond.laysFinal "WheelWorksModel" "WheelWorksModel" "mods" "[I") ∈ lw_all := lw_g (lw_at lw_m5 64 rfl) rfl
theorem q1063 : (Jvm.Cond.soleField "WheelWorksModel" "mods") ∈ lw_all := lw_g (lw_at lw_m5 65 rfl) rfl
theorem q1064 : (Jvm.Cond.laysFinal "WheelWorksModel" "WheelWorksModel" "hosts" "[I") ∈ lw_all := lw_g (lw_at lw_m5 66 rfl) rfl
theorem q1065 : (Jvm.Cond.soleField "WheelWorksModel" "hosts") ∈ lw_all := lw_g (lw_at lw_m5 67 rfl) rfl
theorem q1066 : (Jvm.Cond.laysFinal "WheelWorksModel" "WheelWorksModel" "lives" "[I") ∈ lw_all := lw_g (lw_at lw_m5 68 rfl) rfl
theorem q1067 : (Jvm.Cond.soleField "WheelWorksModel" "lives") ∈ lw_all := lw_g (lw_at lw_m5 69 rfl) rfl
theorem q1068 : (Jvm.Cond.laysFinal "WheelWorksModel" "WheelWorksModel" "since" "[I") ∈ lw_all := lw_g (lw_at lw_m5 70 rfl) rfl
theorem q1069 : (Jvm.Cond.soleField "WheelWorksModel" "since") ∈ lw_all := lw_g (lw_at lw_m5 71 rfl) rfl
theorem q1070 : (Jvm.Cond.laysFinal "WheelWorksModel" "WheelWorksModel" "waived" "[I") ∈ lw_all := lw_g (lw_at lw_m5 72 rfl) rfl
theorem q1071 : (Jvm.Cond.soleField "WheelWorksModel" "waived") ∈ lw_all := lw_g (lw_at lw_m5 73 rfl) rfl
theorem q1072 : (Jvm.Cond.laysFinal "WheelWorksModel" "WheelWorksModel" "isHeld" "[Z") ∈ lw_all := lw_g (lw_at lw_m5 74 rfl) rfl
theorem q1073 : (Jvm.Cond.soleField "WheelWorksModel" "isHeld") ∈ lw_all := lw_g (lw_at lw_m5 75 rfl) rfl
theorem q1074 : (Jvm.Cond.laysFinal "WheelWorksModel" "WheelWorksModel" "isRecalled" "[Z") ∈ lw_all := lw_g (lw_at lw_m5 76 rfl) rfl
theorem q1075 : (Jvm.Cond.soleField "WheelWorksModel" "isRecalled") ∈ lw_all := lw_g (lw_at lw_m5 77 rfl) rfl
theorem q1076 : (Jvm.Cond.laysFinal "WheelWorksModel" "WheelWorksModel" "wasReleased" "[Z") ∈ lw_all := lw_g (lw_at lw_m5 78 rfl) rfl
theorem q1077 : (Jvm.Cond.soleField "WheelWorksModel" "wasReleased") ∈ lw_all := lw_g (lw_at lw_m5 79 rfl) rfl
theorem q1078 : (Jvm.Cond.laysFinal "WheelWorksModel" "WheelWorksModel" "standsOn" "[Z") ∈ lw_all := lw_g (lw_at lw_m5 80 rfl) rfl
theorem q1079 : (Jvm.Cond.soleField "WheelWorksModel" "standsOn") ∈ lw_all := lw_g (lw_at lw_m5 81 rfl) rfl
theorem q1080 : (Jvm.Cond.laysFinal "WheelWorksModel" "WheelWorksModel" "diameters" "[I") ∈ lw_all := lw_g (lw_at lw_m5 82 rfl) rfl
theorem q1081 : (Jvm.Cond.soleField "WheelWorksModel" "diameters") ∈ lw_all := lw_g (lw_at lw_m5 83 rfl) rfl
theorem q1082 : (Jvm.Cond.laysFinal "WheelWorksModel" "WheelWorksModel" "flanges" "[I") ∈ lw_all := lw_g (lw_at lw_m5 84 rfl) rfl
theorem q1083 : (Jvm.Cond.soleField "WheelWorksModel" "flanges") ∈ lw_all := lw_g (lw_at lw_m5 85 rfl) rfl
theorem q1084 : (Jvm.Cond.laysFinal "WheelWorksModel" "WheelWorksModel" "rubbed" "[I") ∈ lw_all := lw_g (lw_at lw_m5 86 rfl) rfl
theorem q1085 : (Jvm.Cond.soleField "WheelWorksModel" "rubbed") ∈ lw_all := lw_g (lw_at lw_m5 87 rfl) rfl
theorem q1086 : (Jvm.Cond.laysFinal "WheelWorksModel" "WheelWorksModel" "told" "[I") ∈ lw_all := lw_g (lw_at lw_m5 88 rfl) rfl
theorem q1087 : (Jvm.Cond.soleField "WheelWorksModel" "told") ∈ lw_all := lw_g (lw_at lw_m5 89 rfl) rfl
theorem q1088 : (Jvm.Cond.laysFinal "WheelWorksModel" "WheelWorksModel" "wasTold" "[Z") ∈ lw_all := lw_g (lw_at lw_m5 90 rfl) rfl
theorem q1089 : (Jvm.Cond.soleField "WheelWorksModel" "wasTold") ∈ lw_all := lw_g (lw_at lw_m5 91 rfl) rfl
theorem q1090 : (Jvm.Cond.laysFinal "WheelWorksModel" "WheelWorksModel" "flaws" "[I") ∈ lw_all := lw_g (lw_at lw_m5 92 rfl) rfl
theorem q1091 : (Jvm.Cond.soleField "WheelWorksModel" "flaws") ∈ lw_all := lw_g (lw_at lw_m5 93 rfl) rfl
theorem q1092 : (Jvm.Cond.laysFinal "WheelWorksModel" "WheelWorksModel" "flawAt" "[I") ∈ lw_all := lw_g (lw_at lw_m5 94 rfl) rfl
theorem q1093 : (Jvm.Cond.soleField "WheelWorksModel" "flawAt") ∈ lw_all := lw_g (lw_at lw_m5 95 rfl) rfl
theorem q1094 : (Jvm.Cond.laysFinal "WheelWorksModel" "WheelWorksModel" "lifeOf" "[I") ∈ lw_all := lw_g (lw_at lw_m5 96 rfl) rfl
theorem q1095 : (Jvm.Cond.soleField "WheelWorksModel" "lifeOf") ∈ lw_all := lw_g (lw_at lw_m5 97 rfl) rfl
theorem q1096 : (Jvm.Cond.laysFinal "WheelWorksModel" "WheelWorksModel" "intervals" "[I") ∈ lw_all := lw_g (lw_at lw_m5 98 rfl) rfl
theorem q1097 : (Jvm.Cond.soleField "WheelWorksModel" "intervals") ∈ lw_all := lw_g (lw_at lw_m5 99 rfl) rfl
theorem q1098 : (Jvm.Cond.laysFinal "WheelWorksModel" "WheelWorksModel" "windows" "[I") ∈ lw_all := lw_g (lw_at lw_m5 100 rfl) rfl
theorem q1099 : (Jvm.Cond.soleField "WheelWorksModel" "windows") ∈ lw_all := lw_g (lw_at lw_m5 101 rfl) rfl
theorem q1100 : (Jvm.Cond.lays "WheelWorksModel" "WheelWorksModel" "moveMany" "I") ∈ lw_all := lw_g (lw_at lw_m5 102 rfl) rfl
theorem q1101 : (Jvm.Cond.soleField "WheelWorksModel" "moveMany") ∈ lw_all := lw_g (lw_at lw_m5 103 rfl) rfl
theorem q1102 : (Jvm.Cond.laysFinal "WheelWorksModel" "WheelWorksModel" "moved" "[I") ∈ lw_all := lw_g (lw_at lw_m5 104 rfl) rfl
theorem q1103 : (Jvm.Cond.soleField "WheelWorksModel" "moved") ∈ lw_all := lw_g (lw_at lw_m5 105 rfl) rfl
theorem q1104 : (Jvm.Cond.laysFinal "WheelWorksModel" "WheelWorksModel" "movedTo" "[I") ∈ lw_all := lw_g (lw_at lw_m5 106 rfl) rfl
theorem q1105 : (Jvm.Cond.soleField "WheelWorksModel" "movedTo") ∈ lw_all := lw_g (lw_at lw_m5 107 rfl) rfl
theorem q1106 : (Jvm.Cond.lays "WheelWorksModel" "WheelWorksModel" "waitMany" "I") ∈ lw_all := lw_g (lw_at lw_m5 108 rfl) rfl
theorem q1107 : (Jvm.Cond.soleField "WheelWorksModel" "waitMany") ∈ lw_all := lw_g (lw_at lw_m5 109 rfl) rfl
theorem q1108 : (Jvm.Cond.laysFinal "WheelWorksModel" "WheelWorksModel" "waiting" "[I") ∈ lw_all := lw_g (lw_at lw_m5 110 rfl) rfl
theorem q1109 : (Jvm.Cond.soleField "WheelWorksModel" "waiting") ∈ lw_all := lw_g (lw_at lw_m5 111 rfl) rfl
theorem q1110 : (Jvm.Cond.laysFinal "WheelWorksModel" "WheelWorksModel" "times" "[I") ∈ lw_all := lw_g (lw_at lw_m5 112 rfl) rfl
theorem q1111 : (Jvm.Cond.soleField "WheelWorksModel" "times") ∈ lw_all := lw_g (lw_at lw_m5 113 rfl) rfl
theorem q1112 : (Jvm.Cond.laysFinal "WheelWorksModel" "WheelWorksModel" "best" "[I") ∈ lw_all := lw_g (lw_at lw_m5 114 rfl) rfl
theorem q1113 : (Jvm.Cond.soleField "WheelWorksModel" "best") ∈ lw_all := lw_g (lw_at lw_m5 115 rfl) rfl
theorem q1114 : (Jvm.Cond.laysFinal "WheelWorksModel" "WheelWorksModel" "tried" "[I") ∈ lw_all := lw_g (lw_at lw_m5 116 rfl) rfl
theorem q1115 : (Jvm.Cond.soleField "WheelWorksModel" "tried") ∈ lw_all := lw_g (lw_at lw_m5 117 rfl) rfl
theorem q1116 : (Jvm.Cond.laysFinal "WheelWorksModel" "WheelWorksModel" "roadMany" "[I") ∈ lw_all := lw_g (lw_at lw_m5 118 rfl) rfl
theorem q1117 : (Jvm.Cond.soleField "WheelWorksModel" "roadMany") ∈ lw_all := lw_g (lw_at lw_m5 119 rfl) rfl
theorem q1118 : (Jvm.Cond.laysFinal "WheelWorksModel" "WheelWorksModel" "roads" "[I") ∈ lw_all := lw_g (lw_at lw_m5 120 rfl) rfl
theorem q1119 : (Jvm.Cond.soleField "WheelWorksModel" "roads") ∈ lw_all := lw_g (lw_at lw_m5 121 rfl) rfl
theorem q1120 : (Jvm.Cond.superclass "WheelWorksModel" "java/lang/Object") ∈ lw_all := lw_g (lw_at lw_m5 122 rfl) rfl
theorem q1123 : (Jvm.Cond.instanceMethod ({ cls := "WheelWorksModel", name := "thrown", desc := "()I" } : Jvm.MethodName)) ∈ lw_all := lw_g (lw_at lw_m5 125 rfl) rfl
theorem q1124 : (Jvm.Cond.selects "WheelWorksModel" ({ cls := "WheelWorksModel", name := "thrown", desc := "()I" } : Jvm.MethodName) ({ cls := "WheelWorksModel", name := "thrown", desc := "()I" } : Jvm.MethodName)) ∈ lw_all := lw_g (lw_at lw_m5 126 rfl) rfl
theorem q1125 : (Jvm.Cond.code ({ cls := "WheelWorksModel", name := "thrown", desc := "()I" } : Jvm.MethodName) prog_12_method_2_code (1 : Nat) (Option.some Jvm.ClassFile.FieldType.int)) ∈ lw_all := lw_g (lw_at lw_m5 127 rfl) rfl
theorem q1127 : (Jvm.Cond.instanceMethod ({ cls := "WheelWorksModel", name := "part", desc := "(III)I" } : Jvm.MethodName)) ∈ lw_all := lw_g (lw_at lw_m5 129 rfl) rfl
theorem q1128 : (Jvm.Cond.selects "WheelWorksModel" ({ cls := "WheelWorksModel", name := "part", desc := "(III)I" } : Jvm.MethodName) ({ cls := "WheelWorksModel", name := "part", desc := "(III)I" } : Jvm.MethodName)) ∈ lw_all := lw_g (lw_at lw_m5 130 rfl) rfl
theorem q1129 : (Jvm.Cond.code ({ cls := "WheelWorksModel", name := "part", desc := "(III)I" } : Jvm.MethodName) prog_12_method_6_code (4 : Nat) (Option.some Jvm.ClassFile.FieldType.int)) ∈ lw_all := lw_g (lw_at lw_m5 131 rfl) rfl
theorem q1130 : (Jvm.Cond.methodLink "WheelWorksModel" (105 : Nat) ({ cls := "WheelWorksModel", name := "in", desc := "(III)Z" } : Jvm.MethodName)) ∈ lw_all := lw_g (lw_at lw_m5 132 rfl) rfl
theorem q1131 : (Jvm.Cond.static ({ cls := "WheelWorksModel", name := "in", desc := "(III)Z" } : Jvm.MethodName)) ∈ lw_all := lw_g (lw_at lw_m5 133 rfl) rfl
theorem q1132 : (Jvm.Cond.code ({ cls := "WheelWorksModel", name := "in", desc := "(III)Z" } : Jvm.MethodName) prog_12_method_3_code (3 : Nat) (Option.some Jvm.ClassFile.FieldType.boolean)) ∈ lw_all := lw_g (lw_at lw_m5 134 rfl) rfl
theorem q1134 : (Jvm.Cond.instanceMethod ({ cls := "WheelWorksModel", name := "limits", desc := "(IIII)I" } : Jvm.MethodName)) ∈ lw_all := lw_g (lw_at lw_m5 136 rfl) rfl
theorem q1135 : (Jvm.Cond.selects "WheelWorksModel" ({ cls := "WheelWorksModel", name := "limits", desc := "(IIII)I" } : Jvm.MethodName) ({ cls := "WheelWorksModel", name := "limits", desc := "(IIII)I" } : Jvm.MethodName)) ∈ lw_all := lw_g (lw_at lw_m5 137 rfl) rfl
theorem q1136 : (Jvm.Cond.code ({ cls := "WheelWorksModel", name := "limits", desc := "(IIII)I" } : Jvm.MethodName) prog_12_method_7_code (6 : Nat) (Option.some Jvm.ClassFile.FieldType.int)) ∈ lw_all := lw_g (lw_at lw_m5 138 rfl) rfl
theorem q1137 : (Jvm.Cond.constant "WheelWorksModel" (113 : Nat) (99999 : Int32)) ∈ lw_all := lw_g (lw_at lw_m5 139 rfl) rfl
theorem q1139 : (Jvm.Cond.instanceMethod ({ cls := "WheelWorksModel", name := "fit", desc := "(II)I" } : Jvm.MethodName)) ∈ lw_all := lw_g (lw_at lw_m5 141 rfl) rfl
theorem q1140 : (Jvm.Cond.selects "WheelWorksModel" ({ cls := "WheelWorksModel", name := "fit", desc := "(II)I" } : Jvm.MethodName) ({ cls := "WheelWorksModel", name := "fit", desc := "(II)I" } : Jvm.MethodName)) ∈ lw_all := lw_g (lw_at lw_m5 142 rfl) rfl
theorem q1141 : (Jvm.Cond.code ({ cls := "WheelWorksModel", name := "fit", desc := "(II)I" } : Jvm.MethodName) prog_12_method_15_code (5 : Nat) (Option.some Jvm.ClassFile.FieldType.int)) ∈ lw_all := lw_g (lw_at lw_m5 143 rfl) rfl
theorem q1142 : (Jvm.Cond.methodLink "WheelWorksModel" (109 : Nat) ({ cls := "WheelWorksModel", name := "isPart", desc := "(I)Z" } : Jvm.MethodName)) ∈ lw_all := lw_g (lw_at lw_m5 144 rfl) rfl
theorem q1143 : (Jvm.Cond.privateMethod ({ cls := "WheelWorksModel", name := "isPart", desc := "(I)Z" } : Jvm.MethodName)) ∈ lw_tbl := lw_at lw_m5 145 rfl
theorem q1144 : (Jvm.Cond.instanceMethod ({ cls := "WheelWorksModel", name := "isPart", desc := "(I)Z" } : Jvm.MethodName)) ∈ lw_all := lw_g (lw_at lw_m5 146 rfl) rfl
theorem q1145 : (Jvm.Cond.code ({ cls := "WheelWorksModel", name := "isPart", desc := "(I)Z" } : Jvm.MethodName) prog_12_method_4_code (2 : Nat) (Option.some Jvm.ClassFile.FieldType.boolean)) ∈ lw_all := lw_g (lw_at lw_m5 147 rfl) rfl
theorem q1146 : (Jvm.Cond.methodLink "WheelWorksModel" (121 : Nat) ({ cls := "WheelWorksModel", name := "places", desc := "(II)I" } : Jvm.MethodName)) ∈ lw_all := lw_g (lw_at lw_m5 148 rfl) rfl
theorem q1147 : (Jvm.Cond.static ({ cls := "WheelWorksModel", name := "places", desc := "(II)I" } : Jvm.MethodName)) ∈ lw_all := lw_g (lw_at lw_m5 149 rfl) rfl
theorem q1148 : (Jvm.Cond.code ({ cls := "WheelWorksModel", name := "places", desc := "(II)I" } : Jvm.MethodName) prog_12_method_11_code (2 : Nat) (Option.some Jvm.ClassFile.FieldType.int)) ∈ lw_all := lw_g (lw_at lw_m5 150 rfl) rfl
theorem q1149 : (Jvm.Cond.methodLink "WheelWorksModel" (125 : Nat) ({ cls := "WheelWorksModel", name := "isBound", desc := "(I)Z" } : Jvm.MethodName)) ∈ lw_all := lw_g (lw_at lw_m5 151 rfl) rfl
theorem q1150 : (Jvm.Cond.privateMethod ({ cls := "WheelWorksModel", name := "isBound", desc := "(I)Z" } : Jvm.MethodName)) ∈ lw_tbl := lw_at lw_m5 152 rfl
theorem q1151 : (Jvm.Cond.instanceMethod ({ cls := "WheelWorksModel", name := "isBound", desc := "(I)Z" } : Jvm.MethodName)) ∈ lw_all := lw_g (lw_at lw_m5 153 rfl) rfl
theorem q1152 : (Jvm.Cond.code ({ cls := "WheelWorksModel", name := "isBound", desc := "(I)Z" } : Jvm.MethodName) prog_12_method_9_code (2 : Nat) (Option.some Jvm.ClassFile.FieldType.boolean)) ∈ lw_all := lw_g (lw_at lw_m5 154 rfl) rfl
theorem q1153 : (Jvm.Cond.methodLink "WheelWorksModel" (114 : Nat) ({ cls := "WheelWorksModel", name := "headOf", desc := "(I)I" } : Jvm.MethodName)) ∈ lw_all := lw_g (lw_at lw_m5 155 rfl) rfl
theorem q1154 : (Jvm.Cond.privateMethod ({ cls := "WheelWorksModel", name := "headOf", desc := "(I)I" } : Jvm.MethodName)) ∈ lw_tbl := lw_at lw_m5 156 rfl
theorem q1155 : (Jvm.Cond.instanceMethod ({ cls := "WheelWorksModel", name := "headOf", desc := "(I)I" } : Jvm.MethodName)) ∈ lw_all := lw_g (lw_at lw_m5 157 rfl) rfl
theorem q1156 : (Jvm.Cond.code ({ cls := "WheelWorksModel", name := "headOf", desc := "(I)I" } : Jvm.MethodName) prog_12_method_8_code (3 : Nat) (Option.some Jvm.ClassFile.FieldType.int)) ∈ lw_all := lw_g (lw_at lw_m5 158 rfl) rfl
theorem q1157 : (Jvm.Cond.methodLink "WheelWorksModel" (128 : Nat) ({ cls := "WheelWorksModel", name := "inside", desc := "(II)I" } : Jvm.MethodName)) ∈ lw_all := lw_g (lw_at lw_m5 159 rfl) rfl
theorem q1158 : (Jvm.Cond.privateMethod ({ cls := "WheelWorksModel", name := "inside", desc := "(II)I" } : Jvm.MethodName)) ∈ lw_tbl := lw_at lw_m5 160 rfl
theorem q1159 : (Jvm.Cond.instanceMethod ({ cls := "WheelWorksModel", name := "inside", desc := "(II)I" } : Jvm.MethodName)) ∈ lw_all := lw_g (lw_at lw_m5 161 rfl) rfl
theorem q1160 : (Jvm.Cond.code ({ cls := "WheelWorksModel", name := "inside", desc := "(II)I" } : Jvm.MethodName) prog_12_method_12_code (5 : Nat) (Option.some Jvm.ClassFile.FieldType.int)) ∈ lw_all := lw_g (lw_at lw_m5 162 rfl) rfl
theorem q1161 : (Jvm.Cond.methodLink "WheelWorksModel" (131 : Nat) ({ cls := "WheelWorksModel", name := "moves", desc := "(II)V" } : Jvm.MethodName)) ∈ lw_all := lw_g (lw_at lw_m5 163 rfl) rfl
theorem q1162 : (Jvm.Cond.privateMethod ({ cls := "WheelWorksModel", name := "moves", desc := "(II)V" } : Jvm.MethodName)) ∈ lw_tbl := lw_at lw_m5 164 rfl
theorem q1163 : (Jvm.Cond.instanceMethod ({ cls := "WheelWorksModel", name := "moves", desc := "(II)V" } : Jvm.MethodName)) ∈ lw_all := lw_g (lw_at lw_m5 165 rfl) rfl
theorem q1164 : (Jvm.Cond.code ({ cls := "WheelWorksModel", name := "moves", desc := "(II)V" } : Jvm.MethodName) prog_12_method_13_code (3 : Nat) (Option.none : Option Jvm.ClassFile.FieldType)) ∈ lw_all := lw_g (lw_at lw_m5 166 rfl) rfl
theorem q1165 : (Jvm.Cond.methodLink "WheelWorksModel" (135 : Nat) ({ cls := "WheelWorksModel", name := "ends", desc := "(I)V" } : Jvm.MethodName)) ∈ lw_all := lw_g (lw_at lw_m5 167 rfl) rfl
theorem q1166 : (Jvm.Cond.privateMethod ({ cls := "WheelWorksModel", name := "ends", desc := "(I)V" } : Jvm.MethodName)) ∈ lw_tbl := lw_at lw_m5 168 rfl
theorem q1167 : (Jvm.Cond.instanceMethod ({ cls := "WheelWorksModel", name := "ends", desc := "(I)V" } : Jvm.MethodName)) ∈ lw_all := lw_g (lw_at lw_m5 169 rfl) rfl
theorem q1168 : (Jvm.Cond.code ({ cls := "WheelWorksModel", name := "ends", desc := "(I)V" } : Jvm.MethodName) prog_12_method_14_code (2 : Nat) (Option.none : Option Jvm.ClassFile.FieldType)) ∈ lw_all := lw_g (lw_at lw_m5 170 rfl) rfl
theorem q1170 : (Jvm.Cond.instanceMethod ({ cls := "WheelWorksModel", name := "take", desc := "(I)I" } : Jvm.MethodName)) ∈ lw_all := lw_g (lw_at lw_m5 172 rfl) rfl
theorem q1171 : (Jvm.Cond.selects "WheelWorksModel" ({ cls := "WheelWorksModel", name := "take", desc := "(I)I" } : Jvm.MethodName) ({ cls := "WheelWorksModel", name := "take", desc := "(I)I" } : Jvm.MethodName)) ∈ lw_all := lw_g (lw_at lw_m5 173 rfl) rfl
theorem q1172 : (Jvm.Cond.code ({ cls := "WheelWorksModel", name := "take", desc := "(I)I" } : Jvm.MethodName) prog_12_method_16_code (3 : Nat) (Option.some Jvm.ClassFile.FieldType.int)) ∈ lw_all := lw_g (lw_at lw_m5 174 rfl) rfl
theorem q1174 : (Jvm.Cond.instanceMethod ({ cls := "WheelWorksModel", name := "scrap", desc := "(I)V" } : Jvm.MethodName)) ∈ lw_all := lw_g (lw_at lw_m5 176 rfl) rfl
theorem q1175 : (Jvm.Cond.selects "WheelWorksModel" ({ cls := "WheelWorksModel", name := "scrap", desc := "(I)V" } : Jvm.MethodName) ({ cls := "WheelWorksModel", name := "scrap", desc := "(I)V" } : Jvm.MethodName)) ∈ lw_all := lw_g (lw_at lw_m5 177 rfl) rfl
theorem q1176 : (Jvm.Cond.code ({ cls := "WheelWorksModel", name := "scrap", desc := "(I)V" } : Jvm.MethodName) prog_12_method_18_code (2 : Nat) (Option.none : Option Jvm.ClassFile.FieldType)) ∈ lw_all := lw_g (lw_at lw_m5 178 rfl) rfl
theorem q1177 : (Jvm.Cond.methodLink "WheelWorksModel" (142 : Nat) ({ cls := "WheelWorksModel", name := "waits", desc := "(I)Z" } : Jvm.MethodName)) ∈ lw_all := lw_g (lw_at lw_m5 179 rfl) rfl
theorem q1178 : (Jvm.Cond.privateMethod ({ cls := "WheelWorksModel", name := "waits", desc := "(I)Z" } : Jvm.MethodName)) ∈ lw_tbl := lw_at lw_m5 180 rfl
theorem q1179 : (Jvm.Cond.instanceMethod ({ cls := "WheelWorksModel", name := "waits", desc := "(I)Z" } : Jvm.MethodName)) ∈ lw_all := lw_g (lw_at lw_m5 181 rfl) rfl
theorem q1180 : (Jvm.Cond.code ({ cls := "WheelWorksModel", name := "waits", desc := "(I)Z" } : Jvm.MethodName) prog_12_method_17_code (4 : Nat) (Option.some Jvm.ClassFile.FieldType.boolean)) ∈ lw_all := lw_g (lw_at lw_m5 182 rfl) rfl
theorem q1182 : (Jvm.Cond.instanceMethod ({ cls := "WheelWorksModel", name := "run", desc := "(III)I" } : Jvm.MethodName)) ∈ lw_all := lw_g (lw_at lw_m5 184 rfl) rfl
theorem q1183 : (Jvm.Cond.selects "WheelWorksModel" ({ cls := "WheelWorksModel", name := "run", desc := "(III)I" } : Jvm.MethodName) ({ cls := "WheelWorksModel", name := "run", desc := "(III)I" } : Jvm.MethodName)) ∈ lw_all := lw_g (lw_at lw_m5 185 rfl) rfl
theorem q1184 : (Jvm.Cond.code ({ cls := "WheelWorksModel", name := "run", desc := "(III)I" } : Jvm.MethodName) prog_12_method_21_code (6 : Nat) (Option.some Jvm.ClassFile.FieldType.int)) ∈ lw_all := lw_g (lw_at lw_m5 186 rfl) rfl
theorem q1185 : (Jvm.Cond.methodLink "WheelWorksModel" (148 : Nat) ({ cls := "WheelWorksModel", name := "kindCode", desc := "(II)I" } : Jvm.MethodName)) ∈ lw_all := lw_g (lw_at lw_m5 187 rfl) rfl
theorem q1186 : (Jvm.Cond.privateMethod ({ cls := "WheelWorksModel", name := "kindCode", desc := "(II)I" } : Jvm.MethodName)) ∈ lw_tbl := lw_at lw_m5 188 rfl
theorem q1187 : (Jvm.Cond.instanceMethod ({ cls := "WheelWorksModel", name := "kindCode", desc := "(II)I" } : Jvm.MethodName)) ∈ lw_all := lw_g (lw_at lw_m5 189 rfl) rfl
theorem q1188 : (Jvm.Cond.code ({ cls := "WheelWorksModel", name := "kindCode", desc := "(II)I" } : Jvm.MethodName) prog_12_method_5_code (3 : Nat) (Option.some Jvm.ClassFile.FieldType.int)) ∈ lw_all := lw_g (lw_at lw_m5 190 rfl) rfl
theorem q1189 : (Jvm.Cond.methodLink "WheelWorksModel" (151 : Nat) ({ cls := "WheelWorksModel", name := "isIn", desc := "(II)Z" } : Jvm.MethodName)) ∈ lw_all := lw_g (lw_at lw_m5 191 rfl) rfl
theorem q1190 : (Jvm.Cond.privateMethod ({ cls := "WheelWorksModel", name := "isIn", desc := "(II)Z" } : Jvm.MethodName)) ∈ lw_tbl := lw_at lw_m5 192 rfl
theorem q1191 : (Jvm.Cond.instanceMethod ({ cls := "WheelWorksModel", name := "isIn", desc := "(II)Z" } : Jvm.MethodName)) ∈ lw_all := lw_g (lw_at lw_m5 193 rfl) rfl
theorem q1192 : (Jvm.Cond.code ({ cls := "WheelWorksModel", name := "isIn", desc := "(II)Z" } : Jvm.MethodName) prog_12_method_10_code (3 : Nat) (Option.some Jvm.ClassFile.FieldType.boolean)) ∈ lw_all := lw_g (lw_at lw_m5 194 rfl) rfl
theorem q1193 : (Jvm.Cond.methodLink "WheelWorksModel" (155 : Nat) ({ cls := "WheelWorksModel", name := "goes", desc := "(III)V" } : Jvm.MethodName)) ∈ lw_all := lw_g (lw_at lw_m5 195 rfl) rfl
theorem q1194 : (Jvm.Cond.privateMethod ({ cls := "WheelWorksModel", name := "goes", desc := "(III)V" } : Jvm.MethodName)) ∈ lw_tbl := lw_at lw_m5 196 rfl
theorem q1195 : (Jvm.Cond.instanceMethod ({ cls := "WheelWorksModel", name := "goes", desc := "(III)V" } : Jvm.MethodName)) ∈ lw_all := lw_g (lw_at lw_m5 197 rfl) rfl
theorem q1196 : (Jvm.Cond.code ({ cls := "WheelWorksModel", name := "goes", desc := "(III)V" } : Jvm.MethodName) prog_12_method_20_code (7 : Nat) (Option.none : Option Jvm.ClassFile.FieldType)) ∈ lw_all := lw_g (lw_at lw_m5 198 rfl) rfl
theorem q1197 : (Jvm.Cond.methodLink "WheelWorksModel" (145 : Nat) ({ cls := "WheelWorksModel", name := "factor", desc := "(I)I" } : Jvm.MethodName)) ∈ lw_all := lw_g (lw_at lw_m5 199 rfl) rfl
theorem q1198 : (Jvm.Cond.static ({ cls := "WheelWorksModel", name := "factor", desc := "(I)I" } : Jvm.MethodName)) ∈ lw_all := lw_g (lw_at lw_m5 200 rfl) rfl
theorem q1199 : (Jvm.Cond.code ({ cls := "WheelWorksModel", name := "factor", desc := "(I)I" } : Jvm.MethodName) prog_12_method_19_code (1 : Nat) (Option.some Jvm.ClassFile.FieldType.int)) ∈ lw_all := lw_g (lw_at lw_m5 201 rfl) rfl
theorem q1201 : (Jvm.Cond.instanceMethod ({ cls := "WheelWorksModel", name := "turn", desc := "(I)I" } : Jvm.MethodName)) ∈ lw_all := lw_g (lw_at lw_m5 203 rfl) rfl
theorem q1202 : (Jvm.Cond.selects "WheelWorksModel" ({ cls := "WheelWorksModel", name := "turn", desc := "(I)I" } : Jvm.MethodName) ({ cls := "WheelWorksModel", name := "turn", desc := "(I)I" } : Jvm.MethodName)) ∈ lw_all := lw_g (lw_at lw_m5 204 rfl) rfl
theorem q1203 : (Jvm.Cond.code ({ cls := "WheelWorksModel", name := "turn", desc := "(I)I" } : Jvm.MethodName) prog_12_method_24_code (6 : Nat) (Option.some Jvm.ClassFile.FieldType.int)) ∈ lw_all := lw_g (lw_at lw_m5 205 rfl) rfl
theorem q1204 : (Jvm.Cond.methodLink "WheelWorksModel" (159 : Nat) ({ cls := "WheelWorksModel", name := "wheelsetOf", desc := "(IZ)I" } : Jvm.MethodName)) ∈ lw_all := lw_g (lw_at lw_m5 206 rfl) rfl
theorem q1205 : (Jvm.Cond.privateMethod ({ cls := "WheelWorksModel", name := "wheelsetOf", desc := "(IZ)I" } : Jvm.MethodName)) ∈ lw_tbl := lw_at lw_m5 207 rfl
theorem q1206 : (Jvm.Cond.instanceMethod ({ cls := "WheelWorksModel", name := "wheelsetOf", desc := "(IZ)I" } : Jvm.MethodName)) ∈ lw_all := lw_g (lw_at lw_m5 208 rfl) rfl
theorem q1207 : (Jvm.Cond.code ({ cls := "WheelWorksModel", name := "wheelsetOf", desc := "(IZ)I" } : Jvm.MethodName) prog_12_method_22_code (6 : Nat) (Option.some Jvm.ClassFile.FieldType.int)) ∈ lw_all := lw_g (lw_at lw_m5 209 rfl) rfl
theorem q1208 : (Jvm.Cond.methodLink "WheelWorksModel" (163 : Nat) ({ cls := "WheelWorksModel", name := "trues", desc := "(I)I" } : Jvm.MethodName)) ∈ lw_all := lw_g (lw_at lw_m5 210 rfl) rfl
theorem q1209 : (Jvm.Cond.privateMethod ({ cls := "WheelWorksModel", name := "trues", desc := "(I)I" } : Jvm.MethodName)) ∈ lw_tbl := lw_at lw_m5 211 rfl
theorem q1210 : (Jvm.Cond.instanceMethod ({ cls := "WheelWorksModel", name := "trues", desc := "(I)I" } : Jvm.MethodName)) ∈ lw_all := lw_g (lw_at lw_m5 212 rfl) rfl
theorem q1211 : (Jvm.Cond.code ({ cls := "WheelWorksModel", name := "trues", desc := "(I)I" } : Jvm.MethodName) prog_12_method_23_code (3 : Nat) (Option.some Jvm.ClassFile.FieldType.int)) ∈ lw_all := lw_g (lw_at lw_m5 213 rfl) rfl
theorem q1213 : (Jvm.Cond.instanceMethod ({ cls := "WheelWorksModel", name := "gate", desc := "(II)I" } : Jvm.MethodName)) ∈ lw_all := lw_g (lw_at lw_m5 215 rfl) rfl
theorem q1214 : (Jvm.Cond.selects "WheelWorksModel" ({ cls := "WheelWorksModel", name := "gate", desc := "(II)I" } : Jvm.MethodName) ({ cls := "WheelWorksModel", name := "gate", desc := "(II)I" } : Jvm.MethodName)) ∈ lw_all := lw_g (lw_at lw_m5 216 rfl) rfl
theorem q1215 : (Jvm.Cond.code ({ cls := "WheelWorksModel", name := "gate", desc := "(II)I" } : Jvm.MethodName) prog_12_method_25_code (3 : Nat) (Option.some Jvm.ClassFile.FieldType.int)) ∈ lw_all := lw_g (lw_at lw_m5 217 rfl) rfl
theorem q1217 : (Jvm.Cond.instanceMethod ({ cls := "WheelWorksModel", name := "examine", desc := "(I)I" } : Jvm.MethodName)) ∈ lw_all := lw_g (lw_at lw_m5 219 rfl) rfl
theorem q1218 : (Jvm.Cond.selects "WheelWorksModel" ({ cls := "WheelWorksModel", name := "examine", desc := "(I)I" } : Jvm.MethodName) ({ cls := "WheelWorksModel", name := "examine", desc := "(I)I" } : Jvm.MethodName)) ∈ lw_all := lw_g (lw_at lw_m5 220 rfl) rfl
theorem q1219 : (Jvm.Cond.code ({ cls := "WheelWorksModel", name := "examine", desc := "(I)I" } : Jvm.MethodName) prog_12_method_26_code (5 : Nat) (Option.some Jvm.ClassFile.FieldType.int)) ∈ lw_all := lw_g (lw_at lw_m5 221 rfl) rfl
theorem q1221 : (Jvm.Cond.instanceMethod ({ cls := "WheelWorksModel", name := "waive", desc := "(II)V" } : Jvm.MethodName)) ∈ lw_all := lw_g (lw_at lw_m5 223 rfl) rfl
theorem q1222 : (Jvm.Cond.selects "WheelWorksModel" ({ cls := "WheelWorksModel", name := "waive", desc := "(II)V" } : Jvm.MethodName) ({ cls := "WheelWorksModel", name := "waive", desc := "(II)V" } : Jvm.MethodName)) ∈ lw_all := lw_g (lw_at lw_m5 224 rfl) rfl
theorem q1223 : (Jvm.Cond.code ({ cls := "WheelWorksModel", name := "waive", desc := "(II)V" } : Jvm.MethodName) prog_12_method_27_code (3 : Nat) (Option.none : Option Jvm.ClassFile.FieldType)) ∈ lw_all := lw_g (lw_at lw_m5 225 rfl) rfl
theorem q1225 : (Jvm.Cond.instanceMethod ({ cls := "WheelWorksModel", name := "flaw", desc := "(II)I" } : Jvm.MethodName)) ∈ lw_all := lw_g (lw_at lw_m5 227 rfl) rfl
theorem q1226 : (Jvm.Cond.selects "WheelWorksModel" ({ cls := "WheelWorksModel", name := "flaw", desc := "(II)I" } : Jvm.MethodName) ({ cls := "WheelWorksModel", name := "flaw", desc := "(II)I" } : Jvm.MethodName)) ∈ lw_all := lw_g (lw_at lw_m5 228 rfl) rfl
theorem q1227 : (Jvm.Cond.code ({ cls := "WheelWorksModel", name := "flaw", desc := "(II)I" } : Jvm.MethodName) prog_12_method_28_code (4 : Nat) (Option.some Jvm.ClassFile.FieldType.int)) ∈ lw_all := lw_g (lw_at lw_m5 229 rfl) rfl
theorem q1229 : (Jvm.Cond.instanceMethod ({ cls := "WheelWorksModel", name := "look", desc := "(IZ)I" } : Jvm.MethodName)) ∈ lw_all := lw_g (lw_at lw_m5 231 rfl) rfl
theorem q1230 : (Jvm.Cond.selects "WheelWorksModel" ({ cls := "WheelWorksModel", name := "look", desc := "(IZ)I" } : Jvm.MethodName) ({ cls := "WheelWorksModel", name := "look", desc := "(IZ)I" } : Jvm.MethodName)) ∈ lw_all := lw_g (lw_at lw_m5 232 rfl) rfl
theorem q1231 : (Jvm.Cond.code ({ cls := "WheelWorksModel", name := "look", desc := "(IZ)I" } : Jvm.MethodName) prog_12_method_30_code (3 : Nat) (Option.some Jvm.ClassFile.FieldType.int)) ∈ lw_all := lw_g (lw_at lw_m5 233 rfl) rfl
theorem q1232 : (Jvm.Cond.methodLink "WheelWorksModel" (166 : Nat) ({ cls := "WheelWorksModel", name := "holds", desc := "(I)V" } : Jvm.MethodName)) ∈ lw_all := lw_g (lw_at lw_m5 234 rfl) rfl
theorem q1233 : (Jvm.Cond.privateMethod ({ cls := "WheelWorksModel", name := "holds", desc := "(I)V" } : Jvm.MethodName)) ∈ lw_tbl := lw_at lw_m5 235 rfl
theorem q1234 : (Jvm.Cond.instanceMethod ({ cls := "WheelWorksModel", name := "holds", desc := "(I)V" } : Jvm.MethodName)) ∈ lw_all := lw_g (lw_at lw_m5 236 rfl) rfl
theorem q1235 : (Jvm.Cond.code ({ cls := "WheelWorksModel", name := "holds", desc := "(I)V" } : Jvm.MethodName) prog_12_method_29_code (2 : Nat) (Option.none : Option Jvm.ClassFile.FieldType)) ∈ lw_all := lw_g (lw_at lw_m5 237 rfl) rfl
theorem q1237 : (Jvm.Cond.instanceMethod ({ cls := "WheelWorksModel", name := "clear", desc := "(I)I" } : Jvm.MethodName)) ∈ lw_all := lw_g (lw_at lw_m5 239 rfl) rfl
theorem q1238 : (Jvm.Cond.selects "WheelWorksModel" ({ cls := "WheelWorksModel", name := "clear", desc := "(I)I" } : Jvm.MethodName) ({ cls := "WheelWorksModel", name := "clear", desc := "(I)I" } : Jvm.MethodName)) ∈ lw_all := lw_g (lw_at lw_m6 0 rfl) rfl
theorem q1239 : (Jvm.Cond.code ({ cls := "WheelWorksModel", name := "clear", desc := "(I)I" } : Jvm.MethodName) prog_12_method_31_code (3 : Nat) (Option.some Jvm.ClassFile.FieldType.int)) ∈ lw_all := lw_g (lw_at lw_m6 1 rfl) rfl
theorem q1241 : (Jvm.Cond.instanceMethod ({ cls := "WheelWorksModel", name := "recall", desc := "(I)I" } : Jvm.MethodName)) ∈ lw_all := lw_g (lw_at lw_m6 3 rfl) rfl
theorem q1242 : (Jvm.Cond.selects "WheelWorksModel" ({ cls := "WheelWorksModel", name := "recall", desc := "(I)I" } : Jvm.MethodName) ({ cls := "WheelWorksModel", name := "recall", desc := "(I)I" } : Jvm.MethodName)) ∈ lw_all := lw_g (lw_at lw_m6 4 rfl) rfl
theorem q1243 : (Jvm.Cond.code ({ cls := "WheelWorksModel", name := "recall", desc := "(I)I" } : Jvm.MethodName) prog_12_method_32_code (4 : Nat) (Option.some Jvm.ClassFile.FieldType.int)) ∈ lw_all := lw_g (lw_at lw_m6 5 rfl) rfl
theorem q1245 : (Jvm.Cond.instanceMethod ({ cls := "WheelWorksModel", name := "release", desc := "(I)I" } : Jvm.MethodName)) ∈ lw_all := lw_g (lw_at lw_m6 7 rfl) rfl
theorem q1246 : (Jvm.Cond.selects "WheelWorksModel" ({ cls := "WheelWorksModel", name := "release", desc := "(I)I" } : Jvm.MethodName) ({ cls := "WheelWorksModel", name := "release", desc := "(I)I" } : Jvm.MethodName)) ∈ lw_all := lw_g (lw_at lw_m6 8 rfl) rfl
theorem q1247 : (Jvm.Cond.code ({ cls := "WheelWorksModel", name := "release", desc := "(I)I" } : Jvm.MethodName) prog_12_method_39_code (3 : Nat) (Option.some Jvm.ClassFile.FieldType.int)) ∈ lw_all := lw_g (lw_at lw_m6 9 rfl) rfl
theorem q1248 : (Jvm.Cond.methodLink "WheelWorksModel" (186 : Nat) ({ cls := "WheelWorksModel", name := "barOf", desc := "(I)I" } : Jvm.MethodName)) ∈ lw_all := lw_g (lw_at lw_m6 10 rfl) rfl
theorem q1249 : (Jvm.Cond.privateMethod ({ cls := "WheelWorksModel", name := "barOf", desc := "(I)I" } : Jvm.MethodName)) ∈ lw_tbl := lw_at lw_m6 11 rfl
theorem q1250 : (Jvm.Cond.instanceMethod ({ cls := "WheelWorksModel", name := "barOf", desc := "(I)I" } : Jvm.MethodName)) ∈ lw_all := lw_g (lw_at lw_m6 12 rfl) rfl
theorem q1251 : (Jvm.Cond.code ({ cls := "WheelWorksModel", name := "barOf", desc := "(I)I" } : Jvm.MethodName) prog_12_method_38_code (4 : Nat) (Option.some Jvm.ClassFile.FieldType.int)) ∈ lw_all := lw_g (lw_at lw_m6 13 rfl) rfl
theorem q1252 : (Jvm.Cond.methodLink "WheelWorksModel" (183 : Nat) ({ cls := "WheelWorksModel", name := "barsBy", desc := "(II)Z" } : Jvm.MethodName)) ∈ lw_all := lw_g (lw_at lw_m6 14 rfl) rfl
theorem q1253 : (Jvm.Cond.privateMethod ({ cls := "WheelWorksModel", name := "barsBy", desc := "(II)Z" } : Jvm.MethodName)) ∈ lw_tbl := lw_at lw_m6 15 rfl
theorem q1254 : (Jvm.Cond.instanceMethod ({ cls := "WheelWorksModel", name := "barsBy", desc := "(II)Z" } : Jvm.MethodName)) ∈ lw_all := lw_g (lw_at lw_m6 16 rfl) rfl
theorem q1255 : (Jvm.Cond.code ({ cls := "WheelWorksModel", name := "barsBy", desc := "(II)Z" } : Jvm.MethodName) prog_12_method_37_code (3 : Nat) (Option.some Jvm.ClassFile.FieldType.boolean)) ∈ lw_all := lw_g (lw_at lw_m6 17 rfl) rfl
theorem q1256 : (Jvm.Cond.methodLink "WheelWorksModel" (171 : Nat) ({ cls := "WheelWorksModel", name := "hasEmpty", desc := "(I)Z" } : Jvm.MethodName)) ∈ lw_all := lw_g (lw_at lw_m6 18 rfl) rfl
theorem q1257 : (Jvm.Cond.privateMethod ({ cls := "WheelWorksModel", name := "hasEmpty", desc := "(I)Z" } : Jvm.MethodName)) ∈ lw_tbl := lw_at lw_m6 19 rfl
theorem q1258 : (Jvm.Cond.instanceMethod ({ cls := "WheelWorksModel", name := "hasEmpty", desc := "(I)Z" } : Jvm.MethodName)) ∈ lw_all := lw_g (lw_at lw_m6 20 rfl) rfl
theorem q1259 : (Jvm.Cond.code ({ cls := "WheelWorksModel", name := "hasEmpty", desc := "(I)Z" } : Jvm.MethodName) prog_12_method_33_code (2 : Nat) (Option.some Jvm.ClassFile.FieldType.boolean)) ∈ lw_all := lw_g (lw_at lw_m6 21 rfl) rfl
theorem q1260 : (Jvm.Cond.methodLink "WheelWorksModel" (174 : Nat) ({ cls := "WheelWorksModel", name := "isWorn", desc := "(I)Z" } : Jvm.MethodName)) ∈ lw_all := lw_g (lw_at lw_m6 22 rfl) rfl
theorem q1261 : (Jvm.Cond.privateMethod ({ cls := "WheelWorksModel", name := "isWorn", desc := "(I)Z" } : Jvm.MethodName)) ∈ lw_tbl := lw_at lw_m6 23 rfl
theorem q1262 : (Jvm.Cond.instanceMethod ({ cls := "WheelWorksModel", name := "isWorn", desc := "(I)Z" } : Jvm.MethodName)) ∈ lw_all := lw_g (lw_at lw_m6 24 rfl) rfl
theorem q1263 : (Jvm.Cond.code ({ cls := "WheelWorksModel", name := "isWorn", desc := "(I)Z" } : Jvm.MethodName) prog_12_method_34_code (2 : Nat) (Option.some Jvm.ClassFile.FieldType.boolean)) ∈ lw_all := lw_g (lw_at lw_m6 25 rfl) rfl
theorem q1264 : (Jvm.Cond.methodLink "WheelWorksModel" (177 : Nat) ({ cls := "WheelWorksModel", name := "apartIn", desc := "(I)I" } : Jvm.MethodName)) ∈ lw_all := lw_g (lw_at lw_m6 26 rfl) rfl
theorem q1265 : (Jvm.Cond.privateMethod ({ cls := "WheelWorksModel", name := "apartIn", desc := "(I)I" } : Jvm.MethodName)) ∈ lw_tbl := lw_at lw_m6 27 rfl
theorem q1266 : (Jvm.Cond.instanceMethod ({ cls := "WheelWorksModel", name := "apartIn", desc := "(I)I" } : Jvm.MethodName)) ∈ lw_all := lw_g (lw_at lw_m6 28 rfl) rfl
theorem q1267 : (Jvm.Cond.code ({ cls := "WheelWorksModel", name := "apartIn", desc := "(I)I" } : Jvm.MethodName) prog_12_method_35_code (6 : Nat) (Option.some Jvm.ClassFile.FieldType.int)) ∈ lw_all := lw_g (lw_at lw_m6 29 rfl) rfl
theorem q1268 : (Jvm.Cond.constant "WheelWorksModel" (169 : Nat) (1000000 : Int32)) ∈ lw_all := lw_g (lw_at lw_m6 30 rfl) rfl
theorem q1269 : (Jvm.Cond.constant "WheelWorksModel" (170 : Nat) (-1000000 : Int32)) ∈ lw_all := lw_g (lw_at lw_m6 31 rfl) rfl
theorem q1270 : (Jvm.Cond.methodLink "WheelWorksModel" (180 : Nat) ({ cls := "WheelWorksModel", name := "isDue", desc := "(I)Z" } : Jvm.MethodName)) ∈ lw_all := lw_g (lw_at lw_m6 32 rfl) rfl
theorem q1271 : (Jvm.Cond.privateMethod ({ cls := "WheelWorksModel", name := "isDue", desc := "(I)Z" } : Jvm.MethodName)) ∈ lw_tbl := lw_at lw_m6 33 rfl
theorem q1272 : (Jvm.Cond.instanceMethod ({ cls := "WheelWorksModel", name := "isDue", desc := "(I)Z" } : Jvm.MethodName)) ∈ lw_all := lw_g (lw_at lw_m6 34 rfl) rfl
theorem q1273 : (Jvm.Cond.code ({ cls := "WheelWorksModel", name := "isDue", desc := "(I)Z" } : Jvm.MethodName) prog_12_method_36_code (3 : Nat) (Option.some Jvm.ClassFile.FieldType.boolean)) ∈ lw_all := lw_g (lw_at lw_m6 35 rfl) rfl
theorem q1275 : (Jvm.Cond.instanceMethod ({ cls := "WheelWorksModel", name := "comes", desc := "(II)I" } : Jvm.MethodName)) ∈ lw_all := lw_g (lw_at lw_m6 37 rfl) rfl
theorem q1276 : (Jvm.Cond.selects "WheelWorksModel" ({ cls := "WheelWorksModel", name := "comes", desc := "(II)I" } : Jvm.MethodName) ({ cls := "WheelWorksModel", name := "comes", desc := "(II)I" } : Jvm.MethodName)) ∈ lw_all := lw_g (lw_at lw_m6 38 rfl) rfl
theorem q1277 : (Jvm.Cond.code ({ cls := "WheelWorksModel", name := "comes", desc := "(II)I" } : Jvm.MethodName) prog_12_method_40_code (5 : Nat) (Option.some Jvm.ClassFile.FieldType.int)) ∈ lw_all := lw_g (lw_at lw_m6 39 rfl) rfl
theorem q1279 : (Jvm.Cond.instanceMethod ({ cls := "WheelWorksModel", name := "night", desc := "()I" } : Jvm.MethodName)) ∈ lw_all := lw_g (lw_at lw_m6 41 rfl) rfl
theorem q1280 : (Jvm.Cond.selects "WheelWorksModel" ({ cls := "WheelWorksModel", name := "night", desc := "()I" } : Jvm.MethodName) ({ cls := "WheelWorksModel", name := "night", desc := "()I" } : Jvm.MethodName)) ∈ lw_all := lw_g (lw_at lw_m6 42 rfl) rfl
theorem q1281 : (Jvm.Cond.code ({ cls := "WheelWorksModel", name := "night", desc := "()I" } : Jvm.MethodName) prog_12_method_43_code (3 : Nat) (Option.some Jvm.ClassFile.FieldType.int)) ∈ lw_all := lw_g (lw_at lw_m6 43 rfl) rfl
theorem q1282 : (Jvm.Cond.methodLink "WheelWorksModel" (193 : Nat) ({ cls := "WheelWorksModel", name := "plans", desc := "()I" } : Jvm.MethodName)) ∈ lw_all := lw_g (lw_at lw_m6 44 rfl) rfl
theorem q1283 : (Jvm.Cond.privateMethod ({ cls := "WheelWorksModel", name := "plans", desc := "()I" } : Jvm.MethodName)) ∈ lw_tbl := lw_at lw_m6 45 rfl
theorem q1284 : (Jvm.Cond.instanceMethod ({ cls := "WheelWorksModel", name := "plans", desc := "()I" } : Jvm.MethodName)) ∈ lw_all := lw_g (lw_at lw_m6 46 rfl) rfl
theorem q1285 : (Jvm.Cond.code ({ cls := "WheelWorksModel", name := "plans", desc := "()I" } : Jvm.MethodName) prog_12_method_42_code (7 : Nat) (Option.some Jvm.ClassFile.FieldType.int)) ∈ lw_all := lw_g (lw_at lw_m6 47 rfl) rfl
theorem q1286 : (Jvm.Cond.methodLink "WheelWorksModel" (189 : Nat) ({ cls := "WheelWorksModel", name := "movesOf", desc := "()I" } : Jvm.MethodName)) ∈ lw_all := lw_g (lw_at lw_m6 48 rfl) rfl
theorem q1287 : (Jvm.Cond.privateMethod ({ cls := "WheelWorksModel", name := "movesOf", desc := "()I" } : Jvm.MethodName)) ∈ lw_tbl := lw_at lw_m6 49 rfl
theorem q1288 : (Jvm.Cond.instanceMethod ({ cls := "WheelWorksModel", name := "movesOf", desc := "()I" } : Jvm.MethodName)) ∈ lw_all := lw_g (lw_at lw_m6 50 rfl) rfl
theorem q1289 : (Jvm.Cond.code ({ cls := "WheelWorksModel", name := "movesOf", desc := "()I" } : Jvm.MethodName) prog_12_method_41_code (6 : Nat) (Option.some Jvm.ClassFile.FieldType.int)) ∈ lw_all := lw_g (lw_at lw_m6 51 rfl) rfl
theorem q1291 : (Jvm.Cond.instanceMethod ({ cls := "WheelWorksModel", name := "out", desc := "()I" } : Jvm.MethodName)) ∈ lw_all := lw_g (lw_at lw_m6 53 rfl) rfl
theorem q1292 : (Jvm.Cond.selects "WheelWorksModel" ({ cls := "WheelWorksModel", name := "out", desc := "()I" } : Jvm.MethodName) ({ cls := "WheelWorksModel", name := "out", desc := "()I" } : Jvm.MethodName)) ∈ lw_all := lw_g (lw_at lw_m6 54 rfl) rfl
theorem q1293 : (Jvm.Cond.code ({ cls := "WheelWorksModel", name := "out", desc := "()I" } : Jvm.MethodName) prog_12_method_44_code (6 : Nat) (Option.some Jvm.ClassFile.FieldType.int)) ∈ lw_all := lw_g (lw_at lw_m6 55 rfl) rfl
theorem q1295 : (Jvm.Cond.instanceMethod ({ cls := "WheelWorksModel", name := "host", desc := "(I)I" } : Jvm.MethodName)) ∈ lw_all := lw_g (lw_at lw_m6 57 rfl) rfl
theorem q1296 : (Jvm.Cond.selects "WheelWorksModel" ({ cls := "WheelWorksModel", name := "host", desc := "(I)I" } : Jvm.MethodName) ({ cls := "WheelWorksModel", name := "host", desc := "(I)I" } : Jvm.MethodName)) ∈ lw_all := lw_g (lw_at lw_m6 58 rfl) rfl
theorem q1297 : (Jvm.Cond.code ({ cls := "WheelWorksModel", name := "host", desc := "(I)I" } : Jvm.MethodName) prog_12_method_45_code (2 : Nat) (Option.some Jvm.ClassFile.FieldType.int)) ∈ lw_all := lw_g (lw_at lw_m6 59 rfl) rfl
theorem q1299 : (Jvm.Cond.instanceMethod ({ cls := "WheelWorksModel", name := "head", desc := "(I)I" } : Jvm.MethodName)) ∈ lw_all := lw_g (lw_at lw_m6 61 rfl) rfl
theorem q1300 : (Jvm.Cond.selects "WheelWorksModel" ({ cls := "WheelWorksModel", name := "head", desc := "(I)I" } : Jvm.MethodName) ({ cls := "WheelWorksModel", name := "head", desc := "(I)I" } : Jvm.MethodName)) ∈ lw_all := lw_g (lw_at lw_m6 62 rfl) rfl
theorem q1301 : (Jvm.Cond.code ({ cls := "WheelWorksModel", name := "head", desc := "(I)I" } : Jvm.MethodName) prog_12_method_46_code (2 : Nat) (Option.some Jvm.ClassFile.FieldType.int)) ∈ lw_all := lw_g (lw_at lw_m6 63 rfl) rfl
theorem q1303 : (Jvm.Cond.instanceMethod ({ cls := "WheelWorksModel", name := "ofPart", desc := "(II)I" } : Jvm.MethodName)) ∈ lw_all := lw_g (lw_at lw_m6 65 rfl) rfl
theorem q1304 : (Jvm.Cond.selects "WheelWorksModel" ({ cls := "WheelWorksModel", name := "ofPart", desc := "(II)I" } : Jvm.MethodName) ({ cls := "WheelWorksModel", name := "ofPart", desc := "(II)I" } : Jvm.MethodName)) ∈ lw_all := lw_g (lw_at lw_m6 66 rfl) rfl
theorem q1305 : (Jvm.Cond.code ({ cls := "WheelWorksModel", name := "ofPart", desc := "(II)I" } : Jvm.MethodName) prog_12_method_48_code (3 : Nat) (Option.some Jvm.ClassFile.FieldType.int)) ∈ lw_all := lw_g (lw_at lw_m6 67 rfl) rfl
theorem q1306 : (Jvm.Cond.methodLink "WheelWorksModel" (196 : Nat) ({ cls := "WheelWorksModel", name := "movesOfPart", desc := "(I)I" } : Jvm.MethodName)) ∈ lw_all := lw_g (lw_at lw_m6 68 rfl) rfl
theorem q1307 : (Jvm.Cond.privateMethod ({ cls := "WheelWorksModel", name := "movesOfPart", desc := "(I)I" } : Jvm.MethodName)) ∈ lw_tbl := lw_at lw_m6 69 rfl
theorem q1308 : (Jvm.Cond.instanceMethod ({ cls := "WheelWorksModel", name := "movesOfPart", desc := "(I)I" } : Jvm.MethodName)) ∈ lw_all := lw_g (lw_at lw_m6 70 rfl) rfl
theorem q1309 : (Jvm.Cond.code ({ cls := "WheelWorksModel", name := "movesOfPart", desc := "(I)I" } : Jvm.MethodName) prog_12_method_47_code (4 : Nat) (Option.some Jvm.ClassFile.FieldType.int)) ∈ lw_all := lw_g (lw_at lw_m6 71 rfl) rfl
theorem q1311 : (Jvm.Cond.instanceMethod ({ cls := "WheelWorksModel", name := "trace", desc := "(II)I" } : Jvm.MethodName)) ∈ lw_all := lw_g (lw_at lw_m6 73 rfl) rfl
theorem q1312 : (Jvm.Cond.selects "WheelWorksModel" ({ cls := "WheelWorksModel", name := "trace", desc := "(II)I" } : Jvm.MethodName) ({ cls := "WheelWorksModel", name := "trace", desc := "(II)I" } : Jvm.MethodName)) ∈ lw_all := lw_g (lw_at lw_m6 74 rfl) rfl
theorem q1313 : (Jvm.Cond.code ({ cls := "WheelWorksModel", name := "trace", desc := "(II)I" } : Jvm.MethodName) prog_12_method_49_code (5 : Nat) (Option.some Jvm.ClassFile.FieldType.int)) ∈ lw_all := lw_g (lw_at lw_m6 75 rfl) rfl
theorem q1315 : (Jvm.Cond.instanceMethod ({ cls := "WheelWorksModel", name := "lifeAnew", desc := "(I)I" } : Jvm.MethodName)) ∈ lw_all := lw_g (lw_at lw_m6 77 rfl) rfl
theorem q1316 : (Jvm.Cond.selects "WheelWorksModel" ({ cls := "WheelWorksModel", name := "lifeAnew", desc := "(I)I" } : Jvm.MethodName) ({ cls := "WheelWorksModel", name := "lifeAnew", desc := "(I)I" } : Jvm.MethodName)) ∈ lw_all := lw_g (lw_at lw_m6 78 rfl) rfl
theorem q1317 : (Jvm.Cond.code ({ cls := "WheelWorksModel", name := "lifeAnew", desc := "(I)I" } : Jvm.MethodName) prog_12_method_50_code (2 : Nat) (Option.some Jvm.ClassFile.FieldType.int)) ∈ lw_all := lw_g (lw_at lw_m6 79 rfl) rfl
theorem q1319 : (Jvm.Cond.instanceMethod ({ cls := "WheelWorksModel", name := "wheel", desc := "(II)I" } : Jvm.MethodName)) ∈ lw_all := lw_g (lw_at lw_m6 81 rfl) rfl
theorem q1320 : (Jvm.Cond.selects "WheelWorksModel" ({ cls := "WheelWorksModel", name := "wheel", desc := "(II)I" } : Jvm.MethodName) ({ cls := "WheelWorksModel", name := "wheel", desc := "(II)I" } : Jvm.MethodName)) ∈ lw_all := lw_g (lw_at lw_m6 82 rfl) rfl
theorem q1321 : (Jvm.Cond.code ({ cls := "WheelWorksModel", name := "wheel", desc := "(II)I" } : Jvm.MethodName) prog_12_method_51_code (3 : Nat) (Option.some Jvm.ClassFile.FieldType.int)) ∈ lw_all := lw_g (lw_at lw_m6 83 rfl) rfl
theorem q1323 : (Jvm.Cond.instanceMethod ({ cls := "WheelWorksModel", name := "foretell", desc := "(III)I" } : Jvm.MethodName)) ∈ lw_all := lw_g (lw_at lw_m6 85 rfl) rfl
theorem q1324 : (Jvm.Cond.selects "WheelWorksModel" ({ cls := "WheelWorksModel", name := "foretell", desc := "(III)I" } : Jvm.MethodName) ({ cls := "WheelWorksModel", name := "foretell", desc := "(III)I" } : Jvm.MethodName)) ∈ lw_all := lw_g (lw_at lw_m6 86 rfl) rfl
theorem q1325 : (Jvm.Cond.code ({ cls := "WheelWorksModel", name := "foretell", desc := "(III)I" } : Jvm.MethodName) prog_12_method_52_code (5 : Nat) (Option.some Jvm.ClassFile.FieldType.int)) ∈ lw_all := lw_g (lw_at lw_m6 87 rfl) rfl
theorem q1327 : (Jvm.Cond.instanceMethod ({ cls := "WheelWorksModel", name := "bars", desc := "(I)I" } : Jvm.MethodName)) ∈ lw_all := lw_g (lw_at lw_m6 89 rfl) rfl
theorem q1328 : (Jvm.Cond.selects "WheelWorksModel" ({ cls := "WheelWorksModel", name := "bars", desc := "(I)I" } : Jvm.MethodName) ({ cls := "WheelWorksModel", name := "bars", desc := "(I)I" } : Jvm.MethodName)) ∈ lw_all := lw_g (lw_at lw_m6 90 rfl) rfl
theorem q1329 : (Jvm.Cond.code ({ cls := "WheelWorksModel", name := "bars", desc := "(I)I" } : Jvm.MethodName) prog_12_method_53_code (2 : Nat) (Option.some Jvm.ClassFile.FieldType.int)) ∈ lw_all := lw_g (lw_at lw_m6 91 rfl) rfl
theorem q1331 : (Jvm.Cond.instanceMethod ({ cls := "WheelWorksModel", name := "barredBy", desc := "(I)I" } : Jvm.MethodName)) ∈ lw_all := lw_g (lw_at lw_m6 93 rfl) rfl
theorem q1332 : (Jvm.Cond.selects "WheelWorksModel" ({ cls := "WheelWorksModel", name := "barredBy", desc := "(I)I" } : Jvm.MethodName) ({ cls := "WheelWorksModel", name := "barredBy", desc := "(I)I" } : Jvm.MethodName)) ∈ lw_all := lw_g (lw_at lw_m6 94 rfl) rfl
theorem q1333 : (Jvm.Cond.code ({ cls := "WheelWorksModel", name := "barredBy", desc := "(I)I" } : Jvm.MethodName) prog_12_method_54_code (3 : Nat) (Option.some Jvm.ClassFile.FieldType.int)) ∈ lw_all := lw_g (lw_at lw_m6 95 rfl) rfl
theorem q1335 : (Jvm.Cond.instanceMethod ({ cls := "WheelWorksModel", name := "isReleased", desc := "(I)Z" } : Jvm.MethodName)) ∈ lw_all := lw_g (lw_at lw_m6 97 rfl) rfl
theorem q1336 : (Jvm.Cond.selects "WheelWorksModel" ({ cls := "WheelWorksModel", name := "isReleased", desc := "(I)Z" } : Jvm.MethodName) ({ cls := "WheelWorksModel", name := "isReleased", desc := "(I)Z" } : Jvm.MethodName)) ∈ lw_all := lw_g (lw_at lw_m6 98 rfl) rfl
theorem q1337 : (Jvm.Cond.code ({ cls := "WheelWorksModel", name := "isReleased", desc := "(I)Z" } : Jvm.MethodName) prog_12_method_55_code (2 : Nat) (Option.some Jvm.ClassFile.FieldType.boolean)) ∈ lw_all := lw_g (lw_at lw_m6 99 rfl) rfl
theorem q1339 : (Jvm.Cond.instanceMethod ({ cls := "WheelWorksModel", name := "plan", desc := "()I" } : Jvm.MethodName)) ∈ lw_all := lw_g (lw_at lw_m6 101 rfl) rfl
theorem q1340 : (Jvm.Cond.selects "WheelWorksModel" ({ cls := "WheelWorksModel", name := "plan", desc := "()I" } : Jvm.MethodName) ({ cls := "WheelWorksModel", name := "plan", desc := "()I" } : Jvm.MethodName)) ∈ lw_all := lw_g (lw_at lw_m6 102 rfl) rfl
theorem q1341 : (Jvm.Cond.code ({ cls := "WheelWorksModel", name := "plan", desc := "()I" } : Jvm.MethodName) prog_12_method_56_code (1 : Nat) (Option.some Jvm.ClassFile.FieldType.int)) ∈ lw_all := lw_g (lw_at lw_m6 103 rfl) rfl
theorem q1343 : (Jvm.Cond.instanceMethod ({ cls := "WheelWorksModel", name := "planAnew", desc := "()I" } : Jvm.MethodName)) ∈ lw_all := lw_g (lw_at lw_m6 105 rfl) rfl
theorem q1344 : (Jvm.Cond.selects "WheelWorksModel" ({ cls := "WheelWorksModel", name := "planAnew", desc := "()I" } : Jvm.MethodName) ({ cls := "WheelWorksModel", name := "planAnew", desc := "()I" } : Jvm.MethodName)) ∈ lw_all := lw_g (lw_at lw_m6 106 rfl) rfl
theorem q1345 : (Jvm.Cond.code ({ cls := "WheelWorksModel", name := "planAnew", desc := "()I" } : Jvm.MethodName) prog_12_method_57_code (1 : Nat) (Option.some Jvm.ClassFile.FieldType.int)) ∈ lw_all := lw_g (lw_at lw_m6 107 rfl) rfl
theorem q1347 : (Jvm.Cond.instanceMethod ({ cls := "WheelWorksModel", name := "road", desc := "(II)I" } : Jvm.MethodName)) ∈ lw_all := lw_g (lw_at lw_m6 109 rfl) rfl
theorem q1348 : (Jvm.Cond.selects "WheelWorksModel" ({ cls := "WheelWorksModel", name := "road", desc := "(II)I" } : Jvm.MethodName) ({ cls := "WheelWorksModel", name := "road", desc := "(II)I" } : Jvm.MethodName)) ∈ lw_all := lw_g (lw_at lw_m6 110 rfl) rfl
theorem q1349 : (Jvm.Cond.code ({ cls := "WheelWorksModel", name := "road", desc := "(II)I" } : Jvm.MethodName) prog_12_method_58_code (3 : Nat) (Option.some Jvm.ClassFile.FieldType.int)) ∈ lw_all := lw_g (lw_at lw_m6 111 rfl) rfl
theorem q1358 : (Jvm.Cond.castable "WheelWorksModel" "java/lang/Object") ∈ lw_tbl := lw_at lw_m6 120 rfl
theorem in_X3 : ∀ w ∈ wsX30, w ∈ lw_all := lw_in wsX30 [1054, 1056, 1058, 1060, 1062, 1064, 1066, 1068, 1070, 1072, 1074, 1076, 1078, 1080, 1082, 1084, 1086, 1088, 1090, 1092, 1094, 1096, 1098, 1100, 1102, 1104, 1106, 1108, 1110, 1112, 1114, 1116, 1118] (by decide +kernel) (by decide +kernel)
