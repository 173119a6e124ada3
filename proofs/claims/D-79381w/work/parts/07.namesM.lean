/-! RobotAislesModel -/
set_option maxRecDepth 100000
def RX3 : String := "RobotAislesModel"
def TX3 : u_T := fun k => match k with
  | 0 => ("RobotAislesModel", "s", "[I", true)
  | 1 => ("RobotAislesModel", "saved", "[I", true)
  | 2 => ("RobotAislesModel", "isSaved", "Z", false)
  | 3 => ("RobotAislesModel", "past", "[I", true)
  | 4 => ("RobotAislesModel", "pastMany", "I", false)
  | 5 => ("RobotAislesModel", "thrown", "I", false)
  | 6 => ("RobotAislesModel", "reason", "I", false)
  | 7 => ("RobotAislesModel", "detail", "I", false)
  | 8 => ("RobotAislesModel", "lines", "[I", true)
  | 9 => ("RobotAislesModel", "comes", "[Z", true)
  | 10 => ("RobotAislesModel", "goes", "[Z", true)
  | 11 => ("RobotAislesModel", "path", "[I", true)
  | 12 => ("RobotAislesModel", "far", "[I", true)
  | 13 => ("RobotAislesModel", "queue", "[I", true)
  | 14 => ("RobotAislesModel", "table", "[I", true)
  | 15 => ("RobotAislesModel", "input", "[C", true)
  | 16 => ("RobotAislesModel", "length", "I", false)
  | 17 => ("RobotAislesModel", "fault", "I", false)
  | 18 => ("RobotAislesModel", "readRows", "I", false)
  | _ => ("RobotAislesModel", "readColumns", "I", false)
def tyX3 : Nat → FieldType := fun k => match k with
  | 0 => .array .int
  | 1 => .array .int
  | 2 => .boolean
  | 3 => .array .int
  | 4 => .int
  | 5 => .int
  | 6 => .int
  | 7 => .int
  | 8 => .array .int
  | 9 => .array .boolean
  | 10 => .array .boolean
  | 11 => .array .int
  | 12 => .array .int
  | 13 => .array .int
  | 14 => .array .int
  | 15 => .array .char
  | 16 => .int
  | 17 => .int
  | 18 => .int
  | _ => .int
abbrev wsX30 : List Cond := u_ws RX3 TX3 20
set_option maxRecDepth 100000 in
theorem nmX3 : ∀ a, a < 20 → ∀ b, b < 20 → a ≠ b → (TX3 a).2.1 ≠ (TX3 b).2.1 := by decide +kernel
set_option maxRecDepth 100000 in
theorem tyX3_ok : ∀ k, k < 20 → parseFieldDescriptor (TX3 k).2.2.1 = some (tyX3 k) := by decide +kernel
abbrev cX3_init : ByteArray := prog_12_method_1_code
def yX3_init : MethodName := ⟨RX3, "<init>", "()V"⟩
def dkwX3_init_6 : List UInt8 := [177]
abbrev dktX3_init_6 : List UInt8 := dkwX3_init_6 ++ []
def dkwX3_init_5 : List UInt8 := [42, 180, 0, 9, 8, 8, 79, 42, 180, 0, 9, 16, 6, 5, 79, 42, 180, 0, 9, 16, 7, 16, 30, 79]
abbrev dktX3_init_5 : List UInt8 := dkwX3_init_5 ++ dktX3_init_6
def dkwX3_init_4 : List UInt8 := [188, 5, 181, 0, 41, 42, 2, 181, 0, 45, 42, 180, 0, 9, 3, 4, 79, 42, 180, 0, 9, 4, 5, 79]
abbrev dktX3_init_4 : List UInt8 := dkwX3_init_4 ++ dktX3_init_5
def dkwX3_init_3 : List UInt8 := [181, 0, 32, 42, 16, 48, 188, 10, 181, 0, 35, 42, 17, 9, 0, 188, 10, 181, 0, 38, 42, 16, 60]
abbrev dktX3_init_3 : List UInt8 := dkwX3_init_3 ++ dktX3_init_4
def dkwX3_init_2 : List UInt8 := [42, 17, 5, 208, 188, 4, 181, 0, 26, 42, 16, 30, 188, 10, 181, 0, 29, 42, 16, 48, 188, 10]
abbrev dktX3_init_2 : List UInt8 := dkwX3_init_2 ++ dktX3_init_3
def dkwX3_init_1 : List UInt8 := [17, 12, 128, 188, 10, 181, 0, 16, 42, 6, 188, 10, 181, 0, 19, 42, 17, 5, 208, 188, 4, 181, 0, 22]
abbrev dktX3_init_1 : List UInt8 := dkwX3_init_1 ++ dktX3_init_2
def dkwX3_init_0 : List UInt8 := [42, 183, 0, 3, 42, 17, 1, 144, 188, 10, 181, 0, 9, 42, 17, 1, 144, 188, 10, 181, 0, 13, 42]
abbrev dktX3_init_0 : List UInt8 := dkwX3_init_0 ++ dktX3_init_1
theorem dksX3_init_0 : cX3_init.data.toList.drop 0 = dktX3_init_0 := by decide +kernel
theorem dksX3_init_1 : cX3_init.data.toList.drop 23 = dktX3_init_1 := dk_seg dksX3_init_0 23 rfl rfl
theorem dksX3_init_2 : cX3_init.data.toList.drop 47 = dktX3_init_2 := dk_seg dksX3_init_1 24 rfl rfl
theorem dksX3_init_3 : cX3_init.data.toList.drop 69 = dktX3_init_3 := dk_seg dksX3_init_2 22 rfl rfl
theorem dksX3_init_4 : cX3_init.data.toList.drop 92 = dktX3_init_4 := dk_seg dksX3_init_3 23 rfl rfl
theorem dksX3_init_5 : cX3_init.data.toList.drop 116 = dktX3_init_5 := dk_seg dksX3_init_4 24 rfl rfl
theorem dksX3_init_6 : cX3_init.data.toList.drop 140 = dktX3_init_6 := dk_seg dksX3_init_5 24 rfl rfl
theorem dX3_init_0 : decode cX3_init 0 = .ok (.aload_n 0, 1) := dk_42 (dk_at dksX3_init_0 0 rfl rfl)
theorem dX3_init_1 : decode cX3_init 1 = .ok (.invokespecial 3, 3) := dk_183 0 3 (dk_at dksX3_init_0 1 rfl rfl)
theorem dX3_init_4 : decode cX3_init 4 = .ok (.aload_n 0, 1) := dk_42 (dk_at dksX3_init_0 4 rfl rfl)
theorem dX3_init_5 : decode cX3_init 5 = .ok (.sipush 400, 3) := dk_17 1 144 (dk_at dksX3_init_0 5 rfl rfl)
theorem dX3_init_8 : decode cX3_init 8 = .ok (.newarray .int, 2) := dk_188_10 (dk_at dksX3_init_0 8 rfl rfl)
theorem dX3_init_10 : decode cX3_init 10 = .ok (.putfield 9, 3) := dk_181 0 9 (dk_at dksX3_init_0 10 rfl rfl)
theorem dX3_init_13 : decode cX3_init 13 = .ok (.aload_n 0, 1) := dk_42 (dk_at dksX3_init_0 13 rfl rfl)
theorem dX3_init_14 : decode cX3_init 14 = .ok (.sipush 400, 3) := dk_17 1 144 (dk_at dksX3_init_0 14 rfl rfl)
theorem dX3_init_17 : decode cX3_init 17 = .ok (.newarray .int, 2) := dk_188_10 (dk_at dksX3_init_0 17 rfl rfl)
theorem dX3_init_19 : decode cX3_init 19 = .ok (.putfield 13, 3) := dk_181 0 13 (dk_at dksX3_init_0 19 rfl rfl)
theorem dX3_init_22 : decode cX3_init 22 = .ok (.aload_n 0, 1) := dk_42 (dk_at dksX3_init_0 22 rfl rfl)
theorem dX3_init_23 : decode cX3_init 23 = .ok (.sipush 3200, 3) := dk_17 12 128 (dk_at dksX3_init_1 0 rfl rfl)
theorem dX3_init_26 : decode cX3_init 26 = .ok (.newarray .int, 2) := dk_188_10 (dk_at dksX3_init_1 3 rfl rfl)
theorem dX3_init_28 : decode cX3_init 28 = .ok (.putfield 16, 3) := dk_181 0 16 (dk_at dksX3_init_1 5 rfl rfl)
theorem dX3_init_31 : decode cX3_init 31 = .ok (.aload_n 0, 1) := dk_42 (dk_at dksX3_init_1 8 rfl rfl)
theorem dX3_init_32 : decode cX3_init 32 = .ok (.iconst 3, 1) := dk_6 (dk_at dksX3_init_1 9 rfl rfl)
theorem dX3_init_33 : decode cX3_init 33 = .ok (.newarray .int, 2) := dk_188_10 (dk_at dksX3_init_1 10 rfl rfl)
theorem dX3_init_35 : decode cX3_init 35 = .ok (.putfield 19, 3) := dk_181 0 19 (dk_at dksX3_init_1 12 rfl rfl)
theorem dX3_init_38 : decode cX3_init 38 = .ok (.aload_n 0, 1) := dk_42 (dk_at dksX3_init_1 15 rfl rfl)
theorem dX3_init_39 : decode cX3_init 39 = .ok (.sipush 1488, 3) := dk_17 5 208 (dk_at dksX3_init_1 16 rfl rfl)
theorem dX3_init_42 : decode cX3_init 42 = .ok (.newarray .boolean, 2) := dk_188_4 (dk_at dksX3_init_1 19 rfl rfl)
theorem dX3_init_44 : decode cX3_init 44 = .ok (.putfield 22, 3) := dk_181 0 22 (dk_at dksX3_init_1 21 rfl rfl)
theorem dX3_init_47 : decode cX3_init 47 = .ok (.aload_n 0, 1) := dk_42 (dk_at dksX3_init_2 0 rfl rfl)
theorem dX3_init_48 : decode cX3_init 48 = .ok (.sipush 1488, 3) := dk_17 5 208 (dk_at dksX3_init_2 1 rfl rfl)
theorem dX3_init_51 : decode cX3_init 51 = .ok (.newarray .boolean, 2) := dk_188_4 (dk_at dksX3_init_2 4 rfl rfl)
theorem dX3_init_53 : decode cX3_init 53 = .ok (.putfield 26, 3) := dk_181 0 26 (dk_at dksX3_init_2 6 rfl rfl)
theorem dX3_init_56 : decode cX3_init 56 = .ok (.aload_n 0, 1) := dk_42 (dk_at dksX3_init_2 9 rfl rfl)
theorem dX3_init_57 : decode cX3_init 57 = .ok (.bipush 30, 2) := dk_16 30 (dk_at dksX3_init_2 10 rfl rfl)
theorem dX3_init_59 : decode cX3_init 59 = .ok (.newarray .int, 2) := dk_188_10 (dk_at dksX3_init_2 12 rfl rfl)
theorem dX3_init_61 : decode cX3_init 61 = .ok (.putfield 29, 3) := dk_181 0 29 (dk_at dksX3_init_2 14 rfl rfl)
theorem dX3_init_64 : decode cX3_init 64 = .ok (.aload_n 0, 1) := dk_42 (dk_at dksX3_init_2 17 rfl rfl)
theorem dX3_init_65 : decode cX3_init 65 = .ok (.bipush 48, 2) := dk_16 48 (dk_at dksX3_init_2 18 rfl rfl)
theorem dX3_init_67 : decode cX3_init 67 = .ok (.newarray .int, 2) := dk_188_10 (dk_at dksX3_init_2 20 rfl rfl)
theorem dX3_init_69 : decode cX3_init 69 = .ok (.putfield 32, 3) := dk_181 0 32 (dk_at dksX3_init_3 0 rfl rfl)
theorem dX3_init_72 : decode cX3_init 72 = .ok (.aload_n 0, 1) := dk_42 (dk_at dksX3_init_3 3 rfl rfl)
theorem dX3_init_73 : decode cX3_init 73 = .ok (.bipush 48, 2) := dk_16 48 (dk_at dksX3_init_3 4 rfl rfl)
theorem dX3_init_75 : decode cX3_init 75 = .ok (.newarray .int, 2) := dk_188_10 (dk_at dksX3_init_3 6 rfl rfl)
theorem dX3_init_77 : decode cX3_init 77 = .ok (.putfield 35, 3) := dk_181 0 35 (dk_at dksX3_init_3 8 rfl rfl)
theorem dX3_init_80 : decode cX3_init 80 = .ok (.aload_n 0, 1) := dk_42 (dk_at dksX3_init_3 11 rfl rfl)
theorem dX3_init_81 : decode cX3_init 81 = .ok (.sipush 2304, 3) := dk_17 9 0 (dk_at dksX3_init_3 12 rfl rfl)
theorem dX3_init_84 : decode cX3_init 84 = .ok (.newarray .int, 2) := dk_188_10 (dk_at dksX3_init_3 15 rfl rfl)
theorem dX3_init_86 : decode cX3_init 86 = .ok (.putfield 38, 3) := dk_181 0 38 (dk_at dksX3_init_3 17 rfl rfl)
theorem dX3_init_89 : decode cX3_init 89 = .ok (.aload_n 0, 1) := dk_42 (dk_at dksX3_init_3 20 rfl rfl)
theorem dX3_init_90 : decode cX3_init 90 = .ok (.bipush 60, 2) := dk_16 60 (dk_at dksX3_init_3 21 rfl rfl)
theorem dX3_init_92 : decode cX3_init 92 = .ok (.newarray .char, 2) := dk_188_5 (dk_at dksX3_init_4 0 rfl rfl)
theorem dX3_init_94 : decode cX3_init 94 = .ok (.putfield 41, 3) := dk_181 0 41 (dk_at dksX3_init_4 2 rfl rfl)
theorem dX3_init_97 : decode cX3_init 97 = .ok (.aload_n 0, 1) := dk_42 (dk_at dksX3_init_4 5 rfl rfl)
theorem dX3_init_98 : decode cX3_init 98 = .ok (.iconst (-1), 1) := dk_2 (dk_at dksX3_init_4 6 rfl rfl)
theorem dX3_init_99 : decode cX3_init 99 = .ok (.putfield 45, 3) := dk_181 0 45 (dk_at dksX3_init_4 7 rfl rfl)
theorem dX3_init_102 : decode cX3_init 102 = .ok (.aload_n 0, 1) := dk_42 (dk_at dksX3_init_4 10 rfl rfl)
theorem dX3_init_103 : decode cX3_init 103 = .ok (.getfield 9, 3) := dk_180 0 9 (dk_at dksX3_init_4 11 rfl rfl)
theorem dX3_init_106 : decode cX3_init 106 = .ok (.iconst 0, 1) := dk_3 (dk_at dksX3_init_4 14 rfl rfl)
theorem dX3_init_107 : decode cX3_init 107 = .ok (.iconst 1, 1) := dk_4 (dk_at dksX3_init_4 15 rfl rfl)
theorem dX3_init_108 : decode cX3_init 108 = .ok (.iastore, 1) := dk_79 (dk_at dksX3_init_4 16 rfl rfl)
theorem dX3_init_109 : decode cX3_init 109 = .ok (.aload_n 0, 1) := dk_42 (dk_at dksX3_init_4 17 rfl rfl)
theorem dX3_init_110 : decode cX3_init 110 = .ok (.getfield 9, 3) := dk_180 0 9 (dk_at dksX3_init_4 18 rfl rfl)
theorem dX3_init_113 : decode cX3_init 113 = .ok (.iconst 1, 1) := dk_4 (dk_at dksX3_init_4 21 rfl rfl)
theorem dX3_init_114 : decode cX3_init 114 = .ok (.iconst 2, 1) := dk_5 (dk_at dksX3_init_4 22 rfl rfl)
theorem dX3_init_115 : decode cX3_init 115 = .ok (.iastore, 1) := dk_79 (dk_at dksX3_init_4 23 rfl rfl)
theorem dX3_init_116 : decode cX3_init 116 = .ok (.aload_n 0, 1) := dk_42 (dk_at dksX3_init_5 0 rfl rfl)
theorem dX3_init_117 : decode cX3_init 117 = .ok (.getfield 9, 3) := dk_180 0 9 (dk_at dksX3_init_5 1 rfl rfl)
theorem dX3_init_120 : decode cX3_init 120 = .ok (.iconst 5, 1) := dk_8 (dk_at dksX3_init_5 4 rfl rfl)
theorem dX3_init_121 : decode cX3_init 121 = .ok (.iconst 5, 1) := dk_8 (dk_at dksX3_init_5 5 rfl rfl)
theorem dX3_init_122 : decode cX3_init 122 = .ok (.iastore, 1) := dk_79 (dk_at dksX3_init_5 6 rfl rfl)
theorem dX3_init_123 : decode cX3_init 123 = .ok (.aload_n 0, 1) := dk_42 (dk_at dksX3_init_5 7 rfl rfl)
theorem dX3_init_124 : decode cX3_init 124 = .ok (.getfield 9, 3) := dk_180 0 9 (dk_at dksX3_init_5 8 rfl rfl)
theorem dX3_init_127 : decode cX3_init 127 = .ok (.bipush 6, 2) := dk_16 6 (dk_at dksX3_init_5 11 rfl rfl)
theorem dX3_init_129 : decode cX3_init 129 = .ok (.iconst 2, 1) := dk_5 (dk_at dksX3_init_5 13 rfl rfl)
theorem dX3_init_130 : decode cX3_init 130 = .ok (.iastore, 1) := dk_79 (dk_at dksX3_init_5 14 rfl rfl)
theorem dX3_init_131 : decode cX3_init 131 = .ok (.aload_n 0, 1) := dk_42 (dk_at dksX3_init_5 15 rfl rfl)
theorem dX3_init_132 : decode cX3_init 132 = .ok (.getfield 9, 3) := dk_180 0 9 (dk_at dksX3_init_5 16 rfl rfl)
theorem dX3_init_135 : decode cX3_init 135 = .ok (.bipush 7, 2) := dk_16 7 (dk_at dksX3_init_5 19 rfl rfl)
theorem dX3_init_137 : decode cX3_init 137 = .ok (.bipush 30, 2) := dk_16 30 (dk_at dksX3_init_5 21 rfl rfl)
theorem dX3_init_139 : decode cX3_init 139 = .ok (.iastore, 1) := dk_79 (dk_at dksX3_init_5 23 rfl rfl)
theorem dX3_init_140 : decode cX3_init 140 = .ok (.return_, 1) := dk_177 (dk_at dksX3_init_6 0 rfl rfl)
abbrev cX3_thrown : ByteArray := prog_12_method_2_code
def yX3_thrown : MethodName := ⟨RX3, "thrown", "()I"⟩
theorem dX3_thrown_0 : decode cX3_thrown 0 = .ok (.aload_n 0, 1) := by decide +kernel
theorem dX3_thrown_1 : decode cX3_thrown 1 = .ok (.getfield 49, 3) := by decide +kernel
theorem dX3_thrown_4 : decode cX3_thrown 4 = .ok (.ireturn, 1) := by decide +kernel
abbrev cX3_add : ByteArray := prog_12_method_16_code
def yX3_add : MethodName := ⟨RX3, "add", "(II)I"⟩
def dkwX3_add_7 : List UInt8 := [184, 0, 75, 5, 96, 2, 79, 42, 180, 0, 9, 6, 92, 46, 4, 96, 79, 21, 4, 172]
abbrev dktX3_add_7 : List UInt8 := dkwX3_add_7 ++ []
def dkwX3_add_6 : List UInt8 := [96, 27, 79, 42, 180, 0, 9, 21, 4, 184, 0, 75, 4, 96, 28, 79, 42, 180, 0, 9, 21, 4]
abbrev dktX3_add_6 : List UInt8 := dkwX3_add_6 ++ dktX3_add_7
def dkwX3_add_5 : List UInt8 := [184, 0, 75, 21, 5, 96, 3, 79, 132, 5, 1, 167, 255, 232, 42, 180, 0, 9, 21, 4, 184, 0, 75, 3]
abbrev dktX3_add_5 : List UInt8 := dkwX3_add_5 ++ dktX3_add_6
def dkwX3_add_4 : List UInt8 := [180, 0, 9, 6, 46, 54, 4, 3, 54, 5, 21, 5, 16, 36, 162, 0, 23, 42, 180, 0, 9, 21, 4]
abbrev dktX3_add_4 : List UInt8 := dkwX3_add_4 ++ dktX3_add_5
def dkwX3_add_3 : List UInt8 := [3, 2, 182, 0, 96, 62, 29, 155, 0, 10, 42, 8, 29, 182, 0, 90, 172, 42, 182, 0, 100, 42]
abbrev dktX3_add_3 : List UInt8 := dkwX3_add_3 ++ dktX3_add_4
def dkwX3_add_2 : List UInt8 := [42, 6, 3, 182, 0, 90, 172, 42, 27, 182, 0, 93, 154, 0, 10, 42, 7, 27, 182, 0, 90, 172, 42, 27]
abbrev dktX3_add_2 : List UInt8 := dkwX3_add_2 ++ dktX3_add_3
def dkwX3_add_1 : List UInt8 := [184, 0, 71, 154, 0, 10, 42, 5, 3, 182, 0, 90, 172, 42, 180, 0, 9, 6, 46, 16, 6, 160, 0, 10]
abbrev dktX3_add_1 : List UInt8 := dkwX3_add_1 ++ dktX3_add_2
def dkwX3_add_0 : List UInt8 := [42, 3, 181, 0, 49, 42, 27, 182, 0, 86, 154, 0, 10, 42, 4, 3, 182, 0, 90, 172, 28, 3, 16, 99]
abbrev dktX3_add_0 : List UInt8 := dkwX3_add_0 ++ dktX3_add_1
theorem dksX3_add_0 : cX3_add.data.toList.drop 0 = dktX3_add_0 := by decide +kernel
theorem dksX3_add_1 : cX3_add.data.toList.drop 24 = dktX3_add_1 := dk_seg dksX3_add_0 24 rfl rfl
theorem dksX3_add_2 : cX3_add.data.toList.drop 48 = dktX3_add_2 := dk_seg dksX3_add_1 24 rfl rfl
theorem dksX3_add_3 : cX3_add.data.toList.drop 72 = dktX3_add_3 := dk_seg dksX3_add_2 24 rfl rfl
theorem dksX3_add_4 : cX3_add.data.toList.drop 94 = dktX3_add_4 := dk_seg dksX3_add_3 22 rfl rfl
theorem dksX3_add_5 : cX3_add.data.toList.drop 117 = dktX3_add_5 := dk_seg dksX3_add_4 23 rfl rfl
theorem dksX3_add_6 : cX3_add.data.toList.drop 141 = dktX3_add_6 := dk_seg dksX3_add_5 24 rfl rfl
theorem dksX3_add_7 : cX3_add.data.toList.drop 163 = dktX3_add_7 := dk_seg dksX3_add_6 22 rfl rfl
theorem dX3_add_0 : decode cX3_add 0 = .ok (.aload_n 0, 1) := dk_42 (dk_at dksX3_add_0 0 rfl rfl)
theorem dX3_add_1 : decode cX3_add 1 = .ok (.iconst 0, 1) := dk_3 (dk_at dksX3_add_0 1 rfl rfl)
theorem dX3_add_2 : decode cX3_add 2 = .ok (.putfield 49, 3) := dk_181 0 49 (dk_at dksX3_add_0 2 rfl rfl)
theorem dX3_add_5 : decode cX3_add 5 = .ok (.aload_n 0, 1) := dk_42 (dk_at dksX3_add_0 5 rfl rfl)
theorem dX3_add_6 : decode cX3_add 6 = .ok (.iload_n 1, 1) := dk_27 (dk_at dksX3_add_0 6 rfl rfl)
theorem dX3_add_7 : decode cX3_add 7 = .ok (.invokevirtual 86, 3) := dk_182 0 86 (dk_at dksX3_add_0 7 rfl rfl)
theorem dX3_add_10 : decode cX3_add 10 = .ok (.ifCond .ne 10, 3) := dk_154 0 10 (dk_at dksX3_add_0 10 rfl rfl)
theorem dX3_add_13 : decode cX3_add 13 = .ok (.aload_n 0, 1) := dk_42 (dk_at dksX3_add_0 13 rfl rfl)
theorem dX3_add_14 : decode cX3_add 14 = .ok (.iconst 1, 1) := dk_4 (dk_at dksX3_add_0 14 rfl rfl)
theorem dX3_add_15 : decode cX3_add 15 = .ok (.iconst 0, 1) := dk_3 (dk_at dksX3_add_0 15 rfl rfl)
theorem dX3_add_16 : decode cX3_add 16 = .ok (.invokevirtual 90, 3) := dk_182 0 90 (dk_at dksX3_add_0 16 rfl rfl)
theorem dX3_add_19 : decode cX3_add 19 = .ok (.ireturn, 1) := dk_172 (dk_at dksX3_add_0 19 rfl rfl)
theorem dX3_add_20 : decode cX3_add 20 = .ok (.iload_n 2, 1) := dk_28 (dk_at dksX3_add_0 20 rfl rfl)
theorem dX3_add_21 : decode cX3_add 21 = .ok (.iconst 0, 1) := dk_3 (dk_at dksX3_add_0 21 rfl rfl)
theorem dX3_add_22 : decode cX3_add 22 = .ok (.bipush 99, 2) := dk_16 99 (dk_at dksX3_add_0 22 rfl rfl)
theorem dX3_add_24 : decode cX3_add 24 = .ok (.invokestatic 71, 3) := dk_184 0 71 (dk_at dksX3_add_1 0 rfl rfl)
theorem dX3_add_27 : decode cX3_add 27 = .ok (.ifCond .ne 10, 3) := dk_154 0 10 (dk_at dksX3_add_1 3 rfl rfl)
theorem dX3_add_30 : decode cX3_add 30 = .ok (.aload_n 0, 1) := dk_42 (dk_at dksX3_add_1 6 rfl rfl)
theorem dX3_add_31 : decode cX3_add 31 = .ok (.iconst 2, 1) := dk_5 (dk_at dksX3_add_1 7 rfl rfl)
theorem dX3_add_32 : decode cX3_add 32 = .ok (.iconst 0, 1) := dk_3 (dk_at dksX3_add_1 8 rfl rfl)
theorem dX3_add_33 : decode cX3_add 33 = .ok (.invokevirtual 90, 3) := dk_182 0 90 (dk_at dksX3_add_1 9 rfl rfl)
theorem dX3_add_36 : decode cX3_add 36 = .ok (.ireturn, 1) := dk_172 (dk_at dksX3_add_1 12 rfl rfl)
theorem dX3_add_37 : decode cX3_add 37 = .ok (.aload_n 0, 1) := dk_42 (dk_at dksX3_add_1 13 rfl rfl)
theorem dX3_add_38 : decode cX3_add 38 = .ok (.getfield 9, 3) := dk_180 0 9 (dk_at dksX3_add_1 14 rfl rfl)
theorem dX3_add_41 : decode cX3_add 41 = .ok (.iconst 3, 1) := dk_6 (dk_at dksX3_add_1 17 rfl rfl)
theorem dX3_add_42 : decode cX3_add 42 = .ok (.iaload, 1) := dk_46 (dk_at dksX3_add_1 18 rfl rfl)
theorem dX3_add_43 : decode cX3_add 43 = .ok (.bipush 6, 2) := dk_16 6 (dk_at dksX3_add_1 19 rfl rfl)
theorem dX3_add_45 : decode cX3_add 45 = .ok (.if_icmp .ne 10, 3) := dk_160 0 10 (dk_at dksX3_add_1 21 rfl rfl)
theorem dX3_add_48 : decode cX3_add 48 = .ok (.aload_n 0, 1) := dk_42 (dk_at dksX3_add_2 0 rfl rfl)
theorem dX3_add_49 : decode cX3_add 49 = .ok (.iconst 3, 1) := dk_6 (dk_at dksX3_add_2 1 rfl rfl)
theorem dX3_add_50 : decode cX3_add 50 = .ok (.iconst 0, 1) := dk_3 (dk_at dksX3_add_2 2 rfl rfl)
theorem dX3_add_51 : decode cX3_add 51 = .ok (.invokevirtual 90, 3) := dk_182 0 90 (dk_at dksX3_add_2 3 rfl rfl)
theorem dX3_add_54 : decode cX3_add 54 = .ok (.ireturn, 1) := dk_172 (dk_at dksX3_add_2 6 rfl rfl)
theorem dX3_add_55 : decode cX3_add 55 = .ok (.aload_n 0, 1) := dk_42 (dk_at dksX3_add_2 7 rfl rfl)
theorem dX3_add_56 : decode cX3_add 56 = .ok (.iload_n 1, 1) := dk_27 (dk_at dksX3_add_2 8 rfl rfl)
theorem dX3_add_57 : decode cX3_add 57 = .ok (.invokevirtual 93, 3) := dk_182 0 93 (dk_at dksX3_add_2 9 rfl rfl)
theorem dX3_add_60 : decode cX3_add 60 = .ok (.ifCond .ne 10, 3) := dk_154 0 10 (dk_at dksX3_add_2 12 rfl rfl)
theorem dX3_add_63 : decode cX3_add 63 = .ok (.aload_n 0, 1) := dk_42 (dk_at dksX3_add_2 15 rfl rfl)
theorem dX3_add_64 : decode cX3_add 64 = .ok (.iconst 4, 1) := dk_7 (dk_at dksX3_add_2 16 rfl rfl)
theorem dX3_add_65 : decode cX3_add 65 = .ok (.iload_n 1, 1) := dk_27 (dk_at dksX3_add_2 17 rfl rfl)
theorem dX3_add_66 : decode cX3_add 66 = .ok (.invokevirtual 90, 3) := dk_182 0 90 (dk_at dksX3_add_2 18 rfl rfl)
theorem dX3_add_69 : decode cX3_add 69 = .ok (.ireturn, 1) := dk_172 (dk_at dksX3_add_2 21 rfl rfl)
theorem dX3_add_70 : decode cX3_add 70 = .ok (.aload_n 0, 1) := dk_42 (dk_at dksX3_add_2 22 rfl rfl)
theorem dX3_add_71 : decode cX3_add 71 = .ok (.iload_n 1, 1) := dk_27 (dk_at dksX3_add_2 23 rfl rfl)
theorem dX3_add_72 : decode cX3_add 72 = .ok (.iconst 0, 1) := dk_3 (dk_at dksX3_add_3 0 rfl rfl)
theorem dX3_add_73 : decode cX3_add 73 = .ok (.iconst (-1), 1) := dk_2 (dk_at dksX3_add_3 1 rfl rfl)
theorem dX3_add_74 : decode cX3_add 74 = .ok (.invokevirtual 96, 3) := dk_182 0 96 (dk_at dksX3_add_3 2 rfl rfl)
theorem dX3_add_77 : decode cX3_add 77 = .ok (.istore_n 3, 1) := dk_62 (dk_at dksX3_add_3 5 rfl rfl)
theorem dX3_add_78 : decode cX3_add 78 = .ok (.iload_n 3, 1) := dk_29 (dk_at dksX3_add_3 6 rfl rfl)
theorem dX3_add_79 : decode cX3_add 79 = .ok (.ifCond .lt 10, 3) := dk_155 0 10 (dk_at dksX3_add_3 7 rfl rfl)
theorem dX3_add_82 : decode cX3_add 82 = .ok (.aload_n 0, 1) := dk_42 (dk_at dksX3_add_3 10 rfl rfl)
theorem dX3_add_83 : decode cX3_add 83 = .ok (.iconst 5, 1) := dk_8 (dk_at dksX3_add_3 11 rfl rfl)
theorem dX3_add_84 : decode cX3_add 84 = .ok (.iload_n 3, 1) := dk_29 (dk_at dksX3_add_3 12 rfl rfl)
theorem dX3_add_85 : decode cX3_add 85 = .ok (.invokevirtual 90, 3) := dk_182 0 90 (dk_at dksX3_add_3 13 rfl rfl)
theorem dX3_add_88 : decode cX3_add 88 = .ok (.ireturn, 1) := dk_172 (dk_at dksX3_add_3 16 rfl rfl)
theorem dX3_add_89 : decode cX3_add 89 = .ok (.aload_n 0, 1) := dk_42 (dk_at dksX3_add_3 17 rfl rfl)
theorem dX3_add_90 : decode cX3_add 90 = .ok (.invokevirtual 100, 3) := dk_182 0 100 (dk_at dksX3_add_3 18 rfl rfl)
theorem dX3_add_93 : decode cX3_add 93 = .ok (.aload_n 0, 1) := dk_42 (dk_at dksX3_add_3 21 rfl rfl)
theorem dX3_add_94 : decode cX3_add 94 = .ok (.getfield 9, 3) := dk_180 0 9 (dk_at dksX3_add_4 0 rfl rfl)
theorem dX3_add_97 : decode cX3_add 97 = .ok (.iconst 3, 1) := dk_6 (dk_at dksX3_add_4 3 rfl rfl)
theorem dX3_add_98 : decode cX3_add 98 = .ok (.iaload, 1) := dk_46 (dk_at dksX3_add_4 4 rfl rfl)
theorem dX3_add_99 : decode cX3_add 99 = .ok (.istore 4, 2) := dk_54 4 (dk_at dksX3_add_4 5 rfl rfl)
theorem dX3_add_101 : decode cX3_add 101 = .ok (.iconst 0, 1) := dk_3 (dk_at dksX3_add_4 7 rfl rfl)
theorem dX3_add_102 : decode cX3_add 102 = .ok (.istore 5, 2) := dk_54 5 (dk_at dksX3_add_4 8 rfl rfl)
theorem dX3_add_104 : decode cX3_add 104 = .ok (.iload 5, 2) := dk_21 5 (dk_at dksX3_add_4 10 rfl rfl)
theorem dX3_add_106 : decode cX3_add 106 = .ok (.bipush 36, 2) := dk_16 36 (dk_at dksX3_add_4 12 rfl rfl)
theorem dX3_add_108 : decode cX3_add 108 = .ok (.if_icmp .ge 23, 3) := dk_162 0 23 (dk_at dksX3_add_4 14 rfl rfl)
theorem dX3_add_111 : decode cX3_add 111 = .ok (.aload_n 0, 1) := dk_42 (dk_at dksX3_add_4 17 rfl rfl)
theorem dX3_add_112 : decode cX3_add 112 = .ok (.getfield 9, 3) := dk_180 0 9 (dk_at dksX3_add_4 18 rfl rfl)
theorem dX3_add_115 : decode cX3_add 115 = .ok (.iload 4, 2) := dk_21 4 (dk_at dksX3_add_4 21 rfl rfl)
theorem dX3_add_117 : decode cX3_add 117 = .ok (.invokestatic 75, 3) := dk_184 0 75 (dk_at dksX3_add_5 0 rfl rfl)
theorem dX3_add_120 : decode cX3_add 120 = .ok (.iload 5, 2) := dk_21 5 (dk_at dksX3_add_5 3 rfl rfl)
theorem dX3_add_122 : decode cX3_add 122 = .ok (.iadd, 1) := dk_96 (dk_at dksX3_add_5 5 rfl rfl)
theorem dX3_add_123 : decode cX3_add 123 = .ok (.iconst 0, 1) := dk_3 (dk_at dksX3_add_5 6 rfl rfl)
theorem dX3_add_124 : decode cX3_add 124 = .ok (.iastore, 1) := dk_79 (dk_at dksX3_add_5 7 rfl rfl)
theorem dX3_add_125 : decode cX3_add 125 = .ok (.iinc 5 1, 3) := dk_132 5 1 (dk_at dksX3_add_5 8 rfl rfl)
theorem dX3_add_128 : decode cX3_add 128 = .ok (.goto (-24), 3) := dk_167 255 232 (dk_at dksX3_add_5 11 rfl rfl)
theorem dX3_add_131 : decode cX3_add 131 = .ok (.aload_n 0, 1) := dk_42 (dk_at dksX3_add_5 14 rfl rfl)
theorem dX3_add_132 : decode cX3_add 132 = .ok (.getfield 9, 3) := dk_180 0 9 (dk_at dksX3_add_5 15 rfl rfl)
theorem dX3_add_135 : decode cX3_add 135 = .ok (.iload 4, 2) := dk_21 4 (dk_at dksX3_add_5 18 rfl rfl)
theorem dX3_add_137 : decode cX3_add 137 = .ok (.invokestatic 75, 3) := dk_184 0 75 (dk_at dksX3_add_5 20 rfl rfl)
theorem dX3_add_140 : decode cX3_add 140 = .ok (.iconst 0, 1) := dk_3 (dk_at dksX3_add_5 23 rfl rfl)
theorem dX3_add_141 : decode cX3_add 141 = .ok (.iadd, 1) := dk_96 (dk_at dksX3_add_6 0 rfl rfl)
theorem dX3_add_142 : decode cX3_add 142 = .ok (.iload_n 1, 1) := dk_27 (dk_at dksX3_add_6 1 rfl rfl)
theorem dX3_add_143 : decode cX3_add 143 = .ok (.iastore, 1) := dk_79 (dk_at dksX3_add_6 2 rfl rfl)
theorem dX3_add_144 : decode cX3_add 144 = .ok (.aload_n 0, 1) := dk_42 (dk_at dksX3_add_6 3 rfl rfl)
theorem dX3_add_145 : decode cX3_add 145 = .ok (.getfield 9, 3) := dk_180 0 9 (dk_at dksX3_add_6 4 rfl rfl)
theorem dX3_add_148 : decode cX3_add 148 = .ok (.iload 4, 2) := dk_21 4 (dk_at dksX3_add_6 7 rfl rfl)
theorem dX3_add_150 : decode cX3_add 150 = .ok (.invokestatic 75, 3) := dk_184 0 75 (dk_at dksX3_add_6 9 rfl rfl)
theorem dX3_add_153 : decode cX3_add 153 = .ok (.iconst 1, 1) := dk_4 (dk_at dksX3_add_6 12 rfl rfl)
theorem dX3_add_154 : decode cX3_add 154 = .ok (.iadd, 1) := dk_96 (dk_at dksX3_add_6 13 rfl rfl)
theorem dX3_add_155 : decode cX3_add 155 = .ok (.iload_n 2, 1) := dk_28 (dk_at dksX3_add_6 14 rfl rfl)
theorem dX3_add_156 : decode cX3_add 156 = .ok (.iastore, 1) := dk_79 (dk_at dksX3_add_6 15 rfl rfl)
theorem dX3_add_157 : decode cX3_add 157 = .ok (.aload_n 0, 1) := dk_42 (dk_at dksX3_add_6 16 rfl rfl)
theorem dX3_add_158 : decode cX3_add 158 = .ok (.getfield 9, 3) := dk_180 0 9 (dk_at dksX3_add_6 17 rfl rfl)
theorem dX3_add_161 : decode cX3_add 161 = .ok (.iload 4, 2) := dk_21 4 (dk_at dksX3_add_6 20 rfl rfl)
theorem dX3_add_163 : decode cX3_add 163 = .ok (.invokestatic 75, 3) := dk_184 0 75 (dk_at dksX3_add_7 0 rfl rfl)
theorem dX3_add_166 : decode cX3_add 166 = .ok (.iconst 2, 1) := dk_5 (dk_at dksX3_add_7 3 rfl rfl)
theorem dX3_add_167 : decode cX3_add 167 = .ok (.iadd, 1) := dk_96 (dk_at dksX3_add_7 4 rfl rfl)
theorem dX3_add_168 : decode cX3_add 168 = .ok (.iconst (-1), 1) := dk_2 (dk_at dksX3_add_7 5 rfl rfl)
theorem dX3_add_169 : decode cX3_add 169 = .ok (.iastore, 1) := dk_79 (dk_at dksX3_add_7 6 rfl rfl)
theorem dX3_add_170 : decode cX3_add 170 = .ok (.aload_n 0, 1) := dk_42 (dk_at dksX3_add_7 7 rfl rfl)
theorem dX3_add_171 : decode cX3_add 171 = .ok (.getfield 9, 3) := dk_180 0 9 (dk_at dksX3_add_7 8 rfl rfl)
theorem dX3_add_174 : decode cX3_add 174 = .ok (.iconst 3, 1) := dk_6 (dk_at dksX3_add_7 11 rfl rfl)
theorem dX3_add_175 : decode cX3_add 175 = .ok (.dup2, 1) := dk_92 (dk_at dksX3_add_7 12 rfl rfl)
theorem dX3_add_176 : decode cX3_add 176 = .ok (.iaload, 1) := dk_46 (dk_at dksX3_add_7 13 rfl rfl)
theorem dX3_add_177 : decode cX3_add 177 = .ok (.iconst 1, 1) := dk_4 (dk_at dksX3_add_7 14 rfl rfl)
theorem dX3_add_178 : decode cX3_add 178 = .ok (.iadd, 1) := dk_96 (dk_at dksX3_add_7 15 rfl rfl)
theorem dX3_add_179 : decode cX3_add 179 = .ok (.iastore, 1) := dk_79 (dk_at dksX3_add_7 16 rfl rfl)
theorem dX3_add_180 : decode cX3_add 180 = .ok (.iload 4, 2) := dk_21 4 (dk_at dksX3_add_7 17 rfl rfl)
theorem dX3_add_182 : decode cX3_add 182 = .ok (.ireturn, 1) := dk_172 (dk_at dksX3_add_7 19 rfl rfl)
abbrev cX3_isCell : ByteArray := prog_12_method_7_code
def yX3_isCell : MethodName := ⟨RX3, "isCell", "(I)Z"⟩
def dkwX3_isCell_0 : List UInt8 := [27, 3, 42, 182, 0, 67, 4, 100, 184, 0, 71, 172]
abbrev dktX3_isCell_0 : List UInt8 := dkwX3_isCell_0 ++ []
theorem dksX3_isCell_0 : cX3_isCell.data.toList.drop 0 = dktX3_isCell_0 := by decide +kernel
theorem dX3_isCell_0 : decode cX3_isCell 0 = .ok (.iload_n 1, 1) := dk_27 (dk_at dksX3_isCell_0 0 rfl rfl)
theorem dX3_isCell_1 : decode cX3_isCell 1 = .ok (.iconst 0, 1) := dk_3 (dk_at dksX3_isCell_0 1 rfl rfl)
theorem dX3_isCell_2 : decode cX3_isCell 2 = .ok (.aload_n 0, 1) := dk_42 (dk_at dksX3_isCell_0 2 rfl rfl)
theorem dX3_isCell_3 : decode cX3_isCell 3 = .ok (.invokevirtual 67, 3) := dk_182 0 67 (dk_at dksX3_isCell_0 3 rfl rfl)
theorem dX3_isCell_6 : decode cX3_isCell 6 = .ok (.iconst 1, 1) := dk_4 (dk_at dksX3_isCell_0 6 rfl rfl)
theorem dX3_isCell_7 : decode cX3_isCell 7 = .ok (.isub, 1) := dk_100 (dk_at dksX3_isCell_0 7 rfl rfl)
theorem dX3_isCell_8 : decode cX3_isCell 8 = .ok (.invokestatic 71, 3) := dk_184 0 71 (dk_at dksX3_isCell_0 8 rfl rfl)
theorem dX3_isCell_11 : decode cX3_isCell 11 = .ok (.ireturn, 1) := dk_172 (dk_at dksX3_isCell_0 11 rfl rfl)
abbrev cX3_cells : ByteArray := prog_12_method_6_code
def yX3_cells : MethodName := ⟨RX3, "cells", "()I"⟩
def dkwX3_cells_0 : List UInt8 := [42, 180, 0, 9, 3, 46, 42, 180, 0, 9, 4, 46, 104, 172]
abbrev dktX3_cells_0 : List UInt8 := dkwX3_cells_0 ++ []
theorem dksX3_cells_0 : cX3_cells.data.toList.drop 0 = dktX3_cells_0 := by decide +kernel
theorem dX3_cells_0 : decode cX3_cells 0 = .ok (.aload_n 0, 1) := dk_42 (dk_at dksX3_cells_0 0 rfl rfl)
theorem dX3_cells_1 : decode cX3_cells 1 = .ok (.getfield 9, 3) := dk_180 0 9 (dk_at dksX3_cells_0 1 rfl rfl)
theorem dX3_cells_4 : decode cX3_cells 4 = .ok (.iconst 0, 1) := dk_3 (dk_at dksX3_cells_0 4 rfl rfl)
theorem dX3_cells_5 : decode cX3_cells 5 = .ok (.iaload, 1) := dk_46 (dk_at dksX3_cells_0 5 rfl rfl)
theorem dX3_cells_6 : decode cX3_cells 6 = .ok (.aload_n 0, 1) := dk_42 (dk_at dksX3_cells_0 6 rfl rfl)
theorem dX3_cells_7 : decode cX3_cells 7 = .ok (.getfield 9, 3) := dk_180 0 9 (dk_at dksX3_cells_0 7 rfl rfl)
theorem dX3_cells_10 : decode cX3_cells 10 = .ok (.iconst 1, 1) := dk_4 (dk_at dksX3_cells_0 10 rfl rfl)
theorem dX3_cells_11 : decode cX3_cells 11 = .ok (.iaload, 1) := dk_46 (dk_at dksX3_cells_0 11 rfl rfl)
theorem dX3_cells_12 : decode cX3_cells 12 = .ok (.imul, 1) := dk_104 (dk_at dksX3_cells_0 12 rfl rfl)
theorem dX3_cells_13 : decode cX3_cells 13 = .ok (.ireturn, 1) := dk_172 (dk_at dksX3_cells_0 13 rfl rfl)
abbrev cX3_in : ByteArray := prog_12_method_3_code
def yX3_in : MethodName := ⟨RX3, "in", "(III)Z"⟩
def dkwX3_in_0 : List UInt8 := [26, 27, 161, 0, 12, 26, 28, 163, 0, 7, 4, 167, 0, 4, 3, 172]
abbrev dktX3_in_0 : List UInt8 := dkwX3_in_0 ++ []
theorem dksX3_in_0 : cX3_in.data.toList.drop 0 = dktX3_in_0 := by decide +kernel
theorem dX3_in_0 : decode cX3_in 0 = .ok (.iload_n 0, 1) := dk_26 (dk_at dksX3_in_0 0 rfl rfl)
theorem dX3_in_1 : decode cX3_in 1 = .ok (.iload_n 1, 1) := dk_27 (dk_at dksX3_in_0 1 rfl rfl)
theorem dX3_in_2 : decode cX3_in 2 = .ok (.if_icmp .lt 12, 3) := dk_161 0 12 (dk_at dksX3_in_0 2 rfl rfl)
theorem dX3_in_5 : decode cX3_in 5 = .ok (.iload_n 0, 1) := dk_26 (dk_at dksX3_in_0 5 rfl rfl)
theorem dX3_in_6 : decode cX3_in 6 = .ok (.iload_n 2, 1) := dk_28 (dk_at dksX3_in_0 6 rfl rfl)
theorem dX3_in_7 : decode cX3_in 7 = .ok (.if_icmp .gt 7, 3) := dk_163 0 7 (dk_at dksX3_in_0 7 rfl rfl)
theorem dX3_in_10 : decode cX3_in 10 = .ok (.iconst 1, 1) := dk_4 (dk_at dksX3_in_0 10 rfl rfl)
theorem dX3_in_11 : decode cX3_in 11 = .ok (.goto 4, 3) := dk_167 0 4 (dk_at dksX3_in_0 11 rfl rfl)
theorem dX3_in_14 : decode cX3_in 14 = .ok (.iconst 0, 1) := dk_3 (dk_at dksX3_in_0 14 rfl rfl)
theorem dX3_in_15 : decode cX3_in 15 = .ok (.ireturn, 1) := dk_172 (dk_at dksX3_in_0 15 rfl rfl)
abbrev cX3_refuse : ByteArray := prog_12_method_5_code
def yX3_refuse : MethodName := ⟨RX3, "refuse", "(II)I"⟩
def dkwX3_refuse_0 : List UInt8 := [42, 4, 181, 0, 49, 42, 27, 181, 0, 61, 42, 28, 181, 0, 64, 3, 172]
abbrev dktX3_refuse_0 : List UInt8 := dkwX3_refuse_0 ++ []
theorem dksX3_refuse_0 : cX3_refuse.data.toList.drop 0 = dktX3_refuse_0 := by decide +kernel
theorem dX3_refuse_0 : decode cX3_refuse 0 = .ok (.aload_n 0, 1) := dk_42 (dk_at dksX3_refuse_0 0 rfl rfl)
theorem dX3_refuse_1 : decode cX3_refuse 1 = .ok (.iconst 1, 1) := dk_4 (dk_at dksX3_refuse_0 1 rfl rfl)
theorem dX3_refuse_2 : decode cX3_refuse 2 = .ok (.putfield 49, 3) := dk_181 0 49 (dk_at dksX3_refuse_0 2 rfl rfl)
theorem dX3_refuse_5 : decode cX3_refuse 5 = .ok (.aload_n 0, 1) := dk_42 (dk_at dksX3_refuse_0 5 rfl rfl)
theorem dX3_refuse_6 : decode cX3_refuse 6 = .ok (.iload_n 1, 1) := dk_27 (dk_at dksX3_refuse_0 6 rfl rfl)
theorem dX3_refuse_7 : decode cX3_refuse 7 = .ok (.putfield 61, 3) := dk_181 0 61 (dk_at dksX3_refuse_0 7 rfl rfl)
theorem dX3_refuse_10 : decode cX3_refuse 10 = .ok (.aload_n 0, 1) := dk_42 (dk_at dksX3_refuse_0 10 rfl rfl)
theorem dX3_refuse_11 : decode cX3_refuse 11 = .ok (.iload_n 2, 1) := dk_28 (dk_at dksX3_refuse_0 11 rfl rfl)
theorem dX3_refuse_12 : decode cX3_refuse 12 = .ok (.putfield 64, 3) := dk_181 0 64 (dk_at dksX3_refuse_0 12 rfl rfl)
theorem dX3_refuse_15 : decode cX3_refuse 15 = .ok (.iconst 0, 1) := dk_3 (dk_at dksX3_refuse_0 15 rfl rfl)
theorem dX3_refuse_16 : decode cX3_refuse 16 = .ok (.ireturn, 1) := dk_172 (dk_at dksX3_refuse_0 16 rfl rfl)
abbrev cX3_canEnter : ByteArray := prog_12_method_8_code
def yX3_canEnter : MethodName := ⟨RX3, "canEnter", "(I)Z"⟩
def dkwX3_canEnter_1 : List UInt8 := [154, 0, 7, 4, 167, 0, 4, 3, 172]
abbrev dktX3_canEnter_1 : List UInt8 := dkwX3_canEnter_1 ++ []
def dkwX3_canEnter_0 : List UInt8 := [42, 180, 0, 9, 16, 8, 27, 96, 46, 4, 159, 0, 19, 42, 180, 0, 9, 16, 56, 27, 96, 46]
abbrev dktX3_canEnter_0 : List UInt8 := dkwX3_canEnter_0 ++ dktX3_canEnter_1
theorem dksX3_canEnter_0 : cX3_canEnter.data.toList.drop 0 = dktX3_canEnter_0 := by decide +kernel
theorem dksX3_canEnter_1 : cX3_canEnter.data.toList.drop 22 = dktX3_canEnter_1 := dk_seg dksX3_canEnter_0 22 rfl rfl
theorem dX3_canEnter_0 : decode cX3_canEnter 0 = .ok (.aload_n 0, 1) := dk_42 (dk_at dksX3_canEnter_0 0 rfl rfl)
theorem dX3_canEnter_1 : decode cX3_canEnter 1 = .ok (.getfield 9, 3) := dk_180 0 9 (dk_at dksX3_canEnter_0 1 rfl rfl)
theorem dX3_canEnter_4 : decode cX3_canEnter 4 = .ok (.bipush 8, 2) := dk_16 8 (dk_at dksX3_canEnter_0 4 rfl rfl)
theorem dX3_canEnter_6 : decode cX3_canEnter 6 = .ok (.iload_n 1, 1) := dk_27 (dk_at dksX3_canEnter_0 6 rfl rfl)
theorem dX3_canEnter_7 : decode cX3_canEnter 7 = .ok (.iadd, 1) := dk_96 (dk_at dksX3_canEnter_0 7 rfl rfl)
theorem dX3_canEnter_8 : decode cX3_canEnter 8 = .ok (.iaload, 1) := dk_46 (dk_at dksX3_canEnter_0 8 rfl rfl)
theorem dX3_canEnter_9 : decode cX3_canEnter 9 = .ok (.iconst 1, 1) := dk_4 (dk_at dksX3_canEnter_0 9 rfl rfl)
theorem dX3_canEnter_10 : decode cX3_canEnter 10 = .ok (.if_icmp .eq 19, 3) := dk_159 0 19 (dk_at dksX3_canEnter_0 10 rfl rfl)
theorem dX3_canEnter_13 : decode cX3_canEnter 13 = .ok (.aload_n 0, 1) := dk_42 (dk_at dksX3_canEnter_0 13 rfl rfl)
theorem dX3_canEnter_14 : decode cX3_canEnter 14 = .ok (.getfield 9, 3) := dk_180 0 9 (dk_at dksX3_canEnter_0 14 rfl rfl)
theorem dX3_canEnter_17 : decode cX3_canEnter 17 = .ok (.bipush 56, 2) := dk_16 56 (dk_at dksX3_canEnter_0 17 rfl rfl)
theorem dX3_canEnter_19 : decode cX3_canEnter 19 = .ok (.iload_n 1, 1) := dk_27 (dk_at dksX3_canEnter_0 19 rfl rfl)
theorem dX3_canEnter_20 : decode cX3_canEnter 20 = .ok (.iadd, 1) := dk_96 (dk_at dksX3_canEnter_0 20 rfl rfl)
theorem dX3_canEnter_21 : decode cX3_canEnter 21 = .ok (.iaload, 1) := dk_46 (dk_at dksX3_canEnter_0 21 rfl rfl)
theorem dX3_canEnter_22 : decode cX3_canEnter 22 = .ok (.ifCond .ne 7, 3) := dk_154 0 7 (dk_at dksX3_canEnter_1 0 rfl rfl)
theorem dX3_canEnter_25 : decode cX3_canEnter 25 = .ok (.iconst 1, 1) := dk_4 (dk_at dksX3_canEnter_1 3 rfl rfl)
theorem dX3_canEnter_26 : decode cX3_canEnter 26 = .ok (.goto 4, 3) := dk_167 0 4 (dk_at dksX3_canEnter_1 4 rfl rfl)
theorem dX3_canEnter_29 : decode cX3_canEnter 29 = .ok (.iconst 0, 1) := dk_3 (dk_at dksX3_canEnter_1 7 rfl rfl)
theorem dX3_canEnter_30 : decode cX3_canEnter 30 = .ok (.ireturn, 1) := dk_172 (dk_at dksX3_canEnter_1 8 rfl rfl)
abbrev cX3_willBe : ByteArray := prog_12_method_15_code
def yX3_willBe : MethodName := ⟨RX3, "willBe", "(III)I"⟩
def dkwX3_willBe_3 : List UInt8 := [132, 4, 1, 167, 255, 185, 2, 172]
abbrev dktX3_willBe_3 : List UInt8 := dkwX3_willBe_3 ++ []
def dkwX3_willBe_2 : List UInt8 := [3, 54, 5, 132, 6, 1, 167, 255, 222, 21, 5, 153, 0, 12, 21, 4, 29, 159, 0, 6, 21, 4, 172]
abbrev dktX3_willBe_2 : List UInt8 := dkwX3_willBe_2 ++ dktX3_willBe_3
def dkwX3_willBe_1 : List UInt8 := [163, 0, 33, 21, 5, 154, 0, 15, 42, 21, 4, 21, 6, 182, 0, 83, 27, 160, 0, 7, 4, 167, 0, 4]
abbrev dktX3_willBe_1 : List UInt8 := dkwX3_willBe_1 ++ dktX3_willBe_2
def dkwX3_willBe_0 : List UInt8 := [3, 54, 4, 21, 4, 42, 180, 0, 9, 6, 46, 162, 0, 66, 3, 54, 5, 28, 54, 6, 21, 6, 16, 31]
abbrev dktX3_willBe_0 : List UInt8 := dkwX3_willBe_0 ++ dktX3_willBe_1
theorem dksX3_willBe_0 : cX3_willBe.data.toList.drop 0 = dktX3_willBe_0 := by decide +kernel
theorem dksX3_willBe_1 : cX3_willBe.data.toList.drop 24 = dktX3_willBe_1 := dk_seg dksX3_willBe_0 24 rfl rfl
theorem dksX3_willBe_2 : cX3_willBe.data.toList.drop 48 = dktX3_willBe_2 := dk_seg dksX3_willBe_1 24 rfl rfl
theorem dksX3_willBe_3 : cX3_willBe.data.toList.drop 71 = dktX3_willBe_3 := dk_seg dksX3_willBe_2 23 rfl rfl
theorem dX3_willBe_0 : decode cX3_willBe 0 = .ok (.iconst 0, 1) := dk_3 (dk_at dksX3_willBe_0 0 rfl rfl)
theorem dX3_willBe_1 : decode cX3_willBe 1 = .ok (.istore 4, 2) := dk_54 4 (dk_at dksX3_willBe_0 1 rfl rfl)
theorem dX3_willBe_3 : decode cX3_willBe 3 = .ok (.iload 4, 2) := dk_21 4 (dk_at dksX3_willBe_0 3 rfl rfl)
theorem dX3_willBe_5 : decode cX3_willBe 5 = .ok (.aload_n 0, 1) := dk_42 (dk_at dksX3_willBe_0 5 rfl rfl)
theorem dX3_willBe_6 : decode cX3_willBe 6 = .ok (.getfield 9, 3) := dk_180 0 9 (dk_at dksX3_willBe_0 6 rfl rfl)
theorem dX3_willBe_9 : decode cX3_willBe 9 = .ok (.iconst 3, 1) := dk_6 (dk_at dksX3_willBe_0 9 rfl rfl)
theorem dX3_willBe_10 : decode cX3_willBe 10 = .ok (.iaload, 1) := dk_46 (dk_at dksX3_willBe_0 10 rfl rfl)
theorem dX3_willBe_11 : decode cX3_willBe 11 = .ok (.if_icmp .ge 66, 3) := dk_162 0 66 (dk_at dksX3_willBe_0 11 rfl rfl)
theorem dX3_willBe_14 : decode cX3_willBe 14 = .ok (.iconst 0, 1) := dk_3 (dk_at dksX3_willBe_0 14 rfl rfl)
theorem dX3_willBe_15 : decode cX3_willBe 15 = .ok (.istore 5, 2) := dk_54 5 (dk_at dksX3_willBe_0 15 rfl rfl)
theorem dX3_willBe_17 : decode cX3_willBe 17 = .ok (.iload_n 2, 1) := dk_28 (dk_at dksX3_willBe_0 17 rfl rfl)
theorem dX3_willBe_18 : decode cX3_willBe 18 = .ok (.istore 6, 2) := dk_54 6 (dk_at dksX3_willBe_0 18 rfl rfl)
theorem dX3_willBe_20 : decode cX3_willBe 20 = .ok (.iload 6, 2) := dk_21 6 (dk_at dksX3_willBe_0 20 rfl rfl)
theorem dX3_willBe_22 : decode cX3_willBe 22 = .ok (.bipush 31, 2) := dk_16 31 (dk_at dksX3_willBe_0 22 rfl rfl)
theorem dX3_willBe_24 : decode cX3_willBe 24 = .ok (.if_icmp .gt 33, 3) := dk_163 0 33 (dk_at dksX3_willBe_1 0 rfl rfl)
theorem dX3_willBe_27 : decode cX3_willBe 27 = .ok (.iload 5, 2) := dk_21 5 (dk_at dksX3_willBe_1 3 rfl rfl)
theorem dX3_willBe_29 : decode cX3_willBe 29 = .ok (.ifCond .ne 15, 3) := dk_154 0 15 (dk_at dksX3_willBe_1 5 rfl rfl)
theorem dX3_willBe_32 : decode cX3_willBe 32 = .ok (.aload_n 0, 1) := dk_42 (dk_at dksX3_willBe_1 8 rfl rfl)
theorem dX3_willBe_33 : decode cX3_willBe 33 = .ok (.iload 4, 2) := dk_21 4 (dk_at dksX3_willBe_1 9 rfl rfl)
theorem dX3_willBe_35 : decode cX3_willBe 35 = .ok (.iload 6, 2) := dk_21 6 (dk_at dksX3_willBe_1 11 rfl rfl)
theorem dX3_willBe_37 : decode cX3_willBe 37 = .ok (.invokevirtual 83, 3) := dk_182 0 83 (dk_at dksX3_willBe_1 13 rfl rfl)
theorem dX3_willBe_40 : decode cX3_willBe 40 = .ok (.iload_n 1, 1) := dk_27 (dk_at dksX3_willBe_1 16 rfl rfl)
theorem dX3_willBe_41 : decode cX3_willBe 41 = .ok (.if_icmp .ne 7, 3) := dk_160 0 7 (dk_at dksX3_willBe_1 17 rfl rfl)
theorem dX3_willBe_44 : decode cX3_willBe 44 = .ok (.iconst 1, 1) := dk_4 (dk_at dksX3_willBe_1 20 rfl rfl)
theorem dX3_willBe_45 : decode cX3_willBe 45 = .ok (.goto 4, 3) := dk_167 0 4 (dk_at dksX3_willBe_1 21 rfl rfl)
theorem dX3_willBe_48 : decode cX3_willBe 48 = .ok (.iconst 0, 1) := dk_3 (dk_at dksX3_willBe_2 0 rfl rfl)
theorem dX3_willBe_49 : decode cX3_willBe 49 = .ok (.istore 5, 2) := dk_54 5 (dk_at dksX3_willBe_2 1 rfl rfl)
theorem dX3_willBe_51 : decode cX3_willBe 51 = .ok (.iinc 6 1, 3) := dk_132 6 1 (dk_at dksX3_willBe_2 3 rfl rfl)
theorem dX3_willBe_54 : decode cX3_willBe 54 = .ok (.goto (-34), 3) := dk_167 255 222 (dk_at dksX3_willBe_2 6 rfl rfl)
theorem dX3_willBe_57 : decode cX3_willBe 57 = .ok (.iload 5, 2) := dk_21 5 (dk_at dksX3_willBe_2 9 rfl rfl)
theorem dX3_willBe_59 : decode cX3_willBe 59 = .ok (.ifCond .eq 12, 3) := dk_153 0 12 (dk_at dksX3_willBe_2 11 rfl rfl)
theorem dX3_willBe_62 : decode cX3_willBe 62 = .ok (.iload 4, 2) := dk_21 4 (dk_at dksX3_willBe_2 14 rfl rfl)
theorem dX3_willBe_64 : decode cX3_willBe 64 = .ok (.iload_n 3, 1) := dk_29 (dk_at dksX3_willBe_2 16 rfl rfl)
theorem dX3_willBe_65 : decode cX3_willBe 65 = .ok (.if_icmp .eq 6, 3) := dk_159 0 6 (dk_at dksX3_willBe_2 17 rfl rfl)
theorem dX3_willBe_68 : decode cX3_willBe 68 = .ok (.iload 4, 2) := dk_21 4 (dk_at dksX3_willBe_2 20 rfl rfl)
theorem dX3_willBe_70 : decode cX3_willBe 70 = .ok (.ireturn, 1) := dk_172 (dk_at dksX3_willBe_2 22 rfl rfl)
theorem dX3_willBe_71 : decode cX3_willBe 71 = .ok (.iinc 4 1, 3) := dk_132 4 1 (dk_at dksX3_willBe_3 0 rfl rfl)
theorem dX3_willBe_74 : decode cX3_willBe 74 = .ok (.goto (-71), 3) := dk_167 255 185 (dk_at dksX3_willBe_3 3 rfl rfl)
theorem dX3_willBe_77 : decode cX3_willBe 77 = .ok (.iconst (-1), 1) := dk_2 (dk_at dksX3_willBe_3 6 rfl rfl)
theorem dX3_willBe_78 : decode cX3_willBe 78 = .ok (.ireturn, 1) := dk_172 (dk_at dksX3_willBe_3 7 rfl rfl)
abbrev cX3_cellOf : ByteArray := prog_12_method_14_code
def yX3_cellOf : MethodName := ⟨RX3, "cellOf", "(II)I"⟩
def dkwX3_cellOf_1 : List UInt8 := [42, 27, 16, 6, 28, 29, 164, 0, 7, 29, 167, 0, 4, 28, 96, 4, 100, 182, 0, 79, 172]
abbrev dktX3_cellOf_1 : List UInt8 := dkwX3_cellOf_1 ++ []
def dkwX3_cellOf_0 : List UInt8 := [42, 27, 6, 182, 0, 79, 62, 28, 153, 0, 7, 29, 154, 0, 12, 42, 27, 3, 182, 0, 79, 167, 0, 23]
abbrev dktX3_cellOf_0 : List UInt8 := dkwX3_cellOf_0 ++ dktX3_cellOf_1
theorem dksX3_cellOf_0 : cX3_cellOf.data.toList.drop 0 = dktX3_cellOf_0 := by decide +kernel
theorem dksX3_cellOf_1 : cX3_cellOf.data.toList.drop 24 = dktX3_cellOf_1 := dk_seg dksX3_cellOf_0 24 rfl rfl
theorem dX3_cellOf_0 : decode cX3_cellOf 0 = .ok (.aload_n 0, 1) := dk_42 (dk_at dksX3_cellOf_0 0 rfl rfl)
theorem dX3_cellOf_1 : decode cX3_cellOf 1 = .ok (.iload_n 1, 1) := dk_27 (dk_at dksX3_cellOf_0 1 rfl rfl)
theorem dX3_cellOf_2 : decode cX3_cellOf 2 = .ok (.iconst 3, 1) := dk_6 (dk_at dksX3_cellOf_0 2 rfl rfl)
theorem dX3_cellOf_3 : decode cX3_cellOf 3 = .ok (.invokevirtual 79, 3) := dk_182 0 79 (dk_at dksX3_cellOf_0 3 rfl rfl)
theorem dX3_cellOf_6 : decode cX3_cellOf 6 = .ok (.istore_n 3, 1) := dk_62 (dk_at dksX3_cellOf_0 6 rfl rfl)
theorem dX3_cellOf_7 : decode cX3_cellOf 7 = .ok (.iload_n 2, 1) := dk_28 (dk_at dksX3_cellOf_0 7 rfl rfl)
theorem dX3_cellOf_8 : decode cX3_cellOf 8 = .ok (.ifCond .eq 7, 3) := dk_153 0 7 (dk_at dksX3_cellOf_0 8 rfl rfl)
theorem dX3_cellOf_11 : decode cX3_cellOf 11 = .ok (.iload_n 3, 1) := dk_29 (dk_at dksX3_cellOf_0 11 rfl rfl)
theorem dX3_cellOf_12 : decode cX3_cellOf 12 = .ok (.ifCond .ne 12, 3) := dk_154 0 12 (dk_at dksX3_cellOf_0 12 rfl rfl)
theorem dX3_cellOf_15 : decode cX3_cellOf 15 = .ok (.aload_n 0, 1) := dk_42 (dk_at dksX3_cellOf_0 15 rfl rfl)
theorem dX3_cellOf_16 : decode cX3_cellOf 16 = .ok (.iload_n 1, 1) := dk_27 (dk_at dksX3_cellOf_0 16 rfl rfl)
theorem dX3_cellOf_17 : decode cX3_cellOf 17 = .ok (.iconst 0, 1) := dk_3 (dk_at dksX3_cellOf_0 17 rfl rfl)
theorem dX3_cellOf_18 : decode cX3_cellOf 18 = .ok (.invokevirtual 79, 3) := dk_182 0 79 (dk_at dksX3_cellOf_0 18 rfl rfl)
theorem dX3_cellOf_21 : decode cX3_cellOf 21 = .ok (.goto 23, 3) := dk_167 0 23 (dk_at dksX3_cellOf_0 21 rfl rfl)
theorem dX3_cellOf_24 : decode cX3_cellOf 24 = .ok (.aload_n 0, 1) := dk_42 (dk_at dksX3_cellOf_1 0 rfl rfl)
theorem dX3_cellOf_25 : decode cX3_cellOf 25 = .ok (.iload_n 1, 1) := dk_27 (dk_at dksX3_cellOf_1 1 rfl rfl)
theorem dX3_cellOf_26 : decode cX3_cellOf 26 = .ok (.bipush 6, 2) := dk_16 6 (dk_at dksX3_cellOf_1 2 rfl rfl)
theorem dX3_cellOf_28 : decode cX3_cellOf 28 = .ok (.iload_n 2, 1) := dk_28 (dk_at dksX3_cellOf_1 4 rfl rfl)
theorem dX3_cellOf_29 : decode cX3_cellOf 29 = .ok (.iload_n 3, 1) := dk_29 (dk_at dksX3_cellOf_1 5 rfl rfl)
theorem dX3_cellOf_30 : decode cX3_cellOf 30 = .ok (.if_icmp .le 7, 3) := dk_164 0 7 (dk_at dksX3_cellOf_1 6 rfl rfl)
theorem dX3_cellOf_33 : decode cX3_cellOf 33 = .ok (.iload_n 3, 1) := dk_29 (dk_at dksX3_cellOf_1 9 rfl rfl)
theorem dX3_cellOf_34 : decode cX3_cellOf 34 = .ok (.goto 4, 3) := dk_167 0 4 (dk_at dksX3_cellOf_1 10 rfl rfl)
theorem dX3_cellOf_37 : decode cX3_cellOf 37 = .ok (.iload_n 2, 1) := dk_28 (dk_at dksX3_cellOf_1 13 rfl rfl)
theorem dX3_cellOf_38 : decode cX3_cellOf 38 = .ok (.iadd, 1) := dk_96 (dk_at dksX3_cellOf_1 14 rfl rfl)
theorem dX3_cellOf_39 : decode cX3_cellOf 39 = .ok (.iconst 1, 1) := dk_4 (dk_at dksX3_cellOf_1 15 rfl rfl)
theorem dX3_cellOf_40 : decode cX3_cellOf 40 = .ok (.isub, 1) := dk_100 (dk_at dksX3_cellOf_1 16 rfl rfl)
theorem dX3_cellOf_41 : decode cX3_cellOf 41 = .ok (.invokevirtual 79, 3) := dk_182 0 79 (dk_at dksX3_cellOf_1 17 rfl rfl)
theorem dX3_cellOf_44 : decode cX3_cellOf 44 = .ok (.ireturn, 1) := dk_172 (dk_at dksX3_cellOf_1 20 rfl rfl)
abbrev cX3_of : ByteArray := prog_12_method_13_code
def yX3_of : MethodName := ⟨RX3, "of", "(II)I"⟩
def dkwX3_of_0 : List UInt8 := [42, 180, 0, 9, 27, 184, 0, 75, 28, 96, 46, 172]
abbrev dktX3_of_0 : List UInt8 := dkwX3_of_0 ++ []
theorem dksX3_of_0 : cX3_of.data.toList.drop 0 = dktX3_of_0 := by decide +kernel
theorem dX3_of_0 : decode cX3_of 0 = .ok (.aload_n 0, 1) := dk_42 (dk_at dksX3_of_0 0 rfl rfl)
theorem dX3_of_1 : decode cX3_of 1 = .ok (.getfield 9, 3) := dk_180 0 9 (dk_at dksX3_of_0 1 rfl rfl)
theorem dX3_of_4 : decode cX3_of 4 = .ok (.iload_n 1, 1) := dk_27 (dk_at dksX3_of_0 4 rfl rfl)
theorem dX3_of_5 : decode cX3_of 5 = .ok (.invokestatic 75, 3) := dk_184 0 75 (dk_at dksX3_of_0 5 rfl rfl)
theorem dX3_of_8 : decode cX3_of 8 = .ok (.iload_n 2, 1) := dk_28 (dk_at dksX3_of_0 8 rfl rfl)
theorem dX3_of_9 : decode cX3_of 9 = .ok (.iadd, 1) := dk_96 (dk_at dksX3_of_0 9 rfl rfl)
theorem dX3_of_10 : decode cX3_of 10 = .ok (.iaload, 1) := dk_46 (dk_at dksX3_of_0 10 rfl rfl)
theorem dX3_of_11 : decode cX3_of 11 = .ok (.ireturn, 1) := dk_172 (dk_at dksX3_of_0 11 rfl rfl)
abbrev cX3_at : ByteArray := prog_12_method_12_code
def yX3_at : MethodName := ⟨RX3, "at", "(I)I"⟩
def dkwX3_at_0 : List UInt8 := [16, 104, 16, 36, 26, 104, 96, 172]
abbrev dktX3_at_0 : List UInt8 := dkwX3_at_0 ++ []
theorem dksX3_at_0 : cX3_at.data.toList.drop 0 = dktX3_at_0 := by decide +kernel
theorem dX3_at_0 : decode cX3_at 0 = .ok (.bipush 104, 2) := dk_16 104 (dk_at dksX3_at_0 0 rfl rfl)
theorem dX3_at_2 : decode cX3_at 2 = .ok (.bipush 36, 2) := dk_16 36 (dk_at dksX3_at_0 2 rfl rfl)
theorem dX3_at_4 : decode cX3_at 4 = .ok (.iload_n 0, 1) := dk_26 (dk_at dksX3_at_0 4 rfl rfl)
theorem dX3_at_5 : decode cX3_at 5 = .ok (.imul, 1) := dk_104 (dk_at dksX3_at_0 5 rfl rfl)
theorem dX3_at_6 : decode cX3_at 6 = .ok (.iadd, 1) := dk_96 (dk_at dksX3_at_0 6 rfl rfl)
theorem dX3_at_7 : decode cX3_at 7 = .ok (.ireturn, 1) := dk_172 (dk_at dksX3_at_0 7 rfl rfl)
abbrev cX3_change : ByteArray := prog_12_method_4_code
def yX3_change : MethodName := ⟨RX3, "change", "()V"⟩
def dkwX3_change_3 : List UInt8 := [177]
abbrev dktX3_change_3 : List UInt8 := dkwX3_change_3 ++ []
def dkwX3_change_2 : List UInt8 := [17, 1, 144, 42, 180, 0, 52, 104, 17, 1, 144, 184, 0, 55, 42, 89, 180, 0, 52, 4, 96, 181, 0, 52]
abbrev dktX3_change_2 : List UInt8 := dkwX3_change_2 ++ dktX3_change_3
def dkwX3_change_1 : List UInt8 := [184, 0, 55, 42, 89, 180, 0, 52, 4, 100, 181, 0, 52, 42, 180, 0, 9, 3, 42, 180, 0, 16]
abbrev dktX3_change_1 : List UInt8 := dkwX3_change_1 ++ dktX3_change_2
def dkwX3_change_0 : List UInt8 := [42, 180, 0, 52, 16, 8, 160, 0, 31, 42, 180, 0, 16, 17, 1, 144, 42, 180, 0, 16, 3, 17, 10, 240]
abbrev dktX3_change_0 : List UInt8 := dkwX3_change_0 ++ dktX3_change_1
theorem dksX3_change_0 : cX3_change.data.toList.drop 0 = dktX3_change_0 := by decide +kernel
theorem dksX3_change_1 : cX3_change.data.toList.drop 24 = dktX3_change_1 := dk_seg dksX3_change_0 24 rfl rfl
theorem dksX3_change_2 : cX3_change.data.toList.drop 46 = dktX3_change_2 := dk_seg dksX3_change_1 22 rfl rfl
theorem dksX3_change_3 : cX3_change.data.toList.drop 70 = dktX3_change_3 := dk_seg dksX3_change_2 24 rfl rfl
theorem dX3_change_0 : decode cX3_change 0 = .ok (.aload_n 0, 1) := dk_42 (dk_at dksX3_change_0 0 rfl rfl)
theorem dX3_change_1 : decode cX3_change 1 = .ok (.getfield 52, 3) := dk_180 0 52 (dk_at dksX3_change_0 1 rfl rfl)
theorem dX3_change_4 : decode cX3_change 4 = .ok (.bipush 8, 2) := dk_16 8 (dk_at dksX3_change_0 4 rfl rfl)
theorem dX3_change_6 : decode cX3_change 6 = .ok (.if_icmp .ne 31, 3) := dk_160 0 31 (dk_at dksX3_change_0 6 rfl rfl)
theorem dX3_change_9 : decode cX3_change 9 = .ok (.aload_n 0, 1) := dk_42 (dk_at dksX3_change_0 9 rfl rfl)
theorem dX3_change_10 : decode cX3_change 10 = .ok (.getfield 16, 3) := dk_180 0 16 (dk_at dksX3_change_0 10 rfl rfl)
theorem dX3_change_13 : decode cX3_change 13 = .ok (.sipush 400, 3) := dk_17 1 144 (dk_at dksX3_change_0 13 rfl rfl)
theorem dX3_change_16 : decode cX3_change 16 = .ok (.aload_n 0, 1) := dk_42 (dk_at dksX3_change_0 16 rfl rfl)
theorem dX3_change_17 : decode cX3_change 17 = .ok (.getfield 16, 3) := dk_180 0 16 (dk_at dksX3_change_0 17 rfl rfl)
theorem dX3_change_20 : decode cX3_change 20 = .ok (.iconst 0, 1) := dk_3 (dk_at dksX3_change_0 20 rfl rfl)
theorem dX3_change_21 : decode cX3_change 21 = .ok (.sipush 2800, 3) := dk_17 10 240 (dk_at dksX3_change_0 21 rfl rfl)
theorem dX3_change_24 : decode cX3_change 24 = .ok (.invokestatic 55, 3) := dk_184 0 55 (dk_at dksX3_change_1 0 rfl rfl)
theorem dX3_change_27 : decode cX3_change 27 = .ok (.aload_n 0, 1) := dk_42 (dk_at dksX3_change_1 3 rfl rfl)
theorem dX3_change_28 : decode cX3_change 28 = .ok (.dup, 1) := dk_89 (dk_at dksX3_change_1 4 rfl rfl)
theorem dX3_change_29 : decode cX3_change 29 = .ok (.getfield 52, 3) := dk_180 0 52 (dk_at dksX3_change_1 5 rfl rfl)
theorem dX3_change_32 : decode cX3_change 32 = .ok (.iconst 1, 1) := dk_4 (dk_at dksX3_change_1 8 rfl rfl)
theorem dX3_change_33 : decode cX3_change 33 = .ok (.isub, 1) := dk_100 (dk_at dksX3_change_1 9 rfl rfl)
theorem dX3_change_34 : decode cX3_change 34 = .ok (.putfield 52, 3) := dk_181 0 52 (dk_at dksX3_change_1 10 rfl rfl)
theorem dX3_change_37 : decode cX3_change 37 = .ok (.aload_n 0, 1) := dk_42 (dk_at dksX3_change_1 13 rfl rfl)
theorem dX3_change_38 : decode cX3_change 38 = .ok (.getfield 9, 3) := dk_180 0 9 (dk_at dksX3_change_1 14 rfl rfl)
theorem dX3_change_41 : decode cX3_change 41 = .ok (.iconst 0, 1) := dk_3 (dk_at dksX3_change_1 17 rfl rfl)
theorem dX3_change_42 : decode cX3_change 42 = .ok (.aload_n 0, 1) := dk_42 (dk_at dksX3_change_1 18 rfl rfl)
theorem dX3_change_43 : decode cX3_change 43 = .ok (.getfield 16, 3) := dk_180 0 16 (dk_at dksX3_change_1 19 rfl rfl)
theorem dX3_change_46 : decode cX3_change 46 = .ok (.sipush 400, 3) := dk_17 1 144 (dk_at dksX3_change_2 0 rfl rfl)
theorem dX3_change_49 : decode cX3_change 49 = .ok (.aload_n 0, 1) := dk_42 (dk_at dksX3_change_2 3 rfl rfl)
theorem dX3_change_50 : decode cX3_change 50 = .ok (.getfield 52, 3) := dk_180 0 52 (dk_at dksX3_change_2 4 rfl rfl)
theorem dX3_change_53 : decode cX3_change 53 = .ok (.imul, 1) := dk_104 (dk_at dksX3_change_2 7 rfl rfl)
theorem dX3_change_54 : decode cX3_change 54 = .ok (.sipush 400, 3) := dk_17 1 144 (dk_at dksX3_change_2 8 rfl rfl)
theorem dX3_change_57 : decode cX3_change 57 = .ok (.invokestatic 55, 3) := dk_184 0 55 (dk_at dksX3_change_2 11 rfl rfl)
theorem dX3_change_60 : decode cX3_change 60 = .ok (.aload_n 0, 1) := dk_42 (dk_at dksX3_change_2 14 rfl rfl)
theorem dX3_change_61 : decode cX3_change 61 = .ok (.dup, 1) := dk_89 (dk_at dksX3_change_2 15 rfl rfl)
theorem dX3_change_62 : decode cX3_change 62 = .ok (.getfield 52, 3) := dk_180 0 52 (dk_at dksX3_change_2 16 rfl rfl)
theorem dX3_change_65 : decode cX3_change 65 = .ok (.iconst 1, 1) := dk_4 (dk_at dksX3_change_2 19 rfl rfl)
theorem dX3_change_66 : decode cX3_change 66 = .ok (.iadd, 1) := dk_96 (dk_at dksX3_change_2 20 rfl rfl)
theorem dX3_change_67 : decode cX3_change 67 = .ok (.putfield 52, 3) := dk_181 0 52 (dk_at dksX3_change_2 21 rfl rfl)
theorem dX3_change_70 : decode cX3_change 70 = .ok (.return_, 1) := dk_177 (dk_at dksX3_change_3 0 rfl rfl)
abbrev cX3_takeOff : ByteArray := prog_12_method_17_code
def yX3_takeOff : MethodName := ⟨RX3, "takeOff", "(I)I"⟩
def dkwX3_takeOff_6 : List UInt8 := [180, 0, 9, 6, 46, 172]
abbrev dktX3_takeOff_6 : List UInt8 := dkwX3_takeOff_6 ++ []
def dkwX3_takeOff_5 : List UInt8 := [184, 0, 106, 6, 96, 46, 27, 164, 0, 7, 4, 167, 0, 4, 3, 100, 79, 132, 2, 1, 167, 255, 209, 42]
abbrev dktX3_takeOff_5 : List UInt8 := dkwX3_takeOff_5 ++ dktX3_takeOff_6
def dkwX3_takeOff_4 : List UInt8 := [7, 46, 162, 0, 43, 42, 180, 0, 9, 28, 184, 0, 106, 6, 96, 92, 46, 42, 180, 0, 9, 28]
abbrev dktX3_takeOff_4 : List UInt8 := dkwX3_takeOff_4 ++ dktX3_takeOff_5
def dkwX3_takeOff_3 : List UInt8 := [184, 0, 75, 16, 36, 42, 180, 0, 9, 6, 46, 27, 100, 104, 184, 0, 55, 3, 61, 28, 42, 180, 0, 9]
abbrev dktX3_takeOff_3 : List UInt8 := dkwX3_takeOff_3 ++ dktX3_takeOff_4
def dkwX3_takeOff_2 : List UInt8 := [180, 0, 9, 6, 92, 46, 4, 100, 79, 42, 180, 0, 9, 27, 4, 96, 184, 0, 75, 42, 180, 0, 9, 27]
abbrev dktX3_takeOff_2 : List UInt8 := dkwX3_takeOff_2 ++ dktX3_takeOff_3
def dkwX3_takeOff_1 : List UInt8 := [182, 0, 79, 155, 0, 16, 42, 16, 7, 42, 27, 5, 182, 0, 79, 182, 0, 90, 172, 42, 182, 0, 100, 42]
abbrev dktX3_takeOff_1 : List UInt8 := dkwX3_takeOff_1 ++ dktX3_takeOff_2
def dkwX3_takeOff_0 : List UInt8 := [42, 3, 181, 0, 49, 42, 27, 182, 0, 103, 154, 0, 10, 42, 4, 3, 182, 0, 90, 172, 42, 27, 5]
abbrev dktX3_takeOff_0 : List UInt8 := dkwX3_takeOff_0 ++ dktX3_takeOff_1
theorem dksX3_takeOff_0 : cX3_takeOff.data.toList.drop 0 = dktX3_takeOff_0 := by decide +kernel
theorem dksX3_takeOff_1 : cX3_takeOff.data.toList.drop 23 = dktX3_takeOff_1 := dk_seg dksX3_takeOff_0 23 rfl rfl
theorem dksX3_takeOff_2 : cX3_takeOff.data.toList.drop 47 = dktX3_takeOff_2 := dk_seg dksX3_takeOff_1 24 rfl rfl
theorem dksX3_takeOff_3 : cX3_takeOff.data.toList.drop 71 = dktX3_takeOff_3 := dk_seg dksX3_takeOff_2 24 rfl rfl
theorem dksX3_takeOff_4 : cX3_takeOff.data.toList.drop 95 = dktX3_takeOff_4 := dk_seg dksX3_takeOff_3 24 rfl rfl
theorem dksX3_takeOff_5 : cX3_takeOff.data.toList.drop 117 = dktX3_takeOff_5 := dk_seg dksX3_takeOff_4 22 rfl rfl
theorem dksX3_takeOff_6 : cX3_takeOff.data.toList.drop 141 = dktX3_takeOff_6 := dk_seg dksX3_takeOff_5 24 rfl rfl
theorem dX3_takeOff_0 : decode cX3_takeOff 0 = .ok (.aload_n 0, 1) := dk_42 (dk_at dksX3_takeOff_0 0 rfl rfl)
theorem dX3_takeOff_1 : decode cX3_takeOff 1 = .ok (.iconst 0, 1) := dk_3 (dk_at dksX3_takeOff_0 1 rfl rfl)
theorem dX3_takeOff_2 : decode cX3_takeOff 2 = .ok (.putfield 49, 3) := dk_181 0 49 (dk_at dksX3_takeOff_0 2 rfl rfl)
theorem dX3_takeOff_5 : decode cX3_takeOff 5 = .ok (.aload_n 0, 1) := dk_42 (dk_at dksX3_takeOff_0 5 rfl rfl)
theorem dX3_takeOff_6 : decode cX3_takeOff 6 = .ok (.iload_n 1, 1) := dk_27 (dk_at dksX3_takeOff_0 6 rfl rfl)
theorem dX3_takeOff_7 : decode cX3_takeOff 7 = .ok (.invokevirtual 103, 3) := dk_182 0 103 (dk_at dksX3_takeOff_0 7 rfl rfl)
theorem dX3_takeOff_10 : decode cX3_takeOff 10 = .ok (.ifCond .ne 10, 3) := dk_154 0 10 (dk_at dksX3_takeOff_0 10 rfl rfl)
theorem dX3_takeOff_13 : decode cX3_takeOff 13 = .ok (.aload_n 0, 1) := dk_42 (dk_at dksX3_takeOff_0 13 rfl rfl)
theorem dX3_takeOff_14 : decode cX3_takeOff 14 = .ok (.iconst 1, 1) := dk_4 (dk_at dksX3_takeOff_0 14 rfl rfl)
theorem dX3_takeOff_15 : decode cX3_takeOff 15 = .ok (.iconst 0, 1) := dk_3 (dk_at dksX3_takeOff_0 15 rfl rfl)
theorem dX3_takeOff_16 : decode cX3_takeOff 16 = .ok (.invokevirtual 90, 3) := dk_182 0 90 (dk_at dksX3_takeOff_0 16 rfl rfl)
theorem dX3_takeOff_19 : decode cX3_takeOff 19 = .ok (.ireturn, 1) := dk_172 (dk_at dksX3_takeOff_0 19 rfl rfl)
theorem dX3_takeOff_20 : decode cX3_takeOff 20 = .ok (.aload_n 0, 1) := dk_42 (dk_at dksX3_takeOff_0 20 rfl rfl)
theorem dX3_takeOff_21 : decode cX3_takeOff 21 = .ok (.iload_n 1, 1) := dk_27 (dk_at dksX3_takeOff_0 21 rfl rfl)
theorem dX3_takeOff_22 : decode cX3_takeOff 22 = .ok (.iconst 2, 1) := dk_5 (dk_at dksX3_takeOff_0 22 rfl rfl)
theorem dX3_takeOff_23 : decode cX3_takeOff 23 = .ok (.invokevirtual 79, 3) := dk_182 0 79 (dk_at dksX3_takeOff_1 0 rfl rfl)
theorem dX3_takeOff_26 : decode cX3_takeOff 26 = .ok (.ifCond .lt 16, 3) := dk_155 0 16 (dk_at dksX3_takeOff_1 3 rfl rfl)
theorem dX3_takeOff_29 : decode cX3_takeOff 29 = .ok (.aload_n 0, 1) := dk_42 (dk_at dksX3_takeOff_1 6 rfl rfl)
theorem dX3_takeOff_30 : decode cX3_takeOff 30 = .ok (.bipush 7, 2) := dk_16 7 (dk_at dksX3_takeOff_1 7 rfl rfl)
theorem dX3_takeOff_32 : decode cX3_takeOff 32 = .ok (.aload_n 0, 1) := dk_42 (dk_at dksX3_takeOff_1 9 rfl rfl)
theorem dX3_takeOff_33 : decode cX3_takeOff 33 = .ok (.iload_n 1, 1) := dk_27 (dk_at dksX3_takeOff_1 10 rfl rfl)
theorem dX3_takeOff_34 : decode cX3_takeOff 34 = .ok (.iconst 2, 1) := dk_5 (dk_at dksX3_takeOff_1 11 rfl rfl)
theorem dX3_takeOff_35 : decode cX3_takeOff 35 = .ok (.invokevirtual 79, 3) := dk_182 0 79 (dk_at dksX3_takeOff_1 12 rfl rfl)
theorem dX3_takeOff_38 : decode cX3_takeOff 38 = .ok (.invokevirtual 90, 3) := dk_182 0 90 (dk_at dksX3_takeOff_1 15 rfl rfl)
theorem dX3_takeOff_41 : decode cX3_takeOff 41 = .ok (.ireturn, 1) := dk_172 (dk_at dksX3_takeOff_1 18 rfl rfl)
theorem dX3_takeOff_42 : decode cX3_takeOff 42 = .ok (.aload_n 0, 1) := dk_42 (dk_at dksX3_takeOff_1 19 rfl rfl)
theorem dX3_takeOff_43 : decode cX3_takeOff 43 = .ok (.invokevirtual 100, 3) := dk_182 0 100 (dk_at dksX3_takeOff_1 20 rfl rfl)
theorem dX3_takeOff_46 : decode cX3_takeOff 46 = .ok (.aload_n 0, 1) := dk_42 (dk_at dksX3_takeOff_1 23 rfl rfl)
theorem dX3_takeOff_47 : decode cX3_takeOff 47 = .ok (.getfield 9, 3) := dk_180 0 9 (dk_at dksX3_takeOff_2 0 rfl rfl)
theorem dX3_takeOff_50 : decode cX3_takeOff 50 = .ok (.iconst 3, 1) := dk_6 (dk_at dksX3_takeOff_2 3 rfl rfl)
theorem dX3_takeOff_51 : decode cX3_takeOff 51 = .ok (.dup2, 1) := dk_92 (dk_at dksX3_takeOff_2 4 rfl rfl)
theorem dX3_takeOff_52 : decode cX3_takeOff 52 = .ok (.iaload, 1) := dk_46 (dk_at dksX3_takeOff_2 5 rfl rfl)
theorem dX3_takeOff_53 : decode cX3_takeOff 53 = .ok (.iconst 1, 1) := dk_4 (dk_at dksX3_takeOff_2 6 rfl rfl)
theorem dX3_takeOff_54 : decode cX3_takeOff 54 = .ok (.isub, 1) := dk_100 (dk_at dksX3_takeOff_2 7 rfl rfl)
theorem dX3_takeOff_55 : decode cX3_takeOff 55 = .ok (.iastore, 1) := dk_79 (dk_at dksX3_takeOff_2 8 rfl rfl)
theorem dX3_takeOff_56 : decode cX3_takeOff 56 = .ok (.aload_n 0, 1) := dk_42 (dk_at dksX3_takeOff_2 9 rfl rfl)
theorem dX3_takeOff_57 : decode cX3_takeOff 57 = .ok (.getfield 9, 3) := dk_180 0 9 (dk_at dksX3_takeOff_2 10 rfl rfl)
theorem dX3_takeOff_60 : decode cX3_takeOff 60 = .ok (.iload_n 1, 1) := dk_27 (dk_at dksX3_takeOff_2 13 rfl rfl)
theorem dX3_takeOff_61 : decode cX3_takeOff 61 = .ok (.iconst 1, 1) := dk_4 (dk_at dksX3_takeOff_2 14 rfl rfl)
theorem dX3_takeOff_62 : decode cX3_takeOff 62 = .ok (.iadd, 1) := dk_96 (dk_at dksX3_takeOff_2 15 rfl rfl)
theorem dX3_takeOff_63 : decode cX3_takeOff 63 = .ok (.invokestatic 75, 3) := dk_184 0 75 (dk_at dksX3_takeOff_2 16 rfl rfl)
theorem dX3_takeOff_66 : decode cX3_takeOff 66 = .ok (.aload_n 0, 1) := dk_42 (dk_at dksX3_takeOff_2 19 rfl rfl)
theorem dX3_takeOff_67 : decode cX3_takeOff 67 = .ok (.getfield 9, 3) := dk_180 0 9 (dk_at dksX3_takeOff_2 20 rfl rfl)
theorem dX3_takeOff_70 : decode cX3_takeOff 70 = .ok (.iload_n 1, 1) := dk_27 (dk_at dksX3_takeOff_2 23 rfl rfl)
theorem dX3_takeOff_71 : decode cX3_takeOff 71 = .ok (.invokestatic 75, 3) := dk_184 0 75 (dk_at dksX3_takeOff_3 0 rfl rfl)
theorem dX3_takeOff_74 : decode cX3_takeOff 74 = .ok (.bipush 36, 2) := dk_16 36 (dk_at dksX3_takeOff_3 3 rfl rfl)
theorem dX3_takeOff_76 : decode cX3_takeOff 76 = .ok (.aload_n 0, 1) := dk_42 (dk_at dksX3_takeOff_3 5 rfl rfl)
theorem dX3_takeOff_77 : decode cX3_takeOff 77 = .ok (.getfield 9, 3) := dk_180 0 9 (dk_at dksX3_takeOff_3 6 rfl rfl)
theorem dX3_takeOff_80 : decode cX3_takeOff 80 = .ok (.iconst 3, 1) := dk_6 (dk_at dksX3_takeOff_3 9 rfl rfl)
theorem dX3_takeOff_81 : decode cX3_takeOff 81 = .ok (.iaload, 1) := dk_46 (dk_at dksX3_takeOff_3 10 rfl rfl)
theorem dX3_takeOff_82 : decode cX3_takeOff 82 = .ok (.iload_n 1, 1) := dk_27 (dk_at dksX3_takeOff_3 11 rfl rfl)
theorem dX3_takeOff_83 : decode cX3_takeOff 83 = .ok (.isub, 1) := dk_100 (dk_at dksX3_takeOff_3 12 rfl rfl)
theorem dX3_takeOff_84 : decode cX3_takeOff 84 = .ok (.imul, 1) := dk_104 (dk_at dksX3_takeOff_3 13 rfl rfl)
theorem dX3_takeOff_85 : decode cX3_takeOff 85 = .ok (.invokestatic 55, 3) := dk_184 0 55 (dk_at dksX3_takeOff_3 14 rfl rfl)
theorem dX3_takeOff_88 : decode cX3_takeOff 88 = .ok (.iconst 0, 1) := dk_3 (dk_at dksX3_takeOff_3 17 rfl rfl)
theorem dX3_takeOff_89 : decode cX3_takeOff 89 = .ok (.istore_n 2, 1) := dk_61 (dk_at dksX3_takeOff_3 18 rfl rfl)
theorem dX3_takeOff_90 : decode cX3_takeOff 90 = .ok (.iload_n 2, 1) := dk_28 (dk_at dksX3_takeOff_3 19 rfl rfl)
theorem dX3_takeOff_91 : decode cX3_takeOff 91 = .ok (.aload_n 0, 1) := dk_42 (dk_at dksX3_takeOff_3 20 rfl rfl)
theorem dX3_takeOff_92 : decode cX3_takeOff 92 = .ok (.getfield 9, 3) := dk_180 0 9 (dk_at dksX3_takeOff_3 21 rfl rfl)
theorem dX3_takeOff_95 : decode cX3_takeOff 95 = .ok (.iconst 4, 1) := dk_7 (dk_at dksX3_takeOff_4 0 rfl rfl)
theorem dX3_takeOff_96 : decode cX3_takeOff 96 = .ok (.iaload, 1) := dk_46 (dk_at dksX3_takeOff_4 1 rfl rfl)
theorem dX3_takeOff_97 : decode cX3_takeOff 97 = .ok (.if_icmp .ge 43, 3) := dk_162 0 43 (dk_at dksX3_takeOff_4 2 rfl rfl)
theorem dX3_takeOff_100 : decode cX3_takeOff 100 = .ok (.aload_n 0, 1) := dk_42 (dk_at dksX3_takeOff_4 5 rfl rfl)
theorem dX3_takeOff_101 : decode cX3_takeOff 101 = .ok (.getfield 9, 3) := dk_180 0 9 (dk_at dksX3_takeOff_4 6 rfl rfl)
theorem dX3_takeOff_104 : decode cX3_takeOff 104 = .ok (.iload_n 2, 1) := dk_28 (dk_at dksX3_takeOff_4 9 rfl rfl)
theorem dX3_takeOff_105 : decode cX3_takeOff 105 = .ok (.invokestatic 106, 3) := dk_184 0 106 (dk_at dksX3_takeOff_4 10 rfl rfl)
theorem dX3_takeOff_108 : decode cX3_takeOff 108 = .ok (.iconst 3, 1) := dk_6 (dk_at dksX3_takeOff_4 13 rfl rfl)
theorem dX3_takeOff_109 : decode cX3_takeOff 109 = .ok (.iadd, 1) := dk_96 (dk_at dksX3_takeOff_4 14 rfl rfl)
theorem dX3_takeOff_110 : decode cX3_takeOff 110 = .ok (.dup2, 1) := dk_92 (dk_at dksX3_takeOff_4 15 rfl rfl)
theorem dX3_takeOff_111 : decode cX3_takeOff 111 = .ok (.iaload, 1) := dk_46 (dk_at dksX3_takeOff_4 16 rfl rfl)
theorem dX3_takeOff_112 : decode cX3_takeOff 112 = .ok (.aload_n 0, 1) := dk_42 (dk_at dksX3_takeOff_4 17 rfl rfl)
theorem dX3_takeOff_113 : decode cX3_takeOff 113 = .ok (.getfield 9, 3) := dk_180 0 9 (dk_at dksX3_takeOff_4 18 rfl rfl)
theorem dX3_takeOff_116 : decode cX3_takeOff 116 = .ok (.iload_n 2, 1) := dk_28 (dk_at dksX3_takeOff_4 21 rfl rfl)
theorem dX3_takeOff_117 : decode cX3_takeOff 117 = .ok (.invokestatic 106, 3) := dk_184 0 106 (dk_at dksX3_takeOff_5 0 rfl rfl)
theorem dX3_takeOff_120 : decode cX3_takeOff 120 = .ok (.iconst 3, 1) := dk_6 (dk_at dksX3_takeOff_5 3 rfl rfl)
theorem dX3_takeOff_121 : decode cX3_takeOff 121 = .ok (.iadd, 1) := dk_96 (dk_at dksX3_takeOff_5 4 rfl rfl)
theorem dX3_takeOff_122 : decode cX3_takeOff 122 = .ok (.iaload, 1) := dk_46 (dk_at dksX3_takeOff_5 5 rfl rfl)
theorem dX3_takeOff_123 : decode cX3_takeOff 123 = .ok (.iload_n 1, 1) := dk_27 (dk_at dksX3_takeOff_5 6 rfl rfl)
theorem dX3_takeOff_124 : decode cX3_takeOff 124 = .ok (.if_icmp .le 7, 3) := dk_164 0 7 (dk_at dksX3_takeOff_5 7 rfl rfl)
theorem dX3_takeOff_127 : decode cX3_takeOff 127 = .ok (.iconst 1, 1) := dk_4 (dk_at dksX3_takeOff_5 10 rfl rfl)
theorem dX3_takeOff_128 : decode cX3_takeOff 128 = .ok (.goto 4, 3) := dk_167 0 4 (dk_at dksX3_takeOff_5 11 rfl rfl)
theorem dX3_takeOff_131 : decode cX3_takeOff 131 = .ok (.iconst 0, 1) := dk_3 (dk_at dksX3_takeOff_5 14 rfl rfl)
theorem dX3_takeOff_132 : decode cX3_takeOff 132 = .ok (.isub, 1) := dk_100 (dk_at dksX3_takeOff_5 15 rfl rfl)
theorem dX3_takeOff_133 : decode cX3_takeOff 133 = .ok (.iastore, 1) := dk_79 (dk_at dksX3_takeOff_5 16 rfl rfl)
theorem dX3_takeOff_134 : decode cX3_takeOff 134 = .ok (.iinc 2 1, 3) := dk_132 2 1 (dk_at dksX3_takeOff_5 17 rfl rfl)
theorem dX3_takeOff_137 : decode cX3_takeOff 137 = .ok (.goto (-47), 3) := dk_167 255 209 (dk_at dksX3_takeOff_5 20 rfl rfl)
theorem dX3_takeOff_140 : decode cX3_takeOff 140 = .ok (.aload_n 0, 1) := dk_42 (dk_at dksX3_takeOff_5 23 rfl rfl)
theorem dX3_takeOff_141 : decode cX3_takeOff 141 = .ok (.getfield 9, 3) := dk_180 0 9 (dk_at dksX3_takeOff_6 0 rfl rfl)
theorem dX3_takeOff_144 : decode cX3_takeOff 144 = .ok (.iconst 3, 1) := dk_6 (dk_at dksX3_takeOff_6 3 rfl rfl)
theorem dX3_takeOff_145 : decode cX3_takeOff 145 = .ok (.iaload, 1) := dk_46 (dk_at dksX3_takeOff_6 4 rfl rfl)
theorem dX3_takeOff_146 : decode cX3_takeOff 146 = .ok (.ireturn, 1) := dk_172 (dk_at dksX3_takeOff_6 5 rfl rfl)
abbrev cX3_isRobot : ByteArray := prog_12_method_11_code
def yX3_isRobot : MethodName := ⟨RX3, "isRobot", "(I)Z"⟩
def dkwX3_isRobot_0 : List UInt8 := [27, 3, 42, 180, 0, 9, 6, 46, 4, 100, 184, 0, 71, 172]
abbrev dktX3_isRobot_0 : List UInt8 := dkwX3_isRobot_0 ++ []
theorem dksX3_isRobot_0 : cX3_isRobot.data.toList.drop 0 = dktX3_isRobot_0 := by decide +kernel
theorem dX3_isRobot_0 : decode cX3_isRobot 0 = .ok (.iload_n 1, 1) := dk_27 (dk_at dksX3_isRobot_0 0 rfl rfl)
theorem dX3_isRobot_1 : decode cX3_isRobot 1 = .ok (.iconst 0, 1) := dk_3 (dk_at dksX3_isRobot_0 1 rfl rfl)
theorem dX3_isRobot_2 : decode cX3_isRobot 2 = .ok (.aload_n 0, 1) := dk_42 (dk_at dksX3_isRobot_0 2 rfl rfl)
theorem dX3_isRobot_3 : decode cX3_isRobot 3 = .ok (.getfield 9, 3) := dk_180 0 9 (dk_at dksX3_isRobot_0 3 rfl rfl)
theorem dX3_isRobot_6 : decode cX3_isRobot 6 = .ok (.iconst 3, 1) := dk_6 (dk_at dksX3_isRobot_0 6 rfl rfl)
theorem dX3_isRobot_7 : decode cX3_isRobot 7 = .ok (.iaload, 1) := dk_46 (dk_at dksX3_isRobot_0 7 rfl rfl)
theorem dX3_isRobot_8 : decode cX3_isRobot 8 = .ok (.iconst 1, 1) := dk_4 (dk_at dksX3_isRobot_0 8 rfl rfl)
theorem dX3_isRobot_9 : decode cX3_isRobot 9 = .ok (.isub, 1) := dk_100 (dk_at dksX3_isRobot_0 9 rfl rfl)
theorem dX3_isRobot_10 : decode cX3_isRobot 10 = .ok (.invokestatic 71, 3) := dk_184 0 71 (dk_at dksX3_isRobot_0 10 rfl rfl)
theorem dX3_isRobot_13 : decode cX3_isRobot 13 = .ok (.ireturn, 1) := dk_172 (dk_at dksX3_isRobot_0 13 rfl rfl)
abbrev cX3_order : ByteArray := prog_12_method_19_code
def yX3_order : MethodName := ⟨RX3, "order", "(I)I"⟩
def dkwX3_order_0 : List UInt8 := [17, 1, 64, 16, 8, 26, 104, 96, 172]
abbrev dktX3_order_0 : List UInt8 := dkwX3_order_0 ++ []
theorem dksX3_order_0 : cX3_order.data.toList.drop 0 = dktX3_order_0 := by decide +kernel
theorem dX3_order_0 : decode cX3_order 0 = .ok (.sipush 320, 3) := dk_17 1 64 (dk_at dksX3_order_0 0 rfl rfl)
theorem dX3_order_3 : decode cX3_order 3 = .ok (.bipush 8, 2) := dk_16 8 (dk_at dksX3_order_0 3 rfl rfl)
theorem dX3_order_5 : decode cX3_order 5 = .ok (.iload_n 0, 1) := dk_26 (dk_at dksX3_order_0 5 rfl rfl)
theorem dX3_order_6 : decode cX3_order 6 = .ok (.imul, 1) := dk_104 (dk_at dksX3_order_0 6 rfl rfl)
theorem dX3_order_7 : decode cX3_order 7 = .ok (.iadd, 1) := dk_96 (dk_at dksX3_order_0 7 rfl rfl)
theorem dX3_order_8 : decode cX3_order 8 = .ok (.ireturn, 1) := dk_172 (dk_at dksX3_order_0 8 rfl rfl)
abbrev cX3_order_2 : ByteArray := prog_12_method_22_code
def yX3_order_2 : MethodName := ⟨RX3, "order", "(IIII)I"⟩
def dkwX3_order_2_13 : List UInt8 := [96, 79, 21, 6, 172]
abbrev dktX3_order_2_13 : List UInt8 := dkwX3_order_2_13 ++ []
def dkwX3_order_2_12 : List UInt8 := [3, 42, 180, 0, 9, 21, 6, 184, 0, 106, 8, 96, 6, 184, 0, 55, 42, 180, 0, 9, 7, 92, 46, 4]
abbrev dktX3_order_2_12 : List UInt8 := dkwX3_order_2_12 ++ dktX3_order_2_13
def dkwX3_order_2_11 : List UInt8 := [184, 0, 106, 6, 96, 2, 79, 42, 180, 0, 9, 21, 6, 184, 0, 106, 7, 96, 2, 79, 42, 180, 0, 19]
abbrev dktX3_order_2_11 : List UInt8 := dkwX3_order_2_11 ++ dktX3_order_2_12
def dkwX3_order_2_10 : List UInt8 := [21, 5, 79, 42, 180, 0, 9, 21, 6, 184, 0, 106, 5, 96, 3, 79, 42, 180, 0, 9, 21, 6]
abbrev dktX3_order_2_10 : List UInt8 := dkwX3_order_2_10 ++ dktX3_order_2_11
def dkwX3_order_2_9 : List UInt8 := [180, 0, 9, 21, 6, 184, 0, 106, 3, 96, 27, 79, 42, 180, 0, 9, 21, 6, 184, 0, 106, 4, 96]
abbrev dktX3_order_2_9 : List UInt8 := dkwX3_order_2_9 ++ dktX3_order_2_10
def dkwX3_order_2_8 : List UInt8 := [182, 0, 90, 172, 132, 6, 1, 167, 255, 214, 42, 182, 0, 100, 42, 180, 0, 9, 7, 46, 54, 6, 42]
abbrev dktX3_order_2_8 : List UInt8 := dkwX3_order_2_8 ++ dktX3_order_2_9
def dkwX3_order_2_7 : List UInt8 := [16, 8, 42, 180, 0, 19, 21, 6, 46, 96, 46, 153, 0, 17, 42, 16, 12, 42, 180, 0, 19, 21, 6, 46]
abbrev dktX3_order_2_7 : List UInt8 := dkwX3_order_2_7 ++ dktX3_order_2_8
def dkwX3_order_2_6 : List UInt8 := [160, 0, 10, 42, 6, 3, 182, 0, 90, 172, 3, 54, 6, 21, 6, 21, 5, 162, 0, 41, 42, 180, 0, 9]
abbrev dktX3_order_2_6 : List UInt8 := dkwX3_order_2_6 ++ dktX3_order_2_7
def dkwX3_order_2_5 : List UInt8 := [160, 0, 16, 21, 4, 2, 159, 0, 10, 42, 5, 3, 182, 0, 90, 172, 42, 180, 0, 9, 7, 46, 16, 10]
abbrev dktX3_order_2_5 : List UInt8 := dkwX3_order_2_5 ++ dktX3_order_2_6
def dkwX3_order_2_4 : List UInt8 := [182, 0, 90, 172, 132, 6, 1, 167, 255, 210, 27, 3, 17, 3, 231, 184, 0, 71, 153, 0, 14, 29, 2]
abbrev dktX3_order_2_4 : List UInt8 := dkwX3_order_2_4 ++ dktX3_order_2_5
def dkwX3_order_2_3 : List UInt8 := [154, 0, 26, 21, 6, 153, 0, 14, 42, 180, 0, 19, 21, 6, 46, 2, 159, 0, 10, 42, 4, 3]
abbrev dktX3_order_2_3 : List UInt8 := dkwX3_order_2_3 ++ dktX3_order_2_4
def dkwX3_order_2_2 : List UInt8 := [54, 5, 3, 54, 6, 21, 6, 6, 162, 0, 46, 42, 42, 180, 0, 19, 21, 6, 46, 182, 0, 86]
abbrev dktX3_order_2_2 : List UInt8 := dkwX3_order_2_2 ++ dktX3_order_2_3
def dkwX3_order_2_1 : List UInt8 := [21, 4, 79, 29, 2, 160, 0, 7, 4, 167, 0, 14, 21, 4, 2, 160, 0, 7, 5, 167, 0, 4, 6]
abbrev dktX3_order_2_1 : List UInt8 := dkwX3_order_2_1 ++ dktX3_order_2_2
def dkwX3_order_2_0 : List UInt8 := [42, 3, 181, 0, 49, 42, 180, 0, 19, 3, 28, 79, 42, 180, 0, 19, 4, 29, 79, 42, 180, 0, 19, 5]
abbrev dktX3_order_2_0 : List UInt8 := dkwX3_order_2_0 ++ dktX3_order_2_1
theorem dksX3_order_2_0 : cX3_order_2.data.toList.drop 0 = dktX3_order_2_0 := by decide +kernel
theorem dksX3_order_2_1 : cX3_order_2.data.toList.drop 24 = dktX3_order_2_1 := dk_seg dksX3_order_2_0 24 rfl rfl
theorem dksX3_order_2_2 : cX3_order_2.data.toList.drop 47 = dktX3_order_2_2 := dk_seg dksX3_order_2_1 23 rfl rfl
theorem dksX3_order_2_3 : cX3_order_2.data.toList.drop 69 = dktX3_order_2_3 := dk_seg dksX3_order_2_2 22 rfl rfl
theorem dksX3_order_2_4 : cX3_order_2.data.toList.drop 91 = dktX3_order_2_4 := dk_seg dksX3_order_2_3 22 rfl rfl
theorem dksX3_order_2_5 : cX3_order_2.data.toList.drop 114 = dktX3_order_2_5 := dk_seg dksX3_order_2_4 23 rfl rfl
theorem dksX3_order_2_6 : cX3_order_2.data.toList.drop 138 = dktX3_order_2_6 := dk_seg dksX3_order_2_5 24 rfl rfl
theorem dksX3_order_2_7 : cX3_order_2.data.toList.drop 162 = dktX3_order_2_7 := dk_seg dksX3_order_2_6 24 rfl rfl
theorem dksX3_order_2_8 : cX3_order_2.data.toList.drop 186 = dktX3_order_2_8 := dk_seg dksX3_order_2_7 24 rfl rfl
theorem dksX3_order_2_9 : cX3_order_2.data.toList.drop 209 = dktX3_order_2_9 := dk_seg dksX3_order_2_8 23 rfl rfl
theorem dksX3_order_2_10 : cX3_order_2.data.toList.drop 232 = dktX3_order_2_10 := dk_seg dksX3_order_2_9 23 rfl rfl
theorem dksX3_order_2_11 : cX3_order_2.data.toList.drop 254 = dktX3_order_2_11 := dk_seg dksX3_order_2_10 22 rfl rfl
theorem dksX3_order_2_12 : cX3_order_2.data.toList.drop 278 = dktX3_order_2_12 := dk_seg dksX3_order_2_11 24 rfl rfl
theorem dksX3_order_2_13 : cX3_order_2.data.toList.drop 302 = dktX3_order_2_13 := dk_seg dksX3_order_2_12 24 rfl rfl
theorem dX3_order_2_0 : decode cX3_order_2 0 = .ok (.aload_n 0, 1) := dk_42 (dk_at dksX3_order_2_0 0 rfl rfl)
theorem dX3_order_2_1 : decode cX3_order_2 1 = .ok (.iconst 0, 1) := dk_3 (dk_at dksX3_order_2_0 1 rfl rfl)
theorem dX3_order_2_2 : decode cX3_order_2 2 = .ok (.putfield 49, 3) := dk_181 0 49 (dk_at dksX3_order_2_0 2 rfl rfl)
theorem dX3_order_2_5 : decode cX3_order_2 5 = .ok (.aload_n 0, 1) := dk_42 (dk_at dksX3_order_2_0 5 rfl rfl)
theorem dX3_order_2_6 : decode cX3_order_2 6 = .ok (.getfield 19, 3) := dk_180 0 19 (dk_at dksX3_order_2_0 6 rfl rfl)
theorem dX3_order_2_9 : decode cX3_order_2 9 = .ok (.iconst 0, 1) := dk_3 (dk_at dksX3_order_2_0 9 rfl rfl)
theorem dX3_order_2_10 : decode cX3_order_2 10 = .ok (.iload_n 2, 1) := dk_28 (dk_at dksX3_order_2_0 10 rfl rfl)
theorem dX3_order_2_11 : decode cX3_order_2 11 = .ok (.iastore, 1) := dk_79 (dk_at dksX3_order_2_0 11 rfl rfl)
theorem dX3_order_2_12 : decode cX3_order_2 12 = .ok (.aload_n 0, 1) := dk_42 (dk_at dksX3_order_2_0 12 rfl rfl)
theorem dX3_order_2_13 : decode cX3_order_2 13 = .ok (.getfield 19, 3) := dk_180 0 19 (dk_at dksX3_order_2_0 13 rfl rfl)
theorem dX3_order_2_16 : decode cX3_order_2 16 = .ok (.iconst 1, 1) := dk_4 (dk_at dksX3_order_2_0 16 rfl rfl)
theorem dX3_order_2_17 : decode cX3_order_2 17 = .ok (.iload_n 3, 1) := dk_29 (dk_at dksX3_order_2_0 17 rfl rfl)
theorem dX3_order_2_18 : decode cX3_order_2 18 = .ok (.iastore, 1) := dk_79 (dk_at dksX3_order_2_0 18 rfl rfl)
theorem dX3_order_2_19 : decode cX3_order_2 19 = .ok (.aload_n 0, 1) := dk_42 (dk_at dksX3_order_2_0 19 rfl rfl)
theorem dX3_order_2_20 : decode cX3_order_2 20 = .ok (.getfield 19, 3) := dk_180 0 19 (dk_at dksX3_order_2_0 20 rfl rfl)
theorem dX3_order_2_23 : decode cX3_order_2 23 = .ok (.iconst 2, 1) := dk_5 (dk_at dksX3_order_2_0 23 rfl rfl)
theorem dX3_order_2_24 : decode cX3_order_2 24 = .ok (.iload 4, 2) := dk_21 4 (dk_at dksX3_order_2_1 0 rfl rfl)
theorem dX3_order_2_26 : decode cX3_order_2 26 = .ok (.iastore, 1) := dk_79 (dk_at dksX3_order_2_1 2 rfl rfl)
theorem dX3_order_2_27 : decode cX3_order_2 27 = .ok (.iload_n 3, 1) := dk_29 (dk_at dksX3_order_2_1 3 rfl rfl)
theorem dX3_order_2_28 : decode cX3_order_2 28 = .ok (.iconst (-1), 1) := dk_2 (dk_at dksX3_order_2_1 4 rfl rfl)
theorem dX3_order_2_29 : decode cX3_order_2 29 = .ok (.if_icmp .ne 7, 3) := dk_160 0 7 (dk_at dksX3_order_2_1 5 rfl rfl)
theorem dX3_order_2_32 : decode cX3_order_2 32 = .ok (.iconst 1, 1) := dk_4 (dk_at dksX3_order_2_1 8 rfl rfl)
theorem dX3_order_2_33 : decode cX3_order_2 33 = .ok (.goto 14, 3) := dk_167 0 14 (dk_at dksX3_order_2_1 9 rfl rfl)
theorem dX3_order_2_36 : decode cX3_order_2 36 = .ok (.iload 4, 2) := dk_21 4 (dk_at dksX3_order_2_1 12 rfl rfl)
theorem dX3_order_2_38 : decode cX3_order_2 38 = .ok (.iconst (-1), 1) := dk_2 (dk_at dksX3_order_2_1 14 rfl rfl)
theorem dX3_order_2_39 : decode cX3_order_2 39 = .ok (.if_icmp .ne 7, 3) := dk_160 0 7 (dk_at dksX3_order_2_1 15 rfl rfl)
theorem dX3_order_2_42 : decode cX3_order_2 42 = .ok (.iconst 2, 1) := dk_5 (dk_at dksX3_order_2_1 18 rfl rfl)
theorem dX3_order_2_43 : decode cX3_order_2 43 = .ok (.goto 4, 3) := dk_167 0 4 (dk_at dksX3_order_2_1 19 rfl rfl)
theorem dX3_order_2_46 : decode cX3_order_2 46 = .ok (.iconst 3, 1) := dk_6 (dk_at dksX3_order_2_1 22 rfl rfl)
theorem dX3_order_2_47 : decode cX3_order_2 47 = .ok (.istore 5, 2) := dk_54 5 (dk_at dksX3_order_2_2 0 rfl rfl)
theorem dX3_order_2_49 : decode cX3_order_2 49 = .ok (.iconst 0, 1) := dk_3 (dk_at dksX3_order_2_2 2 rfl rfl)
theorem dX3_order_2_50 : decode cX3_order_2 50 = .ok (.istore 6, 2) := dk_54 6 (dk_at dksX3_order_2_2 3 rfl rfl)
theorem dX3_order_2_52 : decode cX3_order_2 52 = .ok (.iload 6, 2) := dk_21 6 (dk_at dksX3_order_2_2 5 rfl rfl)
theorem dX3_order_2_54 : decode cX3_order_2 54 = .ok (.iconst 3, 1) := dk_6 (dk_at dksX3_order_2_2 7 rfl rfl)
theorem dX3_order_2_55 : decode cX3_order_2 55 = .ok (.if_icmp .ge 46, 3) := dk_162 0 46 (dk_at dksX3_order_2_2 8 rfl rfl)
theorem dX3_order_2_58 : decode cX3_order_2 58 = .ok (.aload_n 0, 1) := dk_42 (dk_at dksX3_order_2_2 11 rfl rfl)
theorem dX3_order_2_59 : decode cX3_order_2 59 = .ok (.aload_n 0, 1) := dk_42 (dk_at dksX3_order_2_2 12 rfl rfl)
theorem dX3_order_2_60 : decode cX3_order_2 60 = .ok (.getfield 19, 3) := dk_180 0 19 (dk_at dksX3_order_2_2 13 rfl rfl)
theorem dX3_order_2_63 : decode cX3_order_2 63 = .ok (.iload 6, 2) := dk_21 6 (dk_at dksX3_order_2_2 16 rfl rfl)
theorem dX3_order_2_65 : decode cX3_order_2 65 = .ok (.iaload, 1) := dk_46 (dk_at dksX3_order_2_2 18 rfl rfl)
theorem dX3_order_2_66 : decode cX3_order_2 66 = .ok (.invokevirtual 86, 3) := dk_182 0 86 (dk_at dksX3_order_2_2 19 rfl rfl)
theorem dX3_order_2_69 : decode cX3_order_2 69 = .ok (.ifCond .ne 26, 3) := dk_154 0 26 (dk_at dksX3_order_2_3 0 rfl rfl)
theorem dX3_order_2_72 : decode cX3_order_2 72 = .ok (.iload 6, 2) := dk_21 6 (dk_at dksX3_order_2_3 3 rfl rfl)
theorem dX3_order_2_74 : decode cX3_order_2 74 = .ok (.ifCond .eq 14, 3) := dk_153 0 14 (dk_at dksX3_order_2_3 5 rfl rfl)
theorem dX3_order_2_77 : decode cX3_order_2 77 = .ok (.aload_n 0, 1) := dk_42 (dk_at dksX3_order_2_3 8 rfl rfl)
theorem dX3_order_2_78 : decode cX3_order_2 78 = .ok (.getfield 19, 3) := dk_180 0 19 (dk_at dksX3_order_2_3 9 rfl rfl)
theorem dX3_order_2_81 : decode cX3_order_2 81 = .ok (.iload 6, 2) := dk_21 6 (dk_at dksX3_order_2_3 12 rfl rfl)
theorem dX3_order_2_83 : decode cX3_order_2 83 = .ok (.iaload, 1) := dk_46 (dk_at dksX3_order_2_3 14 rfl rfl)
theorem dX3_order_2_84 : decode cX3_order_2 84 = .ok (.iconst (-1), 1) := dk_2 (dk_at dksX3_order_2_3 15 rfl rfl)
theorem dX3_order_2_85 : decode cX3_order_2 85 = .ok (.if_icmp .eq 10, 3) := dk_159 0 10 (dk_at dksX3_order_2_3 16 rfl rfl)
theorem dX3_order_2_88 : decode cX3_order_2 88 = .ok (.aload_n 0, 1) := dk_42 (dk_at dksX3_order_2_3 19 rfl rfl)
theorem dX3_order_2_89 : decode cX3_order_2 89 = .ok (.iconst 1, 1) := dk_4 (dk_at dksX3_order_2_3 20 rfl rfl)
theorem dX3_order_2_90 : decode cX3_order_2 90 = .ok (.iconst 0, 1) := dk_3 (dk_at dksX3_order_2_3 21 rfl rfl)
theorem dX3_order_2_91 : decode cX3_order_2 91 = .ok (.invokevirtual 90, 3) := dk_182 0 90 (dk_at dksX3_order_2_4 0 rfl rfl)
theorem dX3_order_2_94 : decode cX3_order_2 94 = .ok (.ireturn, 1) := dk_172 (dk_at dksX3_order_2_4 3 rfl rfl)
theorem dX3_order_2_95 : decode cX3_order_2 95 = .ok (.iinc 6 1, 3) := dk_132 6 1 (dk_at dksX3_order_2_4 4 rfl rfl)
theorem dX3_order_2_98 : decode cX3_order_2 98 = .ok (.goto (-46), 3) := dk_167 255 210 (dk_at dksX3_order_2_4 7 rfl rfl)
theorem dX3_order_2_101 : decode cX3_order_2 101 = .ok (.iload_n 1, 1) := dk_27 (dk_at dksX3_order_2_4 10 rfl rfl)
theorem dX3_order_2_102 : decode cX3_order_2 102 = .ok (.iconst 0, 1) := dk_3 (dk_at dksX3_order_2_4 11 rfl rfl)
theorem dX3_order_2_103 : decode cX3_order_2 103 = .ok (.sipush 999, 3) := dk_17 3 231 (dk_at dksX3_order_2_4 12 rfl rfl)
theorem dX3_order_2_106 : decode cX3_order_2 106 = .ok (.invokestatic 71, 3) := dk_184 0 71 (dk_at dksX3_order_2_4 15 rfl rfl)
theorem dX3_order_2_109 : decode cX3_order_2 109 = .ok (.ifCond .eq 14, 3) := dk_153 0 14 (dk_at dksX3_order_2_4 18 rfl rfl)
theorem dX3_order_2_112 : decode cX3_order_2 112 = .ok (.iload_n 3, 1) := dk_29 (dk_at dksX3_order_2_4 21 rfl rfl)
theorem dX3_order_2_113 : decode cX3_order_2 113 = .ok (.iconst (-1), 1) := dk_2 (dk_at dksX3_order_2_4 22 rfl rfl)
theorem dX3_order_2_114 : decode cX3_order_2 114 = .ok (.if_icmp .ne 16, 3) := dk_160 0 16 (dk_at dksX3_order_2_5 0 rfl rfl)
theorem dX3_order_2_117 : decode cX3_order_2 117 = .ok (.iload 4, 2) := dk_21 4 (dk_at dksX3_order_2_5 3 rfl rfl)
theorem dX3_order_2_119 : decode cX3_order_2 119 = .ok (.iconst (-1), 1) := dk_2 (dk_at dksX3_order_2_5 5 rfl rfl)
theorem dX3_order_2_120 : decode cX3_order_2 120 = .ok (.if_icmp .eq 10, 3) := dk_159 0 10 (dk_at dksX3_order_2_5 6 rfl rfl)
theorem dX3_order_2_123 : decode cX3_order_2 123 = .ok (.aload_n 0, 1) := dk_42 (dk_at dksX3_order_2_5 9 rfl rfl)
theorem dX3_order_2_124 : decode cX3_order_2 124 = .ok (.iconst 2, 1) := dk_5 (dk_at dksX3_order_2_5 10 rfl rfl)
theorem dX3_order_2_125 : decode cX3_order_2 125 = .ok (.iconst 0, 1) := dk_3 (dk_at dksX3_order_2_5 11 rfl rfl)
theorem dX3_order_2_126 : decode cX3_order_2 126 = .ok (.invokevirtual 90, 3) := dk_182 0 90 (dk_at dksX3_order_2_5 12 rfl rfl)
theorem dX3_order_2_129 : decode cX3_order_2 129 = .ok (.ireturn, 1) := dk_172 (dk_at dksX3_order_2_5 15 rfl rfl)
theorem dX3_order_2_130 : decode cX3_order_2 130 = .ok (.aload_n 0, 1) := dk_42 (dk_at dksX3_order_2_5 16 rfl rfl)
theorem dX3_order_2_131 : decode cX3_order_2 131 = .ok (.getfield 9, 3) := dk_180 0 9 (dk_at dksX3_order_2_5 17 rfl rfl)
theorem dX3_order_2_134 : decode cX3_order_2 134 = .ok (.iconst 4, 1) := dk_7 (dk_at dksX3_order_2_5 20 rfl rfl)
theorem dX3_order_2_135 : decode cX3_order_2 135 = .ok (.iaload, 1) := dk_46 (dk_at dksX3_order_2_5 21 rfl rfl)
theorem dX3_order_2_136 : decode cX3_order_2 136 = .ok (.bipush 10, 2) := dk_16 10 (dk_at dksX3_order_2_5 22 rfl rfl)
theorem dX3_order_2_138 : decode cX3_order_2 138 = .ok (.if_icmp .ne 10, 3) := dk_160 0 10 (dk_at dksX3_order_2_6 0 rfl rfl)
theorem dX3_order_2_141 : decode cX3_order_2 141 = .ok (.aload_n 0, 1) := dk_42 (dk_at dksX3_order_2_6 3 rfl rfl)
theorem dX3_order_2_142 : decode cX3_order_2 142 = .ok (.iconst 3, 1) := dk_6 (dk_at dksX3_order_2_6 4 rfl rfl)
theorem dX3_order_2_143 : decode cX3_order_2 143 = .ok (.iconst 0, 1) := dk_3 (dk_at dksX3_order_2_6 5 rfl rfl)
theorem dX3_order_2_144 : decode cX3_order_2 144 = .ok (.invokevirtual 90, 3) := dk_182 0 90 (dk_at dksX3_order_2_6 6 rfl rfl)
theorem dX3_order_2_147 : decode cX3_order_2 147 = .ok (.ireturn, 1) := dk_172 (dk_at dksX3_order_2_6 9 rfl rfl)
theorem dX3_order_2_148 : decode cX3_order_2 148 = .ok (.iconst 0, 1) := dk_3 (dk_at dksX3_order_2_6 10 rfl rfl)
theorem dX3_order_2_149 : decode cX3_order_2 149 = .ok (.istore 6, 2) := dk_54 6 (dk_at dksX3_order_2_6 11 rfl rfl)
theorem dX3_order_2_151 : decode cX3_order_2 151 = .ok (.iload 6, 2) := dk_21 6 (dk_at dksX3_order_2_6 13 rfl rfl)
theorem dX3_order_2_153 : decode cX3_order_2 153 = .ok (.iload 5, 2) := dk_21 5 (dk_at dksX3_order_2_6 15 rfl rfl)
theorem dX3_order_2_155 : decode cX3_order_2 155 = .ok (.if_icmp .ge 41, 3) := dk_162 0 41 (dk_at dksX3_order_2_6 17 rfl rfl)
theorem dX3_order_2_158 : decode cX3_order_2 158 = .ok (.aload_n 0, 1) := dk_42 (dk_at dksX3_order_2_6 20 rfl rfl)
theorem dX3_order_2_159 : decode cX3_order_2 159 = .ok (.getfield 9, 3) := dk_180 0 9 (dk_at dksX3_order_2_6 21 rfl rfl)
theorem dX3_order_2_162 : decode cX3_order_2 162 = .ok (.bipush 8, 2) := dk_16 8 (dk_at dksX3_order_2_7 0 rfl rfl)
theorem dX3_order_2_164 : decode cX3_order_2 164 = .ok (.aload_n 0, 1) := dk_42 (dk_at dksX3_order_2_7 2 rfl rfl)
theorem dX3_order_2_165 : decode cX3_order_2 165 = .ok (.getfield 19, 3) := dk_180 0 19 (dk_at dksX3_order_2_7 3 rfl rfl)
theorem dX3_order_2_168 : decode cX3_order_2 168 = .ok (.iload 6, 2) := dk_21 6 (dk_at dksX3_order_2_7 6 rfl rfl)
theorem dX3_order_2_170 : decode cX3_order_2 170 = .ok (.iaload, 1) := dk_46 (dk_at dksX3_order_2_7 8 rfl rfl)
theorem dX3_order_2_171 : decode cX3_order_2 171 = .ok (.iadd, 1) := dk_96 (dk_at dksX3_order_2_7 9 rfl rfl)
theorem dX3_order_2_172 : decode cX3_order_2 172 = .ok (.iaload, 1) := dk_46 (dk_at dksX3_order_2_7 10 rfl rfl)
theorem dX3_order_2_173 : decode cX3_order_2 173 = .ok (.ifCond .eq 17, 3) := dk_153 0 17 (dk_at dksX3_order_2_7 11 rfl rfl)
theorem dX3_order_2_176 : decode cX3_order_2 176 = .ok (.aload_n 0, 1) := dk_42 (dk_at dksX3_order_2_7 14 rfl rfl)
theorem dX3_order_2_177 : decode cX3_order_2 177 = .ok (.bipush 12, 2) := dk_16 12 (dk_at dksX3_order_2_7 15 rfl rfl)
theorem dX3_order_2_179 : decode cX3_order_2 179 = .ok (.aload_n 0, 1) := dk_42 (dk_at dksX3_order_2_7 17 rfl rfl)
theorem dX3_order_2_180 : decode cX3_order_2 180 = .ok (.getfield 19, 3) := dk_180 0 19 (dk_at dksX3_order_2_7 18 rfl rfl)
theorem dX3_order_2_183 : decode cX3_order_2 183 = .ok (.iload 6, 2) := dk_21 6 (dk_at dksX3_order_2_7 21 rfl rfl)
theorem dX3_order_2_185 : decode cX3_order_2 185 = .ok (.iaload, 1) := dk_46 (dk_at dksX3_order_2_7 23 rfl rfl)
theorem dX3_order_2_186 : decode cX3_order_2 186 = .ok (.invokevirtual 90, 3) := dk_182 0 90 (dk_at dksX3_order_2_8 0 rfl rfl)
theorem dX3_order_2_189 : decode cX3_order_2 189 = .ok (.ireturn, 1) := dk_172 (dk_at dksX3_order_2_8 3 rfl rfl)
theorem dX3_order_2_190 : decode cX3_order_2 190 = .ok (.iinc 6 1, 3) := dk_132 6 1 (dk_at dksX3_order_2_8 4 rfl rfl)
theorem dX3_order_2_193 : decode cX3_order_2 193 = .ok (.goto (-42), 3) := dk_167 255 214 (dk_at dksX3_order_2_8 7 rfl rfl)
theorem dX3_order_2_196 : decode cX3_order_2 196 = .ok (.aload_n 0, 1) := dk_42 (dk_at dksX3_order_2_8 10 rfl rfl)
theorem dX3_order_2_197 : decode cX3_order_2 197 = .ok (.invokevirtual 100, 3) := dk_182 0 100 (dk_at dksX3_order_2_8 11 rfl rfl)
theorem dX3_order_2_200 : decode cX3_order_2 200 = .ok (.aload_n 0, 1) := dk_42 (dk_at dksX3_order_2_8 14 rfl rfl)
theorem dX3_order_2_201 : decode cX3_order_2 201 = .ok (.getfield 9, 3) := dk_180 0 9 (dk_at dksX3_order_2_8 15 rfl rfl)
theorem dX3_order_2_204 : decode cX3_order_2 204 = .ok (.iconst 4, 1) := dk_7 (dk_at dksX3_order_2_8 18 rfl rfl)
theorem dX3_order_2_205 : decode cX3_order_2 205 = .ok (.iaload, 1) := dk_46 (dk_at dksX3_order_2_8 19 rfl rfl)
theorem dX3_order_2_206 : decode cX3_order_2 206 = .ok (.istore 6, 2) := dk_54 6 (dk_at dksX3_order_2_8 20 rfl rfl)
theorem dX3_order_2_208 : decode cX3_order_2 208 = .ok (.aload_n 0, 1) := dk_42 (dk_at dksX3_order_2_8 22 rfl rfl)
theorem dX3_order_2_209 : decode cX3_order_2 209 = .ok (.getfield 9, 3) := dk_180 0 9 (dk_at dksX3_order_2_9 0 rfl rfl)
theorem dX3_order_2_212 : decode cX3_order_2 212 = .ok (.iload 6, 2) := dk_21 6 (dk_at dksX3_order_2_9 3 rfl rfl)
theorem dX3_order_2_214 : decode cX3_order_2 214 = .ok (.invokestatic 106, 3) := dk_184 0 106 (dk_at dksX3_order_2_9 5 rfl rfl)
theorem dX3_order_2_217 : decode cX3_order_2 217 = .ok (.iconst 0, 1) := dk_3 (dk_at dksX3_order_2_9 8 rfl rfl)
theorem dX3_order_2_218 : decode cX3_order_2 218 = .ok (.iadd, 1) := dk_96 (dk_at dksX3_order_2_9 9 rfl rfl)
theorem dX3_order_2_219 : decode cX3_order_2 219 = .ok (.iload_n 1, 1) := dk_27 (dk_at dksX3_order_2_9 10 rfl rfl)
theorem dX3_order_2_220 : decode cX3_order_2 220 = .ok (.iastore, 1) := dk_79 (dk_at dksX3_order_2_9 11 rfl rfl)
theorem dX3_order_2_221 : decode cX3_order_2 221 = .ok (.aload_n 0, 1) := dk_42 (dk_at dksX3_order_2_9 12 rfl rfl)
theorem dX3_order_2_222 : decode cX3_order_2 222 = .ok (.getfield 9, 3) := dk_180 0 9 (dk_at dksX3_order_2_9 13 rfl rfl)
theorem dX3_order_2_225 : decode cX3_order_2 225 = .ok (.iload 6, 2) := dk_21 6 (dk_at dksX3_order_2_9 16 rfl rfl)
theorem dX3_order_2_227 : decode cX3_order_2 227 = .ok (.invokestatic 106, 3) := dk_184 0 106 (dk_at dksX3_order_2_9 18 rfl rfl)
theorem dX3_order_2_230 : decode cX3_order_2 230 = .ok (.iconst 1, 1) := dk_4 (dk_at dksX3_order_2_9 21 rfl rfl)
theorem dX3_order_2_231 : decode cX3_order_2 231 = .ok (.iadd, 1) := dk_96 (dk_at dksX3_order_2_9 22 rfl rfl)
theorem dX3_order_2_232 : decode cX3_order_2 232 = .ok (.iload 5, 2) := dk_21 5 (dk_at dksX3_order_2_10 0 rfl rfl)
theorem dX3_order_2_234 : decode cX3_order_2 234 = .ok (.iastore, 1) := dk_79 (dk_at dksX3_order_2_10 2 rfl rfl)
theorem dX3_order_2_235 : decode cX3_order_2 235 = .ok (.aload_n 0, 1) := dk_42 (dk_at dksX3_order_2_10 3 rfl rfl)
theorem dX3_order_2_236 : decode cX3_order_2 236 = .ok (.getfield 9, 3) := dk_180 0 9 (dk_at dksX3_order_2_10 4 rfl rfl)
theorem dX3_order_2_239 : decode cX3_order_2 239 = .ok (.iload 6, 2) := dk_21 6 (dk_at dksX3_order_2_10 7 rfl rfl)
theorem dX3_order_2_241 : decode cX3_order_2 241 = .ok (.invokestatic 106, 3) := dk_184 0 106 (dk_at dksX3_order_2_10 9 rfl rfl)
theorem dX3_order_2_244 : decode cX3_order_2 244 = .ok (.iconst 2, 1) := dk_5 (dk_at dksX3_order_2_10 12 rfl rfl)
theorem dX3_order_2_245 : decode cX3_order_2 245 = .ok (.iadd, 1) := dk_96 (dk_at dksX3_order_2_10 13 rfl rfl)
theorem dX3_order_2_246 : decode cX3_order_2 246 = .ok (.iconst 0, 1) := dk_3 (dk_at dksX3_order_2_10 14 rfl rfl)
theorem dX3_order_2_247 : decode cX3_order_2 247 = .ok (.iastore, 1) := dk_79 (dk_at dksX3_order_2_10 15 rfl rfl)
theorem dX3_order_2_248 : decode cX3_order_2 248 = .ok (.aload_n 0, 1) := dk_42 (dk_at dksX3_order_2_10 16 rfl rfl)
theorem dX3_order_2_249 : decode cX3_order_2 249 = .ok (.getfield 9, 3) := dk_180 0 9 (dk_at dksX3_order_2_10 17 rfl rfl)
theorem dX3_order_2_252 : decode cX3_order_2 252 = .ok (.iload 6, 2) := dk_21 6 (dk_at dksX3_order_2_10 20 rfl rfl)
theorem dX3_order_2_254 : decode cX3_order_2 254 = .ok (.invokestatic 106, 3) := dk_184 0 106 (dk_at dksX3_order_2_11 0 rfl rfl)
theorem dX3_order_2_257 : decode cX3_order_2 257 = .ok (.iconst 3, 1) := dk_6 (dk_at dksX3_order_2_11 3 rfl rfl)
theorem dX3_order_2_258 : decode cX3_order_2 258 = .ok (.iadd, 1) := dk_96 (dk_at dksX3_order_2_11 4 rfl rfl)
theorem dX3_order_2_259 : decode cX3_order_2 259 = .ok (.iconst (-1), 1) := dk_2 (dk_at dksX3_order_2_11 5 rfl rfl)
theorem dX3_order_2_260 : decode cX3_order_2 260 = .ok (.iastore, 1) := dk_79 (dk_at dksX3_order_2_11 6 rfl rfl)
theorem dX3_order_2_261 : decode cX3_order_2 261 = .ok (.aload_n 0, 1) := dk_42 (dk_at dksX3_order_2_11 7 rfl rfl)
theorem dX3_order_2_262 : decode cX3_order_2 262 = .ok (.getfield 9, 3) := dk_180 0 9 (dk_at dksX3_order_2_11 8 rfl rfl)
theorem dX3_order_2_265 : decode cX3_order_2 265 = .ok (.iload 6, 2) := dk_21 6 (dk_at dksX3_order_2_11 11 rfl rfl)
theorem dX3_order_2_267 : decode cX3_order_2 267 = .ok (.invokestatic 106, 3) := dk_184 0 106 (dk_at dksX3_order_2_11 13 rfl rfl)
theorem dX3_order_2_270 : decode cX3_order_2 270 = .ok (.iconst 4, 1) := dk_7 (dk_at dksX3_order_2_11 16 rfl rfl)
theorem dX3_order_2_271 : decode cX3_order_2 271 = .ok (.iadd, 1) := dk_96 (dk_at dksX3_order_2_11 17 rfl rfl)
theorem dX3_order_2_272 : decode cX3_order_2 272 = .ok (.iconst (-1), 1) := dk_2 (dk_at dksX3_order_2_11 18 rfl rfl)
theorem dX3_order_2_273 : decode cX3_order_2 273 = .ok (.iastore, 1) := dk_79 (dk_at dksX3_order_2_11 19 rfl rfl)
theorem dX3_order_2_274 : decode cX3_order_2 274 = .ok (.aload_n 0, 1) := dk_42 (dk_at dksX3_order_2_11 20 rfl rfl)
theorem dX3_order_2_275 : decode cX3_order_2 275 = .ok (.getfield 19, 3) := dk_180 0 19 (dk_at dksX3_order_2_11 21 rfl rfl)
theorem dX3_order_2_278 : decode cX3_order_2 278 = .ok (.iconst 0, 1) := dk_3 (dk_at dksX3_order_2_12 0 rfl rfl)
theorem dX3_order_2_279 : decode cX3_order_2 279 = .ok (.aload_n 0, 1) := dk_42 (dk_at dksX3_order_2_12 1 rfl rfl)
theorem dX3_order_2_280 : decode cX3_order_2 280 = .ok (.getfield 9, 3) := dk_180 0 9 (dk_at dksX3_order_2_12 2 rfl rfl)
theorem dX3_order_2_283 : decode cX3_order_2 283 = .ok (.iload 6, 2) := dk_21 6 (dk_at dksX3_order_2_12 5 rfl rfl)
theorem dX3_order_2_285 : decode cX3_order_2 285 = .ok (.invokestatic 106, 3) := dk_184 0 106 (dk_at dksX3_order_2_12 7 rfl rfl)
theorem dX3_order_2_288 : decode cX3_order_2 288 = .ok (.iconst 5, 1) := dk_8 (dk_at dksX3_order_2_12 10 rfl rfl)
theorem dX3_order_2_289 : decode cX3_order_2 289 = .ok (.iadd, 1) := dk_96 (dk_at dksX3_order_2_12 11 rfl rfl)
theorem dX3_order_2_290 : decode cX3_order_2 290 = .ok (.iconst 3, 1) := dk_6 (dk_at dksX3_order_2_12 12 rfl rfl)
theorem dX3_order_2_291 : decode cX3_order_2 291 = .ok (.invokestatic 55, 3) := dk_184 0 55 (dk_at dksX3_order_2_12 13 rfl rfl)
theorem dX3_order_2_294 : decode cX3_order_2 294 = .ok (.aload_n 0, 1) := dk_42 (dk_at dksX3_order_2_12 16 rfl rfl)
theorem dX3_order_2_295 : decode cX3_order_2 295 = .ok (.getfield 9, 3) := dk_180 0 9 (dk_at dksX3_order_2_12 17 rfl rfl)
theorem dX3_order_2_298 : decode cX3_order_2 298 = .ok (.iconst 4, 1) := dk_7 (dk_at dksX3_order_2_12 20 rfl rfl)
theorem dX3_order_2_299 : decode cX3_order_2 299 = .ok (.dup2, 1) := dk_92 (dk_at dksX3_order_2_12 21 rfl rfl)
theorem dX3_order_2_300 : decode cX3_order_2 300 = .ok (.iaload, 1) := dk_46 (dk_at dksX3_order_2_12 22 rfl rfl)
theorem dX3_order_2_301 : decode cX3_order_2 301 = .ok (.iconst 1, 1) := dk_4 (dk_at dksX3_order_2_12 23 rfl rfl)
theorem dX3_order_2_302 : decode cX3_order_2 302 = .ok (.iadd, 1) := dk_96 (dk_at dksX3_order_2_13 0 rfl rfl)
theorem dX3_order_2_303 : decode cX3_order_2 303 = .ok (.iastore, 1) := dk_79 (dk_at dksX3_order_2_13 1 rfl rfl)
theorem dX3_order_2_304 : decode cX3_order_2 304 = .ok (.iload 6, 2) := dk_21 6 (dk_at dksX3_order_2_13 2 rfl rfl)
theorem dX3_order_2_306 : decode cX3_order_2 306 = .ok (.ireturn, 1) := dk_172 (dk_at dksX3_order_2_13 4 rfl rfl)
abbrev cX3_assign : ByteArray := prog_12_method_23_code
def yX3_assign : MethodName := ⟨RX3, "assign", "(II)I"⟩
def dkwX3_assign_4 : List UInt8 := [6, 96, 27, 79, 42, 28, 4, 182, 0, 109, 172]
abbrev dktX3_assign_4 : List UInt8 := dkwX3_assign_4 ++ []
def dkwX3_assign_3 : List UInt8 := [42, 182, 0, 100, 42, 180, 0, 9, 27, 184, 0, 75, 5, 96, 28, 79, 42, 180, 0, 9, 28, 184, 0, 106]
abbrev dktX3_assign_3 : List UInt8 := dkwX3_assign_3 ++ dktX3_assign_4
def dkwX3_assign_2 : List UInt8 := [182, 0, 90, 172, 42, 28, 182, 0, 115, 153, 0, 15, 42, 16, 8, 42, 28, 182, 0, 115, 182, 0, 90, 172]
abbrev dktX3_assign_2 : List UInt8 := dkwX3_assign_2 ++ dktX3_assign_3
def dkwX3_assign_1 : List UInt8 := [182, 0, 90, 172, 42, 27, 5, 182, 0, 79, 155, 0, 16, 42, 16, 7, 42, 27, 5, 182, 0, 79]
abbrev dktX3_assign_1 : List UInt8 := dkwX3_assign_1 ++ dktX3_assign_2
def dkwX3_assign_0 : List UInt8 := [42, 3, 181, 0, 49, 42, 27, 182, 0, 103, 153, 0, 11, 42, 28, 182, 0, 112, 154, 0, 10, 42, 4, 3]
abbrev dktX3_assign_0 : List UInt8 := dkwX3_assign_0 ++ dktX3_assign_1
theorem dksX3_assign_0 : cX3_assign.data.toList.drop 0 = dktX3_assign_0 := by decide +kernel
theorem dksX3_assign_1 : cX3_assign.data.toList.drop 24 = dktX3_assign_1 := dk_seg dksX3_assign_0 24 rfl rfl
theorem dksX3_assign_2 : cX3_assign.data.toList.drop 46 = dktX3_assign_2 := dk_seg dksX3_assign_1 22 rfl rfl
theorem dksX3_assign_3 : cX3_assign.data.toList.drop 70 = dktX3_assign_3 := dk_seg dksX3_assign_2 24 rfl rfl
theorem dksX3_assign_4 : cX3_assign.data.toList.drop 94 = dktX3_assign_4 := dk_seg dksX3_assign_3 24 rfl rfl
theorem dX3_assign_0 : decode cX3_assign 0 = .ok (.aload_n 0, 1) := dk_42 (dk_at dksX3_assign_0 0 rfl rfl)
theorem dX3_assign_1 : decode cX3_assign 1 = .ok (.iconst 0, 1) := dk_3 (dk_at dksX3_assign_0 1 rfl rfl)
theorem dX3_assign_2 : decode cX3_assign 2 = .ok (.putfield 49, 3) := dk_181 0 49 (dk_at dksX3_assign_0 2 rfl rfl)
theorem dX3_assign_5 : decode cX3_assign 5 = .ok (.aload_n 0, 1) := dk_42 (dk_at dksX3_assign_0 5 rfl rfl)
theorem dX3_assign_6 : decode cX3_assign 6 = .ok (.iload_n 1, 1) := dk_27 (dk_at dksX3_assign_0 6 rfl rfl)
theorem dX3_assign_7 : decode cX3_assign 7 = .ok (.invokevirtual 103, 3) := dk_182 0 103 (dk_at dksX3_assign_0 7 rfl rfl)
theorem dX3_assign_10 : decode cX3_assign 10 = .ok (.ifCond .eq 11, 3) := dk_153 0 11 (dk_at dksX3_assign_0 10 rfl rfl)
theorem dX3_assign_13 : decode cX3_assign 13 = .ok (.aload_n 0, 1) := dk_42 (dk_at dksX3_assign_0 13 rfl rfl)
theorem dX3_assign_14 : decode cX3_assign 14 = .ok (.iload_n 2, 1) := dk_28 (dk_at dksX3_assign_0 14 rfl rfl)
theorem dX3_assign_15 : decode cX3_assign 15 = .ok (.invokevirtual 112, 3) := dk_182 0 112 (dk_at dksX3_assign_0 15 rfl rfl)
theorem dX3_assign_18 : decode cX3_assign 18 = .ok (.ifCond .ne 10, 3) := dk_154 0 10 (dk_at dksX3_assign_0 18 rfl rfl)
theorem dX3_assign_21 : decode cX3_assign 21 = .ok (.aload_n 0, 1) := dk_42 (dk_at dksX3_assign_0 21 rfl rfl)
theorem dX3_assign_22 : decode cX3_assign 22 = .ok (.iconst 1, 1) := dk_4 (dk_at dksX3_assign_0 22 rfl rfl)
theorem dX3_assign_23 : decode cX3_assign 23 = .ok (.iconst 0, 1) := dk_3 (dk_at dksX3_assign_0 23 rfl rfl)
theorem dX3_assign_24 : decode cX3_assign 24 = .ok (.invokevirtual 90, 3) := dk_182 0 90 (dk_at dksX3_assign_1 0 rfl rfl)
theorem dX3_assign_27 : decode cX3_assign 27 = .ok (.ireturn, 1) := dk_172 (dk_at dksX3_assign_1 3 rfl rfl)
theorem dX3_assign_28 : decode cX3_assign 28 = .ok (.aload_n 0, 1) := dk_42 (dk_at dksX3_assign_1 4 rfl rfl)
theorem dX3_assign_29 : decode cX3_assign 29 = .ok (.iload_n 1, 1) := dk_27 (dk_at dksX3_assign_1 5 rfl rfl)
theorem dX3_assign_30 : decode cX3_assign 30 = .ok (.iconst 2, 1) := dk_5 (dk_at dksX3_assign_1 6 rfl rfl)
theorem dX3_assign_31 : decode cX3_assign 31 = .ok (.invokevirtual 79, 3) := dk_182 0 79 (dk_at dksX3_assign_1 7 rfl rfl)
theorem dX3_assign_34 : decode cX3_assign 34 = .ok (.ifCond .lt 16, 3) := dk_155 0 16 (dk_at dksX3_assign_1 10 rfl rfl)
theorem dX3_assign_37 : decode cX3_assign 37 = .ok (.aload_n 0, 1) := dk_42 (dk_at dksX3_assign_1 13 rfl rfl)
theorem dX3_assign_38 : decode cX3_assign 38 = .ok (.bipush 7, 2) := dk_16 7 (dk_at dksX3_assign_1 14 rfl rfl)
theorem dX3_assign_40 : decode cX3_assign 40 = .ok (.aload_n 0, 1) := dk_42 (dk_at dksX3_assign_1 16 rfl rfl)
theorem dX3_assign_41 : decode cX3_assign 41 = .ok (.iload_n 1, 1) := dk_27 (dk_at dksX3_assign_1 17 rfl rfl)
theorem dX3_assign_42 : decode cX3_assign 42 = .ok (.iconst 2, 1) := dk_5 (dk_at dksX3_assign_1 18 rfl rfl)
theorem dX3_assign_43 : decode cX3_assign 43 = .ok (.invokevirtual 79, 3) := dk_182 0 79 (dk_at dksX3_assign_1 19 rfl rfl)
theorem dX3_assign_46 : decode cX3_assign 46 = .ok (.invokevirtual 90, 3) := dk_182 0 90 (dk_at dksX3_assign_2 0 rfl rfl)
theorem dX3_assign_49 : decode cX3_assign 49 = .ok (.ireturn, 1) := dk_172 (dk_at dksX3_assign_2 3 rfl rfl)
theorem dX3_assign_50 : decode cX3_assign 50 = .ok (.aload_n 0, 1) := dk_42 (dk_at dksX3_assign_2 4 rfl rfl)
theorem dX3_assign_51 : decode cX3_assign 51 = .ok (.iload_n 2, 1) := dk_28 (dk_at dksX3_assign_2 5 rfl rfl)
theorem dX3_assign_52 : decode cX3_assign 52 = .ok (.invokevirtual 115, 3) := dk_182 0 115 (dk_at dksX3_assign_2 6 rfl rfl)
theorem dX3_assign_55 : decode cX3_assign 55 = .ok (.ifCond .eq 15, 3) := dk_153 0 15 (dk_at dksX3_assign_2 9 rfl rfl)
theorem dX3_assign_58 : decode cX3_assign 58 = .ok (.aload_n 0, 1) := dk_42 (dk_at dksX3_assign_2 12 rfl rfl)
theorem dX3_assign_59 : decode cX3_assign 59 = .ok (.bipush 8, 2) := dk_16 8 (dk_at dksX3_assign_2 13 rfl rfl)
theorem dX3_assign_61 : decode cX3_assign 61 = .ok (.aload_n 0, 1) := dk_42 (dk_at dksX3_assign_2 15 rfl rfl)
theorem dX3_assign_62 : decode cX3_assign 62 = .ok (.iload_n 2, 1) := dk_28 (dk_at dksX3_assign_2 16 rfl rfl)
theorem dX3_assign_63 : decode cX3_assign 63 = .ok (.invokevirtual 115, 3) := dk_182 0 115 (dk_at dksX3_assign_2 17 rfl rfl)
theorem dX3_assign_66 : decode cX3_assign 66 = .ok (.invokevirtual 90, 3) := dk_182 0 90 (dk_at dksX3_assign_2 20 rfl rfl)
theorem dX3_assign_69 : decode cX3_assign 69 = .ok (.ireturn, 1) := dk_172 (dk_at dksX3_assign_2 23 rfl rfl)
theorem dX3_assign_70 : decode cX3_assign 70 = .ok (.aload_n 0, 1) := dk_42 (dk_at dksX3_assign_3 0 rfl rfl)
theorem dX3_assign_71 : decode cX3_assign 71 = .ok (.invokevirtual 100, 3) := dk_182 0 100 (dk_at dksX3_assign_3 1 rfl rfl)
theorem dX3_assign_74 : decode cX3_assign 74 = .ok (.aload_n 0, 1) := dk_42 (dk_at dksX3_assign_3 4 rfl rfl)
theorem dX3_assign_75 : decode cX3_assign 75 = .ok (.getfield 9, 3) := dk_180 0 9 (dk_at dksX3_assign_3 5 rfl rfl)
theorem dX3_assign_78 : decode cX3_assign 78 = .ok (.iload_n 1, 1) := dk_27 (dk_at dksX3_assign_3 8 rfl rfl)
theorem dX3_assign_79 : decode cX3_assign 79 = .ok (.invokestatic 75, 3) := dk_184 0 75 (dk_at dksX3_assign_3 9 rfl rfl)
theorem dX3_assign_82 : decode cX3_assign 82 = .ok (.iconst 2, 1) := dk_5 (dk_at dksX3_assign_3 12 rfl rfl)
theorem dX3_assign_83 : decode cX3_assign 83 = .ok (.iadd, 1) := dk_96 (dk_at dksX3_assign_3 13 rfl rfl)
theorem dX3_assign_84 : decode cX3_assign 84 = .ok (.iload_n 2, 1) := dk_28 (dk_at dksX3_assign_3 14 rfl rfl)
theorem dX3_assign_85 : decode cX3_assign 85 = .ok (.iastore, 1) := dk_79 (dk_at dksX3_assign_3 15 rfl rfl)
theorem dX3_assign_86 : decode cX3_assign 86 = .ok (.aload_n 0, 1) := dk_42 (dk_at dksX3_assign_3 16 rfl rfl)
theorem dX3_assign_87 : decode cX3_assign 87 = .ok (.getfield 9, 3) := dk_180 0 9 (dk_at dksX3_assign_3 17 rfl rfl)
theorem dX3_assign_90 : decode cX3_assign 90 = .ok (.iload_n 2, 1) := dk_28 (dk_at dksX3_assign_3 20 rfl rfl)
theorem dX3_assign_91 : decode cX3_assign 91 = .ok (.invokestatic 106, 3) := dk_184 0 106 (dk_at dksX3_assign_3 21 rfl rfl)
theorem dX3_assign_94 : decode cX3_assign 94 = .ok (.iconst 3, 1) := dk_6 (dk_at dksX3_assign_4 0 rfl rfl)
theorem dX3_assign_95 : decode cX3_assign 95 = .ok (.iadd, 1) := dk_96 (dk_at dksX3_assign_4 1 rfl rfl)
theorem dX3_assign_96 : decode cX3_assign 96 = .ok (.iload_n 1, 1) := dk_27 (dk_at dksX3_assign_4 2 rfl rfl)
theorem dX3_assign_97 : decode cX3_assign 97 = .ok (.iastore, 1) := dk_79 (dk_at dksX3_assign_4 3 rfl rfl)
theorem dX3_assign_98 : decode cX3_assign 98 = .ok (.aload_n 0, 1) := dk_42 (dk_at dksX3_assign_4 4 rfl rfl)
theorem dX3_assign_99 : decode cX3_assign 99 = .ok (.iload_n 2, 1) := dk_28 (dk_at dksX3_assign_4 5 rfl rfl)
theorem dX3_assign_100 : decode cX3_assign 100 = .ok (.iconst 1, 1) := dk_4 (dk_at dksX3_assign_4 6 rfl rfl)
theorem dX3_assign_101 : decode cX3_assign 101 = .ok (.invokevirtual 109, 3) := dk_182 0 109 (dk_at dksX3_assign_4 7 rfl rfl)
theorem dX3_assign_104 : decode cX3_assign 104 = .ok (.ireturn, 1) := dk_172 (dk_at dksX3_assign_4 10 rfl rfl)
abbrev cX3_isOrder : ByteArray := prog_12_method_18_code
def yX3_isOrder : MethodName := ⟨RX3, "isOrder", "(I)Z"⟩
def dkwX3_isOrder_0 : List UInt8 := [27, 3, 42, 180, 0, 9, 7, 46, 4, 100, 184, 0, 71, 172]
abbrev dktX3_isOrder_0 : List UInt8 := dkwX3_isOrder_0 ++ []
theorem dksX3_isOrder_0 : cX3_isOrder.data.toList.drop 0 = dktX3_isOrder_0 := by decide +kernel
theorem dX3_isOrder_0 : decode cX3_isOrder 0 = .ok (.iload_n 1, 1) := dk_27 (dk_at dksX3_isOrder_0 0 rfl rfl)
theorem dX3_isOrder_1 : decode cX3_isOrder 1 = .ok (.iconst 0, 1) := dk_3 (dk_at dksX3_isOrder_0 1 rfl rfl)
theorem dX3_isOrder_2 : decode cX3_isOrder 2 = .ok (.aload_n 0, 1) := dk_42 (dk_at dksX3_isOrder_0 2 rfl rfl)
theorem dX3_isOrder_3 : decode cX3_isOrder 3 = .ok (.getfield 9, 3) := dk_180 0 9 (dk_at dksX3_isOrder_0 3 rfl rfl)
theorem dX3_isOrder_6 : decode cX3_isOrder 6 = .ok (.iconst 4, 1) := dk_7 (dk_at dksX3_isOrder_0 6 rfl rfl)
theorem dX3_isOrder_7 : decode cX3_isOrder 7 = .ok (.iaload, 1) := dk_46 (dk_at dksX3_isOrder_0 7 rfl rfl)
theorem dX3_isOrder_8 : decode cX3_isOrder 8 = .ok (.iconst 1, 1) := dk_4 (dk_at dksX3_isOrder_0 8 rfl rfl)
theorem dX3_isOrder_9 : decode cX3_isOrder 9 = .ok (.isub, 1) := dk_100 (dk_at dksX3_isOrder_0 9 rfl rfl)
theorem dX3_isOrder_10 : decode cX3_isOrder 10 = .ok (.invokestatic 71, 3) := dk_184 0 71 (dk_at dksX3_isOrder_0 10 rfl rfl)
theorem dX3_isOrder_13 : decode cX3_isOrder 13 = .ok (.ireturn, 1) := dk_172 (dk_at dksX3_isOrder_0 13 rfl rfl)
abbrev cX3_stateOf : ByteArray := prog_12_method_21_code
def yX3_stateOf : MethodName := ⟨RX3, "stateOf", "(I)I"⟩
def dkwX3_stateOf_1 : List UInt8 := [167, 0, 4, 3, 172]
abbrev dktX3_stateOf_1 : List UInt8 := dkwX3_stateOf_1 ++ []
def dkwX3_stateOf_0 : List UInt8 := [42, 27, 7, 182, 0, 109, 155, 0, 7, 5, 167, 0, 17, 42, 27, 6, 182, 0, 109, 155, 0, 7, 4]
abbrev dktX3_stateOf_0 : List UInt8 := dkwX3_stateOf_0 ++ dktX3_stateOf_1
theorem dksX3_stateOf_0 : cX3_stateOf.data.toList.drop 0 = dktX3_stateOf_0 := by decide +kernel
theorem dksX3_stateOf_1 : cX3_stateOf.data.toList.drop 23 = dktX3_stateOf_1 := dk_seg dksX3_stateOf_0 23 rfl rfl
theorem dX3_stateOf_0 : decode cX3_stateOf 0 = .ok (.aload_n 0, 1) := dk_42 (dk_at dksX3_stateOf_0 0 rfl rfl)
theorem dX3_stateOf_1 : decode cX3_stateOf 1 = .ok (.iload_n 1, 1) := dk_27 (dk_at dksX3_stateOf_0 1 rfl rfl)
theorem dX3_stateOf_2 : decode cX3_stateOf 2 = .ok (.iconst 4, 1) := dk_7 (dk_at dksX3_stateOf_0 2 rfl rfl)
theorem dX3_stateOf_3 : decode cX3_stateOf 3 = .ok (.invokevirtual 109, 3) := dk_182 0 109 (dk_at dksX3_stateOf_0 3 rfl rfl)
theorem dX3_stateOf_6 : decode cX3_stateOf 6 = .ok (.ifCond .lt 7, 3) := dk_155 0 7 (dk_at dksX3_stateOf_0 6 rfl rfl)
theorem dX3_stateOf_9 : decode cX3_stateOf 9 = .ok (.iconst 2, 1) := dk_5 (dk_at dksX3_stateOf_0 9 rfl rfl)
theorem dX3_stateOf_10 : decode cX3_stateOf 10 = .ok (.goto 17, 3) := dk_167 0 17 (dk_at dksX3_stateOf_0 10 rfl rfl)
theorem dX3_stateOf_13 : decode cX3_stateOf 13 = .ok (.aload_n 0, 1) := dk_42 (dk_at dksX3_stateOf_0 13 rfl rfl)
theorem dX3_stateOf_14 : decode cX3_stateOf 14 = .ok (.iload_n 1, 1) := dk_27 (dk_at dksX3_stateOf_0 14 rfl rfl)
theorem dX3_stateOf_15 : decode cX3_stateOf 15 = .ok (.iconst 3, 1) := dk_6 (dk_at dksX3_stateOf_0 15 rfl rfl)
theorem dX3_stateOf_16 : decode cX3_stateOf 16 = .ok (.invokevirtual 109, 3) := dk_182 0 109 (dk_at dksX3_stateOf_0 16 rfl rfl)
theorem dX3_stateOf_19 : decode cX3_stateOf 19 = .ok (.ifCond .lt 7, 3) := dk_155 0 7 (dk_at dksX3_stateOf_0 19 rfl rfl)
theorem dX3_stateOf_22 : decode cX3_stateOf 22 = .ok (.iconst 1, 1) := dk_4 (dk_at dksX3_stateOf_0 22 rfl rfl)
theorem dX3_stateOf_23 : decode cX3_stateOf 23 = .ok (.goto 4, 3) := dk_167 0 4 (dk_at dksX3_stateOf_1 0 rfl rfl)
theorem dX3_stateOf_26 : decode cX3_stateOf 26 = .ok (.iconst 0, 1) := dk_3 (dk_at dksX3_stateOf_1 3 rfl rfl)
theorem dX3_stateOf_27 : decode cX3_stateOf 27 = .ok (.ireturn, 1) := dk_172 (dk_at dksX3_stateOf_1 4 rfl rfl)
abbrev cX3_get : ByteArray := prog_12_method_20_code
def yX3_get : MethodName := ⟨RX3, "get", "(II)I"⟩
def dkwX3_get_0 : List UInt8 := [42, 180, 0, 9, 27, 184, 0, 106, 28, 96, 46, 172]
abbrev dktX3_get_0 : List UInt8 := dkwX3_get_0 ++ []
theorem dksX3_get_0 : cX3_get.data.toList.drop 0 = dktX3_get_0 := by decide +kernel
theorem dX3_get_0 : decode cX3_get 0 = .ok (.aload_n 0, 1) := dk_42 (dk_at dksX3_get_0 0 rfl rfl)
theorem dX3_get_1 : decode cX3_get 1 = .ok (.getfield 9, 3) := dk_180 0 9 (dk_at dksX3_get_0 1 rfl rfl)
theorem dX3_get_4 : decode cX3_get 4 = .ok (.iload_n 1, 1) := dk_27 (dk_at dksX3_get_0 4 rfl rfl)
theorem dX3_get_5 : decode cX3_get 5 = .ok (.invokestatic 106, 3) := dk_184 0 106 (dk_at dksX3_get_0 5 rfl rfl)
theorem dX3_get_8 : decode cX3_get 8 = .ok (.iload_n 2, 1) := dk_28 (dk_at dksX3_get_0 8 rfl rfl)
theorem dX3_get_9 : decode cX3_get 9 = .ok (.iadd, 1) := dk_96 (dk_at dksX3_get_0 9 rfl rfl)
theorem dX3_get_10 : decode cX3_get 10 = .ok (.iaload, 1) := dk_46 (dk_at dksX3_get_0 10 rfl rfl)
theorem dX3_get_11 : decode cX3_get 11 = .ok (.ireturn, 1) := dk_172 (dk_at dksX3_get_0 11 rfl rfl)
abbrev cX3_release : ByteArray := prog_12_method_24_code
def yX3_release : MethodName := ⟨RX3, "release", "(I)I"⟩
def dkwX3_release_3 : List UInt8 := [28, 184, 0, 106, 5, 96, 3, 79, 28, 172]
abbrev dktX3_release_3 : List UInt8 := dkwX3_release_3 ++ []
def dkwX3_release_2 : List UInt8 := [27, 184, 0, 75, 5, 96, 2, 79, 42, 180, 0, 9, 28, 184, 0, 106, 6, 96, 2, 79, 42, 180, 0, 9]
abbrev dktX3_release_2 : List UInt8 := dkwX3_release_2 ++ dktX3_release_3
def dkwX3_release_1 : List UInt8 := [182, 0, 79, 61, 28, 156, 0, 11, 42, 16, 7, 2, 182, 0, 90, 172, 42, 182, 0, 100, 42, 180, 0, 9]
abbrev dktX3_release_1 : List UInt8 := dkwX3_release_1 ++ dktX3_release_2
def dkwX3_release_0 : List UInt8 := [42, 3, 181, 0, 49, 42, 27, 182, 0, 103, 154, 0, 10, 42, 4, 3, 182, 0, 90, 172, 42, 27, 5]
abbrev dktX3_release_0 : List UInt8 := dkwX3_release_0 ++ dktX3_release_1
theorem dksX3_release_0 : cX3_release.data.toList.drop 0 = dktX3_release_0 := by decide +kernel
theorem dksX3_release_1 : cX3_release.data.toList.drop 23 = dktX3_release_1 := dk_seg dksX3_release_0 23 rfl rfl
theorem dksX3_release_2 : cX3_release.data.toList.drop 47 = dktX3_release_2 := dk_seg dksX3_release_1 24 rfl rfl
theorem dksX3_release_3 : cX3_release.data.toList.drop 71 = dktX3_release_3 := dk_seg dksX3_release_2 24 rfl rfl
theorem dX3_release_0 : decode cX3_release 0 = .ok (.aload_n 0, 1) := dk_42 (dk_at dksX3_release_0 0 rfl rfl)
theorem dX3_release_1 : decode cX3_release 1 = .ok (.iconst 0, 1) := dk_3 (dk_at dksX3_release_0 1 rfl rfl)
theorem dX3_release_2 : decode cX3_release 2 = .ok (.putfield 49, 3) := dk_181 0 49 (dk_at dksX3_release_0 2 rfl rfl)
theorem dX3_release_5 : decode cX3_release 5 = .ok (.aload_n 0, 1) := dk_42 (dk_at dksX3_release_0 5 rfl rfl)
theorem dX3_release_6 : decode cX3_release 6 = .ok (.iload_n 1, 1) := dk_27 (dk_at dksX3_release_0 6 rfl rfl)
theorem dX3_release_7 : decode cX3_release 7 = .ok (.invokevirtual 103, 3) := dk_182 0 103 (dk_at dksX3_release_0 7 rfl rfl)
theorem dX3_release_10 : decode cX3_release 10 = .ok (.ifCond .ne 10, 3) := dk_154 0 10 (dk_at dksX3_release_0 10 rfl rfl)
theorem dX3_release_13 : decode cX3_release 13 = .ok (.aload_n 0, 1) := dk_42 (dk_at dksX3_release_0 13 rfl rfl)
theorem dX3_release_14 : decode cX3_release 14 = .ok (.iconst 1, 1) := dk_4 (dk_at dksX3_release_0 14 rfl rfl)
theorem dX3_release_15 : decode cX3_release 15 = .ok (.iconst 0, 1) := dk_3 (dk_at dksX3_release_0 15 rfl rfl)
theorem dX3_release_16 : decode cX3_release 16 = .ok (.invokevirtual 90, 3) := dk_182 0 90 (dk_at dksX3_release_0 16 rfl rfl)
theorem dX3_release_19 : decode cX3_release 19 = .ok (.ireturn, 1) := dk_172 (dk_at dksX3_release_0 19 rfl rfl)
theorem dX3_release_20 : decode cX3_release 20 = .ok (.aload_n 0, 1) := dk_42 (dk_at dksX3_release_0 20 rfl rfl)
theorem dX3_release_21 : decode cX3_release 21 = .ok (.iload_n 1, 1) := dk_27 (dk_at dksX3_release_0 21 rfl rfl)
theorem dX3_release_22 : decode cX3_release 22 = .ok (.iconst 2, 1) := dk_5 (dk_at dksX3_release_0 22 rfl rfl)
theorem dX3_release_23 : decode cX3_release 23 = .ok (.invokevirtual 79, 3) := dk_182 0 79 (dk_at dksX3_release_1 0 rfl rfl)
theorem dX3_release_26 : decode cX3_release 26 = .ok (.istore_n 2, 1) := dk_61 (dk_at dksX3_release_1 3 rfl rfl)
theorem dX3_release_27 : decode cX3_release 27 = .ok (.iload_n 2, 1) := dk_28 (dk_at dksX3_release_1 4 rfl rfl)
theorem dX3_release_28 : decode cX3_release 28 = .ok (.ifCond .ge 11, 3) := dk_156 0 11 (dk_at dksX3_release_1 5 rfl rfl)
theorem dX3_release_31 : decode cX3_release 31 = .ok (.aload_n 0, 1) := dk_42 (dk_at dksX3_release_1 8 rfl rfl)
theorem dX3_release_32 : decode cX3_release 32 = .ok (.bipush 7, 2) := dk_16 7 (dk_at dksX3_release_1 9 rfl rfl)
theorem dX3_release_34 : decode cX3_release 34 = .ok (.iconst (-1), 1) := dk_2 (dk_at dksX3_release_1 11 rfl rfl)
theorem dX3_release_35 : decode cX3_release 35 = .ok (.invokevirtual 90, 3) := dk_182 0 90 (dk_at dksX3_release_1 12 rfl rfl)
theorem dX3_release_38 : decode cX3_release 38 = .ok (.ireturn, 1) := dk_172 (dk_at dksX3_release_1 15 rfl rfl)
theorem dX3_release_39 : decode cX3_release 39 = .ok (.aload_n 0, 1) := dk_42 (dk_at dksX3_release_1 16 rfl rfl)
theorem dX3_release_40 : decode cX3_release 40 = .ok (.invokevirtual 100, 3) := dk_182 0 100 (dk_at dksX3_release_1 17 rfl rfl)
theorem dX3_release_43 : decode cX3_release 43 = .ok (.aload_n 0, 1) := dk_42 (dk_at dksX3_release_1 20 rfl rfl)
theorem dX3_release_44 : decode cX3_release 44 = .ok (.getfield 9, 3) := dk_180 0 9 (dk_at dksX3_release_1 21 rfl rfl)
theorem dX3_release_47 : decode cX3_release 47 = .ok (.iload_n 1, 1) := dk_27 (dk_at dksX3_release_2 0 rfl rfl)
theorem dX3_release_48 : decode cX3_release 48 = .ok (.invokestatic 75, 3) := dk_184 0 75 (dk_at dksX3_release_2 1 rfl rfl)
theorem dX3_release_51 : decode cX3_release 51 = .ok (.iconst 2, 1) := dk_5 (dk_at dksX3_release_2 4 rfl rfl)
theorem dX3_release_52 : decode cX3_release 52 = .ok (.iadd, 1) := dk_96 (dk_at dksX3_release_2 5 rfl rfl)
theorem dX3_release_53 : decode cX3_release 53 = .ok (.iconst (-1), 1) := dk_2 (dk_at dksX3_release_2 6 rfl rfl)
theorem dX3_release_54 : decode cX3_release 54 = .ok (.iastore, 1) := dk_79 (dk_at dksX3_release_2 7 rfl rfl)
theorem dX3_release_55 : decode cX3_release 55 = .ok (.aload_n 0, 1) := dk_42 (dk_at dksX3_release_2 8 rfl rfl)
theorem dX3_release_56 : decode cX3_release 56 = .ok (.getfield 9, 3) := dk_180 0 9 (dk_at dksX3_release_2 9 rfl rfl)
theorem dX3_release_59 : decode cX3_release 59 = .ok (.iload_n 2, 1) := dk_28 (dk_at dksX3_release_2 12 rfl rfl)
theorem dX3_release_60 : decode cX3_release 60 = .ok (.invokestatic 106, 3) := dk_184 0 106 (dk_at dksX3_release_2 13 rfl rfl)
theorem dX3_release_63 : decode cX3_release 63 = .ok (.iconst 3, 1) := dk_6 (dk_at dksX3_release_2 16 rfl rfl)
theorem dX3_release_64 : decode cX3_release 64 = .ok (.iadd, 1) := dk_96 (dk_at dksX3_release_2 17 rfl rfl)
theorem dX3_release_65 : decode cX3_release 65 = .ok (.iconst (-1), 1) := dk_2 (dk_at dksX3_release_2 18 rfl rfl)
theorem dX3_release_66 : decode cX3_release 66 = .ok (.iastore, 1) := dk_79 (dk_at dksX3_release_2 19 rfl rfl)
theorem dX3_release_67 : decode cX3_release 67 = .ok (.aload_n 0, 1) := dk_42 (dk_at dksX3_release_2 20 rfl rfl)
theorem dX3_release_68 : decode cX3_release 68 = .ok (.getfield 9, 3) := dk_180 0 9 (dk_at dksX3_release_2 21 rfl rfl)
theorem dX3_release_71 : decode cX3_release 71 = .ok (.iload_n 2, 1) := dk_28 (dk_at dksX3_release_3 0 rfl rfl)
theorem dX3_release_72 : decode cX3_release 72 = .ok (.invokestatic 106, 3) := dk_184 0 106 (dk_at dksX3_release_3 1 rfl rfl)
theorem dX3_release_75 : decode cX3_release 75 = .ok (.iconst 2, 1) := dk_5 (dk_at dksX3_release_3 4 rfl rfl)
theorem dX3_release_76 : decode cX3_release 76 = .ok (.iadd, 1) := dk_96 (dk_at dksX3_release_3 5 rfl rfl)
theorem dX3_release_77 : decode cX3_release 77 = .ok (.iconst 0, 1) := dk_3 (dk_at dksX3_release_3 6 rfl rfl)
theorem dX3_release_78 : decode cX3_release 78 = .ok (.iastore, 1) := dk_79 (dk_at dksX3_release_3 7 rfl rfl)
theorem dX3_release_79 : decode cX3_release 79 = .ok (.iload_n 2, 1) := dk_28 (dk_at dksX3_release_3 8 rfl rfl)
theorem dX3_release_80 : decode cX3_release 80 = .ok (.ireturn, 1) := dk_172 (dk_at dksX3_release_3 9 rfl rfl)
abbrev cX3_close : ByteArray := prog_12_method_26_code
def yX3_close : MethodName := ⟨RX3, "close", "(I)I"⟩
def dkwX3_close_4 : List UInt8 := [42, 182, 0, 118, 172]
abbrev dktX3_close_4 : List UInt8 := dkwX3_close_4 ++ []
def dkwX3_close_3 : List UInt8 := [155, 0, 10, 42, 8, 28, 182, 0, 90, 172, 42, 182, 0, 100, 42, 180, 0, 9, 16, 56, 27, 96, 4, 79]
abbrev dktX3_close_3 : List UInt8 := dkwX3_close_3 ++ dktX3_close_4
def dkwX3_close_2 : List UInt8 := [96, 46, 4, 160, 0, 10, 42, 7, 27, 182, 0, 90, 172, 42, 27, 3, 2, 182, 0, 96, 61, 28]
abbrev dktX3_close_2 : List UInt8 := dkwX3_close_2 ++ dktX3_close_3
def dkwX3_close_1 : List UInt8 := [16, 56, 27, 96, 46, 4, 160, 0, 11, 42, 16, 13, 3, 182, 0, 90, 172, 42, 180, 0, 9, 16, 8, 27]
abbrev dktX3_close_1 : List UInt8 := dkwX3_close_1 ++ dktX3_close_2
def dkwX3_close_0 : List UInt8 := [42, 3, 181, 0, 49, 42, 27, 182, 0, 86, 154, 0, 10, 42, 4, 3, 182, 0, 90, 172, 42, 180, 0, 9]
abbrev dktX3_close_0 : List UInt8 := dkwX3_close_0 ++ dktX3_close_1
theorem dksX3_close_0 : cX3_close.data.toList.drop 0 = dktX3_close_0 := by decide +kernel
theorem dksX3_close_1 : cX3_close.data.toList.drop 24 = dktX3_close_1 := dk_seg dksX3_close_0 24 rfl rfl
theorem dksX3_close_2 : cX3_close.data.toList.drop 48 = dktX3_close_2 := dk_seg dksX3_close_1 24 rfl rfl
theorem dksX3_close_3 : cX3_close.data.toList.drop 70 = dktX3_close_3 := dk_seg dksX3_close_2 22 rfl rfl
theorem dksX3_close_4 : cX3_close.data.toList.drop 94 = dktX3_close_4 := dk_seg dksX3_close_3 24 rfl rfl
theorem dX3_close_0 : decode cX3_close 0 = .ok (.aload_n 0, 1) := dk_42 (dk_at dksX3_close_0 0 rfl rfl)
theorem dX3_close_1 : decode cX3_close 1 = .ok (.iconst 0, 1) := dk_3 (dk_at dksX3_close_0 1 rfl rfl)
theorem dX3_close_2 : decode cX3_close 2 = .ok (.putfield 49, 3) := dk_181 0 49 (dk_at dksX3_close_0 2 rfl rfl)
theorem dX3_close_5 : decode cX3_close 5 = .ok (.aload_n 0, 1) := dk_42 (dk_at dksX3_close_0 5 rfl rfl)
theorem dX3_close_6 : decode cX3_close 6 = .ok (.iload_n 1, 1) := dk_27 (dk_at dksX3_close_0 6 rfl rfl)
theorem dX3_close_7 : decode cX3_close 7 = .ok (.invokevirtual 86, 3) := dk_182 0 86 (dk_at dksX3_close_0 7 rfl rfl)
theorem dX3_close_10 : decode cX3_close 10 = .ok (.ifCond .ne 10, 3) := dk_154 0 10 (dk_at dksX3_close_0 10 rfl rfl)
theorem dX3_close_13 : decode cX3_close 13 = .ok (.aload_n 0, 1) := dk_42 (dk_at dksX3_close_0 13 rfl rfl)
theorem dX3_close_14 : decode cX3_close 14 = .ok (.iconst 1, 1) := dk_4 (dk_at dksX3_close_0 14 rfl rfl)
theorem dX3_close_15 : decode cX3_close 15 = .ok (.iconst 0, 1) := dk_3 (dk_at dksX3_close_0 15 rfl rfl)
theorem dX3_close_16 : decode cX3_close 16 = .ok (.invokevirtual 90, 3) := dk_182 0 90 (dk_at dksX3_close_0 16 rfl rfl)
theorem dX3_close_19 : decode cX3_close 19 = .ok (.ireturn, 1) := dk_172 (dk_at dksX3_close_0 19 rfl rfl)
theorem dX3_close_20 : decode cX3_close 20 = .ok (.aload_n 0, 1) := dk_42 (dk_at dksX3_close_0 20 rfl rfl)
theorem dX3_close_21 : decode cX3_close 21 = .ok (.getfield 9, 3) := dk_180 0 9 (dk_at dksX3_close_0 21 rfl rfl)
theorem dX3_close_24 : decode cX3_close 24 = .ok (.bipush 56, 2) := dk_16 56 (dk_at dksX3_close_1 0 rfl rfl)
theorem dX3_close_26 : decode cX3_close 26 = .ok (.iload_n 1, 1) := dk_27 (dk_at dksX3_close_1 2 rfl rfl)
theorem dX3_close_27 : decode cX3_close 27 = .ok (.iadd, 1) := dk_96 (dk_at dksX3_close_1 3 rfl rfl)
theorem dX3_close_28 : decode cX3_close 28 = .ok (.iaload, 1) := dk_46 (dk_at dksX3_close_1 4 rfl rfl)
theorem dX3_close_29 : decode cX3_close 29 = .ok (.iconst 1, 1) := dk_4 (dk_at dksX3_close_1 5 rfl rfl)
theorem dX3_close_30 : decode cX3_close 30 = .ok (.if_icmp .ne 11, 3) := dk_160 0 11 (dk_at dksX3_close_1 6 rfl rfl)
theorem dX3_close_33 : decode cX3_close 33 = .ok (.aload_n 0, 1) := dk_42 (dk_at dksX3_close_1 9 rfl rfl)
theorem dX3_close_34 : decode cX3_close 34 = .ok (.bipush 13, 2) := dk_16 13 (dk_at dksX3_close_1 10 rfl rfl)
theorem dX3_close_36 : decode cX3_close 36 = .ok (.iconst 0, 1) := dk_3 (dk_at dksX3_close_1 12 rfl rfl)
theorem dX3_close_37 : decode cX3_close 37 = .ok (.invokevirtual 90, 3) := dk_182 0 90 (dk_at dksX3_close_1 13 rfl rfl)
theorem dX3_close_40 : decode cX3_close 40 = .ok (.ireturn, 1) := dk_172 (dk_at dksX3_close_1 16 rfl rfl)
theorem dX3_close_41 : decode cX3_close 41 = .ok (.aload_n 0, 1) := dk_42 (dk_at dksX3_close_1 17 rfl rfl)
theorem dX3_close_42 : decode cX3_close 42 = .ok (.getfield 9, 3) := dk_180 0 9 (dk_at dksX3_close_1 18 rfl rfl)
theorem dX3_close_45 : decode cX3_close 45 = .ok (.bipush 8, 2) := dk_16 8 (dk_at dksX3_close_1 21 rfl rfl)
theorem dX3_close_47 : decode cX3_close 47 = .ok (.iload_n 1, 1) := dk_27 (dk_at dksX3_close_1 23 rfl rfl)
theorem dX3_close_48 : decode cX3_close 48 = .ok (.iadd, 1) := dk_96 (dk_at dksX3_close_2 0 rfl rfl)
theorem dX3_close_49 : decode cX3_close 49 = .ok (.iaload, 1) := dk_46 (dk_at dksX3_close_2 1 rfl rfl)
theorem dX3_close_50 : decode cX3_close 50 = .ok (.iconst 1, 1) := dk_4 (dk_at dksX3_close_2 2 rfl rfl)
theorem dX3_close_51 : decode cX3_close 51 = .ok (.if_icmp .ne 10, 3) := dk_160 0 10 (dk_at dksX3_close_2 3 rfl rfl)
theorem dX3_close_54 : decode cX3_close 54 = .ok (.aload_n 0, 1) := dk_42 (dk_at dksX3_close_2 6 rfl rfl)
theorem dX3_close_55 : decode cX3_close 55 = .ok (.iconst 4, 1) := dk_7 (dk_at dksX3_close_2 7 rfl rfl)
theorem dX3_close_56 : decode cX3_close 56 = .ok (.iload_n 1, 1) := dk_27 (dk_at dksX3_close_2 8 rfl rfl)
theorem dX3_close_57 : decode cX3_close 57 = .ok (.invokevirtual 90, 3) := dk_182 0 90 (dk_at dksX3_close_2 9 rfl rfl)
theorem dX3_close_60 : decode cX3_close 60 = .ok (.ireturn, 1) := dk_172 (dk_at dksX3_close_2 12 rfl rfl)
theorem dX3_close_61 : decode cX3_close 61 = .ok (.aload_n 0, 1) := dk_42 (dk_at dksX3_close_2 13 rfl rfl)
theorem dX3_close_62 : decode cX3_close 62 = .ok (.iload_n 1, 1) := dk_27 (dk_at dksX3_close_2 14 rfl rfl)
theorem dX3_close_63 : decode cX3_close 63 = .ok (.iconst 0, 1) := dk_3 (dk_at dksX3_close_2 15 rfl rfl)
theorem dX3_close_64 : decode cX3_close 64 = .ok (.iconst (-1), 1) := dk_2 (dk_at dksX3_close_2 16 rfl rfl)
theorem dX3_close_65 : decode cX3_close 65 = .ok (.invokevirtual 96, 3) := dk_182 0 96 (dk_at dksX3_close_2 17 rfl rfl)
theorem dX3_close_68 : decode cX3_close 68 = .ok (.istore_n 2, 1) := dk_61 (dk_at dksX3_close_2 20 rfl rfl)
theorem dX3_close_69 : decode cX3_close 69 = .ok (.iload_n 2, 1) := dk_28 (dk_at dksX3_close_2 21 rfl rfl)
theorem dX3_close_70 : decode cX3_close 70 = .ok (.ifCond .lt 10, 3) := dk_155 0 10 (dk_at dksX3_close_3 0 rfl rfl)
theorem dX3_close_73 : decode cX3_close 73 = .ok (.aload_n 0, 1) := dk_42 (dk_at dksX3_close_3 3 rfl rfl)
theorem dX3_close_74 : decode cX3_close 74 = .ok (.iconst 5, 1) := dk_8 (dk_at dksX3_close_3 4 rfl rfl)
theorem dX3_close_75 : decode cX3_close 75 = .ok (.iload_n 2, 1) := dk_28 (dk_at dksX3_close_3 5 rfl rfl)
theorem dX3_close_76 : decode cX3_close 76 = .ok (.invokevirtual 90, 3) := dk_182 0 90 (dk_at dksX3_close_3 6 rfl rfl)
theorem dX3_close_79 : decode cX3_close 79 = .ok (.ireturn, 1) := dk_172 (dk_at dksX3_close_3 9 rfl rfl)
theorem dX3_close_80 : decode cX3_close 80 = .ok (.aload_n 0, 1) := dk_42 (dk_at dksX3_close_3 10 rfl rfl)
theorem dX3_close_81 : decode cX3_close 81 = .ok (.invokevirtual 100, 3) := dk_182 0 100 (dk_at dksX3_close_3 11 rfl rfl)
theorem dX3_close_84 : decode cX3_close 84 = .ok (.aload_n 0, 1) := dk_42 (dk_at dksX3_close_3 14 rfl rfl)
theorem dX3_close_85 : decode cX3_close 85 = .ok (.getfield 9, 3) := dk_180 0 9 (dk_at dksX3_close_3 15 rfl rfl)
theorem dX3_close_88 : decode cX3_close 88 = .ok (.bipush 56, 2) := dk_16 56 (dk_at dksX3_close_3 18 rfl rfl)
theorem dX3_close_90 : decode cX3_close 90 = .ok (.iload_n 1, 1) := dk_27 (dk_at dksX3_close_3 20 rfl rfl)
theorem dX3_close_91 : decode cX3_close 91 = .ok (.iadd, 1) := dk_96 (dk_at dksX3_close_3 21 rfl rfl)
theorem dX3_close_92 : decode cX3_close 92 = .ok (.iconst 1, 1) := dk_4 (dk_at dksX3_close_3 22 rfl rfl)
theorem dX3_close_93 : decode cX3_close 93 = .ok (.iastore, 1) := dk_79 (dk_at dksX3_close_3 23 rfl rfl)
theorem dX3_close_94 : decode cX3_close 94 = .ok (.aload_n 0, 1) := dk_42 (dk_at dksX3_close_4 0 rfl rfl)
theorem dX3_close_95 : decode cX3_close 95 = .ok (.invokevirtual 118, 3) := dk_182 0 118 (dk_at dksX3_close_4 1 rfl rfl)
theorem dX3_close_98 : decode cX3_close 98 = .ok (.ireturn, 1) := dk_172 (dk_at dksX3_close_4 4 rfl rfl)
abbrev cX3_closedCells : ByteArray := prog_12_method_10_code
def yX3_closedCells : MethodName := ⟨RX3, "closedCells", "()I"⟩
def dkwX3_closedCells_1 : List UInt8 := [132, 2, 1, 167, 255, 233, 27, 172]
abbrev dktX3_closedCells_1 : List UInt8 := dkwX3_closedCells_1 ++ []
def dkwX3_closedCells_0 : List UInt8 := [3, 60, 3, 61, 28, 42, 182, 0, 67, 162, 0, 21, 27, 42, 180, 0, 9, 16, 56, 28, 96, 46, 96, 60]
abbrev dktX3_closedCells_0 : List UInt8 := dkwX3_closedCells_0 ++ dktX3_closedCells_1
theorem dksX3_closedCells_0 : cX3_closedCells.data.toList.drop 0 = dktX3_closedCells_0 := by decide +kernel
theorem dksX3_closedCells_1 : cX3_closedCells.data.toList.drop 24 = dktX3_closedCells_1 := dk_seg dksX3_closedCells_0 24 rfl rfl
theorem dX3_closedCells_0 : decode cX3_closedCells 0 = .ok (.iconst 0, 1) := dk_3 (dk_at dksX3_closedCells_0 0 rfl rfl)
theorem dX3_closedCells_1 : decode cX3_closedCells 1 = .ok (.istore_n 1, 1) := dk_60 (dk_at dksX3_closedCells_0 1 rfl rfl)
theorem dX3_closedCells_2 : decode cX3_closedCells 2 = .ok (.iconst 0, 1) := dk_3 (dk_at dksX3_closedCells_0 2 rfl rfl)
theorem dX3_closedCells_3 : decode cX3_closedCells 3 = .ok (.istore_n 2, 1) := dk_61 (dk_at dksX3_closedCells_0 3 rfl rfl)
theorem dX3_closedCells_4 : decode cX3_closedCells 4 = .ok (.iload_n 2, 1) := dk_28 (dk_at dksX3_closedCells_0 4 rfl rfl)
theorem dX3_closedCells_5 : decode cX3_closedCells 5 = .ok (.aload_n 0, 1) := dk_42 (dk_at dksX3_closedCells_0 5 rfl rfl)
theorem dX3_closedCells_6 : decode cX3_closedCells 6 = .ok (.invokevirtual 67, 3) := dk_182 0 67 (dk_at dksX3_closedCells_0 6 rfl rfl)
theorem dX3_closedCells_9 : decode cX3_closedCells 9 = .ok (.if_icmp .ge 21, 3) := dk_162 0 21 (dk_at dksX3_closedCells_0 9 rfl rfl)
theorem dX3_closedCells_12 : decode cX3_closedCells 12 = .ok (.iload_n 1, 1) := dk_27 (dk_at dksX3_closedCells_0 12 rfl rfl)
theorem dX3_closedCells_13 : decode cX3_closedCells 13 = .ok (.aload_n 0, 1) := dk_42 (dk_at dksX3_closedCells_0 13 rfl rfl)
theorem dX3_closedCells_14 : decode cX3_closedCells 14 = .ok (.getfield 9, 3) := dk_180 0 9 (dk_at dksX3_closedCells_0 14 rfl rfl)
theorem dX3_closedCells_17 : decode cX3_closedCells 17 = .ok (.bipush 56, 2) := dk_16 56 (dk_at dksX3_closedCells_0 17 rfl rfl)
theorem dX3_closedCells_19 : decode cX3_closedCells 19 = .ok (.iload_n 2, 1) := dk_28 (dk_at dksX3_closedCells_0 19 rfl rfl)
theorem dX3_closedCells_20 : decode cX3_closedCells 20 = .ok (.iadd, 1) := dk_96 (dk_at dksX3_closedCells_0 20 rfl rfl)
theorem dX3_closedCells_21 : decode cX3_closedCells 21 = .ok (.iaload, 1) := dk_46 (dk_at dksX3_closedCells_0 21 rfl rfl)
theorem dX3_closedCells_22 : decode cX3_closedCells 22 = .ok (.iadd, 1) := dk_96 (dk_at dksX3_closedCells_0 22 rfl rfl)
theorem dX3_closedCells_23 : decode cX3_closedCells 23 = .ok (.istore_n 1, 1) := dk_60 (dk_at dksX3_closedCells_0 23 rfl rfl)
theorem dX3_closedCells_24 : decode cX3_closedCells 24 = .ok (.iinc 2 1, 3) := dk_132 2 1 (dk_at dksX3_closedCells_1 0 rfl rfl)
theorem dX3_closedCells_27 : decode cX3_closedCells 27 = .ok (.goto (-23), 3) := dk_167 255 233 (dk_at dksX3_closedCells_1 3 rfl rfl)
theorem dX3_closedCells_30 : decode cX3_closedCells 30 = .ok (.iload_n 1, 1) := dk_27 (dk_at dksX3_closedCells_1 6 rfl rfl)
theorem dX3_closedCells_31 : decode cX3_closedCells 31 = .ok (.ireturn, 1) := dk_172 (dk_at dksX3_closedCells_1 7 rfl rfl)
abbrev cX3_open : ByteArray := prog_12_method_27_code
def yX3_open : MethodName := ⟨RX3, "open", "(I)I"⟩
def dkwX3_open_2 : List UInt8 := [16, 56, 27, 96, 3, 79, 42, 182, 0, 118, 172]
abbrev dktX3_open_2 : List UInt8 := dkwX3_open_2 ++ []
def dkwX3_open_1 : List UInt8 := [16, 56, 27, 96, 46, 154, 0, 11, 42, 16, 13, 3, 182, 0, 90, 172, 42, 182, 0, 100, 42, 180, 0, 9]
abbrev dktX3_open_1 : List UInt8 := dkwX3_open_1 ++ dktX3_open_2
def dkwX3_open_0 : List UInt8 := [42, 3, 181, 0, 49, 42, 27, 182, 0, 86, 154, 0, 10, 42, 4, 3, 182, 0, 90, 172, 42, 180, 0, 9]
abbrev dktX3_open_0 : List UInt8 := dkwX3_open_0 ++ dktX3_open_1
theorem dksX3_open_0 : cX3_open.data.toList.drop 0 = dktX3_open_0 := by decide +kernel
theorem dksX3_open_1 : cX3_open.data.toList.drop 24 = dktX3_open_1 := dk_seg dksX3_open_0 24 rfl rfl
theorem dksX3_open_2 : cX3_open.data.toList.drop 48 = dktX3_open_2 := dk_seg dksX3_open_1 24 rfl rfl
theorem dX3_open_0 : decode cX3_open 0 = .ok (.aload_n 0, 1) := dk_42 (dk_at dksX3_open_0 0 rfl rfl)
theorem dX3_open_1 : decode cX3_open 1 = .ok (.iconst 0, 1) := dk_3 (dk_at dksX3_open_0 1 rfl rfl)
theorem dX3_open_2 : decode cX3_open 2 = .ok (.putfield 49, 3) := dk_181 0 49 (dk_at dksX3_open_0 2 rfl rfl)
theorem dX3_open_5 : decode cX3_open 5 = .ok (.aload_n 0, 1) := dk_42 (dk_at dksX3_open_0 5 rfl rfl)
theorem dX3_open_6 : decode cX3_open 6 = .ok (.iload_n 1, 1) := dk_27 (dk_at dksX3_open_0 6 rfl rfl)
theorem dX3_open_7 : decode cX3_open 7 = .ok (.invokevirtual 86, 3) := dk_182 0 86 (dk_at dksX3_open_0 7 rfl rfl)
theorem dX3_open_10 : decode cX3_open 10 = .ok (.ifCond .ne 10, 3) := dk_154 0 10 (dk_at dksX3_open_0 10 rfl rfl)
theorem dX3_open_13 : decode cX3_open 13 = .ok (.aload_n 0, 1) := dk_42 (dk_at dksX3_open_0 13 rfl rfl)
theorem dX3_open_14 : decode cX3_open 14 = .ok (.iconst 1, 1) := dk_4 (dk_at dksX3_open_0 14 rfl rfl)
theorem dX3_open_15 : decode cX3_open 15 = .ok (.iconst 0, 1) := dk_3 (dk_at dksX3_open_0 15 rfl rfl)
theorem dX3_open_16 : decode cX3_open 16 = .ok (.invokevirtual 90, 3) := dk_182 0 90 (dk_at dksX3_open_0 16 rfl rfl)
theorem dX3_open_19 : decode cX3_open 19 = .ok (.ireturn, 1) := dk_172 (dk_at dksX3_open_0 19 rfl rfl)
theorem dX3_open_20 : decode cX3_open 20 = .ok (.aload_n 0, 1) := dk_42 (dk_at dksX3_open_0 20 rfl rfl)
theorem dX3_open_21 : decode cX3_open 21 = .ok (.getfield 9, 3) := dk_180 0 9 (dk_at dksX3_open_0 21 rfl rfl)
theorem dX3_open_24 : decode cX3_open 24 = .ok (.bipush 56, 2) := dk_16 56 (dk_at dksX3_open_1 0 rfl rfl)
theorem dX3_open_26 : decode cX3_open 26 = .ok (.iload_n 1, 1) := dk_27 (dk_at dksX3_open_1 2 rfl rfl)
theorem dX3_open_27 : decode cX3_open 27 = .ok (.iadd, 1) := dk_96 (dk_at dksX3_open_1 3 rfl rfl)
theorem dX3_open_28 : decode cX3_open 28 = .ok (.iaload, 1) := dk_46 (dk_at dksX3_open_1 4 rfl rfl)
theorem dX3_open_29 : decode cX3_open 29 = .ok (.ifCond .ne 11, 3) := dk_154 0 11 (dk_at dksX3_open_1 5 rfl rfl)
theorem dX3_open_32 : decode cX3_open 32 = .ok (.aload_n 0, 1) := dk_42 (dk_at dksX3_open_1 8 rfl rfl)
theorem dX3_open_33 : decode cX3_open 33 = .ok (.bipush 13, 2) := dk_16 13 (dk_at dksX3_open_1 9 rfl rfl)
theorem dX3_open_35 : decode cX3_open 35 = .ok (.iconst 0, 1) := dk_3 (dk_at dksX3_open_1 11 rfl rfl)
theorem dX3_open_36 : decode cX3_open 36 = .ok (.invokevirtual 90, 3) := dk_182 0 90 (dk_at dksX3_open_1 12 rfl rfl)
theorem dX3_open_39 : decode cX3_open 39 = .ok (.ireturn, 1) := dk_172 (dk_at dksX3_open_1 15 rfl rfl)
theorem dX3_open_40 : decode cX3_open 40 = .ok (.aload_n 0, 1) := dk_42 (dk_at dksX3_open_1 16 rfl rfl)
theorem dX3_open_41 : decode cX3_open 41 = .ok (.invokevirtual 100, 3) := dk_182 0 100 (dk_at dksX3_open_1 17 rfl rfl)
theorem dX3_open_44 : decode cX3_open 44 = .ok (.aload_n 0, 1) := dk_42 (dk_at dksX3_open_1 20 rfl rfl)
theorem dX3_open_45 : decode cX3_open 45 = .ok (.getfield 9, 3) := dk_180 0 9 (dk_at dksX3_open_1 21 rfl rfl)
theorem dX3_open_48 : decode cX3_open 48 = .ok (.bipush 56, 2) := dk_16 56 (dk_at dksX3_open_2 0 rfl rfl)
theorem dX3_open_50 : decode cX3_open 50 = .ok (.iload_n 1, 1) := dk_27 (dk_at dksX3_open_2 2 rfl rfl)
theorem dX3_open_51 : decode cX3_open 51 = .ok (.iadd, 1) := dk_96 (dk_at dksX3_open_2 3 rfl rfl)
theorem dX3_open_52 : decode cX3_open 52 = .ok (.iconst 0, 1) := dk_3 (dk_at dksX3_open_2 4 rfl rfl)
theorem dX3_open_53 : decode cX3_open 53 = .ok (.iastore, 1) := dk_79 (dk_at dksX3_open_2 5 rfl rfl)
theorem dX3_open_54 : decode cX3_open 54 = .ok (.aload_n 0, 1) := dk_42 (dk_at dksX3_open_2 6 rfl rfl)
theorem dX3_open_55 : decode cX3_open 55 = .ok (.invokevirtual 118, 3) := dk_182 0 118 (dk_at dksX3_open_2 7 rfl rfl)
theorem dX3_open_58 : decode cX3_open 58 = .ok (.ireturn, 1) := dk_172 (dk_at dksX3_open_2 10 rfl rfl)
abbrev cX3_set : ByteArray := prog_12_method_29_code
def yX3_set : MethodName := ⟨RX3, "set", "(II)I"⟩
def dkwX3_set_2 : List UInt8 := [180, 0, 9, 8, 27, 96, 28, 79, 29, 172]
abbrev dktX3_set_2 : List UInt8 := dkwX3_set_2 ++ []
def dkwX3_set_1 : List UInt8 := [154, 0, 10, 42, 5, 3, 182, 0, 90, 172, 42, 182, 0, 100, 42, 180, 0, 9, 8, 27, 96, 46, 62, 42]
abbrev dktX3_set_1 : List UInt8 := dkwX3_set_1 ++ dktX3_set_2
def dkwX3_set_0 : List UInt8 := [42, 3, 181, 0, 49, 27, 3, 5, 184, 0, 71, 153, 0, 15, 28, 4, 27, 184, 0, 121, 184, 0, 71]
abbrev dktX3_set_0 : List UInt8 := dkwX3_set_0 ++ dktX3_set_1
theorem dksX3_set_0 : cX3_set.data.toList.drop 0 = dktX3_set_0 := by decide +kernel
theorem dksX3_set_1 : cX3_set.data.toList.drop 23 = dktX3_set_1 := dk_seg dksX3_set_0 23 rfl rfl
theorem dksX3_set_2 : cX3_set.data.toList.drop 47 = dktX3_set_2 := dk_seg dksX3_set_1 24 rfl rfl
theorem dX3_set_0 : decode cX3_set 0 = .ok (.aload_n 0, 1) := dk_42 (dk_at dksX3_set_0 0 rfl rfl)
theorem dX3_set_1 : decode cX3_set 1 = .ok (.iconst 0, 1) := dk_3 (dk_at dksX3_set_0 1 rfl rfl)
theorem dX3_set_2 : decode cX3_set 2 = .ok (.putfield 49, 3) := dk_181 0 49 (dk_at dksX3_set_0 2 rfl rfl)
theorem dX3_set_5 : decode cX3_set 5 = .ok (.iload_n 1, 1) := dk_27 (dk_at dksX3_set_0 5 rfl rfl)
theorem dX3_set_6 : decode cX3_set 6 = .ok (.iconst 0, 1) := dk_3 (dk_at dksX3_set_0 6 rfl rfl)
theorem dX3_set_7 : decode cX3_set 7 = .ok (.iconst 2, 1) := dk_5 (dk_at dksX3_set_0 7 rfl rfl)
theorem dX3_set_8 : decode cX3_set 8 = .ok (.invokestatic 71, 3) := dk_184 0 71 (dk_at dksX3_set_0 8 rfl rfl)
theorem dX3_set_11 : decode cX3_set 11 = .ok (.ifCond .eq 15, 3) := dk_153 0 15 (dk_at dksX3_set_0 11 rfl rfl)
theorem dX3_set_14 : decode cX3_set 14 = .ok (.iload_n 2, 1) := dk_28 (dk_at dksX3_set_0 14 rfl rfl)
theorem dX3_set_15 : decode cX3_set 15 = .ok (.iconst 1, 1) := dk_4 (dk_at dksX3_set_0 15 rfl rfl)
theorem dX3_set_16 : decode cX3_set 16 = .ok (.iload_n 1, 1) := dk_27 (dk_at dksX3_set_0 16 rfl rfl)
theorem dX3_set_17 : decode cX3_set 17 = .ok (.invokestatic 121, 3) := dk_184 0 121 (dk_at dksX3_set_0 17 rfl rfl)
theorem dX3_set_20 : decode cX3_set 20 = .ok (.invokestatic 71, 3) := dk_184 0 71 (dk_at dksX3_set_0 20 rfl rfl)
theorem dX3_set_23 : decode cX3_set 23 = .ok (.ifCond .ne 10, 3) := dk_154 0 10 (dk_at dksX3_set_1 0 rfl rfl)
theorem dX3_set_26 : decode cX3_set 26 = .ok (.aload_n 0, 1) := dk_42 (dk_at dksX3_set_1 3 rfl rfl)
theorem dX3_set_27 : decode cX3_set 27 = .ok (.iconst 2, 1) := dk_5 (dk_at dksX3_set_1 4 rfl rfl)
theorem dX3_set_28 : decode cX3_set 28 = .ok (.iconst 0, 1) := dk_3 (dk_at dksX3_set_1 5 rfl rfl)
theorem dX3_set_29 : decode cX3_set 29 = .ok (.invokevirtual 90, 3) := dk_182 0 90 (dk_at dksX3_set_1 6 rfl rfl)
theorem dX3_set_32 : decode cX3_set 32 = .ok (.ireturn, 1) := dk_172 (dk_at dksX3_set_1 9 rfl rfl)
theorem dX3_set_33 : decode cX3_set 33 = .ok (.aload_n 0, 1) := dk_42 (dk_at dksX3_set_1 10 rfl rfl)
theorem dX3_set_34 : decode cX3_set 34 = .ok (.invokevirtual 100, 3) := dk_182 0 100 (dk_at dksX3_set_1 11 rfl rfl)
theorem dX3_set_37 : decode cX3_set 37 = .ok (.aload_n 0, 1) := dk_42 (dk_at dksX3_set_1 14 rfl rfl)
theorem dX3_set_38 : decode cX3_set 38 = .ok (.getfield 9, 3) := dk_180 0 9 (dk_at dksX3_set_1 15 rfl rfl)
theorem dX3_set_41 : decode cX3_set 41 = .ok (.iconst 5, 1) := dk_8 (dk_at dksX3_set_1 18 rfl rfl)
theorem dX3_set_42 : decode cX3_set 42 = .ok (.iload_n 1, 1) := dk_27 (dk_at dksX3_set_1 19 rfl rfl)
theorem dX3_set_43 : decode cX3_set 43 = .ok (.iadd, 1) := dk_96 (dk_at dksX3_set_1 20 rfl rfl)
theorem dX3_set_44 : decode cX3_set 44 = .ok (.iaload, 1) := dk_46 (dk_at dksX3_set_1 21 rfl rfl)
theorem dX3_set_45 : decode cX3_set 45 = .ok (.istore_n 3, 1) := dk_62 (dk_at dksX3_set_1 22 rfl rfl)
theorem dX3_set_46 : decode cX3_set 46 = .ok (.aload_n 0, 1) := dk_42 (dk_at dksX3_set_1 23 rfl rfl)
theorem dX3_set_47 : decode cX3_set 47 = .ok (.getfield 9, 3) := dk_180 0 9 (dk_at dksX3_set_2 0 rfl rfl)
theorem dX3_set_50 : decode cX3_set 50 = .ok (.iconst 5, 1) := dk_8 (dk_at dksX3_set_2 3 rfl rfl)
theorem dX3_set_51 : decode cX3_set 51 = .ok (.iload_n 1, 1) := dk_27 (dk_at dksX3_set_2 4 rfl rfl)
theorem dX3_set_52 : decode cX3_set 52 = .ok (.iadd, 1) := dk_96 (dk_at dksX3_set_2 5 rfl rfl)
theorem dX3_set_53 : decode cX3_set 53 = .ok (.iload_n 2, 1) := dk_28 (dk_at dksX3_set_2 6 rfl rfl)
theorem dX3_set_54 : decode cX3_set 54 = .ok (.iastore, 1) := dk_79 (dk_at dksX3_set_2 7 rfl rfl)
theorem dX3_set_55 : decode cX3_set 55 = .ok (.iload_n 3, 1) := dk_29 (dk_at dksX3_set_2 8 rfl rfl)
theorem dX3_set_56 : decode cX3_set 56 = .ok (.ireturn, 1) := dk_172 (dk_at dksX3_set_2 9 rfl rfl)
abbrev cX3_mostOf : ByteArray := prog_12_method_28_code
def yX3_mostOf : MethodName := ⟨RX3, "mostOf", "(I)I"⟩
def dkwX3_mostOf_0 : List UInt8 := [26, 154, 0, 8, 16, 20, 167, 0, 14, 26, 4, 160, 0, 7, 6, 167, 0, 5, 16, 30, 172]
abbrev dktX3_mostOf_0 : List UInt8 := dkwX3_mostOf_0 ++ []
theorem dksX3_mostOf_0 : cX3_mostOf.data.toList.drop 0 = dktX3_mostOf_0 := by decide +kernel
theorem dX3_mostOf_0 : decode cX3_mostOf 0 = .ok (.iload_n 0, 1) := dk_26 (dk_at dksX3_mostOf_0 0 rfl rfl)
theorem dX3_mostOf_1 : decode cX3_mostOf 1 = .ok (.ifCond .ne 8, 3) := dk_154 0 8 (dk_at dksX3_mostOf_0 1 rfl rfl)
theorem dX3_mostOf_4 : decode cX3_mostOf 4 = .ok (.bipush 20, 2) := dk_16 20 (dk_at dksX3_mostOf_0 4 rfl rfl)
theorem dX3_mostOf_6 : decode cX3_mostOf 6 = .ok (.goto 14, 3) := dk_167 0 14 (dk_at dksX3_mostOf_0 6 rfl rfl)
theorem dX3_mostOf_9 : decode cX3_mostOf 9 = .ok (.iload_n 0, 1) := dk_26 (dk_at dksX3_mostOf_0 9 rfl rfl)
theorem dX3_mostOf_10 : decode cX3_mostOf 10 = .ok (.iconst 1, 1) := dk_4 (dk_at dksX3_mostOf_0 10 rfl rfl)
theorem dX3_mostOf_11 : decode cX3_mostOf 11 = .ok (.if_icmp .ne 7, 3) := dk_160 0 7 (dk_at dksX3_mostOf_0 11 rfl rfl)
theorem dX3_mostOf_14 : decode cX3_mostOf 14 = .ok (.iconst 3, 1) := dk_6 (dk_at dksX3_mostOf_0 14 rfl rfl)
theorem dX3_mostOf_15 : decode cX3_mostOf 15 = .ok (.goto 5, 3) := dk_167 0 5 (dk_at dksX3_mostOf_0 15 rfl rfl)
theorem dX3_mostOf_18 : decode cX3_mostOf 18 = .ok (.bipush 30, 2) := dk_16 30 (dk_at dksX3_mostOf_0 18 rfl rfl)
theorem dX3_mostOf_20 : decode cX3_mostOf 20 = .ok (.ireturn, 1) := dk_172 (dk_at dksX3_mostOf_0 20 rfl rfl)
abbrev cX3_plan : ByteArray := prog_12_method_36_code
def yX3_plan : MethodName := ⟨RX3, "plan", "(II)I"⟩
def dkwX3_plan_8 : List UInt8 := [3, 42, 180, 0, 9, 27, 184, 0, 75, 16, 6, 96, 29, 184, 0, 55, 29, 172]
abbrev dktX3_plan_8 : List UInt8 := dkwX3_plan_8 ++ []
def dkwX3_plan_7 : List UInt8 := [184, 0, 75, 6, 96, 29, 79, 42, 180, 0, 9, 27, 184, 0, 75, 7, 96, 21, 4, 79, 42, 180, 0, 29]
abbrev dktX3_plan_7 : List UInt8 := dkwX3_plan_7 ++ dktX3_plan_8
def dkwX3_plan_6 : List UInt8 := [21, 5, 162, 0, 12, 42, 16, 11, 21, 5, 182, 0, 90, 172, 42, 182, 0, 100, 42, 180, 0, 9, 27]
abbrev dktX3_plan_6 : List UInt8 := dkwX3_plan_6 ++ dktX3_plan_7
def dkwX3_plan_5 : List UInt8 := [167, 0, 4, 4, 54, 4, 21, 4, 42, 27, 28, 29, 182, 0, 148, 104, 54, 5, 42, 27, 4, 182, 0, 79]
abbrev dktX3_plan_5 : List UInt8 := dkwX3_plan_5 ++ dktX3_plan_6
def dkwX3_plan_4 : List UInt8 := [42, 16, 10, 3, 182, 0, 90, 172, 42, 27, 182, 0, 145, 153, 0, 13, 42, 180, 0, 9, 16, 6, 46]
abbrev dktX3_plan_4 : List UInt8 := dkwX3_plan_4 ++ dktX3_plan_5
def dkwX3_plan_3 : List UInt8 := [182, 0, 93, 154, 0, 10, 42, 7, 28, 182, 0, 90, 172, 42, 27, 28, 182, 0, 142, 62, 29, 156, 0, 11]
abbrev dktX3_plan_3 : List UInt8 := dkwX3_plan_3 ++ dktX3_plan_4
def dkwX3_plan_2 : List UInt8 := [182, 0, 90, 172, 42, 27, 3, 182, 0, 79, 28, 160, 0, 11, 42, 16, 9, 3, 182, 0, 90, 172, 42, 28]
abbrev dktX3_plan_2 : List UInt8 := dkwX3_plan_2 ++ dktX3_plan_3
def dkwX3_plan_1 : List UInt8 := [182, 0, 90, 172, 42, 27, 6, 182, 0, 79, 158, 0, 16, 42, 16, 6, 42, 27, 6, 182, 0, 79]
abbrev dktX3_plan_1 : List UInt8 := dkwX3_plan_1 ++ dktX3_plan_2
def dkwX3_plan_0 : List UInt8 := [42, 3, 181, 0, 49, 42, 27, 182, 0, 103, 153, 0, 11, 42, 28, 182, 0, 86, 154, 0, 10, 42, 4, 3]
abbrev dktX3_plan_0 : List UInt8 := dkwX3_plan_0 ++ dktX3_plan_1
theorem dksX3_plan_0 : cX3_plan.data.toList.drop 0 = dktX3_plan_0 := by decide +kernel
theorem dksX3_plan_1 : cX3_plan.data.toList.drop 24 = dktX3_plan_1 := dk_seg dksX3_plan_0 24 rfl rfl
theorem dksX3_plan_2 : cX3_plan.data.toList.drop 46 = dktX3_plan_2 := dk_seg dksX3_plan_1 22 rfl rfl
theorem dksX3_plan_3 : cX3_plan.data.toList.drop 70 = dktX3_plan_3 := dk_seg dksX3_plan_2 24 rfl rfl
theorem dksX3_plan_4 : cX3_plan.data.toList.drop 94 = dktX3_plan_4 := dk_seg dksX3_plan_3 24 rfl rfl
theorem dksX3_plan_5 : cX3_plan.data.toList.drop 117 = dktX3_plan_5 := dk_seg dksX3_plan_4 23 rfl rfl
theorem dksX3_plan_6 : cX3_plan.data.toList.drop 141 = dktX3_plan_6 := dk_seg dksX3_plan_5 24 rfl rfl
theorem dksX3_plan_7 : cX3_plan.data.toList.drop 164 = dktX3_plan_7 := dk_seg dksX3_plan_6 23 rfl rfl
theorem dksX3_plan_8 : cX3_plan.data.toList.drop 188 = dktX3_plan_8 := dk_seg dksX3_plan_7 24 rfl rfl
theorem dX3_plan_0 : decode cX3_plan 0 = .ok (.aload_n 0, 1) := dk_42 (dk_at dksX3_plan_0 0 rfl rfl)
theorem dX3_plan_1 : decode cX3_plan 1 = .ok (.iconst 0, 1) := dk_3 (dk_at dksX3_plan_0 1 rfl rfl)
theorem dX3_plan_2 : decode cX3_plan 2 = .ok (.putfield 49, 3) := dk_181 0 49 (dk_at dksX3_plan_0 2 rfl rfl)
theorem dX3_plan_5 : decode cX3_plan 5 = .ok (.aload_n 0, 1) := dk_42 (dk_at dksX3_plan_0 5 rfl rfl)
theorem dX3_plan_6 : decode cX3_plan 6 = .ok (.iload_n 1, 1) := dk_27 (dk_at dksX3_plan_0 6 rfl rfl)
theorem dX3_plan_7 : decode cX3_plan 7 = .ok (.invokevirtual 103, 3) := dk_182 0 103 (dk_at dksX3_plan_0 7 rfl rfl)
theorem dX3_plan_10 : decode cX3_plan 10 = .ok (.ifCond .eq 11, 3) := dk_153 0 11 (dk_at dksX3_plan_0 10 rfl rfl)
theorem dX3_plan_13 : decode cX3_plan 13 = .ok (.aload_n 0, 1) := dk_42 (dk_at dksX3_plan_0 13 rfl rfl)
theorem dX3_plan_14 : decode cX3_plan 14 = .ok (.iload_n 2, 1) := dk_28 (dk_at dksX3_plan_0 14 rfl rfl)
theorem dX3_plan_15 : decode cX3_plan 15 = .ok (.invokevirtual 86, 3) := dk_182 0 86 (dk_at dksX3_plan_0 15 rfl rfl)
theorem dX3_plan_18 : decode cX3_plan 18 = .ok (.ifCond .ne 10, 3) := dk_154 0 10 (dk_at dksX3_plan_0 18 rfl rfl)
theorem dX3_plan_21 : decode cX3_plan 21 = .ok (.aload_n 0, 1) := dk_42 (dk_at dksX3_plan_0 21 rfl rfl)
theorem dX3_plan_22 : decode cX3_plan 22 = .ok (.iconst 1, 1) := dk_4 (dk_at dksX3_plan_0 22 rfl rfl)
theorem dX3_plan_23 : decode cX3_plan 23 = .ok (.iconst 0, 1) := dk_3 (dk_at dksX3_plan_0 23 rfl rfl)
theorem dX3_plan_24 : decode cX3_plan 24 = .ok (.invokevirtual 90, 3) := dk_182 0 90 (dk_at dksX3_plan_1 0 rfl rfl)
theorem dX3_plan_27 : decode cX3_plan 27 = .ok (.ireturn, 1) := dk_172 (dk_at dksX3_plan_1 3 rfl rfl)
theorem dX3_plan_28 : decode cX3_plan 28 = .ok (.aload_n 0, 1) := dk_42 (dk_at dksX3_plan_1 4 rfl rfl)
theorem dX3_plan_29 : decode cX3_plan 29 = .ok (.iload_n 1, 1) := dk_27 (dk_at dksX3_plan_1 5 rfl rfl)
theorem dX3_plan_30 : decode cX3_plan 30 = .ok (.iconst 3, 1) := dk_6 (dk_at dksX3_plan_1 6 rfl rfl)
theorem dX3_plan_31 : decode cX3_plan 31 = .ok (.invokevirtual 79, 3) := dk_182 0 79 (dk_at dksX3_plan_1 7 rfl rfl)
theorem dX3_plan_34 : decode cX3_plan 34 = .ok (.ifCond .le 16, 3) := dk_158 0 16 (dk_at dksX3_plan_1 10 rfl rfl)
theorem dX3_plan_37 : decode cX3_plan 37 = .ok (.aload_n 0, 1) := dk_42 (dk_at dksX3_plan_1 13 rfl rfl)
theorem dX3_plan_38 : decode cX3_plan 38 = .ok (.bipush 6, 2) := dk_16 6 (dk_at dksX3_plan_1 14 rfl rfl)
theorem dX3_plan_40 : decode cX3_plan 40 = .ok (.aload_n 0, 1) := dk_42 (dk_at dksX3_plan_1 16 rfl rfl)
theorem dX3_plan_41 : decode cX3_plan 41 = .ok (.iload_n 1, 1) := dk_27 (dk_at dksX3_plan_1 17 rfl rfl)
theorem dX3_plan_42 : decode cX3_plan 42 = .ok (.iconst 3, 1) := dk_6 (dk_at dksX3_plan_1 18 rfl rfl)
theorem dX3_plan_43 : decode cX3_plan 43 = .ok (.invokevirtual 79, 3) := dk_182 0 79 (dk_at dksX3_plan_1 19 rfl rfl)
theorem dX3_plan_46 : decode cX3_plan 46 = .ok (.invokevirtual 90, 3) := dk_182 0 90 (dk_at dksX3_plan_2 0 rfl rfl)
theorem dX3_plan_49 : decode cX3_plan 49 = .ok (.ireturn, 1) := dk_172 (dk_at dksX3_plan_2 3 rfl rfl)
theorem dX3_plan_50 : decode cX3_plan 50 = .ok (.aload_n 0, 1) := dk_42 (dk_at dksX3_plan_2 4 rfl rfl)
theorem dX3_plan_51 : decode cX3_plan 51 = .ok (.iload_n 1, 1) := dk_27 (dk_at dksX3_plan_2 5 rfl rfl)
theorem dX3_plan_52 : decode cX3_plan 52 = .ok (.iconst 0, 1) := dk_3 (dk_at dksX3_plan_2 6 rfl rfl)
theorem dX3_plan_53 : decode cX3_plan 53 = .ok (.invokevirtual 79, 3) := dk_182 0 79 (dk_at dksX3_plan_2 7 rfl rfl)
theorem dX3_plan_56 : decode cX3_plan 56 = .ok (.iload_n 2, 1) := dk_28 (dk_at dksX3_plan_2 10 rfl rfl)
theorem dX3_plan_57 : decode cX3_plan 57 = .ok (.if_icmp .ne 11, 3) := dk_160 0 11 (dk_at dksX3_plan_2 11 rfl rfl)
theorem dX3_plan_60 : decode cX3_plan 60 = .ok (.aload_n 0, 1) := dk_42 (dk_at dksX3_plan_2 14 rfl rfl)
theorem dX3_plan_61 : decode cX3_plan 61 = .ok (.bipush 9, 2) := dk_16 9 (dk_at dksX3_plan_2 15 rfl rfl)
theorem dX3_plan_63 : decode cX3_plan 63 = .ok (.iconst 0, 1) := dk_3 (dk_at dksX3_plan_2 17 rfl rfl)
theorem dX3_plan_64 : decode cX3_plan 64 = .ok (.invokevirtual 90, 3) := dk_182 0 90 (dk_at dksX3_plan_2 18 rfl rfl)
theorem dX3_plan_67 : decode cX3_plan 67 = .ok (.ireturn, 1) := dk_172 (dk_at dksX3_plan_2 21 rfl rfl)
theorem dX3_plan_68 : decode cX3_plan 68 = .ok (.aload_n 0, 1) := dk_42 (dk_at dksX3_plan_2 22 rfl rfl)
theorem dX3_plan_69 : decode cX3_plan 69 = .ok (.iload_n 2, 1) := dk_28 (dk_at dksX3_plan_2 23 rfl rfl)
theorem dX3_plan_70 : decode cX3_plan 70 = .ok (.invokevirtual 93, 3) := dk_182 0 93 (dk_at dksX3_plan_3 0 rfl rfl)
theorem dX3_plan_73 : decode cX3_plan 73 = .ok (.ifCond .ne 10, 3) := dk_154 0 10 (dk_at dksX3_plan_3 3 rfl rfl)
theorem dX3_plan_76 : decode cX3_plan 76 = .ok (.aload_n 0, 1) := dk_42 (dk_at dksX3_plan_3 6 rfl rfl)
theorem dX3_plan_77 : decode cX3_plan 77 = .ok (.iconst 4, 1) := dk_7 (dk_at dksX3_plan_3 7 rfl rfl)
theorem dX3_plan_78 : decode cX3_plan 78 = .ok (.iload_n 2, 1) := dk_28 (dk_at dksX3_plan_3 8 rfl rfl)
theorem dX3_plan_79 : decode cX3_plan 79 = .ok (.invokevirtual 90, 3) := dk_182 0 90 (dk_at dksX3_plan_3 9 rfl rfl)
theorem dX3_plan_82 : decode cX3_plan 82 = .ok (.ireturn, 1) := dk_172 (dk_at dksX3_plan_3 12 rfl rfl)
theorem dX3_plan_83 : decode cX3_plan 83 = .ok (.aload_n 0, 1) := dk_42 (dk_at dksX3_plan_3 13 rfl rfl)
theorem dX3_plan_84 : decode cX3_plan 84 = .ok (.iload_n 1, 1) := dk_27 (dk_at dksX3_plan_3 14 rfl rfl)
theorem dX3_plan_85 : decode cX3_plan 85 = .ok (.iload_n 2, 1) := dk_28 (dk_at dksX3_plan_3 15 rfl rfl)
theorem dX3_plan_86 : decode cX3_plan 86 = .ok (.invokevirtual 142, 3) := dk_182 0 142 (dk_at dksX3_plan_3 16 rfl rfl)
theorem dX3_plan_89 : decode cX3_plan 89 = .ok (.istore_n 3, 1) := dk_62 (dk_at dksX3_plan_3 19 rfl rfl)
theorem dX3_plan_90 : decode cX3_plan 90 = .ok (.iload_n 3, 1) := dk_29 (dk_at dksX3_plan_3 20 rfl rfl)
theorem dX3_plan_91 : decode cX3_plan 91 = .ok (.ifCond .ge 11, 3) := dk_156 0 11 (dk_at dksX3_plan_3 21 rfl rfl)
theorem dX3_plan_94 : decode cX3_plan 94 = .ok (.aload_n 0, 1) := dk_42 (dk_at dksX3_plan_4 0 rfl rfl)
theorem dX3_plan_95 : decode cX3_plan 95 = .ok (.bipush 10, 2) := dk_16 10 (dk_at dksX3_plan_4 1 rfl rfl)
theorem dX3_plan_97 : decode cX3_plan 97 = .ok (.iconst 0, 1) := dk_3 (dk_at dksX3_plan_4 3 rfl rfl)
theorem dX3_plan_98 : decode cX3_plan 98 = .ok (.invokevirtual 90, 3) := dk_182 0 90 (dk_at dksX3_plan_4 4 rfl rfl)
theorem dX3_plan_101 : decode cX3_plan 101 = .ok (.ireturn, 1) := dk_172 (dk_at dksX3_plan_4 7 rfl rfl)
theorem dX3_plan_102 : decode cX3_plan 102 = .ok (.aload_n 0, 1) := dk_42 (dk_at dksX3_plan_4 8 rfl rfl)
theorem dX3_plan_103 : decode cX3_plan 103 = .ok (.iload_n 1, 1) := dk_27 (dk_at dksX3_plan_4 9 rfl rfl)
theorem dX3_plan_104 : decode cX3_plan 104 = .ok (.invokevirtual 145, 3) := dk_182 0 145 (dk_at dksX3_plan_4 10 rfl rfl)
theorem dX3_plan_107 : decode cX3_plan 107 = .ok (.ifCond .eq 13, 3) := dk_153 0 13 (dk_at dksX3_plan_4 13 rfl rfl)
theorem dX3_plan_110 : decode cX3_plan 110 = .ok (.aload_n 0, 1) := dk_42 (dk_at dksX3_plan_4 16 rfl rfl)
theorem dX3_plan_111 : decode cX3_plan 111 = .ok (.getfield 9, 3) := dk_180 0 9 (dk_at dksX3_plan_4 17 rfl rfl)
theorem dX3_plan_114 : decode cX3_plan 114 = .ok (.bipush 6, 2) := dk_16 6 (dk_at dksX3_plan_4 20 rfl rfl)
theorem dX3_plan_116 : decode cX3_plan 116 = .ok (.iaload, 1) := dk_46 (dk_at dksX3_plan_4 22 rfl rfl)
theorem dX3_plan_117 : decode cX3_plan 117 = .ok (.goto 4, 3) := dk_167 0 4 (dk_at dksX3_plan_5 0 rfl rfl)
theorem dX3_plan_120 : decode cX3_plan 120 = .ok (.iconst 1, 1) := dk_4 (dk_at dksX3_plan_5 3 rfl rfl)
theorem dX3_plan_121 : decode cX3_plan 121 = .ok (.istore 4, 2) := dk_54 4 (dk_at dksX3_plan_5 4 rfl rfl)
theorem dX3_plan_123 : decode cX3_plan 123 = .ok (.iload 4, 2) := dk_21 4 (dk_at dksX3_plan_5 6 rfl rfl)
theorem dX3_plan_125 : decode cX3_plan 125 = .ok (.aload_n 0, 1) := dk_42 (dk_at dksX3_plan_5 8 rfl rfl)
theorem dX3_plan_126 : decode cX3_plan 126 = .ok (.iload_n 1, 1) := dk_27 (dk_at dksX3_plan_5 9 rfl rfl)
theorem dX3_plan_127 : decode cX3_plan 127 = .ok (.iload_n 2, 1) := dk_28 (dk_at dksX3_plan_5 10 rfl rfl)
theorem dX3_plan_128 : decode cX3_plan 128 = .ok (.iload_n 3, 1) := dk_29 (dk_at dksX3_plan_5 11 rfl rfl)
theorem dX3_plan_129 : decode cX3_plan 129 = .ok (.invokevirtual 148, 3) := dk_182 0 148 (dk_at dksX3_plan_5 12 rfl rfl)
theorem dX3_plan_132 : decode cX3_plan 132 = .ok (.imul, 1) := dk_104 (dk_at dksX3_plan_5 15 rfl rfl)
theorem dX3_plan_133 : decode cX3_plan 133 = .ok (.istore 5, 2) := dk_54 5 (dk_at dksX3_plan_5 16 rfl rfl)
theorem dX3_plan_135 : decode cX3_plan 135 = .ok (.aload_n 0, 1) := dk_42 (dk_at dksX3_plan_5 18 rfl rfl)
theorem dX3_plan_136 : decode cX3_plan 136 = .ok (.iload_n 1, 1) := dk_27 (dk_at dksX3_plan_5 19 rfl rfl)
theorem dX3_plan_137 : decode cX3_plan 137 = .ok (.iconst 1, 1) := dk_4 (dk_at dksX3_plan_5 20 rfl rfl)
theorem dX3_plan_138 : decode cX3_plan 138 = .ok (.invokevirtual 79, 3) := dk_182 0 79 (dk_at dksX3_plan_5 21 rfl rfl)
theorem dX3_plan_141 : decode cX3_plan 141 = .ok (.iload 5, 2) := dk_21 5 (dk_at dksX3_plan_6 0 rfl rfl)
theorem dX3_plan_143 : decode cX3_plan 143 = .ok (.if_icmp .ge 12, 3) := dk_162 0 12 (dk_at dksX3_plan_6 2 rfl rfl)
theorem dX3_plan_146 : decode cX3_plan 146 = .ok (.aload_n 0, 1) := dk_42 (dk_at dksX3_plan_6 5 rfl rfl)
theorem dX3_plan_147 : decode cX3_plan 147 = .ok (.bipush 11, 2) := dk_16 11 (dk_at dksX3_plan_6 6 rfl rfl)
theorem dX3_plan_149 : decode cX3_plan 149 = .ok (.iload 5, 2) := dk_21 5 (dk_at dksX3_plan_6 8 rfl rfl)
theorem dX3_plan_151 : decode cX3_plan 151 = .ok (.invokevirtual 90, 3) := dk_182 0 90 (dk_at dksX3_plan_6 10 rfl rfl)
theorem dX3_plan_154 : decode cX3_plan 154 = .ok (.ireturn, 1) := dk_172 (dk_at dksX3_plan_6 13 rfl rfl)
theorem dX3_plan_155 : decode cX3_plan 155 = .ok (.aload_n 0, 1) := dk_42 (dk_at dksX3_plan_6 14 rfl rfl)
theorem dX3_plan_156 : decode cX3_plan 156 = .ok (.invokevirtual 100, 3) := dk_182 0 100 (dk_at dksX3_plan_6 15 rfl rfl)
theorem dX3_plan_159 : decode cX3_plan 159 = .ok (.aload_n 0, 1) := dk_42 (dk_at dksX3_plan_6 18 rfl rfl)
theorem dX3_plan_160 : decode cX3_plan 160 = .ok (.getfield 9, 3) := dk_180 0 9 (dk_at dksX3_plan_6 19 rfl rfl)
theorem dX3_plan_163 : decode cX3_plan 163 = .ok (.iload_n 1, 1) := dk_27 (dk_at dksX3_plan_6 22 rfl rfl)
theorem dX3_plan_164 : decode cX3_plan 164 = .ok (.invokestatic 75, 3) := dk_184 0 75 (dk_at dksX3_plan_7 0 rfl rfl)
theorem dX3_plan_167 : decode cX3_plan 167 = .ok (.iconst 3, 1) := dk_6 (dk_at dksX3_plan_7 3 rfl rfl)
theorem dX3_plan_168 : decode cX3_plan 168 = .ok (.iadd, 1) := dk_96 (dk_at dksX3_plan_7 4 rfl rfl)
theorem dX3_plan_169 : decode cX3_plan 169 = .ok (.iload_n 3, 1) := dk_29 (dk_at dksX3_plan_7 5 rfl rfl)
theorem dX3_plan_170 : decode cX3_plan 170 = .ok (.iastore, 1) := dk_79 (dk_at dksX3_plan_7 6 rfl rfl)
theorem dX3_plan_171 : decode cX3_plan 171 = .ok (.aload_n 0, 1) := dk_42 (dk_at dksX3_plan_7 7 rfl rfl)
theorem dX3_plan_172 : decode cX3_plan 172 = .ok (.getfield 9, 3) := dk_180 0 9 (dk_at dksX3_plan_7 8 rfl rfl)
theorem dX3_plan_175 : decode cX3_plan 175 = .ok (.iload_n 1, 1) := dk_27 (dk_at dksX3_plan_7 11 rfl rfl)
theorem dX3_plan_176 : decode cX3_plan 176 = .ok (.invokestatic 75, 3) := dk_184 0 75 (dk_at dksX3_plan_7 12 rfl rfl)
theorem dX3_plan_179 : decode cX3_plan 179 = .ok (.iconst 4, 1) := dk_7 (dk_at dksX3_plan_7 15 rfl rfl)
theorem dX3_plan_180 : decode cX3_plan 180 = .ok (.iadd, 1) := dk_96 (dk_at dksX3_plan_7 16 rfl rfl)
theorem dX3_plan_181 : decode cX3_plan 181 = .ok (.iload 4, 2) := dk_21 4 (dk_at dksX3_plan_7 17 rfl rfl)
theorem dX3_plan_183 : decode cX3_plan 183 = .ok (.iastore, 1) := dk_79 (dk_at dksX3_plan_7 19 rfl rfl)
theorem dX3_plan_184 : decode cX3_plan 184 = .ok (.aload_n 0, 1) := dk_42 (dk_at dksX3_plan_7 20 rfl rfl)
theorem dX3_plan_185 : decode cX3_plan 185 = .ok (.getfield 29, 3) := dk_180 0 29 (dk_at dksX3_plan_7 21 rfl rfl)
theorem dX3_plan_188 : decode cX3_plan 188 = .ok (.iconst 0, 1) := dk_3 (dk_at dksX3_plan_8 0 rfl rfl)
theorem dX3_plan_189 : decode cX3_plan 189 = .ok (.aload_n 0, 1) := dk_42 (dk_at dksX3_plan_8 1 rfl rfl)
theorem dX3_plan_190 : decode cX3_plan 190 = .ok (.getfield 9, 3) := dk_180 0 9 (dk_at dksX3_plan_8 2 rfl rfl)
theorem dX3_plan_193 : decode cX3_plan 193 = .ok (.iload_n 1, 1) := dk_27 (dk_at dksX3_plan_8 5 rfl rfl)
theorem dX3_plan_194 : decode cX3_plan 194 = .ok (.invokestatic 75, 3) := dk_184 0 75 (dk_at dksX3_plan_8 6 rfl rfl)
theorem dX3_plan_197 : decode cX3_plan 197 = .ok (.bipush 6, 2) := dk_16 6 (dk_at dksX3_plan_8 9 rfl rfl)
theorem dX3_plan_199 : decode cX3_plan 199 = .ok (.iadd, 1) := dk_96 (dk_at dksX3_plan_8 11 rfl rfl)
theorem dX3_plan_200 : decode cX3_plan 200 = .ok (.iload_n 3, 1) := dk_29 (dk_at dksX3_plan_8 12 rfl rfl)
theorem dX3_plan_201 : decode cX3_plan 201 = .ok (.invokestatic 55, 3) := dk_184 0 55 (dk_at dksX3_plan_8 13 rfl rfl)
theorem dX3_plan_204 : decode cX3_plan 204 = .ok (.iload_n 3, 1) := dk_29 (dk_at dksX3_plan_8 16 rfl rfl)
theorem dX3_plan_205 : decode cX3_plan 205 = .ok (.ireturn, 1) := dk_172 (dk_at dksX3_plan_8 17 rfl rfl)
abbrev cX3_fewest : ByteArray := prog_12_method_33_code
def yX3_fewest : MethodName := ⟨RX3, "fewest", "(II)I"⟩
def dkwX3_fewest_2 : List UInt8 := [167, 0, 4, 2, 172]
abbrev dktX3_fewest_2 : List UInt8 := dkwX3_fewest_2 ++ []
def dkwX3_fewest_1 : List UInt8 := [182, 0, 135, 154, 0, 9, 132, 3, 1, 167, 255, 232, 29, 42, 180, 0, 9, 16, 7, 46, 163, 0, 7, 29]
abbrev dktX3_fewest_1 : List UInt8 := dkwX3_fewest_1 ++ dktX3_fewest_2
def dkwX3_fewest_0 : List UInt8 := [42, 27, 182, 0, 131, 4, 62, 29, 42, 180, 0, 9, 16, 7, 46, 163, 0, 19, 42, 27, 28, 29]
abbrev dktX3_fewest_0 : List UInt8 := dkwX3_fewest_0 ++ dktX3_fewest_1
theorem dksX3_fewest_0 : cX3_fewest.data.toList.drop 0 = dktX3_fewest_0 := by decide +kernel
theorem dksX3_fewest_1 : cX3_fewest.data.toList.drop 22 = dktX3_fewest_1 := dk_seg dksX3_fewest_0 22 rfl rfl
theorem dksX3_fewest_2 : cX3_fewest.data.toList.drop 46 = dktX3_fewest_2 := dk_seg dksX3_fewest_1 24 rfl rfl
theorem dX3_fewest_0 : decode cX3_fewest 0 = .ok (.aload_n 0, 1) := dk_42 (dk_at dksX3_fewest_0 0 rfl rfl)
theorem dX3_fewest_1 : decode cX3_fewest 1 = .ok (.iload_n 1, 1) := dk_27 (dk_at dksX3_fewest_0 1 rfl rfl)
theorem dX3_fewest_2 : decode cX3_fewest 2 = .ok (.invokevirtual 131, 3) := dk_182 0 131 (dk_at dksX3_fewest_0 2 rfl rfl)
theorem dX3_fewest_5 : decode cX3_fewest 5 = .ok (.iconst 1, 1) := dk_4 (dk_at dksX3_fewest_0 5 rfl rfl)
theorem dX3_fewest_6 : decode cX3_fewest 6 = .ok (.istore_n 3, 1) := dk_62 (dk_at dksX3_fewest_0 6 rfl rfl)
theorem dX3_fewest_7 : decode cX3_fewest 7 = .ok (.iload_n 3, 1) := dk_29 (dk_at dksX3_fewest_0 7 rfl rfl)
theorem dX3_fewest_8 : decode cX3_fewest 8 = .ok (.aload_n 0, 1) := dk_42 (dk_at dksX3_fewest_0 8 rfl rfl)
theorem dX3_fewest_9 : decode cX3_fewest 9 = .ok (.getfield 9, 3) := dk_180 0 9 (dk_at dksX3_fewest_0 9 rfl rfl)
theorem dX3_fewest_12 : decode cX3_fewest 12 = .ok (.bipush 7, 2) := dk_16 7 (dk_at dksX3_fewest_0 12 rfl rfl)
theorem dX3_fewest_14 : decode cX3_fewest 14 = .ok (.iaload, 1) := dk_46 (dk_at dksX3_fewest_0 14 rfl rfl)
theorem dX3_fewest_15 : decode cX3_fewest 15 = .ok (.if_icmp .gt 19, 3) := dk_163 0 19 (dk_at dksX3_fewest_0 15 rfl rfl)
theorem dX3_fewest_18 : decode cX3_fewest 18 = .ok (.aload_n 0, 1) := dk_42 (dk_at dksX3_fewest_0 18 rfl rfl)
theorem dX3_fewest_19 : decode cX3_fewest 19 = .ok (.iload_n 1, 1) := dk_27 (dk_at dksX3_fewest_0 19 rfl rfl)
theorem dX3_fewest_20 : decode cX3_fewest 20 = .ok (.iload_n 2, 1) := dk_28 (dk_at dksX3_fewest_0 20 rfl rfl)
theorem dX3_fewest_21 : decode cX3_fewest 21 = .ok (.iload_n 3, 1) := dk_29 (dk_at dksX3_fewest_0 21 rfl rfl)
theorem dX3_fewest_22 : decode cX3_fewest 22 = .ok (.invokevirtual 135, 3) := dk_182 0 135 (dk_at dksX3_fewest_1 0 rfl rfl)
theorem dX3_fewest_25 : decode cX3_fewest 25 = .ok (.ifCond .ne 9, 3) := dk_154 0 9 (dk_at dksX3_fewest_1 3 rfl rfl)
theorem dX3_fewest_28 : decode cX3_fewest 28 = .ok (.iinc 3 1, 3) := dk_132 3 1 (dk_at dksX3_fewest_1 6 rfl rfl)
theorem dX3_fewest_31 : decode cX3_fewest 31 = .ok (.goto (-24), 3) := dk_167 255 232 (dk_at dksX3_fewest_1 9 rfl rfl)
theorem dX3_fewest_34 : decode cX3_fewest 34 = .ok (.iload_n 3, 1) := dk_29 (dk_at dksX3_fewest_1 12 rfl rfl)
theorem dX3_fewest_35 : decode cX3_fewest 35 = .ok (.aload_n 0, 1) := dk_42 (dk_at dksX3_fewest_1 13 rfl rfl)
theorem dX3_fewest_36 : decode cX3_fewest 36 = .ok (.getfield 9, 3) := dk_180 0 9 (dk_at dksX3_fewest_1 14 rfl rfl)
theorem dX3_fewest_39 : decode cX3_fewest 39 = .ok (.bipush 7, 2) := dk_16 7 (dk_at dksX3_fewest_1 17 rfl rfl)
theorem dX3_fewest_41 : decode cX3_fewest 41 = .ok (.iaload, 1) := dk_46 (dk_at dksX3_fewest_1 19 rfl rfl)
theorem dX3_fewest_42 : decode cX3_fewest 42 = .ok (.if_icmp .gt 7, 3) := dk_163 0 7 (dk_at dksX3_fewest_1 20 rfl rfl)
theorem dX3_fewest_45 : decode cX3_fewest 45 = .ok (.iload_n 3, 1) := dk_29 (dk_at dksX3_fewest_1 23 rfl rfl)
theorem dX3_fewest_46 : decode cX3_fewest 46 = .ok (.goto 4, 3) := dk_167 0 4 (dk_at dksX3_fewest_2 0 rfl rfl)
theorem dX3_fewest_49 : decode cX3_fewest 49 = .ok (.iconst (-1), 1) := dk_2 (dk_at dksX3_fewest_2 3 rfl rfl)
theorem dX3_fewest_50 : decode cX3_fewest 50 = .ok (.ireturn, 1) := dk_172 (dk_at dksX3_fewest_2 4 rfl rfl)
abbrev cX3_findComing : ByteArray := prog_12_method_31_code
def yX3_findComing : MethodName := ⟨RX3, "findComing", "(I)V"⟩
def dkwX3_findComing_5 : List UInt8 := [96, 4, 84, 132, 4, 1, 167, 255, 192, 132, 3, 1, 167, 255, 175, 132, 2, 1, 167, 255, 156, 177]
abbrev dktX3_findComing_5 : List UInt8 := dkwX3_findComing_5 ++ []
def dkwX3_findComing_4 : List UInt8 := [42, 27, 29, 21, 5, 28, 182, 0, 127, 153, 0, 18, 42, 180, 0, 22, 16, 48, 28, 4, 96, 104, 21, 5]
abbrev dktX3_findComing_4 : List UInt8 := dkwX3_findComing_4 ++ dktX3_findComing_5
def dkwX3_findComing_3 : List UInt8 := [16, 48, 28, 104, 29, 96, 51, 153, 0, 50, 42, 29, 21, 4, 182, 0, 124, 54, 5, 21, 5, 155, 0, 30]
abbrev dktX3_findComing_3 : List UInt8 := dkwX3_findComing_3 ++ dktX3_findComing_4
def dkwX3_findComing_2 : List UInt8 := [3, 62, 29, 42, 182, 0, 67, 162, 0, 79, 3, 54, 4, 21, 4, 8, 162, 0, 64, 42, 180, 0, 22]
abbrev dktX3_findComing_2 : List UInt8 := dkwX3_findComing_2 ++ dktX3_findComing_3
def dkwX3_findComing_1 : List UInt8 := [180, 0, 22, 42, 27, 3, 182, 0, 79, 4, 84, 3, 61, 28, 42, 180, 0, 9, 16, 7, 46, 162, 0, 95]
abbrev dktX3_findComing_1 : List UInt8 := dkwX3_findComing_1 ++ dktX3_findComing_2
def dkwX3_findComing_0 : List UInt8 := [3, 61, 28, 17, 5, 208, 162, 0, 16, 42, 180, 0, 22, 28, 3, 84, 132, 2, 1, 167, 255, 239, 42]
abbrev dktX3_findComing_0 : List UInt8 := dkwX3_findComing_0 ++ dktX3_findComing_1
theorem dksX3_findComing_0 : cX3_findComing.data.toList.drop 0 = dktX3_findComing_0 := by decide +kernel
theorem dksX3_findComing_1 : cX3_findComing.data.toList.drop 23 = dktX3_findComing_1 := dk_seg dksX3_findComing_0 23 rfl rfl
theorem dksX3_findComing_2 : cX3_findComing.data.toList.drop 47 = dktX3_findComing_2 := dk_seg dksX3_findComing_1 24 rfl rfl
theorem dksX3_findComing_3 : cX3_findComing.data.toList.drop 70 = dktX3_findComing_3 := dk_seg dksX3_findComing_2 23 rfl rfl
theorem dksX3_findComing_4 : cX3_findComing.data.toList.drop 94 = dktX3_findComing_4 := dk_seg dksX3_findComing_3 24 rfl rfl
theorem dksX3_findComing_5 : cX3_findComing.data.toList.drop 118 = dktX3_findComing_5 := dk_seg dksX3_findComing_4 24 rfl rfl
theorem dX3_findComing_0 : decode cX3_findComing 0 = .ok (.iconst 0, 1) := dk_3 (dk_at dksX3_findComing_0 0 rfl rfl)
theorem dX3_findComing_1 : decode cX3_findComing 1 = .ok (.istore_n 2, 1) := dk_61 (dk_at dksX3_findComing_0 1 rfl rfl)
theorem dX3_findComing_2 : decode cX3_findComing 2 = .ok (.iload_n 2, 1) := dk_28 (dk_at dksX3_findComing_0 2 rfl rfl)
theorem dX3_findComing_3 : decode cX3_findComing 3 = .ok (.sipush 1488, 3) := dk_17 5 208 (dk_at dksX3_findComing_0 3 rfl rfl)
theorem dX3_findComing_6 : decode cX3_findComing 6 = .ok (.if_icmp .ge 16, 3) := dk_162 0 16 (dk_at dksX3_findComing_0 6 rfl rfl)
theorem dX3_findComing_9 : decode cX3_findComing 9 = .ok (.aload_n 0, 1) := dk_42 (dk_at dksX3_findComing_0 9 rfl rfl)
theorem dX3_findComing_10 : decode cX3_findComing 10 = .ok (.getfield 22, 3) := dk_180 0 22 (dk_at dksX3_findComing_0 10 rfl rfl)
theorem dX3_findComing_13 : decode cX3_findComing 13 = .ok (.iload_n 2, 1) := dk_28 (dk_at dksX3_findComing_0 13 rfl rfl)
theorem dX3_findComing_14 : decode cX3_findComing 14 = .ok (.iconst 0, 1) := dk_3 (dk_at dksX3_findComing_0 14 rfl rfl)
theorem dX3_findComing_15 : decode cX3_findComing 15 = .ok (.bastore, 1) := dk_84 (dk_at dksX3_findComing_0 15 rfl rfl)
theorem dX3_findComing_16 : decode cX3_findComing 16 = .ok (.iinc 2 1, 3) := dk_132 2 1 (dk_at dksX3_findComing_0 16 rfl rfl)
theorem dX3_findComing_19 : decode cX3_findComing 19 = .ok (.goto (-17), 3) := dk_167 255 239 (dk_at dksX3_findComing_0 19 rfl rfl)
theorem dX3_findComing_22 : decode cX3_findComing 22 = .ok (.aload_n 0, 1) := dk_42 (dk_at dksX3_findComing_0 22 rfl rfl)
theorem dX3_findComing_23 : decode cX3_findComing 23 = .ok (.getfield 22, 3) := dk_180 0 22 (dk_at dksX3_findComing_1 0 rfl rfl)
theorem dX3_findComing_26 : decode cX3_findComing 26 = .ok (.aload_n 0, 1) := dk_42 (dk_at dksX3_findComing_1 3 rfl rfl)
theorem dX3_findComing_27 : decode cX3_findComing 27 = .ok (.iload_n 1, 1) := dk_27 (dk_at dksX3_findComing_1 4 rfl rfl)
theorem dX3_findComing_28 : decode cX3_findComing 28 = .ok (.iconst 0, 1) := dk_3 (dk_at dksX3_findComing_1 5 rfl rfl)
theorem dX3_findComing_29 : decode cX3_findComing 29 = .ok (.invokevirtual 79, 3) := dk_182 0 79 (dk_at dksX3_findComing_1 6 rfl rfl)
theorem dX3_findComing_32 : decode cX3_findComing 32 = .ok (.iconst 1, 1) := dk_4 (dk_at dksX3_findComing_1 9 rfl rfl)
theorem dX3_findComing_33 : decode cX3_findComing 33 = .ok (.bastore, 1) := dk_84 (dk_at dksX3_findComing_1 10 rfl rfl)
theorem dX3_findComing_34 : decode cX3_findComing 34 = .ok (.iconst 0, 1) := dk_3 (dk_at dksX3_findComing_1 11 rfl rfl)
theorem dX3_findComing_35 : decode cX3_findComing 35 = .ok (.istore_n 2, 1) := dk_61 (dk_at dksX3_findComing_1 12 rfl rfl)
theorem dX3_findComing_36 : decode cX3_findComing 36 = .ok (.iload_n 2, 1) := dk_28 (dk_at dksX3_findComing_1 13 rfl rfl)
theorem dX3_findComing_37 : decode cX3_findComing 37 = .ok (.aload_n 0, 1) := dk_42 (dk_at dksX3_findComing_1 14 rfl rfl)
theorem dX3_findComing_38 : decode cX3_findComing 38 = .ok (.getfield 9, 3) := dk_180 0 9 (dk_at dksX3_findComing_1 15 rfl rfl)
theorem dX3_findComing_41 : decode cX3_findComing 41 = .ok (.bipush 7, 2) := dk_16 7 (dk_at dksX3_findComing_1 18 rfl rfl)
theorem dX3_findComing_43 : decode cX3_findComing 43 = .ok (.iaload, 1) := dk_46 (dk_at dksX3_findComing_1 20 rfl rfl)
theorem dX3_findComing_44 : decode cX3_findComing 44 = .ok (.if_icmp .ge 95, 3) := dk_162 0 95 (dk_at dksX3_findComing_1 21 rfl rfl)
theorem dX3_findComing_47 : decode cX3_findComing 47 = .ok (.iconst 0, 1) := dk_3 (dk_at dksX3_findComing_2 0 rfl rfl)
theorem dX3_findComing_48 : decode cX3_findComing 48 = .ok (.istore_n 3, 1) := dk_62 (dk_at dksX3_findComing_2 1 rfl rfl)
theorem dX3_findComing_49 : decode cX3_findComing 49 = .ok (.iload_n 3, 1) := dk_29 (dk_at dksX3_findComing_2 2 rfl rfl)
theorem dX3_findComing_50 : decode cX3_findComing 50 = .ok (.aload_n 0, 1) := dk_42 (dk_at dksX3_findComing_2 3 rfl rfl)
theorem dX3_findComing_51 : decode cX3_findComing 51 = .ok (.invokevirtual 67, 3) := dk_182 0 67 (dk_at dksX3_findComing_2 4 rfl rfl)
theorem dX3_findComing_54 : decode cX3_findComing 54 = .ok (.if_icmp .ge 79, 3) := dk_162 0 79 (dk_at dksX3_findComing_2 7 rfl rfl)
theorem dX3_findComing_57 : decode cX3_findComing 57 = .ok (.iconst 0, 1) := dk_3 (dk_at dksX3_findComing_2 10 rfl rfl)
theorem dX3_findComing_58 : decode cX3_findComing 58 = .ok (.istore 4, 2) := dk_54 4 (dk_at dksX3_findComing_2 11 rfl rfl)
theorem dX3_findComing_60 : decode cX3_findComing 60 = .ok (.iload 4, 2) := dk_21 4 (dk_at dksX3_findComing_2 13 rfl rfl)
theorem dX3_findComing_62 : decode cX3_findComing 62 = .ok (.iconst 5, 1) := dk_8 (dk_at dksX3_findComing_2 15 rfl rfl)
theorem dX3_findComing_63 : decode cX3_findComing 63 = .ok (.if_icmp .ge 64, 3) := dk_162 0 64 (dk_at dksX3_findComing_2 16 rfl rfl)
theorem dX3_findComing_66 : decode cX3_findComing 66 = .ok (.aload_n 0, 1) := dk_42 (dk_at dksX3_findComing_2 19 rfl rfl)
theorem dX3_findComing_67 : decode cX3_findComing 67 = .ok (.getfield 22, 3) := dk_180 0 22 (dk_at dksX3_findComing_2 20 rfl rfl)
theorem dX3_findComing_70 : decode cX3_findComing 70 = .ok (.bipush 48, 2) := dk_16 48 (dk_at dksX3_findComing_3 0 rfl rfl)
theorem dX3_findComing_72 : decode cX3_findComing 72 = .ok (.iload_n 2, 1) := dk_28 (dk_at dksX3_findComing_3 2 rfl rfl)
theorem dX3_findComing_73 : decode cX3_findComing 73 = .ok (.imul, 1) := dk_104 (dk_at dksX3_findComing_3 3 rfl rfl)
theorem dX3_findComing_74 : decode cX3_findComing 74 = .ok (.iload_n 3, 1) := dk_29 (dk_at dksX3_findComing_3 4 rfl rfl)
theorem dX3_findComing_75 : decode cX3_findComing 75 = .ok (.iadd, 1) := dk_96 (dk_at dksX3_findComing_3 5 rfl rfl)
theorem dX3_findComing_76 : decode cX3_findComing 76 = .ok (.baload, 1) := dk_51 (dk_at dksX3_findComing_3 6 rfl rfl)
theorem dX3_findComing_77 : decode cX3_findComing 77 = .ok (.ifCond .eq 50, 3) := dk_153 0 50 (dk_at dksX3_findComing_3 7 rfl rfl)
theorem dX3_findComing_80 : decode cX3_findComing 80 = .ok (.aload_n 0, 1) := dk_42 (dk_at dksX3_findComing_3 10 rfl rfl)
theorem dX3_findComing_81 : decode cX3_findComing 81 = .ok (.iload_n 3, 1) := dk_29 (dk_at dksX3_findComing_3 11 rfl rfl)
theorem dX3_findComing_82 : decode cX3_findComing 82 = .ok (.iload 4, 2) := dk_21 4 (dk_at dksX3_findComing_3 12 rfl rfl)
theorem dX3_findComing_84 : decode cX3_findComing 84 = .ok (.invokevirtual 124, 3) := dk_182 0 124 (dk_at dksX3_findComing_3 14 rfl rfl)
theorem dX3_findComing_87 : decode cX3_findComing 87 = .ok (.istore 5, 2) := dk_54 5 (dk_at dksX3_findComing_3 17 rfl rfl)
theorem dX3_findComing_89 : decode cX3_findComing 89 = .ok (.iload 5, 2) := dk_21 5 (dk_at dksX3_findComing_3 19 rfl rfl)
theorem dX3_findComing_91 : decode cX3_findComing 91 = .ok (.ifCond .lt 30, 3) := dk_155 0 30 (dk_at dksX3_findComing_3 21 rfl rfl)
theorem dX3_findComing_94 : decode cX3_findComing 94 = .ok (.aload_n 0, 1) := dk_42 (dk_at dksX3_findComing_4 0 rfl rfl)
theorem dX3_findComing_95 : decode cX3_findComing 95 = .ok (.iload_n 1, 1) := dk_27 (dk_at dksX3_findComing_4 1 rfl rfl)
theorem dX3_findComing_96 : decode cX3_findComing 96 = .ok (.iload_n 3, 1) := dk_29 (dk_at dksX3_findComing_4 2 rfl rfl)
theorem dX3_findComing_97 : decode cX3_findComing 97 = .ok (.iload 5, 2) := dk_21 5 (dk_at dksX3_findComing_4 3 rfl rfl)
theorem dX3_findComing_99 : decode cX3_findComing 99 = .ok (.iload_n 2, 1) := dk_28 (dk_at dksX3_findComing_4 5 rfl rfl)
theorem dX3_findComing_100 : decode cX3_findComing 100 = .ok (.invokevirtual 127, 3) := dk_182 0 127 (dk_at dksX3_findComing_4 6 rfl rfl)
theorem dX3_findComing_103 : decode cX3_findComing 103 = .ok (.ifCond .eq 18, 3) := dk_153 0 18 (dk_at dksX3_findComing_4 9 rfl rfl)
theorem dX3_findComing_106 : decode cX3_findComing 106 = .ok (.aload_n 0, 1) := dk_42 (dk_at dksX3_findComing_4 12 rfl rfl)
theorem dX3_findComing_107 : decode cX3_findComing 107 = .ok (.getfield 22, 3) := dk_180 0 22 (dk_at dksX3_findComing_4 13 rfl rfl)
theorem dX3_findComing_110 : decode cX3_findComing 110 = .ok (.bipush 48, 2) := dk_16 48 (dk_at dksX3_findComing_4 16 rfl rfl)
theorem dX3_findComing_112 : decode cX3_findComing 112 = .ok (.iload_n 2, 1) := dk_28 (dk_at dksX3_findComing_4 18 rfl rfl)
theorem dX3_findComing_113 : decode cX3_findComing 113 = .ok (.iconst 1, 1) := dk_4 (dk_at dksX3_findComing_4 19 rfl rfl)
theorem dX3_findComing_114 : decode cX3_findComing 114 = .ok (.iadd, 1) := dk_96 (dk_at dksX3_findComing_4 20 rfl rfl)
theorem dX3_findComing_115 : decode cX3_findComing 115 = .ok (.imul, 1) := dk_104 (dk_at dksX3_findComing_4 21 rfl rfl)
theorem dX3_findComing_116 : decode cX3_findComing 116 = .ok (.iload 5, 2) := dk_21 5 (dk_at dksX3_findComing_4 22 rfl rfl)
theorem dX3_findComing_118 : decode cX3_findComing 118 = .ok (.iadd, 1) := dk_96 (dk_at dksX3_findComing_5 0 rfl rfl)
theorem dX3_findComing_119 : decode cX3_findComing 119 = .ok (.iconst 1, 1) := dk_4 (dk_at dksX3_findComing_5 1 rfl rfl)
theorem dX3_findComing_120 : decode cX3_findComing 120 = .ok (.bastore, 1) := dk_84 (dk_at dksX3_findComing_5 2 rfl rfl)
theorem dX3_findComing_121 : decode cX3_findComing 121 = .ok (.iinc 4 1, 3) := dk_132 4 1 (dk_at dksX3_findComing_5 3 rfl rfl)
theorem dX3_findComing_124 : decode cX3_findComing 124 = .ok (.goto (-64), 3) := dk_167 255 192 (dk_at dksX3_findComing_5 6 rfl rfl)
theorem dX3_findComing_127 : decode cX3_findComing 127 = .ok (.iinc 3 1, 3) := dk_132 3 1 (dk_at dksX3_findComing_5 9 rfl rfl)
theorem dX3_findComing_130 : decode cX3_findComing 130 = .ok (.goto (-81), 3) := dk_167 255 175 (dk_at dksX3_findComing_5 12 rfl rfl)
theorem dX3_findComing_133 : decode cX3_findComing 133 = .ok (.iinc 2 1, 3) := dk_132 2 1 (dk_at dksX3_findComing_5 15 rfl rfl)
theorem dX3_findComing_136 : decode cX3_findComing 136 = .ok (.goto (-100), 3) := dk_167 255 156 (dk_at dksX3_findComing_5 18 rfl rfl)
theorem dX3_findComing_139 : decode cX3_findComing 139 = .ok (.return_, 1) := dk_177 (dk_at dksX3_findComing_5 21 rfl rfl)
abbrev cX3_beside : ByteArray := prog_12_method_9_code
def yX3_beside : MethodName := ⟨RX3, "beside", "(II)I"⟩
def dkwX3_beside_4 : List UInt8 := [153, 0, 17, 42, 180, 0, 9, 4, 46, 29, 104, 21, 4, 96, 167, 0, 4, 2, 172]
abbrev dktX3_beside_4 : List UInt8 := dkwX3_beside_4 ++ []
def dkwX3_beside_3 : List UInt8 := [4, 100, 184, 0, 71, 153, 0, 34, 21, 4, 3, 42, 180, 0, 9, 4, 46, 4, 100, 184, 0, 71]
abbrev dktX3_beside_3 : List UInt8 := dkwX3_beside_3 ++ dktX3_beside_4
def dkwX3_beside_2 : List UInt8 := [167, 0, 13, 28, 6, 160, 0, 7, 2, 167, 0, 4, 3, 96, 54, 4, 29, 3, 42, 180, 0, 9, 3, 46]
abbrev dktX3_beside_2 : List UInt8 := dkwX3_beside_2 ++ dktX3_beside_3
def dkwX3_beside_1 : List UInt8 := [2, 167, 0, 13, 28, 5, 160, 0, 7, 4, 167, 0, 4, 3, 96, 62, 21, 4, 28, 4, 160, 0, 7, 4]
abbrev dktX3_beside_1 : List UInt8 := dkwX3_beside_1 ++ dktX3_beside_2
def dkwX3_beside_0 : List UInt8 := [27, 42, 180, 0, 9, 4, 46, 108, 62, 27, 42, 180, 0, 9, 4, 46, 112, 54, 4, 29, 28, 154, 0, 7]
abbrev dktX3_beside_0 : List UInt8 := dkwX3_beside_0 ++ dktX3_beside_1
theorem dksX3_beside_0 : cX3_beside.data.toList.drop 0 = dktX3_beside_0 := by decide +kernel
theorem dksX3_beside_1 : cX3_beside.data.toList.drop 24 = dktX3_beside_1 := dk_seg dksX3_beside_0 24 rfl rfl
theorem dksX3_beside_2 : cX3_beside.data.toList.drop 48 = dktX3_beside_2 := dk_seg dksX3_beside_1 24 rfl rfl
theorem dksX3_beside_3 : cX3_beside.data.toList.drop 72 = dktX3_beside_3 := dk_seg dksX3_beside_2 24 rfl rfl
theorem dksX3_beside_4 : cX3_beside.data.toList.drop 94 = dktX3_beside_4 := dk_seg dksX3_beside_3 22 rfl rfl
theorem dX3_beside_0 : decode cX3_beside 0 = .ok (.iload_n 1, 1) := dk_27 (dk_at dksX3_beside_0 0 rfl rfl)
theorem dX3_beside_1 : decode cX3_beside 1 = .ok (.aload_n 0, 1) := dk_42 (dk_at dksX3_beside_0 1 rfl rfl)
theorem dX3_beside_2 : decode cX3_beside 2 = .ok (.getfield 9, 3) := dk_180 0 9 (dk_at dksX3_beside_0 2 rfl rfl)
theorem dX3_beside_5 : decode cX3_beside 5 = .ok (.iconst 1, 1) := dk_4 (dk_at dksX3_beside_0 5 rfl rfl)
theorem dX3_beside_6 : decode cX3_beside 6 = .ok (.iaload, 1) := dk_46 (dk_at dksX3_beside_0 6 rfl rfl)
theorem dX3_beside_7 : decode cX3_beside 7 = .ok (.idiv, 1) := dk_108 (dk_at dksX3_beside_0 7 rfl rfl)
theorem dX3_beside_8 : decode cX3_beside 8 = .ok (.istore_n 3, 1) := dk_62 (dk_at dksX3_beside_0 8 rfl rfl)
theorem dX3_beside_9 : decode cX3_beside 9 = .ok (.iload_n 1, 1) := dk_27 (dk_at dksX3_beside_0 9 rfl rfl)
theorem dX3_beside_10 : decode cX3_beside 10 = .ok (.aload_n 0, 1) := dk_42 (dk_at dksX3_beside_0 10 rfl rfl)
theorem dX3_beside_11 : decode cX3_beside 11 = .ok (.getfield 9, 3) := dk_180 0 9 (dk_at dksX3_beside_0 11 rfl rfl)
theorem dX3_beside_14 : decode cX3_beside 14 = .ok (.iconst 1, 1) := dk_4 (dk_at dksX3_beside_0 14 rfl rfl)
theorem dX3_beside_15 : decode cX3_beside 15 = .ok (.iaload, 1) := dk_46 (dk_at dksX3_beside_0 15 rfl rfl)
theorem dX3_beside_16 : decode cX3_beside 16 = .ok (.irem, 1) := dk_112 (dk_at dksX3_beside_0 16 rfl rfl)
theorem dX3_beside_17 : decode cX3_beside 17 = .ok (.istore 4, 2) := dk_54 4 (dk_at dksX3_beside_0 17 rfl rfl)
theorem dX3_beside_19 : decode cX3_beside 19 = .ok (.iload_n 3, 1) := dk_29 (dk_at dksX3_beside_0 19 rfl rfl)
theorem dX3_beside_20 : decode cX3_beside 20 = .ok (.iload_n 2, 1) := dk_28 (dk_at dksX3_beside_0 20 rfl rfl)
theorem dX3_beside_21 : decode cX3_beside 21 = .ok (.ifCond .ne 7, 3) := dk_154 0 7 (dk_at dksX3_beside_0 21 rfl rfl)
theorem dX3_beside_24 : decode cX3_beside 24 = .ok (.iconst (-1), 1) := dk_2 (dk_at dksX3_beside_1 0 rfl rfl)
theorem dX3_beside_25 : decode cX3_beside 25 = .ok (.goto 13, 3) := dk_167 0 13 (dk_at dksX3_beside_1 1 rfl rfl)
theorem dX3_beside_28 : decode cX3_beside 28 = .ok (.iload_n 2, 1) := dk_28 (dk_at dksX3_beside_1 4 rfl rfl)
theorem dX3_beside_29 : decode cX3_beside 29 = .ok (.iconst 2, 1) := dk_5 (dk_at dksX3_beside_1 5 rfl rfl)
theorem dX3_beside_30 : decode cX3_beside 30 = .ok (.if_icmp .ne 7, 3) := dk_160 0 7 (dk_at dksX3_beside_1 6 rfl rfl)
theorem dX3_beside_33 : decode cX3_beside 33 = .ok (.iconst 1, 1) := dk_4 (dk_at dksX3_beside_1 9 rfl rfl)
theorem dX3_beside_34 : decode cX3_beside 34 = .ok (.goto 4, 3) := dk_167 0 4 (dk_at dksX3_beside_1 10 rfl rfl)
theorem dX3_beside_37 : decode cX3_beside 37 = .ok (.iconst 0, 1) := dk_3 (dk_at dksX3_beside_1 13 rfl rfl)
theorem dX3_beside_38 : decode cX3_beside 38 = .ok (.iadd, 1) := dk_96 (dk_at dksX3_beside_1 14 rfl rfl)
theorem dX3_beside_39 : decode cX3_beside 39 = .ok (.istore_n 3, 1) := dk_62 (dk_at dksX3_beside_1 15 rfl rfl)
theorem dX3_beside_40 : decode cX3_beside 40 = .ok (.iload 4, 2) := dk_21 4 (dk_at dksX3_beside_1 16 rfl rfl)
theorem dX3_beside_42 : decode cX3_beside 42 = .ok (.iload_n 2, 1) := dk_28 (dk_at dksX3_beside_1 18 rfl rfl)
theorem dX3_beside_43 : decode cX3_beside 43 = .ok (.iconst 1, 1) := dk_4 (dk_at dksX3_beside_1 19 rfl rfl)
theorem dX3_beside_44 : decode cX3_beside 44 = .ok (.if_icmp .ne 7, 3) := dk_160 0 7 (dk_at dksX3_beside_1 20 rfl rfl)
theorem dX3_beside_47 : decode cX3_beside 47 = .ok (.iconst 1, 1) := dk_4 (dk_at dksX3_beside_1 23 rfl rfl)
theorem dX3_beside_48 : decode cX3_beside 48 = .ok (.goto 13, 3) := dk_167 0 13 (dk_at dksX3_beside_2 0 rfl rfl)
theorem dX3_beside_51 : decode cX3_beside 51 = .ok (.iload_n 2, 1) := dk_28 (dk_at dksX3_beside_2 3 rfl rfl)
theorem dX3_beside_52 : decode cX3_beside 52 = .ok (.iconst 3, 1) := dk_6 (dk_at dksX3_beside_2 4 rfl rfl)
theorem dX3_beside_53 : decode cX3_beside 53 = .ok (.if_icmp .ne 7, 3) := dk_160 0 7 (dk_at dksX3_beside_2 5 rfl rfl)
theorem dX3_beside_56 : decode cX3_beside 56 = .ok (.iconst (-1), 1) := dk_2 (dk_at dksX3_beside_2 8 rfl rfl)
theorem dX3_beside_57 : decode cX3_beside 57 = .ok (.goto 4, 3) := dk_167 0 4 (dk_at dksX3_beside_2 9 rfl rfl)
theorem dX3_beside_60 : decode cX3_beside 60 = .ok (.iconst 0, 1) := dk_3 (dk_at dksX3_beside_2 12 rfl rfl)
theorem dX3_beside_61 : decode cX3_beside 61 = .ok (.iadd, 1) := dk_96 (dk_at dksX3_beside_2 13 rfl rfl)
theorem dX3_beside_62 : decode cX3_beside 62 = .ok (.istore 4, 2) := dk_54 4 (dk_at dksX3_beside_2 14 rfl rfl)
theorem dX3_beside_64 : decode cX3_beside 64 = .ok (.iload_n 3, 1) := dk_29 (dk_at dksX3_beside_2 16 rfl rfl)
theorem dX3_beside_65 : decode cX3_beside 65 = .ok (.iconst 0, 1) := dk_3 (dk_at dksX3_beside_2 17 rfl rfl)
theorem dX3_beside_66 : decode cX3_beside 66 = .ok (.aload_n 0, 1) := dk_42 (dk_at dksX3_beside_2 18 rfl rfl)
theorem dX3_beside_67 : decode cX3_beside 67 = .ok (.getfield 9, 3) := dk_180 0 9 (dk_at dksX3_beside_2 19 rfl rfl)
theorem dX3_beside_70 : decode cX3_beside 70 = .ok (.iconst 0, 1) := dk_3 (dk_at dksX3_beside_2 22 rfl rfl)
theorem dX3_beside_71 : decode cX3_beside 71 = .ok (.iaload, 1) := dk_46 (dk_at dksX3_beside_2 23 rfl rfl)
theorem dX3_beside_72 : decode cX3_beside 72 = .ok (.iconst 1, 1) := dk_4 (dk_at dksX3_beside_3 0 rfl rfl)
theorem dX3_beside_73 : decode cX3_beside 73 = .ok (.isub, 1) := dk_100 (dk_at dksX3_beside_3 1 rfl rfl)
theorem dX3_beside_74 : decode cX3_beside 74 = .ok (.invokestatic 71, 3) := dk_184 0 71 (dk_at dksX3_beside_3 2 rfl rfl)
theorem dX3_beside_77 : decode cX3_beside 77 = .ok (.ifCond .eq 34, 3) := dk_153 0 34 (dk_at dksX3_beside_3 5 rfl rfl)
theorem dX3_beside_80 : decode cX3_beside 80 = .ok (.iload 4, 2) := dk_21 4 (dk_at dksX3_beside_3 8 rfl rfl)
theorem dX3_beside_82 : decode cX3_beside 82 = .ok (.iconst 0, 1) := dk_3 (dk_at dksX3_beside_3 10 rfl rfl)
theorem dX3_beside_83 : decode cX3_beside 83 = .ok (.aload_n 0, 1) := dk_42 (dk_at dksX3_beside_3 11 rfl rfl)
theorem dX3_beside_84 : decode cX3_beside 84 = .ok (.getfield 9, 3) := dk_180 0 9 (dk_at dksX3_beside_3 12 rfl rfl)
theorem dX3_beside_87 : decode cX3_beside 87 = .ok (.iconst 1, 1) := dk_4 (dk_at dksX3_beside_3 15 rfl rfl)
theorem dX3_beside_88 : decode cX3_beside 88 = .ok (.iaload, 1) := dk_46 (dk_at dksX3_beside_3 16 rfl rfl)
theorem dX3_beside_89 : decode cX3_beside 89 = .ok (.iconst 1, 1) := dk_4 (dk_at dksX3_beside_3 17 rfl rfl)
theorem dX3_beside_90 : decode cX3_beside 90 = .ok (.isub, 1) := dk_100 (dk_at dksX3_beside_3 18 rfl rfl)
theorem dX3_beside_91 : decode cX3_beside 91 = .ok (.invokestatic 71, 3) := dk_184 0 71 (dk_at dksX3_beside_3 19 rfl rfl)
theorem dX3_beside_94 : decode cX3_beside 94 = .ok (.ifCond .eq 17, 3) := dk_153 0 17 (dk_at dksX3_beside_4 0 rfl rfl)
theorem dX3_beside_97 : decode cX3_beside 97 = .ok (.aload_n 0, 1) := dk_42 (dk_at dksX3_beside_4 3 rfl rfl)
theorem dX3_beside_98 : decode cX3_beside 98 = .ok (.getfield 9, 3) := dk_180 0 9 (dk_at dksX3_beside_4 4 rfl rfl)
theorem dX3_beside_101 : decode cX3_beside 101 = .ok (.iconst 1, 1) := dk_4 (dk_at dksX3_beside_4 7 rfl rfl)
theorem dX3_beside_102 : decode cX3_beside 102 = .ok (.iaload, 1) := dk_46 (dk_at dksX3_beside_4 8 rfl rfl)
theorem dX3_beside_103 : decode cX3_beside 103 = .ok (.iload_n 3, 1) := dk_29 (dk_at dksX3_beside_4 9 rfl rfl)
theorem dX3_beside_104 : decode cX3_beside 104 = .ok (.imul, 1) := dk_104 (dk_at dksX3_beside_4 10 rfl rfl)
theorem dX3_beside_105 : decode cX3_beside 105 = .ok (.iload 4, 2) := dk_21 4 (dk_at dksX3_beside_4 11 rfl rfl)
theorem dX3_beside_107 : decode cX3_beside 107 = .ok (.iadd, 1) := dk_96 (dk_at dksX3_beside_4 13 rfl rfl)
theorem dX3_beside_108 : decode cX3_beside 108 = .ok (.goto 4, 3) := dk_167 0 4 (dk_at dksX3_beside_4 14 rfl rfl)
theorem dX3_beside_111 : decode cX3_beside 111 = .ok (.iconst (-1), 1) := dk_2 (dk_at dksX3_beside_4 17 rfl rfl)
theorem dX3_beside_112 : decode cX3_beside 112 = .ok (.ireturn, 1) := dk_172 (dk_at dksX3_beside_4 18 rfl rfl)
abbrev cX3_mayGo : ByteArray := prog_12_method_30_code
def yX3_mayGo : MethodName := ⟨RX3, "mayGo", "(IIII)Z"⟩
def dkwX3_mayGo_3 : List UInt8 := [159, 0, 7, 4, 167, 0, 4, 3, 54, 5, 132, 6, 1, 167, 255, 184, 21, 5, 172]
abbrev dktX3_mayGo_3 : List UInt8 := dkwX3_mayGo_3 ++ []
def dkwX3_mayGo_2 : List UInt8 := [21, 6, 21, 4, 4, 96, 182, 0, 83, 28, 160, 0, 15, 42, 21, 6, 21, 4, 182, 0, 83, 29]
abbrev dktX3_mayGo_2 : List UInt8 := dkwX3_mayGo_2 ++ dktX3_mayGo_3
def dkwX3_mayGo_1 : List UInt8 := [153, 0, 62, 21, 6, 27, 159, 0, 43, 42, 21, 6, 21, 4, 4, 96, 182, 0, 83, 29, 159, 0, 33, 42]
abbrev dktX3_mayGo_1 : List UInt8 := dkwX3_mayGo_1 ++ dktX3_mayGo_2
def dkwX3_mayGo_0 : List UInt8 := [42, 29, 182, 0, 93, 54, 5, 3, 54, 6, 21, 6, 42, 180, 0, 9, 6, 46, 162, 0, 67, 21, 5]
abbrev dktX3_mayGo_0 : List UInt8 := dkwX3_mayGo_0 ++ dktX3_mayGo_1
theorem dksX3_mayGo_0 : cX3_mayGo.data.toList.drop 0 = dktX3_mayGo_0 := by decide +kernel
theorem dksX3_mayGo_1 : cX3_mayGo.data.toList.drop 23 = dktX3_mayGo_1 := dk_seg dksX3_mayGo_0 23 rfl rfl
theorem dksX3_mayGo_2 : cX3_mayGo.data.toList.drop 47 = dktX3_mayGo_2 := dk_seg dksX3_mayGo_1 24 rfl rfl
theorem dksX3_mayGo_3 : cX3_mayGo.data.toList.drop 69 = dktX3_mayGo_3 := dk_seg dksX3_mayGo_2 22 rfl rfl
theorem dX3_mayGo_0 : decode cX3_mayGo 0 = .ok (.aload_n 0, 1) := dk_42 (dk_at dksX3_mayGo_0 0 rfl rfl)
theorem dX3_mayGo_1 : decode cX3_mayGo 1 = .ok (.iload_n 3, 1) := dk_29 (dk_at dksX3_mayGo_0 1 rfl rfl)
theorem dX3_mayGo_2 : decode cX3_mayGo 2 = .ok (.invokevirtual 93, 3) := dk_182 0 93 (dk_at dksX3_mayGo_0 2 rfl rfl)
theorem dX3_mayGo_5 : decode cX3_mayGo 5 = .ok (.istore 5, 2) := dk_54 5 (dk_at dksX3_mayGo_0 5 rfl rfl)
theorem dX3_mayGo_7 : decode cX3_mayGo 7 = .ok (.iconst 0, 1) := dk_3 (dk_at dksX3_mayGo_0 7 rfl rfl)
theorem dX3_mayGo_8 : decode cX3_mayGo 8 = .ok (.istore 6, 2) := dk_54 6 (dk_at dksX3_mayGo_0 8 rfl rfl)
theorem dX3_mayGo_10 : decode cX3_mayGo 10 = .ok (.iload 6, 2) := dk_21 6 (dk_at dksX3_mayGo_0 10 rfl rfl)
theorem dX3_mayGo_12 : decode cX3_mayGo 12 = .ok (.aload_n 0, 1) := dk_42 (dk_at dksX3_mayGo_0 12 rfl rfl)
theorem dX3_mayGo_13 : decode cX3_mayGo 13 = .ok (.getfield 9, 3) := dk_180 0 9 (dk_at dksX3_mayGo_0 13 rfl rfl)
theorem dX3_mayGo_16 : decode cX3_mayGo 16 = .ok (.iconst 3, 1) := dk_6 (dk_at dksX3_mayGo_0 16 rfl rfl)
theorem dX3_mayGo_17 : decode cX3_mayGo 17 = .ok (.iaload, 1) := dk_46 (dk_at dksX3_mayGo_0 17 rfl rfl)
theorem dX3_mayGo_18 : decode cX3_mayGo 18 = .ok (.if_icmp .ge 67, 3) := dk_162 0 67 (dk_at dksX3_mayGo_0 18 rfl rfl)
theorem dX3_mayGo_21 : decode cX3_mayGo 21 = .ok (.iload 5, 2) := dk_21 5 (dk_at dksX3_mayGo_0 21 rfl rfl)
theorem dX3_mayGo_23 : decode cX3_mayGo 23 = .ok (.ifCond .eq 62, 3) := dk_153 0 62 (dk_at dksX3_mayGo_1 0 rfl rfl)
theorem dX3_mayGo_26 : decode cX3_mayGo 26 = .ok (.iload 6, 2) := dk_21 6 (dk_at dksX3_mayGo_1 3 rfl rfl)
theorem dX3_mayGo_28 : decode cX3_mayGo 28 = .ok (.iload_n 1, 1) := dk_27 (dk_at dksX3_mayGo_1 5 rfl rfl)
theorem dX3_mayGo_29 : decode cX3_mayGo 29 = .ok (.if_icmp .eq 43, 3) := dk_159 0 43 (dk_at dksX3_mayGo_1 6 rfl rfl)
theorem dX3_mayGo_32 : decode cX3_mayGo 32 = .ok (.aload_n 0, 1) := dk_42 (dk_at dksX3_mayGo_1 9 rfl rfl)
theorem dX3_mayGo_33 : decode cX3_mayGo 33 = .ok (.iload 6, 2) := dk_21 6 (dk_at dksX3_mayGo_1 10 rfl rfl)
theorem dX3_mayGo_35 : decode cX3_mayGo 35 = .ok (.iload 4, 2) := dk_21 4 (dk_at dksX3_mayGo_1 12 rfl rfl)
theorem dX3_mayGo_37 : decode cX3_mayGo 37 = .ok (.iconst 1, 1) := dk_4 (dk_at dksX3_mayGo_1 14 rfl rfl)
theorem dX3_mayGo_38 : decode cX3_mayGo 38 = .ok (.iadd, 1) := dk_96 (dk_at dksX3_mayGo_1 15 rfl rfl)
theorem dX3_mayGo_39 : decode cX3_mayGo 39 = .ok (.invokevirtual 83, 3) := dk_182 0 83 (dk_at dksX3_mayGo_1 16 rfl rfl)
theorem dX3_mayGo_42 : decode cX3_mayGo 42 = .ok (.iload_n 3, 1) := dk_29 (dk_at dksX3_mayGo_1 19 rfl rfl)
theorem dX3_mayGo_43 : decode cX3_mayGo 43 = .ok (.if_icmp .eq 33, 3) := dk_159 0 33 (dk_at dksX3_mayGo_1 20 rfl rfl)
theorem dX3_mayGo_46 : decode cX3_mayGo 46 = .ok (.aload_n 0, 1) := dk_42 (dk_at dksX3_mayGo_1 23 rfl rfl)
theorem dX3_mayGo_47 : decode cX3_mayGo 47 = .ok (.iload 6, 2) := dk_21 6 (dk_at dksX3_mayGo_2 0 rfl rfl)
theorem dX3_mayGo_49 : decode cX3_mayGo 49 = .ok (.iload 4, 2) := dk_21 4 (dk_at dksX3_mayGo_2 2 rfl rfl)
theorem dX3_mayGo_51 : decode cX3_mayGo 51 = .ok (.iconst 1, 1) := dk_4 (dk_at dksX3_mayGo_2 4 rfl rfl)
theorem dX3_mayGo_52 : decode cX3_mayGo 52 = .ok (.iadd, 1) := dk_96 (dk_at dksX3_mayGo_2 5 rfl rfl)
theorem dX3_mayGo_53 : decode cX3_mayGo 53 = .ok (.invokevirtual 83, 3) := dk_182 0 83 (dk_at dksX3_mayGo_2 6 rfl rfl)
theorem dX3_mayGo_56 : decode cX3_mayGo 56 = .ok (.iload_n 2, 1) := dk_28 (dk_at dksX3_mayGo_2 9 rfl rfl)
theorem dX3_mayGo_57 : decode cX3_mayGo 57 = .ok (.if_icmp .ne 15, 3) := dk_160 0 15 (dk_at dksX3_mayGo_2 10 rfl rfl)
theorem dX3_mayGo_60 : decode cX3_mayGo 60 = .ok (.aload_n 0, 1) := dk_42 (dk_at dksX3_mayGo_2 13 rfl rfl)
theorem dX3_mayGo_61 : decode cX3_mayGo 61 = .ok (.iload 6, 2) := dk_21 6 (dk_at dksX3_mayGo_2 14 rfl rfl)
theorem dX3_mayGo_63 : decode cX3_mayGo 63 = .ok (.iload 4, 2) := dk_21 4 (dk_at dksX3_mayGo_2 16 rfl rfl)
theorem dX3_mayGo_65 : decode cX3_mayGo 65 = .ok (.invokevirtual 83, 3) := dk_182 0 83 (dk_at dksX3_mayGo_2 18 rfl rfl)
theorem dX3_mayGo_68 : decode cX3_mayGo 68 = .ok (.iload_n 3, 1) := dk_29 (dk_at dksX3_mayGo_2 21 rfl rfl)
theorem dX3_mayGo_69 : decode cX3_mayGo 69 = .ok (.if_icmp .eq 7, 3) := dk_159 0 7 (dk_at dksX3_mayGo_3 0 rfl rfl)
theorem dX3_mayGo_72 : decode cX3_mayGo 72 = .ok (.iconst 1, 1) := dk_4 (dk_at dksX3_mayGo_3 3 rfl rfl)
theorem dX3_mayGo_73 : decode cX3_mayGo 73 = .ok (.goto 4, 3) := dk_167 0 4 (dk_at dksX3_mayGo_3 4 rfl rfl)
theorem dX3_mayGo_76 : decode cX3_mayGo 76 = .ok (.iconst 0, 1) := dk_3 (dk_at dksX3_mayGo_3 7 rfl rfl)
theorem dX3_mayGo_77 : decode cX3_mayGo 77 = .ok (.istore 5, 2) := dk_54 5 (dk_at dksX3_mayGo_3 8 rfl rfl)
theorem dX3_mayGo_79 : decode cX3_mayGo 79 = .ok (.iinc 6 1, 3) := dk_132 6 1 (dk_at dksX3_mayGo_3 10 rfl rfl)
theorem dX3_mayGo_82 : decode cX3_mayGo 82 = .ok (.goto (-72), 3) := dk_167 255 184 (dk_at dksX3_mayGo_3 13 rfl rfl)
theorem dX3_mayGo_85 : decode cX3_mayGo 85 = .ok (.iload 5, 2) := dk_21 5 (dk_at dksX3_mayGo_3 16 rfl rfl)
theorem dX3_mayGo_87 : decode cX3_mayGo 87 = .ok (.ireturn, 1) := dk_172 (dk_at dksX3_mayGo_3 18 rfl rfl)
abbrev cX3_canEnd : ByteArray := prog_12_method_32_code
def yX3_canEnd : MethodName := ⟨RX3, "canEnd", "(III)Z"⟩
def dkwX3_canEnd_4 : List UInt8 := [167, 0, 4, 3, 172]
abbrev dktX3_canEnd_4 : List UInt8 := dkwX3_canEnd_4 ++ []
def dkwX3_canEnd_3 : List UInt8 := [132, 5, 1, 167, 255, 190, 21, 4, 153, 0, 19, 42, 28, 29, 4, 96, 27, 182, 0, 96, 156, 0, 7, 4]
abbrev dktX3_canEnd_3 : List UInt8 := dkwX3_canEnd_3 ++ dktX3_canEnd_4
def dkwX3_canEnd_2 : List UInt8 := [153, 0, 21, 42, 27, 21, 6, 28, 29, 4, 100, 182, 0, 127, 153, 0, 7, 4, 167, 0, 4, 3, 54, 4]
abbrev dktX3_canEnd_2 : List UInt8 := dkwX3_canEnd_2 ++ dktX3_canEnd_3
def dkwX3_canEnd_1 : List UInt8 := [154, 0, 39, 21, 6, 155, 0, 38, 42, 180, 0, 22, 16, 48, 29, 4, 100, 104, 21, 6, 96, 51]
abbrev dktX3_canEnd_1 : List UInt8 := dkwX3_canEnd_1 ++ dktX3_canEnd_2
def dkwX3_canEnd_0 : List UInt8 := [3, 54, 4, 3, 54, 5, 21, 5, 7, 162, 0, 66, 42, 28, 21, 5, 182, 0, 124, 54, 6, 21, 4]
abbrev dktX3_canEnd_0 : List UInt8 := dkwX3_canEnd_0 ++ dktX3_canEnd_1
theorem dksX3_canEnd_0 : cX3_canEnd.data.toList.drop 0 = dktX3_canEnd_0 := by decide +kernel
theorem dksX3_canEnd_1 : cX3_canEnd.data.toList.drop 23 = dktX3_canEnd_1 := dk_seg dksX3_canEnd_0 23 rfl rfl
theorem dksX3_canEnd_2 : cX3_canEnd.data.toList.drop 45 = dktX3_canEnd_2 := dk_seg dksX3_canEnd_1 22 rfl rfl
theorem dksX3_canEnd_3 : cX3_canEnd.data.toList.drop 69 = dktX3_canEnd_3 := dk_seg dksX3_canEnd_2 24 rfl rfl
theorem dksX3_canEnd_4 : cX3_canEnd.data.toList.drop 93 = dktX3_canEnd_4 := dk_seg dksX3_canEnd_3 24 rfl rfl
theorem dX3_canEnd_0 : decode cX3_canEnd 0 = .ok (.iconst 0, 1) := dk_3 (dk_at dksX3_canEnd_0 0 rfl rfl)
theorem dX3_canEnd_1 : decode cX3_canEnd 1 = .ok (.istore 4, 2) := dk_54 4 (dk_at dksX3_canEnd_0 1 rfl rfl)
theorem dX3_canEnd_3 : decode cX3_canEnd 3 = .ok (.iconst 0, 1) := dk_3 (dk_at dksX3_canEnd_0 3 rfl rfl)
theorem dX3_canEnd_4 : decode cX3_canEnd 4 = .ok (.istore 5, 2) := dk_54 5 (dk_at dksX3_canEnd_0 4 rfl rfl)
theorem dX3_canEnd_6 : decode cX3_canEnd 6 = .ok (.iload 5, 2) := dk_21 5 (dk_at dksX3_canEnd_0 6 rfl rfl)
theorem dX3_canEnd_8 : decode cX3_canEnd 8 = .ok (.iconst 4, 1) := dk_7 (dk_at dksX3_canEnd_0 8 rfl rfl)
theorem dX3_canEnd_9 : decode cX3_canEnd 9 = .ok (.if_icmp .ge 66, 3) := dk_162 0 66 (dk_at dksX3_canEnd_0 9 rfl rfl)
theorem dX3_canEnd_12 : decode cX3_canEnd 12 = .ok (.aload_n 0, 1) := dk_42 (dk_at dksX3_canEnd_0 12 rfl rfl)
theorem dX3_canEnd_13 : decode cX3_canEnd 13 = .ok (.iload_n 2, 1) := dk_28 (dk_at dksX3_canEnd_0 13 rfl rfl)
theorem dX3_canEnd_14 : decode cX3_canEnd 14 = .ok (.iload 5, 2) := dk_21 5 (dk_at dksX3_canEnd_0 14 rfl rfl)
theorem dX3_canEnd_16 : decode cX3_canEnd 16 = .ok (.invokevirtual 124, 3) := dk_182 0 124 (dk_at dksX3_canEnd_0 16 rfl rfl)
theorem dX3_canEnd_19 : decode cX3_canEnd 19 = .ok (.istore 6, 2) := dk_54 6 (dk_at dksX3_canEnd_0 19 rfl rfl)
theorem dX3_canEnd_21 : decode cX3_canEnd 21 = .ok (.iload 4, 2) := dk_21 4 (dk_at dksX3_canEnd_0 21 rfl rfl)
theorem dX3_canEnd_23 : decode cX3_canEnd 23 = .ok (.ifCond .ne 39, 3) := dk_154 0 39 (dk_at dksX3_canEnd_1 0 rfl rfl)
theorem dX3_canEnd_26 : decode cX3_canEnd 26 = .ok (.iload 6, 2) := dk_21 6 (dk_at dksX3_canEnd_1 3 rfl rfl)
theorem dX3_canEnd_28 : decode cX3_canEnd 28 = .ok (.ifCond .lt 38, 3) := dk_155 0 38 (dk_at dksX3_canEnd_1 5 rfl rfl)
theorem dX3_canEnd_31 : decode cX3_canEnd 31 = .ok (.aload_n 0, 1) := dk_42 (dk_at dksX3_canEnd_1 8 rfl rfl)
theorem dX3_canEnd_32 : decode cX3_canEnd 32 = .ok (.getfield 22, 3) := dk_180 0 22 (dk_at dksX3_canEnd_1 9 rfl rfl)
theorem dX3_canEnd_35 : decode cX3_canEnd 35 = .ok (.bipush 48, 2) := dk_16 48 (dk_at dksX3_canEnd_1 12 rfl rfl)
theorem dX3_canEnd_37 : decode cX3_canEnd 37 = .ok (.iload_n 3, 1) := dk_29 (dk_at dksX3_canEnd_1 14 rfl rfl)
theorem dX3_canEnd_38 : decode cX3_canEnd 38 = .ok (.iconst 1, 1) := dk_4 (dk_at dksX3_canEnd_1 15 rfl rfl)
theorem dX3_canEnd_39 : decode cX3_canEnd 39 = .ok (.isub, 1) := dk_100 (dk_at dksX3_canEnd_1 16 rfl rfl)
theorem dX3_canEnd_40 : decode cX3_canEnd 40 = .ok (.imul, 1) := dk_104 (dk_at dksX3_canEnd_1 17 rfl rfl)
theorem dX3_canEnd_41 : decode cX3_canEnd 41 = .ok (.iload 6, 2) := dk_21 6 (dk_at dksX3_canEnd_1 18 rfl rfl)
theorem dX3_canEnd_43 : decode cX3_canEnd 43 = .ok (.iadd, 1) := dk_96 (dk_at dksX3_canEnd_1 20 rfl rfl)
theorem dX3_canEnd_44 : decode cX3_canEnd 44 = .ok (.baload, 1) := dk_51 (dk_at dksX3_canEnd_1 21 rfl rfl)
theorem dX3_canEnd_45 : decode cX3_canEnd 45 = .ok (.ifCond .eq 21, 3) := dk_153 0 21 (dk_at dksX3_canEnd_2 0 rfl rfl)
theorem dX3_canEnd_48 : decode cX3_canEnd 48 = .ok (.aload_n 0, 1) := dk_42 (dk_at dksX3_canEnd_2 3 rfl rfl)
theorem dX3_canEnd_49 : decode cX3_canEnd 49 = .ok (.iload_n 1, 1) := dk_27 (dk_at dksX3_canEnd_2 4 rfl rfl)
theorem dX3_canEnd_50 : decode cX3_canEnd 50 = .ok (.iload 6, 2) := dk_21 6 (dk_at dksX3_canEnd_2 5 rfl rfl)
theorem dX3_canEnd_52 : decode cX3_canEnd 52 = .ok (.iload_n 2, 1) := dk_28 (dk_at dksX3_canEnd_2 7 rfl rfl)
theorem dX3_canEnd_53 : decode cX3_canEnd 53 = .ok (.iload_n 3, 1) := dk_29 (dk_at dksX3_canEnd_2 8 rfl rfl)
theorem dX3_canEnd_54 : decode cX3_canEnd 54 = .ok (.iconst 1, 1) := dk_4 (dk_at dksX3_canEnd_2 9 rfl rfl)
theorem dX3_canEnd_55 : decode cX3_canEnd 55 = .ok (.isub, 1) := dk_100 (dk_at dksX3_canEnd_2 10 rfl rfl)
theorem dX3_canEnd_56 : decode cX3_canEnd 56 = .ok (.invokevirtual 127, 3) := dk_182 0 127 (dk_at dksX3_canEnd_2 11 rfl rfl)
theorem dX3_canEnd_59 : decode cX3_canEnd 59 = .ok (.ifCond .eq 7, 3) := dk_153 0 7 (dk_at dksX3_canEnd_2 14 rfl rfl)
theorem dX3_canEnd_62 : decode cX3_canEnd 62 = .ok (.iconst 1, 1) := dk_4 (dk_at dksX3_canEnd_2 17 rfl rfl)
theorem dX3_canEnd_63 : decode cX3_canEnd 63 = .ok (.goto 4, 3) := dk_167 0 4 (dk_at dksX3_canEnd_2 18 rfl rfl)
theorem dX3_canEnd_66 : decode cX3_canEnd 66 = .ok (.iconst 0, 1) := dk_3 (dk_at dksX3_canEnd_2 21 rfl rfl)
theorem dX3_canEnd_67 : decode cX3_canEnd 67 = .ok (.istore 4, 2) := dk_54 4 (dk_at dksX3_canEnd_2 22 rfl rfl)
theorem dX3_canEnd_69 : decode cX3_canEnd 69 = .ok (.iinc 5 1, 3) := dk_132 5 1 (dk_at dksX3_canEnd_3 0 rfl rfl)
theorem dX3_canEnd_72 : decode cX3_canEnd 72 = .ok (.goto (-66), 3) := dk_167 255 190 (dk_at dksX3_canEnd_3 3 rfl rfl)
theorem dX3_canEnd_75 : decode cX3_canEnd 75 = .ok (.iload 4, 2) := dk_21 4 (dk_at dksX3_canEnd_3 6 rfl rfl)
theorem dX3_canEnd_77 : decode cX3_canEnd 77 = .ok (.ifCond .eq 19, 3) := dk_153 0 19 (dk_at dksX3_canEnd_3 8 rfl rfl)
theorem dX3_canEnd_80 : decode cX3_canEnd 80 = .ok (.aload_n 0, 1) := dk_42 (dk_at dksX3_canEnd_3 11 rfl rfl)
theorem dX3_canEnd_81 : decode cX3_canEnd 81 = .ok (.iload_n 2, 1) := dk_28 (dk_at dksX3_canEnd_3 12 rfl rfl)
theorem dX3_canEnd_82 : decode cX3_canEnd 82 = .ok (.iload_n 3, 1) := dk_29 (dk_at dksX3_canEnd_3 13 rfl rfl)
theorem dX3_canEnd_83 : decode cX3_canEnd 83 = .ok (.iconst 1, 1) := dk_4 (dk_at dksX3_canEnd_3 14 rfl rfl)
theorem dX3_canEnd_84 : decode cX3_canEnd 84 = .ok (.iadd, 1) := dk_96 (dk_at dksX3_canEnd_3 15 rfl rfl)
theorem dX3_canEnd_85 : decode cX3_canEnd 85 = .ok (.iload_n 1, 1) := dk_27 (dk_at dksX3_canEnd_3 16 rfl rfl)
theorem dX3_canEnd_86 : decode cX3_canEnd 86 = .ok (.invokevirtual 96, 3) := dk_182 0 96 (dk_at dksX3_canEnd_3 17 rfl rfl)
theorem dX3_canEnd_89 : decode cX3_canEnd 89 = .ok (.ifCond .ge 7, 3) := dk_156 0 7 (dk_at dksX3_canEnd_3 20 rfl rfl)
theorem dX3_canEnd_92 : decode cX3_canEnd 92 = .ok (.iconst 1, 1) := dk_4 (dk_at dksX3_canEnd_3 23 rfl rfl)
theorem dX3_canEnd_93 : decode cX3_canEnd 93 = .ok (.goto 4, 3) := dk_167 0 4 (dk_at dksX3_canEnd_4 0 rfl rfl)
theorem dX3_canEnd_96 : decode cX3_canEnd 96 = .ok (.iconst 0, 1) := dk_3 (dk_at dksX3_canEnd_4 3 rfl rfl)
theorem dX3_canEnd_97 : decode cX3_canEnd 97 = .ok (.ireturn, 1) := dk_172 (dk_at dksX3_canEnd_4 4 rfl rfl)
abbrev cX3_isLoaded : ByteArray := prog_12_method_25_code
def yX3_isLoaded : MethodName := ⟨RX3, "isLoaded", "(I)Z"⟩
def dkwX3_isLoaded_1 : List UInt8 := [167, 0, 4, 3, 172]
abbrev dktX3_isLoaded_1 : List UInt8 := dkwX3_isLoaded_1 ++ []
def dkwX3_isLoaded_0 : List UInt8 := [42, 27, 5, 182, 0, 79, 155, 0, 21, 42, 42, 27, 5, 182, 0, 79, 5, 182, 0, 109, 158, 0, 7, 4]
abbrev dktX3_isLoaded_0 : List UInt8 := dkwX3_isLoaded_0 ++ dktX3_isLoaded_1
theorem dksX3_isLoaded_0 : cX3_isLoaded.data.toList.drop 0 = dktX3_isLoaded_0 := by decide +kernel
theorem dksX3_isLoaded_1 : cX3_isLoaded.data.toList.drop 24 = dktX3_isLoaded_1 := dk_seg dksX3_isLoaded_0 24 rfl rfl
theorem dX3_isLoaded_0 : decode cX3_isLoaded 0 = .ok (.aload_n 0, 1) := dk_42 (dk_at dksX3_isLoaded_0 0 rfl rfl)
theorem dX3_isLoaded_1 : decode cX3_isLoaded 1 = .ok (.iload_n 1, 1) := dk_27 (dk_at dksX3_isLoaded_0 1 rfl rfl)
theorem dX3_isLoaded_2 : decode cX3_isLoaded 2 = .ok (.iconst 2, 1) := dk_5 (dk_at dksX3_isLoaded_0 2 rfl rfl)
theorem dX3_isLoaded_3 : decode cX3_isLoaded 3 = .ok (.invokevirtual 79, 3) := dk_182 0 79 (dk_at dksX3_isLoaded_0 3 rfl rfl)
theorem dX3_isLoaded_6 : decode cX3_isLoaded 6 = .ok (.ifCond .lt 21, 3) := dk_155 0 21 (dk_at dksX3_isLoaded_0 6 rfl rfl)
theorem dX3_isLoaded_9 : decode cX3_isLoaded 9 = .ok (.aload_n 0, 1) := dk_42 (dk_at dksX3_isLoaded_0 9 rfl rfl)
theorem dX3_isLoaded_10 : decode cX3_isLoaded 10 = .ok (.aload_n 0, 1) := dk_42 (dk_at dksX3_isLoaded_0 10 rfl rfl)
theorem dX3_isLoaded_11 : decode cX3_isLoaded 11 = .ok (.iload_n 1, 1) := dk_27 (dk_at dksX3_isLoaded_0 11 rfl rfl)
theorem dX3_isLoaded_12 : decode cX3_isLoaded 12 = .ok (.iconst 2, 1) := dk_5 (dk_at dksX3_isLoaded_0 12 rfl rfl)
theorem dX3_isLoaded_13 : decode cX3_isLoaded 13 = .ok (.invokevirtual 79, 3) := dk_182 0 79 (dk_at dksX3_isLoaded_0 13 rfl rfl)
theorem dX3_isLoaded_16 : decode cX3_isLoaded 16 = .ok (.iconst 2, 1) := dk_5 (dk_at dksX3_isLoaded_0 16 rfl rfl)
theorem dX3_isLoaded_17 : decode cX3_isLoaded 17 = .ok (.invokevirtual 109, 3) := dk_182 0 109 (dk_at dksX3_isLoaded_0 17 rfl rfl)
theorem dX3_isLoaded_20 : decode cX3_isLoaded 20 = .ok (.ifCond .le 7, 3) := dk_158 0 7 (dk_at dksX3_isLoaded_0 20 rfl rfl)
theorem dX3_isLoaded_23 : decode cX3_isLoaded 23 = .ok (.iconst 1, 1) := dk_4 (dk_at dksX3_isLoaded_0 23 rfl rfl)
theorem dX3_isLoaded_24 : decode cX3_isLoaded 24 = .ok (.goto 4, 3) := dk_167 0 4 (dk_at dksX3_isLoaded_1 0 rfl rfl)
theorem dX3_isLoaded_27 : decode cX3_isLoaded 27 = .ok (.iconst 0, 1) := dk_3 (dk_at dksX3_isLoaded_1 3 rfl rfl)
theorem dX3_isLoaded_28 : decode cX3_isLoaded 28 = .ok (.ireturn, 1) := dk_172 (dk_at dksX3_isLoaded_1 4 rfl rfl)
abbrev cX3_findPath : ByteArray := prog_12_method_35_code
def yX3_findPath : MethodName := ⟨RX3, "findPath", "(III)I"⟩
def dkwX3_findPath_5 : List UInt8 := [21, 8, 79, 21, 8, 54, 4, 132, 6, 1, 167, 255, 151, 21, 5, 172]
abbrev dktX3_findPath_5 : List UInt8 := dkwX3_findPath_5 ++ []
def dkwX3_findPath_4 : List UInt8 := [21, 5, 21, 8, 21, 4, 160, 0, 7, 3, 167, 0, 4, 4, 96, 54, 5, 42, 180, 0, 29, 21, 6]
abbrev dktX3_findPath_4 : List UInt8 := dkwX3_findPath_4 ++ dktX3_findPath_5
def dkwX3_findPath_3 : List UInt8 := [21, 6, 182, 0, 127, 154, 0, 19, 132, 7, 1, 42, 21, 4, 21, 7, 182, 0, 124, 54, 8, 167, 255, 206]
abbrev dktX3_findPath_3 : List UInt8 := dkwX3_findPath_3 ++ dktX3_findPath_4
def dkwX3_findPath_2 : List UInt8 := [180, 0, 26, 16, 48, 21, 6, 4, 96, 104, 21, 8, 96, 51, 153, 0, 17, 42, 27, 21, 4, 21, 8]
abbrev dktX3_findPath_2 : List UInt8 := dkwX3_findPath_2 ++ dktX3_findPath_3
def dkwX3_findPath_1 : List UInt8 := [162, 0, 105, 3, 54, 7, 42, 21, 4, 21, 7, 182, 0, 124, 54, 8, 21, 8, 155, 0, 35, 42]
abbrev dktX3_findPath_1 : List UInt8 := dkwX3_findPath_1 ++ dktX3_findPath_2
def dkwX3_findPath_0 : List UInt8 := [42, 27, 28, 29, 182, 0, 138, 42, 27, 3, 182, 0, 79, 54, 4, 3, 54, 5, 3, 54, 6, 21, 6, 29]
abbrev dktX3_findPath_0 : List UInt8 := dkwX3_findPath_0 ++ dktX3_findPath_1
theorem dksX3_findPath_0 : cX3_findPath.data.toList.drop 0 = dktX3_findPath_0 := by decide +kernel
theorem dksX3_findPath_1 : cX3_findPath.data.toList.drop 24 = dktX3_findPath_1 := dk_seg dksX3_findPath_0 24 rfl rfl
theorem dksX3_findPath_2 : cX3_findPath.data.toList.drop 46 = dktX3_findPath_2 := dk_seg dksX3_findPath_1 22 rfl rfl
theorem dksX3_findPath_3 : cX3_findPath.data.toList.drop 69 = dktX3_findPath_3 := dk_seg dksX3_findPath_2 23 rfl rfl
theorem dksX3_findPath_4 : cX3_findPath.data.toList.drop 93 = dktX3_findPath_4 := dk_seg dksX3_findPath_3 24 rfl rfl
theorem dksX3_findPath_5 : cX3_findPath.data.toList.drop 116 = dktX3_findPath_5 := dk_seg dksX3_findPath_4 23 rfl rfl
theorem dX3_findPath_0 : decode cX3_findPath 0 = .ok (.aload_n 0, 1) := dk_42 (dk_at dksX3_findPath_0 0 rfl rfl)
theorem dX3_findPath_1 : decode cX3_findPath 1 = .ok (.iload_n 1, 1) := dk_27 (dk_at dksX3_findPath_0 1 rfl rfl)
theorem dX3_findPath_2 : decode cX3_findPath 2 = .ok (.iload_n 2, 1) := dk_28 (dk_at dksX3_findPath_0 2 rfl rfl)
theorem dX3_findPath_3 : decode cX3_findPath 3 = .ok (.iload_n 3, 1) := dk_29 (dk_at dksX3_findPath_0 3 rfl rfl)
theorem dX3_findPath_4 : decode cX3_findPath 4 = .ok (.invokevirtual 138, 3) := dk_182 0 138 (dk_at dksX3_findPath_0 4 rfl rfl)
theorem dX3_findPath_7 : decode cX3_findPath 7 = .ok (.aload_n 0, 1) := dk_42 (dk_at dksX3_findPath_0 7 rfl rfl)
theorem dX3_findPath_8 : decode cX3_findPath 8 = .ok (.iload_n 1, 1) := dk_27 (dk_at dksX3_findPath_0 8 rfl rfl)
theorem dX3_findPath_9 : decode cX3_findPath 9 = .ok (.iconst 0, 1) := dk_3 (dk_at dksX3_findPath_0 9 rfl rfl)
theorem dX3_findPath_10 : decode cX3_findPath 10 = .ok (.invokevirtual 79, 3) := dk_182 0 79 (dk_at dksX3_findPath_0 10 rfl rfl)
theorem dX3_findPath_13 : decode cX3_findPath 13 = .ok (.istore 4, 2) := dk_54 4 (dk_at dksX3_findPath_0 13 rfl rfl)
theorem dX3_findPath_15 : decode cX3_findPath 15 = .ok (.iconst 0, 1) := dk_3 (dk_at dksX3_findPath_0 15 rfl rfl)
theorem dX3_findPath_16 : decode cX3_findPath 16 = .ok (.istore 5, 2) := dk_54 5 (dk_at dksX3_findPath_0 16 rfl rfl)
theorem dX3_findPath_18 : decode cX3_findPath 18 = .ok (.iconst 0, 1) := dk_3 (dk_at dksX3_findPath_0 18 rfl rfl)
theorem dX3_findPath_19 : decode cX3_findPath 19 = .ok (.istore 6, 2) := dk_54 6 (dk_at dksX3_findPath_0 19 rfl rfl)
theorem dX3_findPath_21 : decode cX3_findPath 21 = .ok (.iload 6, 2) := dk_21 6 (dk_at dksX3_findPath_0 21 rfl rfl)
theorem dX3_findPath_23 : decode cX3_findPath 23 = .ok (.iload_n 3, 1) := dk_29 (dk_at dksX3_findPath_0 23 rfl rfl)
theorem dX3_findPath_24 : decode cX3_findPath 24 = .ok (.if_icmp .ge 105, 3) := dk_162 0 105 (dk_at dksX3_findPath_1 0 rfl rfl)
theorem dX3_findPath_27 : decode cX3_findPath 27 = .ok (.iconst 0, 1) := dk_3 (dk_at dksX3_findPath_1 3 rfl rfl)
theorem dX3_findPath_28 : decode cX3_findPath 28 = .ok (.istore 7, 2) := dk_54 7 (dk_at dksX3_findPath_1 4 rfl rfl)
theorem dX3_findPath_30 : decode cX3_findPath 30 = .ok (.aload_n 0, 1) := dk_42 (dk_at dksX3_findPath_1 6 rfl rfl)
theorem dX3_findPath_31 : decode cX3_findPath 31 = .ok (.iload 4, 2) := dk_21 4 (dk_at dksX3_findPath_1 7 rfl rfl)
theorem dX3_findPath_33 : decode cX3_findPath 33 = .ok (.iload 7, 2) := dk_21 7 (dk_at dksX3_findPath_1 9 rfl rfl)
theorem dX3_findPath_35 : decode cX3_findPath 35 = .ok (.invokevirtual 124, 3) := dk_182 0 124 (dk_at dksX3_findPath_1 11 rfl rfl)
theorem dX3_findPath_38 : decode cX3_findPath 38 = .ok (.istore 8, 2) := dk_54 8 (dk_at dksX3_findPath_1 14 rfl rfl)
theorem dX3_findPath_40 : decode cX3_findPath 40 = .ok (.iload 8, 2) := dk_21 8 (dk_at dksX3_findPath_1 16 rfl rfl)
theorem dX3_findPath_42 : decode cX3_findPath 42 = .ok (.ifCond .lt 35, 3) := dk_155 0 35 (dk_at dksX3_findPath_1 18 rfl rfl)
theorem dX3_findPath_45 : decode cX3_findPath 45 = .ok (.aload_n 0, 1) := dk_42 (dk_at dksX3_findPath_1 21 rfl rfl)
theorem dX3_findPath_46 : decode cX3_findPath 46 = .ok (.getfield 26, 3) := dk_180 0 26 (dk_at dksX3_findPath_2 0 rfl rfl)
theorem dX3_findPath_49 : decode cX3_findPath 49 = .ok (.bipush 48, 2) := dk_16 48 (dk_at dksX3_findPath_2 3 rfl rfl)
theorem dX3_findPath_51 : decode cX3_findPath 51 = .ok (.iload 6, 2) := dk_21 6 (dk_at dksX3_findPath_2 5 rfl rfl)
theorem dX3_findPath_53 : decode cX3_findPath 53 = .ok (.iconst 1, 1) := dk_4 (dk_at dksX3_findPath_2 7 rfl rfl)
theorem dX3_findPath_54 : decode cX3_findPath 54 = .ok (.iadd, 1) := dk_96 (dk_at dksX3_findPath_2 8 rfl rfl)
theorem dX3_findPath_55 : decode cX3_findPath 55 = .ok (.imul, 1) := dk_104 (dk_at dksX3_findPath_2 9 rfl rfl)
theorem dX3_findPath_56 : decode cX3_findPath 56 = .ok (.iload 8, 2) := dk_21 8 (dk_at dksX3_findPath_2 10 rfl rfl)
theorem dX3_findPath_58 : decode cX3_findPath 58 = .ok (.iadd, 1) := dk_96 (dk_at dksX3_findPath_2 12 rfl rfl)
theorem dX3_findPath_59 : decode cX3_findPath 59 = .ok (.baload, 1) := dk_51 (dk_at dksX3_findPath_2 13 rfl rfl)
theorem dX3_findPath_60 : decode cX3_findPath 60 = .ok (.ifCond .eq 17, 3) := dk_153 0 17 (dk_at dksX3_findPath_2 14 rfl rfl)
theorem dX3_findPath_63 : decode cX3_findPath 63 = .ok (.aload_n 0, 1) := dk_42 (dk_at dksX3_findPath_2 17 rfl rfl)
theorem dX3_findPath_64 : decode cX3_findPath 64 = .ok (.iload_n 1, 1) := dk_27 (dk_at dksX3_findPath_2 18 rfl rfl)
theorem dX3_findPath_65 : decode cX3_findPath 65 = .ok (.iload 4, 2) := dk_21 4 (dk_at dksX3_findPath_2 19 rfl rfl)
theorem dX3_findPath_67 : decode cX3_findPath 67 = .ok (.iload 8, 2) := dk_21 8 (dk_at dksX3_findPath_2 21 rfl rfl)
theorem dX3_findPath_69 : decode cX3_findPath 69 = .ok (.iload 6, 2) := dk_21 6 (dk_at dksX3_findPath_3 0 rfl rfl)
theorem dX3_findPath_71 : decode cX3_findPath 71 = .ok (.invokevirtual 127, 3) := dk_182 0 127 (dk_at dksX3_findPath_3 2 rfl rfl)
theorem dX3_findPath_74 : decode cX3_findPath 74 = .ok (.ifCond .ne 19, 3) := dk_154 0 19 (dk_at dksX3_findPath_3 5 rfl rfl)
theorem dX3_findPath_77 : decode cX3_findPath 77 = .ok (.iinc 7 1, 3) := dk_132 7 1 (dk_at dksX3_findPath_3 8 rfl rfl)
theorem dX3_findPath_80 : decode cX3_findPath 80 = .ok (.aload_n 0, 1) := dk_42 (dk_at dksX3_findPath_3 11 rfl rfl)
theorem dX3_findPath_81 : decode cX3_findPath 81 = .ok (.iload 4, 2) := dk_21 4 (dk_at dksX3_findPath_3 12 rfl rfl)
theorem dX3_findPath_83 : decode cX3_findPath 83 = .ok (.iload 7, 2) := dk_21 7 (dk_at dksX3_findPath_3 14 rfl rfl)
theorem dX3_findPath_85 : decode cX3_findPath 85 = .ok (.invokevirtual 124, 3) := dk_182 0 124 (dk_at dksX3_findPath_3 16 rfl rfl)
theorem dX3_findPath_88 : decode cX3_findPath 88 = .ok (.istore 8, 2) := dk_54 8 (dk_at dksX3_findPath_3 19 rfl rfl)
theorem dX3_findPath_90 : decode cX3_findPath 90 = .ok (.goto (-50), 3) := dk_167 255 206 (dk_at dksX3_findPath_3 21 rfl rfl)
theorem dX3_findPath_93 : decode cX3_findPath 93 = .ok (.iload 5, 2) := dk_21 5 (dk_at dksX3_findPath_4 0 rfl rfl)
theorem dX3_findPath_95 : decode cX3_findPath 95 = .ok (.iload 8, 2) := dk_21 8 (dk_at dksX3_findPath_4 2 rfl rfl)
theorem dX3_findPath_97 : decode cX3_findPath 97 = .ok (.iload 4, 2) := dk_21 4 (dk_at dksX3_findPath_4 4 rfl rfl)
theorem dX3_findPath_99 : decode cX3_findPath 99 = .ok (.if_icmp .ne 7, 3) := dk_160 0 7 (dk_at dksX3_findPath_4 6 rfl rfl)
theorem dX3_findPath_102 : decode cX3_findPath 102 = .ok (.iconst 0, 1) := dk_3 (dk_at dksX3_findPath_4 9 rfl rfl)
theorem dX3_findPath_103 : decode cX3_findPath 103 = .ok (.goto 4, 3) := dk_167 0 4 (dk_at dksX3_findPath_4 10 rfl rfl)
theorem dX3_findPath_106 : decode cX3_findPath 106 = .ok (.iconst 1, 1) := dk_4 (dk_at dksX3_findPath_4 13 rfl rfl)
theorem dX3_findPath_107 : decode cX3_findPath 107 = .ok (.iadd, 1) := dk_96 (dk_at dksX3_findPath_4 14 rfl rfl)
theorem dX3_findPath_108 : decode cX3_findPath 108 = .ok (.istore 5, 2) := dk_54 5 (dk_at dksX3_findPath_4 15 rfl rfl)
theorem dX3_findPath_110 : decode cX3_findPath 110 = .ok (.aload_n 0, 1) := dk_42 (dk_at dksX3_findPath_4 17 rfl rfl)
theorem dX3_findPath_111 : decode cX3_findPath 111 = .ok (.getfield 29, 3) := dk_180 0 29 (dk_at dksX3_findPath_4 18 rfl rfl)
theorem dX3_findPath_114 : decode cX3_findPath 114 = .ok (.iload 6, 2) := dk_21 6 (dk_at dksX3_findPath_4 21 rfl rfl)
theorem dX3_findPath_116 : decode cX3_findPath 116 = .ok (.iload 8, 2) := dk_21 8 (dk_at dksX3_findPath_5 0 rfl rfl)
theorem dX3_findPath_118 : decode cX3_findPath 118 = .ok (.iastore, 1) := dk_79 (dk_at dksX3_findPath_5 2 rfl rfl)
theorem dX3_findPath_119 : decode cX3_findPath 119 = .ok (.iload 8, 2) := dk_21 8 (dk_at dksX3_findPath_5 3 rfl rfl)
theorem dX3_findPath_121 : decode cX3_findPath 121 = .ok (.istore 4, 2) := dk_54 4 (dk_at dksX3_findPath_5 5 rfl rfl)
theorem dX3_findPath_123 : decode cX3_findPath 123 = .ok (.iinc 6 1, 3) := dk_132 6 1 (dk_at dksX3_findPath_5 7 rfl rfl)
theorem dX3_findPath_126 : decode cX3_findPath 126 = .ok (.goto (-105), 3) := dk_167 255 151 (dk_at dksX3_findPath_5 10 rfl rfl)
theorem dX3_findPath_129 : decode cX3_findPath 129 = .ok (.iload 5, 2) := dk_21 5 (dk_at dksX3_findPath_5 13 rfl rfl)
theorem dX3_findPath_131 : decode cX3_findPath 131 = .ok (.ireturn, 1) := dk_172 (dk_at dksX3_findPath_5 15 rfl rfl)
abbrev cX3_findGoing : ByteArray := prog_12_method_34_code
def yX3_findGoing : MethodName := ⟨RX3, "findGoing", "(III)V"⟩
def dkwX3_findGoing_8 : List UInt8 := [177]
abbrev dktX3_findGoing_8 : List UInt8 := dkwX3_findGoing_8 ++ []
def dkwX3_findGoing_7 : List UInt8 := [21, 5, 28, 159, 0, 7, 4, 167, 0, 4, 3, 84, 132, 5, 1, 167, 255, 130, 132, 4, 255, 167, 255, 116]
abbrev dktX3_findGoing_7 : List UInt8 := dkwX3_findGoing_7 ++ dktX3_findGoing_8
def dkwX3_findGoing_6 : List UInt8 := [180, 0, 26, 16, 48, 21, 4, 104, 21, 5, 96, 21, 6, 153, 0, 21, 21, 4, 29, 4, 100, 160, 0, 9]
abbrev dktX3_findGoing_6 : List UInt8 := dkwX3_findGoing_6 ++ dktX3_findGoing_7
def dkwX3_findGoing_5 : List UInt8 := [21, 4, 182, 0, 127, 153, 0, 7, 4, 167, 0, 4, 3, 54, 6, 132, 7, 1, 167, 255, 188, 42]
abbrev dktX3_findGoing_5 : List UInt8 := dkwX3_findGoing_5 ++ dktX3_findGoing_6
def dkwX3_findGoing_4 : List UInt8 := [180, 0, 26, 16, 48, 21, 4, 4, 96, 104, 21, 8, 96, 51, 153, 0, 21, 42, 27, 21, 5, 21, 8]
abbrev dktX3_findGoing_4 : List UInt8 := dkwX3_findGoing_4 ++ dktX3_findGoing_5
def dkwX3_findGoing_3 : List UInt8 := [162, 0, 68, 42, 21, 5, 21, 7, 182, 0, 124, 54, 8, 21, 6, 154, 0, 40, 21, 8, 155, 0, 39, 42]
abbrev dktX3_findGoing_3 : List UInt8 := dkwX3_findGoing_3 ++ dktX3_findGoing_4
def dkwX3_findGoing_2 : List UInt8 := [155, 0, 141, 3, 54, 5, 21, 5, 42, 182, 0, 67, 162, 0, 123, 3, 54, 6, 3, 54, 7, 21, 7, 8]
abbrev dktX3_findGoing_2 : List UInt8 := dkwX3_findGoing_2 ++ dktX3_findGoing_3
def dkwX3_findGoing_1 : List UInt8 := [167, 255, 237, 42, 180, 0, 26, 16, 48, 29, 104, 28, 96, 4, 84, 29, 4, 100, 54, 4, 21, 4]
abbrev dktX3_findGoing_1 : List UInt8 := dkwX3_findGoing_1 ++ dktX3_findGoing_2
def dkwX3_findGoing_0 : List UInt8 := [3, 54, 4, 21, 4, 17, 5, 208, 162, 0, 17, 42, 180, 0, 26, 21, 4, 3, 84, 132, 4, 1]
abbrev dktX3_findGoing_0 : List UInt8 := dkwX3_findGoing_0 ++ dktX3_findGoing_1
theorem dksX3_findGoing_0 : cX3_findGoing.data.toList.drop 0 = dktX3_findGoing_0 := by decide +kernel
theorem dksX3_findGoing_1 : cX3_findGoing.data.toList.drop 22 = dktX3_findGoing_1 := dk_seg dksX3_findGoing_0 22 rfl rfl
theorem dksX3_findGoing_2 : cX3_findGoing.data.toList.drop 44 = dktX3_findGoing_2 := dk_seg dksX3_findGoing_1 22 rfl rfl
theorem dksX3_findGoing_3 : cX3_findGoing.data.toList.drop 68 = dktX3_findGoing_3 := dk_seg dksX3_findGoing_2 24 rfl rfl
theorem dksX3_findGoing_4 : cX3_findGoing.data.toList.drop 92 = dktX3_findGoing_4 := dk_seg dksX3_findGoing_3 24 rfl rfl
theorem dksX3_findGoing_5 : cX3_findGoing.data.toList.drop 115 = dktX3_findGoing_5 := dk_seg dksX3_findGoing_4 23 rfl rfl
theorem dksX3_findGoing_6 : cX3_findGoing.data.toList.drop 137 = dktX3_findGoing_6 := dk_seg dksX3_findGoing_5 22 rfl rfl
theorem dksX3_findGoing_7 : cX3_findGoing.data.toList.drop 161 = dktX3_findGoing_7 := dk_seg dksX3_findGoing_6 24 rfl rfl
theorem dksX3_findGoing_8 : cX3_findGoing.data.toList.drop 185 = dktX3_findGoing_8 := dk_seg dksX3_findGoing_7 24 rfl rfl
theorem dX3_findGoing_0 : decode cX3_findGoing 0 = .ok (.iconst 0, 1) := dk_3 (dk_at dksX3_findGoing_0 0 rfl rfl)
theorem dX3_findGoing_1 : decode cX3_findGoing 1 = .ok (.istore 4, 2) := dk_54 4 (dk_at dksX3_findGoing_0 1 rfl rfl)
theorem dX3_findGoing_3 : decode cX3_findGoing 3 = .ok (.iload 4, 2) := dk_21 4 (dk_at dksX3_findGoing_0 3 rfl rfl)
theorem dX3_findGoing_5 : decode cX3_findGoing 5 = .ok (.sipush 1488, 3) := dk_17 5 208 (dk_at dksX3_findGoing_0 5 rfl rfl)
theorem dX3_findGoing_8 : decode cX3_findGoing 8 = .ok (.if_icmp .ge 17, 3) := dk_162 0 17 (dk_at dksX3_findGoing_0 8 rfl rfl)
theorem dX3_findGoing_11 : decode cX3_findGoing 11 = .ok (.aload_n 0, 1) := dk_42 (dk_at dksX3_findGoing_0 11 rfl rfl)
theorem dX3_findGoing_12 : decode cX3_findGoing 12 = .ok (.getfield 26, 3) := dk_180 0 26 (dk_at dksX3_findGoing_0 12 rfl rfl)
theorem dX3_findGoing_15 : decode cX3_findGoing 15 = .ok (.iload 4, 2) := dk_21 4 (dk_at dksX3_findGoing_0 15 rfl rfl)
theorem dX3_findGoing_17 : decode cX3_findGoing 17 = .ok (.iconst 0, 1) := dk_3 (dk_at dksX3_findGoing_0 17 rfl rfl)
theorem dX3_findGoing_18 : decode cX3_findGoing 18 = .ok (.bastore, 1) := dk_84 (dk_at dksX3_findGoing_0 18 rfl rfl)
theorem dX3_findGoing_19 : decode cX3_findGoing 19 = .ok (.iinc 4 1, 3) := dk_132 4 1 (dk_at dksX3_findGoing_0 19 rfl rfl)
theorem dX3_findGoing_22 : decode cX3_findGoing 22 = .ok (.goto (-19), 3) := dk_167 255 237 (dk_at dksX3_findGoing_1 0 rfl rfl)
theorem dX3_findGoing_25 : decode cX3_findGoing 25 = .ok (.aload_n 0, 1) := dk_42 (dk_at dksX3_findGoing_1 3 rfl rfl)
theorem dX3_findGoing_26 : decode cX3_findGoing 26 = .ok (.getfield 26, 3) := dk_180 0 26 (dk_at dksX3_findGoing_1 4 rfl rfl)
theorem dX3_findGoing_29 : decode cX3_findGoing 29 = .ok (.bipush 48, 2) := dk_16 48 (dk_at dksX3_findGoing_1 7 rfl rfl)
theorem dX3_findGoing_31 : decode cX3_findGoing 31 = .ok (.iload_n 3, 1) := dk_29 (dk_at dksX3_findGoing_1 9 rfl rfl)
theorem dX3_findGoing_32 : decode cX3_findGoing 32 = .ok (.imul, 1) := dk_104 (dk_at dksX3_findGoing_1 10 rfl rfl)
theorem dX3_findGoing_33 : decode cX3_findGoing 33 = .ok (.iload_n 2, 1) := dk_28 (dk_at dksX3_findGoing_1 11 rfl rfl)
theorem dX3_findGoing_34 : decode cX3_findGoing 34 = .ok (.iadd, 1) := dk_96 (dk_at dksX3_findGoing_1 12 rfl rfl)
theorem dX3_findGoing_35 : decode cX3_findGoing 35 = .ok (.iconst 1, 1) := dk_4 (dk_at dksX3_findGoing_1 13 rfl rfl)
theorem dX3_findGoing_36 : decode cX3_findGoing 36 = .ok (.bastore, 1) := dk_84 (dk_at dksX3_findGoing_1 14 rfl rfl)
theorem dX3_findGoing_37 : decode cX3_findGoing 37 = .ok (.iload_n 3, 1) := dk_29 (dk_at dksX3_findGoing_1 15 rfl rfl)
theorem dX3_findGoing_38 : decode cX3_findGoing 38 = .ok (.iconst 1, 1) := dk_4 (dk_at dksX3_findGoing_1 16 rfl rfl)
theorem dX3_findGoing_39 : decode cX3_findGoing 39 = .ok (.isub, 1) := dk_100 (dk_at dksX3_findGoing_1 17 rfl rfl)
theorem dX3_findGoing_40 : decode cX3_findGoing 40 = .ok (.istore 4, 2) := dk_54 4 (dk_at dksX3_findGoing_1 18 rfl rfl)
theorem dX3_findGoing_42 : decode cX3_findGoing 42 = .ok (.iload 4, 2) := dk_21 4 (dk_at dksX3_findGoing_1 20 rfl rfl)
theorem dX3_findGoing_44 : decode cX3_findGoing 44 = .ok (.ifCond .lt 141, 3) := dk_155 0 141 (dk_at dksX3_findGoing_2 0 rfl rfl)
theorem dX3_findGoing_47 : decode cX3_findGoing 47 = .ok (.iconst 0, 1) := dk_3 (dk_at dksX3_findGoing_2 3 rfl rfl)
theorem dX3_findGoing_48 : decode cX3_findGoing 48 = .ok (.istore 5, 2) := dk_54 5 (dk_at dksX3_findGoing_2 4 rfl rfl)
theorem dX3_findGoing_50 : decode cX3_findGoing 50 = .ok (.iload 5, 2) := dk_21 5 (dk_at dksX3_findGoing_2 6 rfl rfl)
theorem dX3_findGoing_52 : decode cX3_findGoing 52 = .ok (.aload_n 0, 1) := dk_42 (dk_at dksX3_findGoing_2 8 rfl rfl)
theorem dX3_findGoing_53 : decode cX3_findGoing 53 = .ok (.invokevirtual 67, 3) := dk_182 0 67 (dk_at dksX3_findGoing_2 9 rfl rfl)
theorem dX3_findGoing_56 : decode cX3_findGoing 56 = .ok (.if_icmp .ge 123, 3) := dk_162 0 123 (dk_at dksX3_findGoing_2 12 rfl rfl)
theorem dX3_findGoing_59 : decode cX3_findGoing 59 = .ok (.iconst 0, 1) := dk_3 (dk_at dksX3_findGoing_2 15 rfl rfl)
theorem dX3_findGoing_60 : decode cX3_findGoing 60 = .ok (.istore 6, 2) := dk_54 6 (dk_at dksX3_findGoing_2 16 rfl rfl)
theorem dX3_findGoing_62 : decode cX3_findGoing 62 = .ok (.iconst 0, 1) := dk_3 (dk_at dksX3_findGoing_2 18 rfl rfl)
theorem dX3_findGoing_63 : decode cX3_findGoing 63 = .ok (.istore 7, 2) := dk_54 7 (dk_at dksX3_findGoing_2 19 rfl rfl)
theorem dX3_findGoing_65 : decode cX3_findGoing 65 = .ok (.iload 7, 2) := dk_21 7 (dk_at dksX3_findGoing_2 21 rfl rfl)
theorem dX3_findGoing_67 : decode cX3_findGoing 67 = .ok (.iconst 5, 1) := dk_8 (dk_at dksX3_findGoing_2 23 rfl rfl)
theorem dX3_findGoing_68 : decode cX3_findGoing 68 = .ok (.if_icmp .ge 68, 3) := dk_162 0 68 (dk_at dksX3_findGoing_3 0 rfl rfl)
theorem dX3_findGoing_71 : decode cX3_findGoing 71 = .ok (.aload_n 0, 1) := dk_42 (dk_at dksX3_findGoing_3 3 rfl rfl)
theorem dX3_findGoing_72 : decode cX3_findGoing 72 = .ok (.iload 5, 2) := dk_21 5 (dk_at dksX3_findGoing_3 4 rfl rfl)
theorem dX3_findGoing_74 : decode cX3_findGoing 74 = .ok (.iload 7, 2) := dk_21 7 (dk_at dksX3_findGoing_3 6 rfl rfl)
theorem dX3_findGoing_76 : decode cX3_findGoing 76 = .ok (.invokevirtual 124, 3) := dk_182 0 124 (dk_at dksX3_findGoing_3 8 rfl rfl)
theorem dX3_findGoing_79 : decode cX3_findGoing 79 = .ok (.istore 8, 2) := dk_54 8 (dk_at dksX3_findGoing_3 11 rfl rfl)
theorem dX3_findGoing_81 : decode cX3_findGoing 81 = .ok (.iload 6, 2) := dk_21 6 (dk_at dksX3_findGoing_3 13 rfl rfl)
theorem dX3_findGoing_83 : decode cX3_findGoing 83 = .ok (.ifCond .ne 40, 3) := dk_154 0 40 (dk_at dksX3_findGoing_3 15 rfl rfl)
theorem dX3_findGoing_86 : decode cX3_findGoing 86 = .ok (.iload 8, 2) := dk_21 8 (dk_at dksX3_findGoing_3 18 rfl rfl)
theorem dX3_findGoing_88 : decode cX3_findGoing 88 = .ok (.ifCond .lt 39, 3) := dk_155 0 39 (dk_at dksX3_findGoing_3 20 rfl rfl)
theorem dX3_findGoing_91 : decode cX3_findGoing 91 = .ok (.aload_n 0, 1) := dk_42 (dk_at dksX3_findGoing_3 23 rfl rfl)
theorem dX3_findGoing_92 : decode cX3_findGoing 92 = .ok (.getfield 26, 3) := dk_180 0 26 (dk_at dksX3_findGoing_4 0 rfl rfl)
theorem dX3_findGoing_95 : decode cX3_findGoing 95 = .ok (.bipush 48, 2) := dk_16 48 (dk_at dksX3_findGoing_4 3 rfl rfl)
theorem dX3_findGoing_97 : decode cX3_findGoing 97 = .ok (.iload 4, 2) := dk_21 4 (dk_at dksX3_findGoing_4 5 rfl rfl)
theorem dX3_findGoing_99 : decode cX3_findGoing 99 = .ok (.iconst 1, 1) := dk_4 (dk_at dksX3_findGoing_4 7 rfl rfl)
theorem dX3_findGoing_100 : decode cX3_findGoing 100 = .ok (.iadd, 1) := dk_96 (dk_at dksX3_findGoing_4 8 rfl rfl)
theorem dX3_findGoing_101 : decode cX3_findGoing 101 = .ok (.imul, 1) := dk_104 (dk_at dksX3_findGoing_4 9 rfl rfl)
theorem dX3_findGoing_102 : decode cX3_findGoing 102 = .ok (.iload 8, 2) := dk_21 8 (dk_at dksX3_findGoing_4 10 rfl rfl)
theorem dX3_findGoing_104 : decode cX3_findGoing 104 = .ok (.iadd, 1) := dk_96 (dk_at dksX3_findGoing_4 12 rfl rfl)
theorem dX3_findGoing_105 : decode cX3_findGoing 105 = .ok (.baload, 1) := dk_51 (dk_at dksX3_findGoing_4 13 rfl rfl)
theorem dX3_findGoing_106 : decode cX3_findGoing 106 = .ok (.ifCond .eq 21, 3) := dk_153 0 21 (dk_at dksX3_findGoing_4 14 rfl rfl)
theorem dX3_findGoing_109 : decode cX3_findGoing 109 = .ok (.aload_n 0, 1) := dk_42 (dk_at dksX3_findGoing_4 17 rfl rfl)
theorem dX3_findGoing_110 : decode cX3_findGoing 110 = .ok (.iload_n 1, 1) := dk_27 (dk_at dksX3_findGoing_4 18 rfl rfl)
theorem dX3_findGoing_111 : decode cX3_findGoing 111 = .ok (.iload 5, 2) := dk_21 5 (dk_at dksX3_findGoing_4 19 rfl rfl)
theorem dX3_findGoing_113 : decode cX3_findGoing 113 = .ok (.iload 8, 2) := dk_21 8 (dk_at dksX3_findGoing_4 21 rfl rfl)
theorem dX3_findGoing_115 : decode cX3_findGoing 115 = .ok (.iload 4, 2) := dk_21 4 (dk_at dksX3_findGoing_5 0 rfl rfl)
theorem dX3_findGoing_117 : decode cX3_findGoing 117 = .ok (.invokevirtual 127, 3) := dk_182 0 127 (dk_at dksX3_findGoing_5 2 rfl rfl)
theorem dX3_findGoing_120 : decode cX3_findGoing 120 = .ok (.ifCond .eq 7, 3) := dk_153 0 7 (dk_at dksX3_findGoing_5 5 rfl rfl)
theorem dX3_findGoing_123 : decode cX3_findGoing 123 = .ok (.iconst 1, 1) := dk_4 (dk_at dksX3_findGoing_5 8 rfl rfl)
theorem dX3_findGoing_124 : decode cX3_findGoing 124 = .ok (.goto 4, 3) := dk_167 0 4 (dk_at dksX3_findGoing_5 9 rfl rfl)
theorem dX3_findGoing_127 : decode cX3_findGoing 127 = .ok (.iconst 0, 1) := dk_3 (dk_at dksX3_findGoing_5 12 rfl rfl)
theorem dX3_findGoing_128 : decode cX3_findGoing 128 = .ok (.istore 6, 2) := dk_54 6 (dk_at dksX3_findGoing_5 13 rfl rfl)
theorem dX3_findGoing_130 : decode cX3_findGoing 130 = .ok (.iinc 7 1, 3) := dk_132 7 1 (dk_at dksX3_findGoing_5 15 rfl rfl)
theorem dX3_findGoing_133 : decode cX3_findGoing 133 = .ok (.goto (-68), 3) := dk_167 255 188 (dk_at dksX3_findGoing_5 18 rfl rfl)
theorem dX3_findGoing_136 : decode cX3_findGoing 136 = .ok (.aload_n 0, 1) := dk_42 (dk_at dksX3_findGoing_5 21 rfl rfl)
theorem dX3_findGoing_137 : decode cX3_findGoing 137 = .ok (.getfield 26, 3) := dk_180 0 26 (dk_at dksX3_findGoing_6 0 rfl rfl)
theorem dX3_findGoing_140 : decode cX3_findGoing 140 = .ok (.bipush 48, 2) := dk_16 48 (dk_at dksX3_findGoing_6 3 rfl rfl)
theorem dX3_findGoing_142 : decode cX3_findGoing 142 = .ok (.iload 4, 2) := dk_21 4 (dk_at dksX3_findGoing_6 5 rfl rfl)
theorem dX3_findGoing_144 : decode cX3_findGoing 144 = .ok (.imul, 1) := dk_104 (dk_at dksX3_findGoing_6 7 rfl rfl)
theorem dX3_findGoing_145 : decode cX3_findGoing 145 = .ok (.iload 5, 2) := dk_21 5 (dk_at dksX3_findGoing_6 8 rfl rfl)
theorem dX3_findGoing_147 : decode cX3_findGoing 147 = .ok (.iadd, 1) := dk_96 (dk_at dksX3_findGoing_6 10 rfl rfl)
theorem dX3_findGoing_148 : decode cX3_findGoing 148 = .ok (.iload 6, 2) := dk_21 6 (dk_at dksX3_findGoing_6 11 rfl rfl)
theorem dX3_findGoing_150 : decode cX3_findGoing 150 = .ok (.ifCond .eq 21, 3) := dk_153 0 21 (dk_at dksX3_findGoing_6 13 rfl rfl)
theorem dX3_findGoing_153 : decode cX3_findGoing 153 = .ok (.iload 4, 2) := dk_21 4 (dk_at dksX3_findGoing_6 16 rfl rfl)
theorem dX3_findGoing_155 : decode cX3_findGoing 155 = .ok (.iload_n 3, 1) := dk_29 (dk_at dksX3_findGoing_6 18 rfl rfl)
theorem dX3_findGoing_156 : decode cX3_findGoing 156 = .ok (.iconst 1, 1) := dk_4 (dk_at dksX3_findGoing_6 19 rfl rfl)
theorem dX3_findGoing_157 : decode cX3_findGoing 157 = .ok (.isub, 1) := dk_100 (dk_at dksX3_findGoing_6 20 rfl rfl)
theorem dX3_findGoing_158 : decode cX3_findGoing 158 = .ok (.if_icmp .ne 9, 3) := dk_160 0 9 (dk_at dksX3_findGoing_6 21 rfl rfl)
theorem dX3_findGoing_161 : decode cX3_findGoing 161 = .ok (.iload 5, 2) := dk_21 5 (dk_at dksX3_findGoing_7 0 rfl rfl)
theorem dX3_findGoing_163 : decode cX3_findGoing 163 = .ok (.iload_n 2, 1) := dk_28 (dk_at dksX3_findGoing_7 2 rfl rfl)
theorem dX3_findGoing_164 : decode cX3_findGoing 164 = .ok (.if_icmp .eq 7, 3) := dk_159 0 7 (dk_at dksX3_findGoing_7 3 rfl rfl)
theorem dX3_findGoing_167 : decode cX3_findGoing 167 = .ok (.iconst 1, 1) := dk_4 (dk_at dksX3_findGoing_7 6 rfl rfl)
theorem dX3_findGoing_168 : decode cX3_findGoing 168 = .ok (.goto 4, 3) := dk_167 0 4 (dk_at dksX3_findGoing_7 7 rfl rfl)
theorem dX3_findGoing_171 : decode cX3_findGoing 171 = .ok (.iconst 0, 1) := dk_3 (dk_at dksX3_findGoing_7 10 rfl rfl)
theorem dX3_findGoing_172 : decode cX3_findGoing 172 = .ok (.bastore, 1) := dk_84 (dk_at dksX3_findGoing_7 11 rfl rfl)
theorem dX3_findGoing_173 : decode cX3_findGoing 173 = .ok (.iinc 5 1, 3) := dk_132 5 1 (dk_at dksX3_findGoing_7 12 rfl rfl)
theorem dX3_findGoing_176 : decode cX3_findGoing 176 = .ok (.goto (-126), 3) := dk_167 255 130 (dk_at dksX3_findGoing_7 15 rfl rfl)
theorem dX3_findGoing_179 : decode cX3_findGoing 179 = .ok (.iinc 4 (-1), 3) := dk_132 4 255 (dk_at dksX3_findGoing_7 18 rfl rfl)
theorem dX3_findGoing_182 : decode cX3_findGoing 182 = .ok (.goto (-140), 3) := dk_167 255 116 (dk_at dksX3_findGoing_7 21 rfl rfl)
theorem dX3_findGoing_185 : decode cX3_findGoing 185 = .ok (.return_, 1) := dk_177 (dk_at dksX3_findGoing_8 0 rfl rfl)
abbrev cX3_cancel : ByteArray := prog_12_method_37_code
def yX3_cancel : MethodName := ⟨RX3, "cancel", "(I)I"⟩
def dkwX3_cancel_3 : List UInt8 := [27, 184, 0, 75, 6, 96, 3, 79, 28, 172]
abbrev dktX3_cancel_3 : List UInt8 := dkwX3_cancel_3 ++ []
def dkwX3_cancel_2 : List UInt8 := [27, 182, 0, 96, 62, 29, 155, 0, 10, 42, 8, 29, 182, 0, 90, 172, 42, 182, 0, 100, 42, 180, 0, 9]
abbrev dktX3_cancel_2 : List UInt8 := dkwX3_cancel_2 ++ dktX3_cancel_3
def dkwX3_cancel_1 : List UInt8 := [182, 0, 79, 61, 28, 154, 0, 11, 42, 16, 14, 3, 182, 0, 90, 172, 42, 42, 27, 3, 182, 0, 79, 4]
abbrev dktX3_cancel_1 : List UInt8 := dkwX3_cancel_1 ++ dktX3_cancel_2
def dkwX3_cancel_0 : List UInt8 := [42, 3, 181, 0, 49, 42, 27, 182, 0, 103, 154, 0, 10, 42, 4, 3, 182, 0, 90, 172, 42, 27, 6]
abbrev dktX3_cancel_0 : List UInt8 := dkwX3_cancel_0 ++ dktX3_cancel_1
theorem dksX3_cancel_0 : cX3_cancel.data.toList.drop 0 = dktX3_cancel_0 := by decide +kernel
theorem dksX3_cancel_1 : cX3_cancel.data.toList.drop 23 = dktX3_cancel_1 := dk_seg dksX3_cancel_0 23 rfl rfl
theorem dksX3_cancel_2 : cX3_cancel.data.toList.drop 47 = dktX3_cancel_2 := dk_seg dksX3_cancel_1 24 rfl rfl
theorem dksX3_cancel_3 : cX3_cancel.data.toList.drop 71 = dktX3_cancel_3 := dk_seg dksX3_cancel_2 24 rfl rfl
theorem dX3_cancel_0 : decode cX3_cancel 0 = .ok (.aload_n 0, 1) := dk_42 (dk_at dksX3_cancel_0 0 rfl rfl)
theorem dX3_cancel_1 : decode cX3_cancel 1 = .ok (.iconst 0, 1) := dk_3 (dk_at dksX3_cancel_0 1 rfl rfl)
theorem dX3_cancel_2 : decode cX3_cancel 2 = .ok (.putfield 49, 3) := dk_181 0 49 (dk_at dksX3_cancel_0 2 rfl rfl)
theorem dX3_cancel_5 : decode cX3_cancel 5 = .ok (.aload_n 0, 1) := dk_42 (dk_at dksX3_cancel_0 5 rfl rfl)
theorem dX3_cancel_6 : decode cX3_cancel 6 = .ok (.iload_n 1, 1) := dk_27 (dk_at dksX3_cancel_0 6 rfl rfl)
theorem dX3_cancel_7 : decode cX3_cancel 7 = .ok (.invokevirtual 103, 3) := dk_182 0 103 (dk_at dksX3_cancel_0 7 rfl rfl)
theorem dX3_cancel_10 : decode cX3_cancel 10 = .ok (.ifCond .ne 10, 3) := dk_154 0 10 (dk_at dksX3_cancel_0 10 rfl rfl)
theorem dX3_cancel_13 : decode cX3_cancel 13 = .ok (.aload_n 0, 1) := dk_42 (dk_at dksX3_cancel_0 13 rfl rfl)
theorem dX3_cancel_14 : decode cX3_cancel 14 = .ok (.iconst 1, 1) := dk_4 (dk_at dksX3_cancel_0 14 rfl rfl)
theorem dX3_cancel_15 : decode cX3_cancel 15 = .ok (.iconst 0, 1) := dk_3 (dk_at dksX3_cancel_0 15 rfl rfl)
theorem dX3_cancel_16 : decode cX3_cancel 16 = .ok (.invokevirtual 90, 3) := dk_182 0 90 (dk_at dksX3_cancel_0 16 rfl rfl)
theorem dX3_cancel_19 : decode cX3_cancel 19 = .ok (.ireturn, 1) := dk_172 (dk_at dksX3_cancel_0 19 rfl rfl)
theorem dX3_cancel_20 : decode cX3_cancel 20 = .ok (.aload_n 0, 1) := dk_42 (dk_at dksX3_cancel_0 20 rfl rfl)
theorem dX3_cancel_21 : decode cX3_cancel 21 = .ok (.iload_n 1, 1) := dk_27 (dk_at dksX3_cancel_0 21 rfl rfl)
theorem dX3_cancel_22 : decode cX3_cancel 22 = .ok (.iconst 3, 1) := dk_6 (dk_at dksX3_cancel_0 22 rfl rfl)
theorem dX3_cancel_23 : decode cX3_cancel 23 = .ok (.invokevirtual 79, 3) := dk_182 0 79 (dk_at dksX3_cancel_1 0 rfl rfl)
theorem dX3_cancel_26 : decode cX3_cancel 26 = .ok (.istore_n 2, 1) := dk_61 (dk_at dksX3_cancel_1 3 rfl rfl)
theorem dX3_cancel_27 : decode cX3_cancel 27 = .ok (.iload_n 2, 1) := dk_28 (dk_at dksX3_cancel_1 4 rfl rfl)
theorem dX3_cancel_28 : decode cX3_cancel 28 = .ok (.ifCond .ne 11, 3) := dk_154 0 11 (dk_at dksX3_cancel_1 5 rfl rfl)
theorem dX3_cancel_31 : decode cX3_cancel 31 = .ok (.aload_n 0, 1) := dk_42 (dk_at dksX3_cancel_1 8 rfl rfl)
theorem dX3_cancel_32 : decode cX3_cancel 32 = .ok (.bipush 14, 2) := dk_16 14 (dk_at dksX3_cancel_1 9 rfl rfl)
theorem dX3_cancel_34 : decode cX3_cancel 34 = .ok (.iconst 0, 1) := dk_3 (dk_at dksX3_cancel_1 11 rfl rfl)
theorem dX3_cancel_35 : decode cX3_cancel 35 = .ok (.invokevirtual 90, 3) := dk_182 0 90 (dk_at dksX3_cancel_1 12 rfl rfl)
theorem dX3_cancel_38 : decode cX3_cancel 38 = .ok (.ireturn, 1) := dk_172 (dk_at dksX3_cancel_1 15 rfl rfl)
theorem dX3_cancel_39 : decode cX3_cancel 39 = .ok (.aload_n 0, 1) := dk_42 (dk_at dksX3_cancel_1 16 rfl rfl)
theorem dX3_cancel_40 : decode cX3_cancel 40 = .ok (.aload_n 0, 1) := dk_42 (dk_at dksX3_cancel_1 17 rfl rfl)
theorem dX3_cancel_41 : decode cX3_cancel 41 = .ok (.iload_n 1, 1) := dk_27 (dk_at dksX3_cancel_1 18 rfl rfl)
theorem dX3_cancel_42 : decode cX3_cancel 42 = .ok (.iconst 0, 1) := dk_3 (dk_at dksX3_cancel_1 19 rfl rfl)
theorem dX3_cancel_43 : decode cX3_cancel 43 = .ok (.invokevirtual 79, 3) := dk_182 0 79 (dk_at dksX3_cancel_1 20 rfl rfl)
theorem dX3_cancel_46 : decode cX3_cancel 46 = .ok (.iconst 1, 1) := dk_4 (dk_at dksX3_cancel_1 23 rfl rfl)
theorem dX3_cancel_47 : decode cX3_cancel 47 = .ok (.iload_n 1, 1) := dk_27 (dk_at dksX3_cancel_2 0 rfl rfl)
theorem dX3_cancel_48 : decode cX3_cancel 48 = .ok (.invokevirtual 96, 3) := dk_182 0 96 (dk_at dksX3_cancel_2 1 rfl rfl)
theorem dX3_cancel_51 : decode cX3_cancel 51 = .ok (.istore_n 3, 1) := dk_62 (dk_at dksX3_cancel_2 4 rfl rfl)
theorem dX3_cancel_52 : decode cX3_cancel 52 = .ok (.iload_n 3, 1) := dk_29 (dk_at dksX3_cancel_2 5 rfl rfl)
theorem dX3_cancel_53 : decode cX3_cancel 53 = .ok (.ifCond .lt 10, 3) := dk_155 0 10 (dk_at dksX3_cancel_2 6 rfl rfl)
theorem dX3_cancel_56 : decode cX3_cancel 56 = .ok (.aload_n 0, 1) := dk_42 (dk_at dksX3_cancel_2 9 rfl rfl)
theorem dX3_cancel_57 : decode cX3_cancel 57 = .ok (.iconst 5, 1) := dk_8 (dk_at dksX3_cancel_2 10 rfl rfl)
theorem dX3_cancel_58 : decode cX3_cancel 58 = .ok (.iload_n 3, 1) := dk_29 (dk_at dksX3_cancel_2 11 rfl rfl)
theorem dX3_cancel_59 : decode cX3_cancel 59 = .ok (.invokevirtual 90, 3) := dk_182 0 90 (dk_at dksX3_cancel_2 12 rfl rfl)
theorem dX3_cancel_62 : decode cX3_cancel 62 = .ok (.ireturn, 1) := dk_172 (dk_at dksX3_cancel_2 15 rfl rfl)
theorem dX3_cancel_63 : decode cX3_cancel 63 = .ok (.aload_n 0, 1) := dk_42 (dk_at dksX3_cancel_2 16 rfl rfl)
theorem dX3_cancel_64 : decode cX3_cancel 64 = .ok (.invokevirtual 100, 3) := dk_182 0 100 (dk_at dksX3_cancel_2 17 rfl rfl)
theorem dX3_cancel_67 : decode cX3_cancel 67 = .ok (.aload_n 0, 1) := dk_42 (dk_at dksX3_cancel_2 20 rfl rfl)
theorem dX3_cancel_68 : decode cX3_cancel 68 = .ok (.getfield 9, 3) := dk_180 0 9 (dk_at dksX3_cancel_2 21 rfl rfl)
theorem dX3_cancel_71 : decode cX3_cancel 71 = .ok (.iload_n 1, 1) := dk_27 (dk_at dksX3_cancel_3 0 rfl rfl)
theorem dX3_cancel_72 : decode cX3_cancel 72 = .ok (.invokestatic 75, 3) := dk_184 0 75 (dk_at dksX3_cancel_3 1 rfl rfl)
theorem dX3_cancel_75 : decode cX3_cancel 75 = .ok (.iconst 3, 1) := dk_6 (dk_at dksX3_cancel_3 4 rfl rfl)
theorem dX3_cancel_76 : decode cX3_cancel 76 = .ok (.iadd, 1) := dk_96 (dk_at dksX3_cancel_3 5 rfl rfl)
theorem dX3_cancel_77 : decode cX3_cancel 77 = .ok (.iconst 0, 1) := dk_3 (dk_at dksX3_cancel_3 6 rfl rfl)
theorem dX3_cancel_78 : decode cX3_cancel 78 = .ok (.iastore, 1) := dk_79 (dk_at dksX3_cancel_3 7 rfl rfl)
theorem dX3_cancel_79 : decode cX3_cancel 79 = .ok (.iload_n 2, 1) := dk_28 (dk_at dksX3_cancel_3 8 rfl rfl)
theorem dX3_cancel_80 : decode cX3_cancel 80 = .ok (.ireturn, 1) := dk_172 (dk_at dksX3_cancel_3 9 rfl rfl)
abbrev cX3_pass : ByteArray := prog_12_method_40_code
def yX3_pass : MethodName := ⟨RX3, "pass", "(I)I"⟩
def dkwX3_pass_2 : List UInt8 := [167, 255, 241, 28, 172]
abbrev dktX3_pass_2 : List UInt8 := dkwX3_pass_2 ++ []
def dkwX3_pass_1 : List UInt8 := [182, 0, 100, 3, 61, 3, 62, 29, 27, 162, 0, 16, 28, 42, 182, 0, 159, 96, 61, 132, 3, 1]
abbrev dktX3_pass_1 : List UInt8 := dkwX3_pass_1 ++ dktX3_pass_2
def dkwX3_pass_0 : List UInt8 := [42, 3, 181, 0, 49, 27, 4, 16, 99, 184, 0, 71, 154, 0, 10, 42, 5, 3, 182, 0, 90, 172, 42]
abbrev dktX3_pass_0 : List UInt8 := dkwX3_pass_0 ++ dktX3_pass_1
theorem dksX3_pass_0 : cX3_pass.data.toList.drop 0 = dktX3_pass_0 := by decide +kernel
theorem dksX3_pass_1 : cX3_pass.data.toList.drop 23 = dktX3_pass_1 := dk_seg dksX3_pass_0 23 rfl rfl
theorem dksX3_pass_2 : cX3_pass.data.toList.drop 45 = dktX3_pass_2 := dk_seg dksX3_pass_1 22 rfl rfl
theorem dX3_pass_0 : decode cX3_pass 0 = .ok (.aload_n 0, 1) := dk_42 (dk_at dksX3_pass_0 0 rfl rfl)
theorem dX3_pass_1 : decode cX3_pass 1 = .ok (.iconst 0, 1) := dk_3 (dk_at dksX3_pass_0 1 rfl rfl)
theorem dX3_pass_2 : decode cX3_pass 2 = .ok (.putfield 49, 3) := dk_181 0 49 (dk_at dksX3_pass_0 2 rfl rfl)
theorem dX3_pass_5 : decode cX3_pass 5 = .ok (.iload_n 1, 1) := dk_27 (dk_at dksX3_pass_0 5 rfl rfl)
theorem dX3_pass_6 : decode cX3_pass 6 = .ok (.iconst 1, 1) := dk_4 (dk_at dksX3_pass_0 6 rfl rfl)
theorem dX3_pass_7 : decode cX3_pass 7 = .ok (.bipush 99, 2) := dk_16 99 (dk_at dksX3_pass_0 7 rfl rfl)
theorem dX3_pass_9 : decode cX3_pass 9 = .ok (.invokestatic 71, 3) := dk_184 0 71 (dk_at dksX3_pass_0 9 rfl rfl)
theorem dX3_pass_12 : decode cX3_pass 12 = .ok (.ifCond .ne 10, 3) := dk_154 0 10 (dk_at dksX3_pass_0 12 rfl rfl)
theorem dX3_pass_15 : decode cX3_pass 15 = .ok (.aload_n 0, 1) := dk_42 (dk_at dksX3_pass_0 15 rfl rfl)
theorem dX3_pass_16 : decode cX3_pass 16 = .ok (.iconst 2, 1) := dk_5 (dk_at dksX3_pass_0 16 rfl rfl)
theorem dX3_pass_17 : decode cX3_pass 17 = .ok (.iconst 0, 1) := dk_3 (dk_at dksX3_pass_0 17 rfl rfl)
theorem dX3_pass_18 : decode cX3_pass 18 = .ok (.invokevirtual 90, 3) := dk_182 0 90 (dk_at dksX3_pass_0 18 rfl rfl)
theorem dX3_pass_21 : decode cX3_pass 21 = .ok (.ireturn, 1) := dk_172 (dk_at dksX3_pass_0 21 rfl rfl)
theorem dX3_pass_22 : decode cX3_pass 22 = .ok (.aload_n 0, 1) := dk_42 (dk_at dksX3_pass_0 22 rfl rfl)
theorem dX3_pass_23 : decode cX3_pass 23 = .ok (.invokevirtual 100, 3) := dk_182 0 100 (dk_at dksX3_pass_1 0 rfl rfl)
theorem dX3_pass_26 : decode cX3_pass 26 = .ok (.iconst 0, 1) := dk_3 (dk_at dksX3_pass_1 3 rfl rfl)
theorem dX3_pass_27 : decode cX3_pass 27 = .ok (.istore_n 2, 1) := dk_61 (dk_at dksX3_pass_1 4 rfl rfl)
theorem dX3_pass_28 : decode cX3_pass 28 = .ok (.iconst 0, 1) := dk_3 (dk_at dksX3_pass_1 5 rfl rfl)
theorem dX3_pass_29 : decode cX3_pass 29 = .ok (.istore_n 3, 1) := dk_62 (dk_at dksX3_pass_1 6 rfl rfl)
theorem dX3_pass_30 : decode cX3_pass 30 = .ok (.iload_n 3, 1) := dk_29 (dk_at dksX3_pass_1 7 rfl rfl)
theorem dX3_pass_31 : decode cX3_pass 31 = .ok (.iload_n 1, 1) := dk_27 (dk_at dksX3_pass_1 8 rfl rfl)
theorem dX3_pass_32 : decode cX3_pass 32 = .ok (.if_icmp .ge 16, 3) := dk_162 0 16 (dk_at dksX3_pass_1 9 rfl rfl)
theorem dX3_pass_35 : decode cX3_pass 35 = .ok (.iload_n 2, 1) := dk_28 (dk_at dksX3_pass_1 12 rfl rfl)
theorem dX3_pass_36 : decode cX3_pass 36 = .ok (.aload_n 0, 1) := dk_42 (dk_at dksX3_pass_1 13 rfl rfl)
theorem dX3_pass_37 : decode cX3_pass 37 = .ok (.invokevirtual 159, 3) := dk_182 0 159 (dk_at dksX3_pass_1 14 rfl rfl)
theorem dX3_pass_40 : decode cX3_pass 40 = .ok (.iadd, 1) := dk_96 (dk_at dksX3_pass_1 17 rfl rfl)
theorem dX3_pass_41 : decode cX3_pass 41 = .ok (.istore_n 2, 1) := dk_61 (dk_at dksX3_pass_1 18 rfl rfl)
theorem dX3_pass_42 : decode cX3_pass 42 = .ok (.iinc 3 1, 3) := dk_132 3 1 (dk_at dksX3_pass_1 19 rfl rfl)
theorem dX3_pass_45 : decode cX3_pass 45 = .ok (.goto (-15), 3) := dk_167 255 241 (dk_at dksX3_pass_2 0 rfl rfl)
theorem dX3_pass_48 : decode cX3_pass 48 = .ok (.iload_n 2, 1) := dk_28 (dk_at dksX3_pass_2 3 rfl rfl)
theorem dX3_pass_49 : decode cX3_pass 49 = .ok (.ireturn, 1) := dk_172 (dk_at dksX3_pass_2 4 rfl rfl)
abbrev cX3_tick : ByteArray := prog_12_method_39_code
def yX3_tick : MethodName := ⟨RX3, "tick", "()I"⟩
def dkwX3_tick_13 : List UInt8 := [132, 3, 1, 167, 255, 222, 28, 172]
abbrev dktX3_tick_13 : List UInt8 := dkwX3_tick_13 ++ []
def dkwX3_tick_12 : List UInt8 := [162, 0, 30, 28, 27, 29, 122, 4, 126, 4, 160, 0, 11, 42, 29, 182, 0, 156, 167, 0, 4, 3, 96, 61]
abbrev dktX3_tick_12 : List UInt8 := dkwX3_tick_12 ++ dktX3_tick_13
def dkwX3_tick_11 : List UInt8 := [120, 167, 0, 4, 3, 128, 60, 132, 2, 1, 167, 254, 254, 3, 61, 3, 62, 29, 42, 180, 0, 9, 6, 46]
abbrev dktX3_tick_11 : List UInt8 := dkwX3_tick_11 ++ dktX3_tick_12
def dkwX3_tick_10 : List UInt8 := [180, 0, 9, 29, 6, 96, 46, 184, 0, 55, 27, 42, 180, 0, 9, 29, 6, 96, 46, 154, 0, 9, 4, 28]
abbrev dktX3_tick_10 : List UInt8 := dkwX3_tick_10 ++ dktX3_tick_11
def dkwX3_tick_9 : List UInt8 := [92, 46, 4, 100, 79, 42, 180, 0, 9, 29, 16, 6, 96, 4, 96, 42, 180, 0, 9, 29, 16, 6, 96, 42]
abbrev dktX3_tick_9 : List UInt8 := dkwX3_tick_9 ++ dktX3_tick_10
def dkwX3_tick_8 : List UInt8 := [42, 180, 0, 9, 29, 3, 96, 42, 180, 0, 9, 29, 16, 6, 96, 46, 79, 42, 180, 0, 9, 29, 6, 96]
abbrev dktX3_tick_8 : List UInt8 := dkwX3_tick_8 ++ dktX3_tick_9
def dkwX3_tick_7 : List UInt8 := [3, 100, 79, 42, 180, 0, 9, 29, 8, 96, 92, 46, 21, 4, 153, 0, 7, 4, 167, 0, 4, 3, 96, 79]
abbrev dktX3_tick_7 : List UInt8 := dkwX3_tick_7 ++ dktX3_tick_8
def dkwX3_tick_6 : List UInt8 := [180, 0, 9, 29, 4, 96, 92, 46, 21, 4, 153, 0, 14, 42, 180, 0, 9, 29, 7, 96, 46, 167, 0, 4]
abbrev dktX3_tick_6 : List UInt8 := dkwX3_tick_6 ++ dktX3_tick_7
def dkwX3_tick_5 : List UInt8 := [16, 6, 96, 46, 42, 180, 0, 9, 29, 3, 96, 46, 159, 0, 7, 4, 167, 0, 4, 3, 54, 4, 42]
abbrev dktX3_tick_5 : List UInt8 := dkwX3_tick_5 ++ dktX3_tick_6
def dkwX3_tick_4 : List UInt8 := [96, 184, 0, 151, 167, 0, 11, 42, 180, 0, 9, 29, 4, 96, 46, 79, 167, 0, 158, 42, 180, 0, 9, 29]
abbrev dktX3_tick_4 : List UInt8 := dkwX3_tick_4 ++ dktX3_tick_5
def dkwX3_tick_3 : List UInt8 := [29, 4, 96, 21, 4, 153, 0, 26, 16, 99, 42, 180, 0, 9, 29, 4, 96, 46, 42, 180, 0, 9, 8, 46]
abbrev dktX3_tick_3 : List UInt8 := dkwX3_tick_3 ++ dktX3_tick_4
def dkwX3_tick_2 : List UInt8 := [180, 0, 9, 29, 3, 96, 46, 96, 46, 5, 160, 0, 7, 4, 167, 0, 4, 3, 54, 4, 42, 180, 0, 9]
abbrev dktX3_tick_2 : List UInt8 := dkwX3_tick_2 ++ dktX3_tick_3
def dkwX3_tick_1 : List UInt8 := [28, 184, 0, 75, 62, 42, 180, 0, 9, 29, 6, 96, 46, 154, 0, 77, 42, 180, 0, 9, 16, 8, 42]
abbrev dktX3_tick_1 : List UInt8 := dkwX3_tick_1 ++ dktX3_tick_2
def dkwX3_tick_0 : List UInt8 := [42, 180, 0, 9, 5, 92, 46, 4, 96, 79, 3, 60, 3, 61, 28, 42, 180, 0, 9, 6, 46, 162, 0, 254]
abbrev dktX3_tick_0 : List UInt8 := dkwX3_tick_0 ++ dktX3_tick_1
theorem dksX3_tick_0 : cX3_tick.data.toList.drop 0 = dktX3_tick_0 := by decide +kernel
theorem dksX3_tick_1 : cX3_tick.data.toList.drop 24 = dktX3_tick_1 := dk_seg dksX3_tick_0 24 rfl rfl
theorem dksX3_tick_2 : cX3_tick.data.toList.drop 47 = dktX3_tick_2 := dk_seg dksX3_tick_1 23 rfl rfl
theorem dksX3_tick_3 : cX3_tick.data.toList.drop 71 = dktX3_tick_3 := dk_seg dksX3_tick_2 24 rfl rfl
theorem dksX3_tick_4 : cX3_tick.data.toList.drop 95 = dktX3_tick_4 := dk_seg dksX3_tick_3 24 rfl rfl
theorem dksX3_tick_5 : cX3_tick.data.toList.drop 119 = dktX3_tick_5 := dk_seg dksX3_tick_4 24 rfl rfl
theorem dksX3_tick_6 : cX3_tick.data.toList.drop 142 = dktX3_tick_6 := dk_seg dksX3_tick_5 23 rfl rfl
theorem dksX3_tick_7 : cX3_tick.data.toList.drop 166 = dktX3_tick_7 := dk_seg dksX3_tick_6 24 rfl rfl
theorem dksX3_tick_8 : cX3_tick.data.toList.drop 190 = dktX3_tick_8 := dk_seg dksX3_tick_7 24 rfl rfl
theorem dksX3_tick_9 : cX3_tick.data.toList.drop 214 = dktX3_tick_9 := dk_seg dksX3_tick_8 24 rfl rfl
theorem dksX3_tick_10 : cX3_tick.data.toList.drop 238 = dktX3_tick_10 := dk_seg dksX3_tick_9 24 rfl rfl
theorem dksX3_tick_11 : cX3_tick.data.toList.drop 262 = dktX3_tick_11 := dk_seg dksX3_tick_10 24 rfl rfl
theorem dksX3_tick_12 : cX3_tick.data.toList.drop 286 = dktX3_tick_12 := dk_seg dksX3_tick_11 24 rfl rfl
theorem dksX3_tick_13 : cX3_tick.data.toList.drop 310 = dktX3_tick_13 := dk_seg dksX3_tick_12 24 rfl rfl
theorem dX3_tick_0 : decode cX3_tick 0 = .ok (.aload_n 0, 1) := dk_42 (dk_at dksX3_tick_0 0 rfl rfl)
theorem dX3_tick_1 : decode cX3_tick 1 = .ok (.getfield 9, 3) := dk_180 0 9 (dk_at dksX3_tick_0 1 rfl rfl)
theorem dX3_tick_4 : decode cX3_tick 4 = .ok (.iconst 2, 1) := dk_5 (dk_at dksX3_tick_0 4 rfl rfl)
theorem dX3_tick_5 : decode cX3_tick 5 = .ok (.dup2, 1) := dk_92 (dk_at dksX3_tick_0 5 rfl rfl)
theorem dX3_tick_6 : decode cX3_tick 6 = .ok (.iaload, 1) := dk_46 (dk_at dksX3_tick_0 6 rfl rfl)
theorem dX3_tick_7 : decode cX3_tick 7 = .ok (.iconst 1, 1) := dk_4 (dk_at dksX3_tick_0 7 rfl rfl)
theorem dX3_tick_8 : decode cX3_tick 8 = .ok (.iadd, 1) := dk_96 (dk_at dksX3_tick_0 8 rfl rfl)
theorem dX3_tick_9 : decode cX3_tick 9 = .ok (.iastore, 1) := dk_79 (dk_at dksX3_tick_0 9 rfl rfl)
theorem dX3_tick_10 : decode cX3_tick 10 = .ok (.iconst 0, 1) := dk_3 (dk_at dksX3_tick_0 10 rfl rfl)
theorem dX3_tick_11 : decode cX3_tick 11 = .ok (.istore_n 1, 1) := dk_60 (dk_at dksX3_tick_0 11 rfl rfl)
theorem dX3_tick_12 : decode cX3_tick 12 = .ok (.iconst 0, 1) := dk_3 (dk_at dksX3_tick_0 12 rfl rfl)
theorem dX3_tick_13 : decode cX3_tick 13 = .ok (.istore_n 2, 1) := dk_61 (dk_at dksX3_tick_0 13 rfl rfl)
theorem dX3_tick_14 : decode cX3_tick 14 = .ok (.iload_n 2, 1) := dk_28 (dk_at dksX3_tick_0 14 rfl rfl)
theorem dX3_tick_15 : decode cX3_tick 15 = .ok (.aload_n 0, 1) := dk_42 (dk_at dksX3_tick_0 15 rfl rfl)
theorem dX3_tick_16 : decode cX3_tick 16 = .ok (.getfield 9, 3) := dk_180 0 9 (dk_at dksX3_tick_0 16 rfl rfl)
theorem dX3_tick_19 : decode cX3_tick 19 = .ok (.iconst 3, 1) := dk_6 (dk_at dksX3_tick_0 19 rfl rfl)
theorem dX3_tick_20 : decode cX3_tick 20 = .ok (.iaload, 1) := dk_46 (dk_at dksX3_tick_0 20 rfl rfl)
theorem dX3_tick_21 : decode cX3_tick 21 = .ok (.if_icmp .ge 254, 3) := dk_162 0 254 (dk_at dksX3_tick_0 21 rfl rfl)
theorem dX3_tick_24 : decode cX3_tick 24 = .ok (.iload_n 2, 1) := dk_28 (dk_at dksX3_tick_1 0 rfl rfl)
theorem dX3_tick_25 : decode cX3_tick 25 = .ok (.invokestatic 75, 3) := dk_184 0 75 (dk_at dksX3_tick_1 1 rfl rfl)
theorem dX3_tick_28 : decode cX3_tick 28 = .ok (.istore_n 3, 1) := dk_62 (dk_at dksX3_tick_1 4 rfl rfl)
theorem dX3_tick_29 : decode cX3_tick 29 = .ok (.aload_n 0, 1) := dk_42 (dk_at dksX3_tick_1 5 rfl rfl)
theorem dX3_tick_30 : decode cX3_tick 30 = .ok (.getfield 9, 3) := dk_180 0 9 (dk_at dksX3_tick_1 6 rfl rfl)
theorem dX3_tick_33 : decode cX3_tick 33 = .ok (.iload_n 3, 1) := dk_29 (dk_at dksX3_tick_1 9 rfl rfl)
theorem dX3_tick_34 : decode cX3_tick 34 = .ok (.iconst 3, 1) := dk_6 (dk_at dksX3_tick_1 10 rfl rfl)
theorem dX3_tick_35 : decode cX3_tick 35 = .ok (.iadd, 1) := dk_96 (dk_at dksX3_tick_1 11 rfl rfl)
theorem dX3_tick_36 : decode cX3_tick 36 = .ok (.iaload, 1) := dk_46 (dk_at dksX3_tick_1 12 rfl rfl)
theorem dX3_tick_37 : decode cX3_tick 37 = .ok (.ifCond .ne 77, 3) := dk_154 0 77 (dk_at dksX3_tick_1 13 rfl rfl)
theorem dX3_tick_40 : decode cX3_tick 40 = .ok (.aload_n 0, 1) := dk_42 (dk_at dksX3_tick_1 16 rfl rfl)
theorem dX3_tick_41 : decode cX3_tick 41 = .ok (.getfield 9, 3) := dk_180 0 9 (dk_at dksX3_tick_1 17 rfl rfl)
theorem dX3_tick_44 : decode cX3_tick 44 = .ok (.bipush 8, 2) := dk_16 8 (dk_at dksX3_tick_1 20 rfl rfl)
theorem dX3_tick_46 : decode cX3_tick 46 = .ok (.aload_n 0, 1) := dk_42 (dk_at dksX3_tick_1 22 rfl rfl)
theorem dX3_tick_47 : decode cX3_tick 47 = .ok (.getfield 9, 3) := dk_180 0 9 (dk_at dksX3_tick_2 0 rfl rfl)
theorem dX3_tick_50 : decode cX3_tick 50 = .ok (.iload_n 3, 1) := dk_29 (dk_at dksX3_tick_2 3 rfl rfl)
theorem dX3_tick_51 : decode cX3_tick 51 = .ok (.iconst 0, 1) := dk_3 (dk_at dksX3_tick_2 4 rfl rfl)
theorem dX3_tick_52 : decode cX3_tick 52 = .ok (.iadd, 1) := dk_96 (dk_at dksX3_tick_2 5 rfl rfl)
theorem dX3_tick_53 : decode cX3_tick 53 = .ok (.iaload, 1) := dk_46 (dk_at dksX3_tick_2 6 rfl rfl)
theorem dX3_tick_54 : decode cX3_tick 54 = .ok (.iadd, 1) := dk_96 (dk_at dksX3_tick_2 7 rfl rfl)
theorem dX3_tick_55 : decode cX3_tick 55 = .ok (.iaload, 1) := dk_46 (dk_at dksX3_tick_2 8 rfl rfl)
theorem dX3_tick_56 : decode cX3_tick 56 = .ok (.iconst 2, 1) := dk_5 (dk_at dksX3_tick_2 9 rfl rfl)
theorem dX3_tick_57 : decode cX3_tick 57 = .ok (.if_icmp .ne 7, 3) := dk_160 0 7 (dk_at dksX3_tick_2 10 rfl rfl)
theorem dX3_tick_60 : decode cX3_tick 60 = .ok (.iconst 1, 1) := dk_4 (dk_at dksX3_tick_2 13 rfl rfl)
theorem dX3_tick_61 : decode cX3_tick 61 = .ok (.goto 4, 3) := dk_167 0 4 (dk_at dksX3_tick_2 14 rfl rfl)
theorem dX3_tick_64 : decode cX3_tick 64 = .ok (.iconst 0, 1) := dk_3 (dk_at dksX3_tick_2 17 rfl rfl)
theorem dX3_tick_65 : decode cX3_tick 65 = .ok (.istore 4, 2) := dk_54 4 (dk_at dksX3_tick_2 18 rfl rfl)
theorem dX3_tick_67 : decode cX3_tick 67 = .ok (.aload_n 0, 1) := dk_42 (dk_at dksX3_tick_2 20 rfl rfl)
theorem dX3_tick_68 : decode cX3_tick 68 = .ok (.getfield 9, 3) := dk_180 0 9 (dk_at dksX3_tick_2 21 rfl rfl)
theorem dX3_tick_71 : decode cX3_tick 71 = .ok (.iload_n 3, 1) := dk_29 (dk_at dksX3_tick_3 0 rfl rfl)
theorem dX3_tick_72 : decode cX3_tick 72 = .ok (.iconst 1, 1) := dk_4 (dk_at dksX3_tick_3 1 rfl rfl)
theorem dX3_tick_73 : decode cX3_tick 73 = .ok (.iadd, 1) := dk_96 (dk_at dksX3_tick_3 2 rfl rfl)
theorem dX3_tick_74 : decode cX3_tick 74 = .ok (.iload 4, 2) := dk_21 4 (dk_at dksX3_tick_3 3 rfl rfl)
theorem dX3_tick_76 : decode cX3_tick 76 = .ok (.ifCond .eq 26, 3) := dk_153 0 26 (dk_at dksX3_tick_3 5 rfl rfl)
theorem dX3_tick_79 : decode cX3_tick 79 = .ok (.bipush 99, 2) := dk_16 99 (dk_at dksX3_tick_3 8 rfl rfl)
theorem dX3_tick_81 : decode cX3_tick 81 = .ok (.aload_n 0, 1) := dk_42 (dk_at dksX3_tick_3 10 rfl rfl)
theorem dX3_tick_82 : decode cX3_tick 82 = .ok (.getfield 9, 3) := dk_180 0 9 (dk_at dksX3_tick_3 11 rfl rfl)
theorem dX3_tick_85 : decode cX3_tick 85 = .ok (.iload_n 3, 1) := dk_29 (dk_at dksX3_tick_3 14 rfl rfl)
theorem dX3_tick_86 : decode cX3_tick 86 = .ok (.iconst 1, 1) := dk_4 (dk_at dksX3_tick_3 15 rfl rfl)
theorem dX3_tick_87 : decode cX3_tick 87 = .ok (.iadd, 1) := dk_96 (dk_at dksX3_tick_3 16 rfl rfl)
theorem dX3_tick_88 : decode cX3_tick 88 = .ok (.iaload, 1) := dk_46 (dk_at dksX3_tick_3 17 rfl rfl)
theorem dX3_tick_89 : decode cX3_tick 89 = .ok (.aload_n 0, 1) := dk_42 (dk_at dksX3_tick_3 18 rfl rfl)
theorem dX3_tick_90 : decode cX3_tick 90 = .ok (.getfield 9, 3) := dk_180 0 9 (dk_at dksX3_tick_3 19 rfl rfl)
theorem dX3_tick_93 : decode cX3_tick 93 = .ok (.iconst 5, 1) := dk_8 (dk_at dksX3_tick_3 22 rfl rfl)
theorem dX3_tick_94 : decode cX3_tick 94 = .ok (.iaload, 1) := dk_46 (dk_at dksX3_tick_3 23 rfl rfl)
theorem dX3_tick_95 : decode cX3_tick 95 = .ok (.iadd, 1) := dk_96 (dk_at dksX3_tick_4 0 rfl rfl)
theorem dX3_tick_96 : decode cX3_tick 96 = .ok (.invokestatic 151, 3) := dk_184 0 151 (dk_at dksX3_tick_4 1 rfl rfl)
theorem dX3_tick_99 : decode cX3_tick 99 = .ok (.goto 11, 3) := dk_167 0 11 (dk_at dksX3_tick_4 4 rfl rfl)
theorem dX3_tick_102 : decode cX3_tick 102 = .ok (.aload_n 0, 1) := dk_42 (dk_at dksX3_tick_4 7 rfl rfl)
theorem dX3_tick_103 : decode cX3_tick 103 = .ok (.getfield 9, 3) := dk_180 0 9 (dk_at dksX3_tick_4 8 rfl rfl)
theorem dX3_tick_106 : decode cX3_tick 106 = .ok (.iload_n 3, 1) := dk_29 (dk_at dksX3_tick_4 11 rfl rfl)
theorem dX3_tick_107 : decode cX3_tick 107 = .ok (.iconst 1, 1) := dk_4 (dk_at dksX3_tick_4 12 rfl rfl)
theorem dX3_tick_108 : decode cX3_tick 108 = .ok (.iadd, 1) := dk_96 (dk_at dksX3_tick_4 13 rfl rfl)
theorem dX3_tick_109 : decode cX3_tick 109 = .ok (.iaload, 1) := dk_46 (dk_at dksX3_tick_4 14 rfl rfl)
theorem dX3_tick_110 : decode cX3_tick 110 = .ok (.iastore, 1) := dk_79 (dk_at dksX3_tick_4 15 rfl rfl)
theorem dX3_tick_111 : decode cX3_tick 111 = .ok (.goto 158, 3) := dk_167 0 158 (dk_at dksX3_tick_4 16 rfl rfl)
theorem dX3_tick_114 : decode cX3_tick 114 = .ok (.aload_n 0, 1) := dk_42 (dk_at dksX3_tick_4 19 rfl rfl)
theorem dX3_tick_115 : decode cX3_tick 115 = .ok (.getfield 9, 3) := dk_180 0 9 (dk_at dksX3_tick_4 20 rfl rfl)
theorem dX3_tick_118 : decode cX3_tick 118 = .ok (.iload_n 3, 1) := dk_29 (dk_at dksX3_tick_4 23 rfl rfl)
theorem dX3_tick_119 : decode cX3_tick 119 = .ok (.bipush 6, 2) := dk_16 6 (dk_at dksX3_tick_5 0 rfl rfl)
theorem dX3_tick_121 : decode cX3_tick 121 = .ok (.iadd, 1) := dk_96 (dk_at dksX3_tick_5 2 rfl rfl)
theorem dX3_tick_122 : decode cX3_tick 122 = .ok (.iaload, 1) := dk_46 (dk_at dksX3_tick_5 3 rfl rfl)
theorem dX3_tick_123 : decode cX3_tick 123 = .ok (.aload_n 0, 1) := dk_42 (dk_at dksX3_tick_5 4 rfl rfl)
theorem dX3_tick_124 : decode cX3_tick 124 = .ok (.getfield 9, 3) := dk_180 0 9 (dk_at dksX3_tick_5 5 rfl rfl)
theorem dX3_tick_127 : decode cX3_tick 127 = .ok (.iload_n 3, 1) := dk_29 (dk_at dksX3_tick_5 8 rfl rfl)
theorem dX3_tick_128 : decode cX3_tick 128 = .ok (.iconst 0, 1) := dk_3 (dk_at dksX3_tick_5 9 rfl rfl)
theorem dX3_tick_129 : decode cX3_tick 129 = .ok (.iadd, 1) := dk_96 (dk_at dksX3_tick_5 10 rfl rfl)
theorem dX3_tick_130 : decode cX3_tick 130 = .ok (.iaload, 1) := dk_46 (dk_at dksX3_tick_5 11 rfl rfl)
theorem dX3_tick_131 : decode cX3_tick 131 = .ok (.if_icmp .eq 7, 3) := dk_159 0 7 (dk_at dksX3_tick_5 12 rfl rfl)
theorem dX3_tick_134 : decode cX3_tick 134 = .ok (.iconst 1, 1) := dk_4 (dk_at dksX3_tick_5 15 rfl rfl)
theorem dX3_tick_135 : decode cX3_tick 135 = .ok (.goto 4, 3) := dk_167 0 4 (dk_at dksX3_tick_5 16 rfl rfl)
theorem dX3_tick_138 : decode cX3_tick 138 = .ok (.iconst 0, 1) := dk_3 (dk_at dksX3_tick_5 19 rfl rfl)
theorem dX3_tick_139 : decode cX3_tick 139 = .ok (.istore 4, 2) := dk_54 4 (dk_at dksX3_tick_5 20 rfl rfl)
theorem dX3_tick_141 : decode cX3_tick 141 = .ok (.aload_n 0, 1) := dk_42 (dk_at dksX3_tick_5 22 rfl rfl)
theorem dX3_tick_142 : decode cX3_tick 142 = .ok (.getfield 9, 3) := dk_180 0 9 (dk_at dksX3_tick_6 0 rfl rfl)
theorem dX3_tick_145 : decode cX3_tick 145 = .ok (.iload_n 3, 1) := dk_29 (dk_at dksX3_tick_6 3 rfl rfl)
theorem dX3_tick_146 : decode cX3_tick 146 = .ok (.iconst 1, 1) := dk_4 (dk_at dksX3_tick_6 4 rfl rfl)
theorem dX3_tick_147 : decode cX3_tick 147 = .ok (.iadd, 1) := dk_96 (dk_at dksX3_tick_6 5 rfl rfl)
theorem dX3_tick_148 : decode cX3_tick 148 = .ok (.dup2, 1) := dk_92 (dk_at dksX3_tick_6 6 rfl rfl)
theorem dX3_tick_149 : decode cX3_tick 149 = .ok (.iaload, 1) := dk_46 (dk_at dksX3_tick_6 7 rfl rfl)
theorem dX3_tick_150 : decode cX3_tick 150 = .ok (.iload 4, 2) := dk_21 4 (dk_at dksX3_tick_6 8 rfl rfl)
theorem dX3_tick_152 : decode cX3_tick 152 = .ok (.ifCond .eq 14, 3) := dk_153 0 14 (dk_at dksX3_tick_6 10 rfl rfl)
theorem dX3_tick_155 : decode cX3_tick 155 = .ok (.aload_n 0, 1) := dk_42 (dk_at dksX3_tick_6 13 rfl rfl)
theorem dX3_tick_156 : decode cX3_tick 156 = .ok (.getfield 9, 3) := dk_180 0 9 (dk_at dksX3_tick_6 14 rfl rfl)
theorem dX3_tick_159 : decode cX3_tick 159 = .ok (.iload_n 3, 1) := dk_29 (dk_at dksX3_tick_6 17 rfl rfl)
theorem dX3_tick_160 : decode cX3_tick 160 = .ok (.iconst 4, 1) := dk_7 (dk_at dksX3_tick_6 18 rfl rfl)
theorem dX3_tick_161 : decode cX3_tick 161 = .ok (.iadd, 1) := dk_96 (dk_at dksX3_tick_6 19 rfl rfl)
theorem dX3_tick_162 : decode cX3_tick 162 = .ok (.iaload, 1) := dk_46 (dk_at dksX3_tick_6 20 rfl rfl)
theorem dX3_tick_163 : decode cX3_tick 163 = .ok (.goto 4, 3) := dk_167 0 4 (dk_at dksX3_tick_6 21 rfl rfl)
theorem dX3_tick_166 : decode cX3_tick 166 = .ok (.iconst 0, 1) := dk_3 (dk_at dksX3_tick_7 0 rfl rfl)
theorem dX3_tick_167 : decode cX3_tick 167 = .ok (.isub, 1) := dk_100 (dk_at dksX3_tick_7 1 rfl rfl)
theorem dX3_tick_168 : decode cX3_tick 168 = .ok (.iastore, 1) := dk_79 (dk_at dksX3_tick_7 2 rfl rfl)
theorem dX3_tick_169 : decode cX3_tick 169 = .ok (.aload_n 0, 1) := dk_42 (dk_at dksX3_tick_7 3 rfl rfl)
theorem dX3_tick_170 : decode cX3_tick 170 = .ok (.getfield 9, 3) := dk_180 0 9 (dk_at dksX3_tick_7 4 rfl rfl)
theorem dX3_tick_173 : decode cX3_tick 173 = .ok (.iload_n 3, 1) := dk_29 (dk_at dksX3_tick_7 7 rfl rfl)
theorem dX3_tick_174 : decode cX3_tick 174 = .ok (.iconst 5, 1) := dk_8 (dk_at dksX3_tick_7 8 rfl rfl)
theorem dX3_tick_175 : decode cX3_tick 175 = .ok (.iadd, 1) := dk_96 (dk_at dksX3_tick_7 9 rfl rfl)
theorem dX3_tick_176 : decode cX3_tick 176 = .ok (.dup2, 1) := dk_92 (dk_at dksX3_tick_7 10 rfl rfl)
theorem dX3_tick_177 : decode cX3_tick 177 = .ok (.iaload, 1) := dk_46 (dk_at dksX3_tick_7 11 rfl rfl)
theorem dX3_tick_178 : decode cX3_tick 178 = .ok (.iload 4, 2) := dk_21 4 (dk_at dksX3_tick_7 12 rfl rfl)
theorem dX3_tick_180 : decode cX3_tick 180 = .ok (.ifCond .eq 7, 3) := dk_153 0 7 (dk_at dksX3_tick_7 14 rfl rfl)
theorem dX3_tick_183 : decode cX3_tick 183 = .ok (.iconst 1, 1) := dk_4 (dk_at dksX3_tick_7 17 rfl rfl)
theorem dX3_tick_184 : decode cX3_tick 184 = .ok (.goto 4, 3) := dk_167 0 4 (dk_at dksX3_tick_7 18 rfl rfl)
theorem dX3_tick_187 : decode cX3_tick 187 = .ok (.iconst 0, 1) := dk_3 (dk_at dksX3_tick_7 21 rfl rfl)
theorem dX3_tick_188 : decode cX3_tick 188 = .ok (.iadd, 1) := dk_96 (dk_at dksX3_tick_7 22 rfl rfl)
theorem dX3_tick_189 : decode cX3_tick 189 = .ok (.iastore, 1) := dk_79 (dk_at dksX3_tick_7 23 rfl rfl)
theorem dX3_tick_190 : decode cX3_tick 190 = .ok (.aload_n 0, 1) := dk_42 (dk_at dksX3_tick_8 0 rfl rfl)
theorem dX3_tick_191 : decode cX3_tick 191 = .ok (.getfield 9, 3) := dk_180 0 9 (dk_at dksX3_tick_8 1 rfl rfl)
theorem dX3_tick_194 : decode cX3_tick 194 = .ok (.iload_n 3, 1) := dk_29 (dk_at dksX3_tick_8 4 rfl rfl)
theorem dX3_tick_195 : decode cX3_tick 195 = .ok (.iconst 0, 1) := dk_3 (dk_at dksX3_tick_8 5 rfl rfl)
theorem dX3_tick_196 : decode cX3_tick 196 = .ok (.iadd, 1) := dk_96 (dk_at dksX3_tick_8 6 rfl rfl)
theorem dX3_tick_197 : decode cX3_tick 197 = .ok (.aload_n 0, 1) := dk_42 (dk_at dksX3_tick_8 7 rfl rfl)
theorem dX3_tick_198 : decode cX3_tick 198 = .ok (.getfield 9, 3) := dk_180 0 9 (dk_at dksX3_tick_8 8 rfl rfl)
theorem dX3_tick_201 : decode cX3_tick 201 = .ok (.iload_n 3, 1) := dk_29 (dk_at dksX3_tick_8 11 rfl rfl)
theorem dX3_tick_202 : decode cX3_tick 202 = .ok (.bipush 6, 2) := dk_16 6 (dk_at dksX3_tick_8 12 rfl rfl)
theorem dX3_tick_204 : decode cX3_tick 204 = .ok (.iadd, 1) := dk_96 (dk_at dksX3_tick_8 14 rfl rfl)
theorem dX3_tick_205 : decode cX3_tick 205 = .ok (.iaload, 1) := dk_46 (dk_at dksX3_tick_8 15 rfl rfl)
theorem dX3_tick_206 : decode cX3_tick 206 = .ok (.iastore, 1) := dk_79 (dk_at dksX3_tick_8 16 rfl rfl)
theorem dX3_tick_207 : decode cX3_tick 207 = .ok (.aload_n 0, 1) := dk_42 (dk_at dksX3_tick_8 17 rfl rfl)
theorem dX3_tick_208 : decode cX3_tick 208 = .ok (.getfield 9, 3) := dk_180 0 9 (dk_at dksX3_tick_8 18 rfl rfl)
theorem dX3_tick_211 : decode cX3_tick 211 = .ok (.iload_n 3, 1) := dk_29 (dk_at dksX3_tick_8 21 rfl rfl)
theorem dX3_tick_212 : decode cX3_tick 212 = .ok (.iconst 3, 1) := dk_6 (dk_at dksX3_tick_8 22 rfl rfl)
theorem dX3_tick_213 : decode cX3_tick 213 = .ok (.iadd, 1) := dk_96 (dk_at dksX3_tick_8 23 rfl rfl)
theorem dX3_tick_214 : decode cX3_tick 214 = .ok (.dup2, 1) := dk_92 (dk_at dksX3_tick_9 0 rfl rfl)
theorem dX3_tick_215 : decode cX3_tick 215 = .ok (.iaload, 1) := dk_46 (dk_at dksX3_tick_9 1 rfl rfl)
theorem dX3_tick_216 : decode cX3_tick 216 = .ok (.iconst 1, 1) := dk_4 (dk_at dksX3_tick_9 2 rfl rfl)
theorem dX3_tick_217 : decode cX3_tick 217 = .ok (.isub, 1) := dk_100 (dk_at dksX3_tick_9 3 rfl rfl)
theorem dX3_tick_218 : decode cX3_tick 218 = .ok (.iastore, 1) := dk_79 (dk_at dksX3_tick_9 4 rfl rfl)
theorem dX3_tick_219 : decode cX3_tick 219 = .ok (.aload_n 0, 1) := dk_42 (dk_at dksX3_tick_9 5 rfl rfl)
theorem dX3_tick_220 : decode cX3_tick 220 = .ok (.getfield 9, 3) := dk_180 0 9 (dk_at dksX3_tick_9 6 rfl rfl)
theorem dX3_tick_223 : decode cX3_tick 223 = .ok (.iload_n 3, 1) := dk_29 (dk_at dksX3_tick_9 9 rfl rfl)
theorem dX3_tick_224 : decode cX3_tick 224 = .ok (.bipush 6, 2) := dk_16 6 (dk_at dksX3_tick_9 10 rfl rfl)
theorem dX3_tick_226 : decode cX3_tick 226 = .ok (.iadd, 1) := dk_96 (dk_at dksX3_tick_9 12 rfl rfl)
theorem dX3_tick_227 : decode cX3_tick 227 = .ok (.iconst 1, 1) := dk_4 (dk_at dksX3_tick_9 13 rfl rfl)
theorem dX3_tick_228 : decode cX3_tick 228 = .ok (.iadd, 1) := dk_96 (dk_at dksX3_tick_9 14 rfl rfl)
theorem dX3_tick_229 : decode cX3_tick 229 = .ok (.aload_n 0, 1) := dk_42 (dk_at dksX3_tick_9 15 rfl rfl)
theorem dX3_tick_230 : decode cX3_tick 230 = .ok (.getfield 9, 3) := dk_180 0 9 (dk_at dksX3_tick_9 16 rfl rfl)
theorem dX3_tick_233 : decode cX3_tick 233 = .ok (.iload_n 3, 1) := dk_29 (dk_at dksX3_tick_9 19 rfl rfl)
theorem dX3_tick_234 : decode cX3_tick 234 = .ok (.bipush 6, 2) := dk_16 6 (dk_at dksX3_tick_9 20 rfl rfl)
theorem dX3_tick_236 : decode cX3_tick 236 = .ok (.iadd, 1) := dk_96 (dk_at dksX3_tick_9 22 rfl rfl)
theorem dX3_tick_237 : decode cX3_tick 237 = .ok (.aload_n 0, 1) := dk_42 (dk_at dksX3_tick_9 23 rfl rfl)
theorem dX3_tick_238 : decode cX3_tick 238 = .ok (.getfield 9, 3) := dk_180 0 9 (dk_at dksX3_tick_10 0 rfl rfl)
theorem dX3_tick_241 : decode cX3_tick 241 = .ok (.iload_n 3, 1) := dk_29 (dk_at dksX3_tick_10 3 rfl rfl)
theorem dX3_tick_242 : decode cX3_tick 242 = .ok (.iconst 3, 1) := dk_6 (dk_at dksX3_tick_10 4 rfl rfl)
theorem dX3_tick_243 : decode cX3_tick 243 = .ok (.iadd, 1) := dk_96 (dk_at dksX3_tick_10 5 rfl rfl)
theorem dX3_tick_244 : decode cX3_tick 244 = .ok (.iaload, 1) := dk_46 (dk_at dksX3_tick_10 6 rfl rfl)
theorem dX3_tick_245 : decode cX3_tick 245 = .ok (.invokestatic 55, 3) := dk_184 0 55 (dk_at dksX3_tick_10 7 rfl rfl)
theorem dX3_tick_248 : decode cX3_tick 248 = .ok (.iload_n 1, 1) := dk_27 (dk_at dksX3_tick_10 10 rfl rfl)
theorem dX3_tick_249 : decode cX3_tick 249 = .ok (.aload_n 0, 1) := dk_42 (dk_at dksX3_tick_10 11 rfl rfl)
theorem dX3_tick_250 : decode cX3_tick 250 = .ok (.getfield 9, 3) := dk_180 0 9 (dk_at dksX3_tick_10 12 rfl rfl)
theorem dX3_tick_253 : decode cX3_tick 253 = .ok (.iload_n 3, 1) := dk_29 (dk_at dksX3_tick_10 15 rfl rfl)
theorem dX3_tick_254 : decode cX3_tick 254 = .ok (.iconst 3, 1) := dk_6 (dk_at dksX3_tick_10 16 rfl rfl)
theorem dX3_tick_255 : decode cX3_tick 255 = .ok (.iadd, 1) := dk_96 (dk_at dksX3_tick_10 17 rfl rfl)
theorem dX3_tick_256 : decode cX3_tick 256 = .ok (.iaload, 1) := dk_46 (dk_at dksX3_tick_10 18 rfl rfl)
theorem dX3_tick_257 : decode cX3_tick 257 = .ok (.ifCond .ne 9, 3) := dk_154 0 9 (dk_at dksX3_tick_10 19 rfl rfl)
theorem dX3_tick_260 : decode cX3_tick 260 = .ok (.iconst 1, 1) := dk_4 (dk_at dksX3_tick_10 22 rfl rfl)
theorem dX3_tick_261 : decode cX3_tick 261 = .ok (.iload_n 2, 1) := dk_28 (dk_at dksX3_tick_10 23 rfl rfl)
theorem dX3_tick_262 : decode cX3_tick 262 = .ok (.ishl, 1) := dk_120 (dk_at dksX3_tick_11 0 rfl rfl)
theorem dX3_tick_263 : decode cX3_tick 263 = .ok (.goto 4, 3) := dk_167 0 4 (dk_at dksX3_tick_11 1 rfl rfl)
theorem dX3_tick_266 : decode cX3_tick 266 = .ok (.iconst 0, 1) := dk_3 (dk_at dksX3_tick_11 4 rfl rfl)
theorem dX3_tick_267 : decode cX3_tick 267 = .ok (.ior, 1) := dk_128 (dk_at dksX3_tick_11 5 rfl rfl)
theorem dX3_tick_268 : decode cX3_tick 268 = .ok (.istore_n 1, 1) := dk_60 (dk_at dksX3_tick_11 6 rfl rfl)
theorem dX3_tick_269 : decode cX3_tick 269 = .ok (.iinc 2 1, 3) := dk_132 2 1 (dk_at dksX3_tick_11 7 rfl rfl)
theorem dX3_tick_272 : decode cX3_tick 272 = .ok (.goto (-258), 3) := dk_167 254 254 (dk_at dksX3_tick_11 10 rfl rfl)
theorem dX3_tick_275 : decode cX3_tick 275 = .ok (.iconst 0, 1) := dk_3 (dk_at dksX3_tick_11 13 rfl rfl)
theorem dX3_tick_276 : decode cX3_tick 276 = .ok (.istore_n 2, 1) := dk_61 (dk_at dksX3_tick_11 14 rfl rfl)
theorem dX3_tick_277 : decode cX3_tick 277 = .ok (.iconst 0, 1) := dk_3 (dk_at dksX3_tick_11 15 rfl rfl)
theorem dX3_tick_278 : decode cX3_tick 278 = .ok (.istore_n 3, 1) := dk_62 (dk_at dksX3_tick_11 16 rfl rfl)
theorem dX3_tick_279 : decode cX3_tick 279 = .ok (.iload_n 3, 1) := dk_29 (dk_at dksX3_tick_11 17 rfl rfl)
theorem dX3_tick_280 : decode cX3_tick 280 = .ok (.aload_n 0, 1) := dk_42 (dk_at dksX3_tick_11 18 rfl rfl)
theorem dX3_tick_281 : decode cX3_tick 281 = .ok (.getfield 9, 3) := dk_180 0 9 (dk_at dksX3_tick_11 19 rfl rfl)
theorem dX3_tick_284 : decode cX3_tick 284 = .ok (.iconst 3, 1) := dk_6 (dk_at dksX3_tick_11 22 rfl rfl)
theorem dX3_tick_285 : decode cX3_tick 285 = .ok (.iaload, 1) := dk_46 (dk_at dksX3_tick_11 23 rfl rfl)
theorem dX3_tick_286 : decode cX3_tick 286 = .ok (.if_icmp .ge 30, 3) := dk_162 0 30 (dk_at dksX3_tick_12 0 rfl rfl)
theorem dX3_tick_289 : decode cX3_tick 289 = .ok (.iload_n 2, 1) := dk_28 (dk_at dksX3_tick_12 3 rfl rfl)
theorem dX3_tick_290 : decode cX3_tick 290 = .ok (.iload_n 1, 1) := dk_27 (dk_at dksX3_tick_12 4 rfl rfl)
theorem dX3_tick_291 : decode cX3_tick 291 = .ok (.iload_n 3, 1) := dk_29 (dk_at dksX3_tick_12 5 rfl rfl)
theorem dX3_tick_292 : decode cX3_tick 292 = .ok (.ishr, 1) := dk_122 (dk_at dksX3_tick_12 6 rfl rfl)
theorem dX3_tick_293 : decode cX3_tick 293 = .ok (.iconst 1, 1) := dk_4 (dk_at dksX3_tick_12 7 rfl rfl)
theorem dX3_tick_294 : decode cX3_tick 294 = .ok (.iand, 1) := dk_126 (dk_at dksX3_tick_12 8 rfl rfl)
theorem dX3_tick_295 : decode cX3_tick 295 = .ok (.iconst 1, 1) := dk_4 (dk_at dksX3_tick_12 9 rfl rfl)
theorem dX3_tick_296 : decode cX3_tick 296 = .ok (.if_icmp .ne 11, 3) := dk_160 0 11 (dk_at dksX3_tick_12 10 rfl rfl)
theorem dX3_tick_299 : decode cX3_tick 299 = .ok (.aload_n 0, 1) := dk_42 (dk_at dksX3_tick_12 13 rfl rfl)
theorem dX3_tick_300 : decode cX3_tick 300 = .ok (.iload_n 3, 1) := dk_29 (dk_at dksX3_tick_12 14 rfl rfl)
theorem dX3_tick_301 : decode cX3_tick 301 = .ok (.invokevirtual 156, 3) := dk_182 0 156 (dk_at dksX3_tick_12 15 rfl rfl)
theorem dX3_tick_304 : decode cX3_tick 304 = .ok (.goto 4, 3) := dk_167 0 4 (dk_at dksX3_tick_12 18 rfl rfl)
theorem dX3_tick_307 : decode cX3_tick 307 = .ok (.iconst 0, 1) := dk_3 (dk_at dksX3_tick_12 21 rfl rfl)
theorem dX3_tick_308 : decode cX3_tick 308 = .ok (.iadd, 1) := dk_96 (dk_at dksX3_tick_12 22 rfl rfl)
theorem dX3_tick_309 : decode cX3_tick 309 = .ok (.istore_n 2, 1) := dk_61 (dk_at dksX3_tick_12 23 rfl rfl)
theorem dX3_tick_310 : decode cX3_tick 310 = .ok (.iinc 3 1, 3) := dk_132 3 1 (dk_at dksX3_tick_13 0 rfl rfl)
theorem dX3_tick_313 : decode cX3_tick 313 = .ok (.goto (-34), 3) := dk_167 255 222 (dk_at dksX3_tick_13 3 rfl rfl)
theorem dX3_tick_316 : decode cX3_tick 316 = .ok (.iload_n 2, 1) := dk_28 (dk_at dksX3_tick_13 6 rfl rfl)
theorem dX3_tick_317 : decode cX3_tick 317 = .ok (.ireturn, 1) := dk_172 (dk_at dksX3_tick_13 7 rfl rfl)
abbrev cX3_ends : ByteArray := prog_12_method_38_code
def yX3_ends : MethodName := ⟨RX3, "ends", "(I)I"⟩
def dkwX3_ends_5 : List UInt8 := [42, 180, 0, 9, 27, 184, 0, 75, 5, 96, 2, 79, 4, 172]
abbrev dktX3_ends_5 : List UInt8 := dkwX3_ends_5 ++ []
def dkwX3_ends_4 : List UInt8 := [184, 0, 106, 7, 96, 42, 180, 0, 9, 5, 46, 79, 42, 180, 0, 9, 28, 184, 0, 106, 6, 96, 2, 79]
abbrev dktX3_ends_4 : List UInt8 := dkwX3_ends_4 ++ dktX3_ends_5
def dkwX3_ends_3 : List UInt8 := [3, 172, 42, 180, 0, 9, 16, 8, 29, 96, 46, 6, 159, 0, 5, 3, 172, 42, 180, 0, 9, 28]
abbrev dktX3_ends_3 : List UInt8 := dkwX3_ends_3 ++ dktX3_ends_4
def dkwX3_ends_2 : List UInt8 := [5, 96, 92, 46, 42, 28, 8, 21, 4, 96, 182, 0, 109, 29, 160, 0, 7, 4, 167, 0, 4, 3, 96, 79]
abbrev dktX3_ends_2 : List UInt8 := dkwX3_ends_2 ++ dktX3_ends_3
def dkwX3_ends_1 : List UInt8 := [182, 0, 109, 54, 4, 21, 4, 42, 28, 4, 182, 0, 109, 162, 0, 37, 42, 180, 0, 9, 28, 184, 0, 106]
abbrev dktX3_ends_1 : List UInt8 := dkwX3_ends_1 ++ dktX3_ends_2
def dkwX3_ends_0 : List UInt8 := [42, 27, 5, 182, 0, 79, 61, 28, 156, 0, 5, 3, 172, 42, 27, 3, 182, 0, 79, 62, 42, 28, 5]
abbrev dktX3_ends_0 : List UInt8 := dkwX3_ends_0 ++ dktX3_ends_1
theorem dksX3_ends_0 : cX3_ends.data.toList.drop 0 = dktX3_ends_0 := by decide +kernel
theorem dksX3_ends_1 : cX3_ends.data.toList.drop 23 = dktX3_ends_1 := dk_seg dksX3_ends_0 23 rfl rfl
theorem dksX3_ends_2 : cX3_ends.data.toList.drop 47 = dktX3_ends_2 := dk_seg dksX3_ends_1 24 rfl rfl
theorem dksX3_ends_3 : cX3_ends.data.toList.drop 71 = dktX3_ends_3 := dk_seg dksX3_ends_2 24 rfl rfl
theorem dksX3_ends_4 : cX3_ends.data.toList.drop 93 = dktX3_ends_4 := dk_seg dksX3_ends_3 22 rfl rfl
theorem dksX3_ends_5 : cX3_ends.data.toList.drop 117 = dktX3_ends_5 := dk_seg dksX3_ends_4 24 rfl rfl
theorem dX3_ends_0 : decode cX3_ends 0 = .ok (.aload_n 0, 1) := dk_42 (dk_at dksX3_ends_0 0 rfl rfl)
theorem dX3_ends_1 : decode cX3_ends 1 = .ok (.iload_n 1, 1) := dk_27 (dk_at dksX3_ends_0 1 rfl rfl)
theorem dX3_ends_2 : decode cX3_ends 2 = .ok (.iconst 2, 1) := dk_5 (dk_at dksX3_ends_0 2 rfl rfl)
theorem dX3_ends_3 : decode cX3_ends 3 = .ok (.invokevirtual 79, 3) := dk_182 0 79 (dk_at dksX3_ends_0 3 rfl rfl)
theorem dX3_ends_6 : decode cX3_ends 6 = .ok (.istore_n 2, 1) := dk_61 (dk_at dksX3_ends_0 6 rfl rfl)
theorem dX3_ends_7 : decode cX3_ends 7 = .ok (.iload_n 2, 1) := dk_28 (dk_at dksX3_ends_0 7 rfl rfl)
theorem dX3_ends_8 : decode cX3_ends 8 = .ok (.ifCond .ge 5, 3) := dk_156 0 5 (dk_at dksX3_ends_0 8 rfl rfl)
theorem dX3_ends_11 : decode cX3_ends 11 = .ok (.iconst 0, 1) := dk_3 (dk_at dksX3_ends_0 11 rfl rfl)
theorem dX3_ends_12 : decode cX3_ends 12 = .ok (.ireturn, 1) := dk_172 (dk_at dksX3_ends_0 12 rfl rfl)
theorem dX3_ends_13 : decode cX3_ends 13 = .ok (.aload_n 0, 1) := dk_42 (dk_at dksX3_ends_0 13 rfl rfl)
theorem dX3_ends_14 : decode cX3_ends 14 = .ok (.iload_n 1, 1) := dk_27 (dk_at dksX3_ends_0 14 rfl rfl)
theorem dX3_ends_15 : decode cX3_ends 15 = .ok (.iconst 0, 1) := dk_3 (dk_at dksX3_ends_0 15 rfl rfl)
theorem dX3_ends_16 : decode cX3_ends 16 = .ok (.invokevirtual 79, 3) := dk_182 0 79 (dk_at dksX3_ends_0 16 rfl rfl)
theorem dX3_ends_19 : decode cX3_ends 19 = .ok (.istore_n 3, 1) := dk_62 (dk_at dksX3_ends_0 19 rfl rfl)
theorem dX3_ends_20 : decode cX3_ends 20 = .ok (.aload_n 0, 1) := dk_42 (dk_at dksX3_ends_0 20 rfl rfl)
theorem dX3_ends_21 : decode cX3_ends 21 = .ok (.iload_n 2, 1) := dk_28 (dk_at dksX3_ends_0 21 rfl rfl)
theorem dX3_ends_22 : decode cX3_ends 22 = .ok (.iconst 2, 1) := dk_5 (dk_at dksX3_ends_0 22 rfl rfl)
theorem dX3_ends_23 : decode cX3_ends 23 = .ok (.invokevirtual 109, 3) := dk_182 0 109 (dk_at dksX3_ends_1 0 rfl rfl)
theorem dX3_ends_26 : decode cX3_ends 26 = .ok (.istore 4, 2) := dk_54 4 (dk_at dksX3_ends_1 3 rfl rfl)
theorem dX3_ends_28 : decode cX3_ends 28 = .ok (.iload 4, 2) := dk_21 4 (dk_at dksX3_ends_1 5 rfl rfl)
theorem dX3_ends_30 : decode cX3_ends 30 = .ok (.aload_n 0, 1) := dk_42 (dk_at dksX3_ends_1 7 rfl rfl)
theorem dX3_ends_31 : decode cX3_ends 31 = .ok (.iload_n 2, 1) := dk_28 (dk_at dksX3_ends_1 8 rfl rfl)
theorem dX3_ends_32 : decode cX3_ends 32 = .ok (.iconst 1, 1) := dk_4 (dk_at dksX3_ends_1 9 rfl rfl)
theorem dX3_ends_33 : decode cX3_ends 33 = .ok (.invokevirtual 109, 3) := dk_182 0 109 (dk_at dksX3_ends_1 10 rfl rfl)
theorem dX3_ends_36 : decode cX3_ends 36 = .ok (.if_icmp .ge 37, 3) := dk_162 0 37 (dk_at dksX3_ends_1 13 rfl rfl)
theorem dX3_ends_39 : decode cX3_ends 39 = .ok (.aload_n 0, 1) := dk_42 (dk_at dksX3_ends_1 16 rfl rfl)
theorem dX3_ends_40 : decode cX3_ends 40 = .ok (.getfield 9, 3) := dk_180 0 9 (dk_at dksX3_ends_1 17 rfl rfl)
theorem dX3_ends_43 : decode cX3_ends 43 = .ok (.iload_n 2, 1) := dk_28 (dk_at dksX3_ends_1 20 rfl rfl)
theorem dX3_ends_44 : decode cX3_ends 44 = .ok (.invokestatic 106, 3) := dk_184 0 106 (dk_at dksX3_ends_1 21 rfl rfl)
theorem dX3_ends_47 : decode cX3_ends 47 = .ok (.iconst 2, 1) := dk_5 (dk_at dksX3_ends_2 0 rfl rfl)
theorem dX3_ends_48 : decode cX3_ends 48 = .ok (.iadd, 1) := dk_96 (dk_at dksX3_ends_2 1 rfl rfl)
theorem dX3_ends_49 : decode cX3_ends 49 = .ok (.dup2, 1) := dk_92 (dk_at dksX3_ends_2 2 rfl rfl)
theorem dX3_ends_50 : decode cX3_ends 50 = .ok (.iaload, 1) := dk_46 (dk_at dksX3_ends_2 3 rfl rfl)
theorem dX3_ends_51 : decode cX3_ends 51 = .ok (.aload_n 0, 1) := dk_42 (dk_at dksX3_ends_2 4 rfl rfl)
theorem dX3_ends_52 : decode cX3_ends 52 = .ok (.iload_n 2, 1) := dk_28 (dk_at dksX3_ends_2 5 rfl rfl)
theorem dX3_ends_53 : decode cX3_ends 53 = .ok (.iconst 5, 1) := dk_8 (dk_at dksX3_ends_2 6 rfl rfl)
theorem dX3_ends_54 : decode cX3_ends 54 = .ok (.iload 4, 2) := dk_21 4 (dk_at dksX3_ends_2 7 rfl rfl)
theorem dX3_ends_56 : decode cX3_ends 56 = .ok (.iadd, 1) := dk_96 (dk_at dksX3_ends_2 9 rfl rfl)
theorem dX3_ends_57 : decode cX3_ends 57 = .ok (.invokevirtual 109, 3) := dk_182 0 109 (dk_at dksX3_ends_2 10 rfl rfl)
theorem dX3_ends_60 : decode cX3_ends 60 = .ok (.iload_n 3, 1) := dk_29 (dk_at dksX3_ends_2 13 rfl rfl)
theorem dX3_ends_61 : decode cX3_ends 61 = .ok (.if_icmp .ne 7, 3) := dk_160 0 7 (dk_at dksX3_ends_2 14 rfl rfl)
theorem dX3_ends_64 : decode cX3_ends 64 = .ok (.iconst 1, 1) := dk_4 (dk_at dksX3_ends_2 17 rfl rfl)
theorem dX3_ends_65 : decode cX3_ends 65 = .ok (.goto 4, 3) := dk_167 0 4 (dk_at dksX3_ends_2 18 rfl rfl)
theorem dX3_ends_68 : decode cX3_ends 68 = .ok (.iconst 0, 1) := dk_3 (dk_at dksX3_ends_2 21 rfl rfl)
theorem dX3_ends_69 : decode cX3_ends 69 = .ok (.iadd, 1) := dk_96 (dk_at dksX3_ends_2 22 rfl rfl)
theorem dX3_ends_70 : decode cX3_ends 70 = .ok (.iastore, 1) := dk_79 (dk_at dksX3_ends_2 23 rfl rfl)
theorem dX3_ends_71 : decode cX3_ends 71 = .ok (.iconst 0, 1) := dk_3 (dk_at dksX3_ends_3 0 rfl rfl)
theorem dX3_ends_72 : decode cX3_ends 72 = .ok (.ireturn, 1) := dk_172 (dk_at dksX3_ends_3 1 rfl rfl)
theorem dX3_ends_73 : decode cX3_ends 73 = .ok (.aload_n 0, 1) := dk_42 (dk_at dksX3_ends_3 2 rfl rfl)
theorem dX3_ends_74 : decode cX3_ends 74 = .ok (.getfield 9, 3) := dk_180 0 9 (dk_at dksX3_ends_3 3 rfl rfl)
theorem dX3_ends_77 : decode cX3_ends 77 = .ok (.bipush 8, 2) := dk_16 8 (dk_at dksX3_ends_3 6 rfl rfl)
theorem dX3_ends_79 : decode cX3_ends 79 = .ok (.iload_n 3, 1) := dk_29 (dk_at dksX3_ends_3 8 rfl rfl)
theorem dX3_ends_80 : decode cX3_ends 80 = .ok (.iadd, 1) := dk_96 (dk_at dksX3_ends_3 9 rfl rfl)
theorem dX3_ends_81 : decode cX3_ends 81 = .ok (.iaload, 1) := dk_46 (dk_at dksX3_ends_3 10 rfl rfl)
theorem dX3_ends_82 : decode cX3_ends 82 = .ok (.iconst 3, 1) := dk_6 (dk_at dksX3_ends_3 11 rfl rfl)
theorem dX3_ends_83 : decode cX3_ends 83 = .ok (.if_icmp .eq 5, 3) := dk_159 0 5 (dk_at dksX3_ends_3 12 rfl rfl)
theorem dX3_ends_86 : decode cX3_ends 86 = .ok (.iconst 0, 1) := dk_3 (dk_at dksX3_ends_3 15 rfl rfl)
theorem dX3_ends_87 : decode cX3_ends 87 = .ok (.ireturn, 1) := dk_172 (dk_at dksX3_ends_3 16 rfl rfl)
theorem dX3_ends_88 : decode cX3_ends 88 = .ok (.aload_n 0, 1) := dk_42 (dk_at dksX3_ends_3 17 rfl rfl)
theorem dX3_ends_89 : decode cX3_ends 89 = .ok (.getfield 9, 3) := dk_180 0 9 (dk_at dksX3_ends_3 18 rfl rfl)
theorem dX3_ends_92 : decode cX3_ends 92 = .ok (.iload_n 2, 1) := dk_28 (dk_at dksX3_ends_3 21 rfl rfl)
theorem dX3_ends_93 : decode cX3_ends 93 = .ok (.invokestatic 106, 3) := dk_184 0 106 (dk_at dksX3_ends_4 0 rfl rfl)
theorem dX3_ends_96 : decode cX3_ends 96 = .ok (.iconst 4, 1) := dk_7 (dk_at dksX3_ends_4 3 rfl rfl)
theorem dX3_ends_97 : decode cX3_ends 97 = .ok (.iadd, 1) := dk_96 (dk_at dksX3_ends_4 4 rfl rfl)
theorem dX3_ends_98 : decode cX3_ends 98 = .ok (.aload_n 0, 1) := dk_42 (dk_at dksX3_ends_4 5 rfl rfl)
theorem dX3_ends_99 : decode cX3_ends 99 = .ok (.getfield 9, 3) := dk_180 0 9 (dk_at dksX3_ends_4 6 rfl rfl)
theorem dX3_ends_102 : decode cX3_ends 102 = .ok (.iconst 2, 1) := dk_5 (dk_at dksX3_ends_4 9 rfl rfl)
theorem dX3_ends_103 : decode cX3_ends 103 = .ok (.iaload, 1) := dk_46 (dk_at dksX3_ends_4 10 rfl rfl)
theorem dX3_ends_104 : decode cX3_ends 104 = .ok (.iastore, 1) := dk_79 (dk_at dksX3_ends_4 11 rfl rfl)
theorem dX3_ends_105 : decode cX3_ends 105 = .ok (.aload_n 0, 1) := dk_42 (dk_at dksX3_ends_4 12 rfl rfl)
theorem dX3_ends_106 : decode cX3_ends 106 = .ok (.getfield 9, 3) := dk_180 0 9 (dk_at dksX3_ends_4 13 rfl rfl)
theorem dX3_ends_109 : decode cX3_ends 109 = .ok (.iload_n 2, 1) := dk_28 (dk_at dksX3_ends_4 16 rfl rfl)
theorem dX3_ends_110 : decode cX3_ends 110 = .ok (.invokestatic 106, 3) := dk_184 0 106 (dk_at dksX3_ends_4 17 rfl rfl)
theorem dX3_ends_113 : decode cX3_ends 113 = .ok (.iconst 3, 1) := dk_6 (dk_at dksX3_ends_4 20 rfl rfl)
theorem dX3_ends_114 : decode cX3_ends 114 = .ok (.iadd, 1) := dk_96 (dk_at dksX3_ends_4 21 rfl rfl)
theorem dX3_ends_115 : decode cX3_ends 115 = .ok (.iconst (-1), 1) := dk_2 (dk_at dksX3_ends_4 22 rfl rfl)
theorem dX3_ends_116 : decode cX3_ends 116 = .ok (.iastore, 1) := dk_79 (dk_at dksX3_ends_4 23 rfl rfl)
theorem dX3_ends_117 : decode cX3_ends 117 = .ok (.aload_n 0, 1) := dk_42 (dk_at dksX3_ends_5 0 rfl rfl)
theorem dX3_ends_118 : decode cX3_ends 118 = .ok (.getfield 9, 3) := dk_180 0 9 (dk_at dksX3_ends_5 1 rfl rfl)
theorem dX3_ends_121 : decode cX3_ends 121 = .ok (.iload_n 1, 1) := dk_27 (dk_at dksX3_ends_5 4 rfl rfl)
theorem dX3_ends_122 : decode cX3_ends 122 = .ok (.invokestatic 75, 3) := dk_184 0 75 (dk_at dksX3_ends_5 5 rfl rfl)
theorem dX3_ends_125 : decode cX3_ends 125 = .ok (.iconst 2, 1) := dk_5 (dk_at dksX3_ends_5 8 rfl rfl)
theorem dX3_ends_126 : decode cX3_ends 126 = .ok (.iadd, 1) := dk_96 (dk_at dksX3_ends_5 9 rfl rfl)
theorem dX3_ends_127 : decode cX3_ends 127 = .ok (.iconst (-1), 1) := dk_2 (dk_at dksX3_ends_5 10 rfl rfl)
theorem dX3_ends_128 : decode cX3_ends 128 = .ok (.iastore, 1) := dk_79 (dk_at dksX3_ends_5 11 rfl rfl)
theorem dX3_ends_129 : decode cX3_ends 129 = .ok (.iconst 1, 1) := dk_4 (dk_at dksX3_ends_5 12 rfl rfl)
theorem dX3_ends_130 : decode cX3_ends 130 = .ok (.ireturn, 1) := dk_172 (dk_at dksX3_ends_5 13 rfl rfl)
abbrev cX3_distance : ByteArray := prog_12_method_43_code
def yX3_distance : MethodName := ⟨RX3, "distance", "(II)I"⟩
def dkwX3_distance_2 : List UInt8 := [5, 167, 0, 4, 3, 181, 0, 49, 42, 180, 0, 49, 158, 0, 7, 3, 167, 0, 4, 29, 172]
abbrev dktX3_distance_2 : List UInt8 := dkwX3_distance_2 ++ []
def dkwX3_distance_1 : List UInt8 := [181, 0, 49, 42, 180, 0, 49, 158, 0, 5, 3, 172, 42, 27, 28, 182, 0, 165, 62, 42, 29, 156, 0, 7]
abbrev dktX3_distance_1 : List UInt8 := dkwX3_distance_1 ++ dktX3_distance_2
def dkwX3_distance_0 : List UInt8 := [42, 42, 27, 182, 0, 86, 153, 0, 15, 42, 28, 182, 0, 86, 153, 0, 7, 3, 167, 0, 4, 4]
abbrev dktX3_distance_0 : List UInt8 := dkwX3_distance_0 ++ dktX3_distance_1
theorem dksX3_distance_0 : cX3_distance.data.toList.drop 0 = dktX3_distance_0 := by decide +kernel
theorem dksX3_distance_1 : cX3_distance.data.toList.drop 22 = dktX3_distance_1 := dk_seg dksX3_distance_0 22 rfl rfl
theorem dksX3_distance_2 : cX3_distance.data.toList.drop 46 = dktX3_distance_2 := dk_seg dksX3_distance_1 24 rfl rfl
theorem dX3_distance_0 : decode cX3_distance 0 = .ok (.aload_n 0, 1) := dk_42 (dk_at dksX3_distance_0 0 rfl rfl)
theorem dX3_distance_1 : decode cX3_distance 1 = .ok (.aload_n 0, 1) := dk_42 (dk_at dksX3_distance_0 1 rfl rfl)
theorem dX3_distance_2 : decode cX3_distance 2 = .ok (.iload_n 1, 1) := dk_27 (dk_at dksX3_distance_0 2 rfl rfl)
theorem dX3_distance_3 : decode cX3_distance 3 = .ok (.invokevirtual 86, 3) := dk_182 0 86 (dk_at dksX3_distance_0 3 rfl rfl)
theorem dX3_distance_6 : decode cX3_distance 6 = .ok (.ifCond .eq 15, 3) := dk_153 0 15 (dk_at dksX3_distance_0 6 rfl rfl)
theorem dX3_distance_9 : decode cX3_distance 9 = .ok (.aload_n 0, 1) := dk_42 (dk_at dksX3_distance_0 9 rfl rfl)
theorem dX3_distance_10 : decode cX3_distance 10 = .ok (.iload_n 2, 1) := dk_28 (dk_at dksX3_distance_0 10 rfl rfl)
theorem dX3_distance_11 : decode cX3_distance 11 = .ok (.invokevirtual 86, 3) := dk_182 0 86 (dk_at dksX3_distance_0 11 rfl rfl)
theorem dX3_distance_14 : decode cX3_distance 14 = .ok (.ifCond .eq 7, 3) := dk_153 0 7 (dk_at dksX3_distance_0 14 rfl rfl)
theorem dX3_distance_17 : decode cX3_distance 17 = .ok (.iconst 0, 1) := dk_3 (dk_at dksX3_distance_0 17 rfl rfl)
theorem dX3_distance_18 : decode cX3_distance 18 = .ok (.goto 4, 3) := dk_167 0 4 (dk_at dksX3_distance_0 18 rfl rfl)
theorem dX3_distance_21 : decode cX3_distance 21 = .ok (.iconst 1, 1) := dk_4 (dk_at dksX3_distance_0 21 rfl rfl)
theorem dX3_distance_22 : decode cX3_distance 22 = .ok (.putfield 49, 3) := dk_181 0 49 (dk_at dksX3_distance_1 0 rfl rfl)
theorem dX3_distance_25 : decode cX3_distance 25 = .ok (.aload_n 0, 1) := dk_42 (dk_at dksX3_distance_1 3 rfl rfl)
theorem dX3_distance_26 : decode cX3_distance 26 = .ok (.getfield 49, 3) := dk_180 0 49 (dk_at dksX3_distance_1 4 rfl rfl)
theorem dX3_distance_29 : decode cX3_distance 29 = .ok (.ifCond .le 5, 3) := dk_158 0 5 (dk_at dksX3_distance_1 7 rfl rfl)
theorem dX3_distance_32 : decode cX3_distance 32 = .ok (.iconst 0, 1) := dk_3 (dk_at dksX3_distance_1 10 rfl rfl)
theorem dX3_distance_33 : decode cX3_distance 33 = .ok (.ireturn, 1) := dk_172 (dk_at dksX3_distance_1 11 rfl rfl)
theorem dX3_distance_34 : decode cX3_distance 34 = .ok (.aload_n 0, 1) := dk_42 (dk_at dksX3_distance_1 12 rfl rfl)
theorem dX3_distance_35 : decode cX3_distance 35 = .ok (.iload_n 1, 1) := dk_27 (dk_at dksX3_distance_1 13 rfl rfl)
theorem dX3_distance_36 : decode cX3_distance 36 = .ok (.iload_n 2, 1) := dk_28 (dk_at dksX3_distance_1 14 rfl rfl)
theorem dX3_distance_37 : decode cX3_distance 37 = .ok (.invokevirtual 165, 3) := dk_182 0 165 (dk_at dksX3_distance_1 15 rfl rfl)
theorem dX3_distance_40 : decode cX3_distance 40 = .ok (.istore_n 3, 1) := dk_62 (dk_at dksX3_distance_1 18 rfl rfl)
theorem dX3_distance_41 : decode cX3_distance 41 = .ok (.aload_n 0, 1) := dk_42 (dk_at dksX3_distance_1 19 rfl rfl)
theorem dX3_distance_42 : decode cX3_distance 42 = .ok (.iload_n 3, 1) := dk_29 (dk_at dksX3_distance_1 20 rfl rfl)
theorem dX3_distance_43 : decode cX3_distance 43 = .ok (.ifCond .ge 7, 3) := dk_156 0 7 (dk_at dksX3_distance_1 21 rfl rfl)
theorem dX3_distance_46 : decode cX3_distance 46 = .ok (.iconst 2, 1) := dk_5 (dk_at dksX3_distance_2 0 rfl rfl)
theorem dX3_distance_47 : decode cX3_distance 47 = .ok (.goto 4, 3) := dk_167 0 4 (dk_at dksX3_distance_2 1 rfl rfl)
theorem dX3_distance_50 : decode cX3_distance 50 = .ok (.iconst 0, 1) := dk_3 (dk_at dksX3_distance_2 4 rfl rfl)
theorem dX3_distance_51 : decode cX3_distance 51 = .ok (.putfield 49, 3) := dk_181 0 49 (dk_at dksX3_distance_2 5 rfl rfl)
theorem dX3_distance_54 : decode cX3_distance 54 = .ok (.aload_n 0, 1) := dk_42 (dk_at dksX3_distance_2 8 rfl rfl)
theorem dX3_distance_55 : decode cX3_distance 55 = .ok (.getfield 49, 3) := dk_180 0 49 (dk_at dksX3_distance_2 9 rfl rfl)
theorem dX3_distance_58 : decode cX3_distance 58 = .ok (.ifCond .le 7, 3) := dk_158 0 7 (dk_at dksX3_distance_2 12 rfl rfl)
theorem dX3_distance_61 : decode cX3_distance 61 = .ok (.iconst 0, 1) := dk_3 (dk_at dksX3_distance_2 15 rfl rfl)
theorem dX3_distance_62 : decode cX3_distance 62 = .ok (.goto 4, 3) := dk_167 0 4 (dk_at dksX3_distance_2 16 rfl rfl)
theorem dX3_distance_65 : decode cX3_distance 65 = .ok (.iload_n 3, 1) := dk_29 (dk_at dksX3_distance_2 19 rfl rfl)
theorem dX3_distance_66 : decode cX3_distance 66 = .ok (.ireturn, 1) := dk_172 (dk_at dksX3_distance_2 20 rfl rfl)
abbrev cX3_farOf : ByteArray := prog_12_method_42_code
def yX3_farOf : MethodName := ⟨RX3, "farOf", "(II)I"⟩
def dkwX3_farOf_0 : List UInt8 := [42, 27, 182, 0, 162, 42, 180, 0, 32, 28, 46, 172]
abbrev dktX3_farOf_0 : List UInt8 := dkwX3_farOf_0 ++ []
theorem dksX3_farOf_0 : cX3_farOf.data.toList.drop 0 = dktX3_farOf_0 := by decide +kernel
theorem dX3_farOf_0 : decode cX3_farOf 0 = .ok (.aload_n 0, 1) := dk_42 (dk_at dksX3_farOf_0 0 rfl rfl)
theorem dX3_farOf_1 : decode cX3_farOf 1 = .ok (.iload_n 1, 1) := dk_27 (dk_at dksX3_farOf_0 1 rfl rfl)
theorem dX3_farOf_2 : decode cX3_farOf 2 = .ok (.invokevirtual 162, 3) := dk_182 0 162 (dk_at dksX3_farOf_0 2 rfl rfl)
theorem dX3_farOf_5 : decode cX3_farOf 5 = .ok (.aload_n 0, 1) := dk_42 (dk_at dksX3_farOf_0 5 rfl rfl)
theorem dX3_farOf_6 : decode cX3_farOf 6 = .ok (.getfield 32, 3) := dk_180 0 32 (dk_at dksX3_farOf_0 6 rfl rfl)
theorem dX3_farOf_9 : decode cX3_farOf 9 = .ok (.iload_n 2, 1) := dk_28 (dk_at dksX3_farOf_0 9 rfl rfl)
theorem dX3_farOf_10 : decode cX3_farOf 10 = .ok (.iaload, 1) := dk_46 (dk_at dksX3_farOf_0 10 rfl rfl)
theorem dX3_farOf_11 : decode cX3_farOf 11 = .ok (.ireturn, 1) := dk_172 (dk_at dksX3_farOf_0 11 rfl rfl)
abbrev cX3_findFar : ByteArray := prog_12_method_41_code
def yX3_findFar : MethodName := ⟨RX3, "findFar", "(I)V"⟩
def dkwX3_findFar_5 : List UInt8 := [21, 5, 79, 132, 2, 1, 132, 4, 1, 167, 255, 178, 132, 3, 1, 167, 255, 164, 177]
abbrev dktX3_findFar_5 : List UInt8 := dkwX3_findFar_5 ++ []
def dkwX3_findFar_4 : List UInt8 := [180, 0, 32, 21, 5, 42, 180, 0, 32, 42, 180, 0, 35, 29, 46, 46, 4, 96, 79, 42, 180, 0, 35, 28]
abbrev dktX3_findFar_4 : List UInt8 := dkwX3_findFar_4 ++ dktX3_findFar_5
def dkwX3_findFar_3 : List UInt8 := [155, 0, 53, 42, 180, 0, 32, 21, 5, 46, 156, 0, 43, 42, 21, 5, 182, 0, 93, 153, 0, 34, 42]
abbrev dktX3_findFar_3 : List UInt8 := dkwX3_findFar_3 ++ dktX3_findFar_4
def dkwX3_findFar_2 : List UInt8 := [54, 4, 21, 4, 7, 162, 0, 78, 42, 42, 180, 0, 35, 29, 46, 21, 4, 182, 0, 124, 54, 5, 21, 5]
abbrev dktX3_findFar_2 : List UInt8 := dkwX3_findFar_2 ++ dktX3_findFar_3
def dkwX3_findFar_1 : List UInt8 := [180, 0, 32, 27, 3, 79, 42, 180, 0, 35, 3, 27, 79, 4, 61, 3, 62, 29, 28, 162, 0, 93, 3]
abbrev dktX3_findFar_1 : List UInt8 := dkwX3_findFar_1 ++ dktX3_findFar_2
def dkwX3_findFar_0 : List UInt8 := [3, 61, 28, 16, 48, 162, 0, 16, 42, 180, 0, 32, 28, 2, 79, 132, 2, 1, 167, 255, 240, 42]
abbrev dktX3_findFar_0 : List UInt8 := dkwX3_findFar_0 ++ dktX3_findFar_1
theorem dksX3_findFar_0 : cX3_findFar.data.toList.drop 0 = dktX3_findFar_0 := by decide +kernel
theorem dksX3_findFar_1 : cX3_findFar.data.toList.drop 22 = dktX3_findFar_1 := dk_seg dksX3_findFar_0 22 rfl rfl
theorem dksX3_findFar_2 : cX3_findFar.data.toList.drop 45 = dktX3_findFar_2 := dk_seg dksX3_findFar_1 23 rfl rfl
theorem dksX3_findFar_3 : cX3_findFar.data.toList.drop 69 = dktX3_findFar_3 := dk_seg dksX3_findFar_2 24 rfl rfl
theorem dksX3_findFar_4 : cX3_findFar.data.toList.drop 92 = dktX3_findFar_4 := dk_seg dksX3_findFar_3 23 rfl rfl
theorem dksX3_findFar_5 : cX3_findFar.data.toList.drop 116 = dktX3_findFar_5 := dk_seg dksX3_findFar_4 24 rfl rfl
theorem dX3_findFar_0 : decode cX3_findFar 0 = .ok (.iconst 0, 1) := dk_3 (dk_at dksX3_findFar_0 0 rfl rfl)
theorem dX3_findFar_1 : decode cX3_findFar 1 = .ok (.istore_n 2, 1) := dk_61 (dk_at dksX3_findFar_0 1 rfl rfl)
theorem dX3_findFar_2 : decode cX3_findFar 2 = .ok (.iload_n 2, 1) := dk_28 (dk_at dksX3_findFar_0 2 rfl rfl)
theorem dX3_findFar_3 : decode cX3_findFar 3 = .ok (.bipush 48, 2) := dk_16 48 (dk_at dksX3_findFar_0 3 rfl rfl)
theorem dX3_findFar_5 : decode cX3_findFar 5 = .ok (.if_icmp .ge 16, 3) := dk_162 0 16 (dk_at dksX3_findFar_0 5 rfl rfl)
theorem dX3_findFar_8 : decode cX3_findFar 8 = .ok (.aload_n 0, 1) := dk_42 (dk_at dksX3_findFar_0 8 rfl rfl)
theorem dX3_findFar_9 : decode cX3_findFar 9 = .ok (.getfield 32, 3) := dk_180 0 32 (dk_at dksX3_findFar_0 9 rfl rfl)
theorem dX3_findFar_12 : decode cX3_findFar 12 = .ok (.iload_n 2, 1) := dk_28 (dk_at dksX3_findFar_0 12 rfl rfl)
theorem dX3_findFar_13 : decode cX3_findFar 13 = .ok (.iconst (-1), 1) := dk_2 (dk_at dksX3_findFar_0 13 rfl rfl)
theorem dX3_findFar_14 : decode cX3_findFar 14 = .ok (.iastore, 1) := dk_79 (dk_at dksX3_findFar_0 14 rfl rfl)
theorem dX3_findFar_15 : decode cX3_findFar 15 = .ok (.iinc 2 1, 3) := dk_132 2 1 (dk_at dksX3_findFar_0 15 rfl rfl)
theorem dX3_findFar_18 : decode cX3_findFar 18 = .ok (.goto (-16), 3) := dk_167 255 240 (dk_at dksX3_findFar_0 18 rfl rfl)
theorem dX3_findFar_21 : decode cX3_findFar 21 = .ok (.aload_n 0, 1) := dk_42 (dk_at dksX3_findFar_0 21 rfl rfl)
theorem dX3_findFar_22 : decode cX3_findFar 22 = .ok (.getfield 32, 3) := dk_180 0 32 (dk_at dksX3_findFar_1 0 rfl rfl)
theorem dX3_findFar_25 : decode cX3_findFar 25 = .ok (.iload_n 1, 1) := dk_27 (dk_at dksX3_findFar_1 3 rfl rfl)
theorem dX3_findFar_26 : decode cX3_findFar 26 = .ok (.iconst 0, 1) := dk_3 (dk_at dksX3_findFar_1 4 rfl rfl)
theorem dX3_findFar_27 : decode cX3_findFar 27 = .ok (.iastore, 1) := dk_79 (dk_at dksX3_findFar_1 5 rfl rfl)
theorem dX3_findFar_28 : decode cX3_findFar 28 = .ok (.aload_n 0, 1) := dk_42 (dk_at dksX3_findFar_1 6 rfl rfl)
theorem dX3_findFar_29 : decode cX3_findFar 29 = .ok (.getfield 35, 3) := dk_180 0 35 (dk_at dksX3_findFar_1 7 rfl rfl)
theorem dX3_findFar_32 : decode cX3_findFar 32 = .ok (.iconst 0, 1) := dk_3 (dk_at dksX3_findFar_1 10 rfl rfl)
theorem dX3_findFar_33 : decode cX3_findFar 33 = .ok (.iload_n 1, 1) := dk_27 (dk_at dksX3_findFar_1 11 rfl rfl)
theorem dX3_findFar_34 : decode cX3_findFar 34 = .ok (.iastore, 1) := dk_79 (dk_at dksX3_findFar_1 12 rfl rfl)
theorem dX3_findFar_35 : decode cX3_findFar 35 = .ok (.iconst 1, 1) := dk_4 (dk_at dksX3_findFar_1 13 rfl rfl)
theorem dX3_findFar_36 : decode cX3_findFar 36 = .ok (.istore_n 2, 1) := dk_61 (dk_at dksX3_findFar_1 14 rfl rfl)
theorem dX3_findFar_37 : decode cX3_findFar 37 = .ok (.iconst 0, 1) := dk_3 (dk_at dksX3_findFar_1 15 rfl rfl)
theorem dX3_findFar_38 : decode cX3_findFar 38 = .ok (.istore_n 3, 1) := dk_62 (dk_at dksX3_findFar_1 16 rfl rfl)
theorem dX3_findFar_39 : decode cX3_findFar 39 = .ok (.iload_n 3, 1) := dk_29 (dk_at dksX3_findFar_1 17 rfl rfl)
theorem dX3_findFar_40 : decode cX3_findFar 40 = .ok (.iload_n 2, 1) := dk_28 (dk_at dksX3_findFar_1 18 rfl rfl)
theorem dX3_findFar_41 : decode cX3_findFar 41 = .ok (.if_icmp .ge 93, 3) := dk_162 0 93 (dk_at dksX3_findFar_1 19 rfl rfl)
theorem dX3_findFar_44 : decode cX3_findFar 44 = .ok (.iconst 0, 1) := dk_3 (dk_at dksX3_findFar_1 22 rfl rfl)
theorem dX3_findFar_45 : decode cX3_findFar 45 = .ok (.istore 4, 2) := dk_54 4 (dk_at dksX3_findFar_2 0 rfl rfl)
theorem dX3_findFar_47 : decode cX3_findFar 47 = .ok (.iload 4, 2) := dk_21 4 (dk_at dksX3_findFar_2 2 rfl rfl)
theorem dX3_findFar_49 : decode cX3_findFar 49 = .ok (.iconst 4, 1) := dk_7 (dk_at dksX3_findFar_2 4 rfl rfl)
theorem dX3_findFar_50 : decode cX3_findFar 50 = .ok (.if_icmp .ge 78, 3) := dk_162 0 78 (dk_at dksX3_findFar_2 5 rfl rfl)
theorem dX3_findFar_53 : decode cX3_findFar 53 = .ok (.aload_n 0, 1) := dk_42 (dk_at dksX3_findFar_2 8 rfl rfl)
theorem dX3_findFar_54 : decode cX3_findFar 54 = .ok (.aload_n 0, 1) := dk_42 (dk_at dksX3_findFar_2 9 rfl rfl)
theorem dX3_findFar_55 : decode cX3_findFar 55 = .ok (.getfield 35, 3) := dk_180 0 35 (dk_at dksX3_findFar_2 10 rfl rfl)
theorem dX3_findFar_58 : decode cX3_findFar 58 = .ok (.iload_n 3, 1) := dk_29 (dk_at dksX3_findFar_2 13 rfl rfl)
theorem dX3_findFar_59 : decode cX3_findFar 59 = .ok (.iaload, 1) := dk_46 (dk_at dksX3_findFar_2 14 rfl rfl)
theorem dX3_findFar_60 : decode cX3_findFar 60 = .ok (.iload 4, 2) := dk_21 4 (dk_at dksX3_findFar_2 15 rfl rfl)
theorem dX3_findFar_62 : decode cX3_findFar 62 = .ok (.invokevirtual 124, 3) := dk_182 0 124 (dk_at dksX3_findFar_2 17 rfl rfl)
theorem dX3_findFar_65 : decode cX3_findFar 65 = .ok (.istore 5, 2) := dk_54 5 (dk_at dksX3_findFar_2 20 rfl rfl)
theorem dX3_findFar_67 : decode cX3_findFar 67 = .ok (.iload 5, 2) := dk_21 5 (dk_at dksX3_findFar_2 22 rfl rfl)
theorem dX3_findFar_69 : decode cX3_findFar 69 = .ok (.ifCond .lt 53, 3) := dk_155 0 53 (dk_at dksX3_findFar_3 0 rfl rfl)
theorem dX3_findFar_72 : decode cX3_findFar 72 = .ok (.aload_n 0, 1) := dk_42 (dk_at dksX3_findFar_3 3 rfl rfl)
theorem dX3_findFar_73 : decode cX3_findFar 73 = .ok (.getfield 32, 3) := dk_180 0 32 (dk_at dksX3_findFar_3 4 rfl rfl)
theorem dX3_findFar_76 : decode cX3_findFar 76 = .ok (.iload 5, 2) := dk_21 5 (dk_at dksX3_findFar_3 7 rfl rfl)
theorem dX3_findFar_78 : decode cX3_findFar 78 = .ok (.iaload, 1) := dk_46 (dk_at dksX3_findFar_3 9 rfl rfl)
theorem dX3_findFar_79 : decode cX3_findFar 79 = .ok (.ifCond .ge 43, 3) := dk_156 0 43 (dk_at dksX3_findFar_3 10 rfl rfl)
theorem dX3_findFar_82 : decode cX3_findFar 82 = .ok (.aload_n 0, 1) := dk_42 (dk_at dksX3_findFar_3 13 rfl rfl)
theorem dX3_findFar_83 : decode cX3_findFar 83 = .ok (.iload 5, 2) := dk_21 5 (dk_at dksX3_findFar_3 14 rfl rfl)
theorem dX3_findFar_85 : decode cX3_findFar 85 = .ok (.invokevirtual 93, 3) := dk_182 0 93 (dk_at dksX3_findFar_3 16 rfl rfl)
theorem dX3_findFar_88 : decode cX3_findFar 88 = .ok (.ifCond .eq 34, 3) := dk_153 0 34 (dk_at dksX3_findFar_3 19 rfl rfl)
theorem dX3_findFar_91 : decode cX3_findFar 91 = .ok (.aload_n 0, 1) := dk_42 (dk_at dksX3_findFar_3 22 rfl rfl)
theorem dX3_findFar_92 : decode cX3_findFar 92 = .ok (.getfield 32, 3) := dk_180 0 32 (dk_at dksX3_findFar_4 0 rfl rfl)
theorem dX3_findFar_95 : decode cX3_findFar 95 = .ok (.iload 5, 2) := dk_21 5 (dk_at dksX3_findFar_4 3 rfl rfl)
theorem dX3_findFar_97 : decode cX3_findFar 97 = .ok (.aload_n 0, 1) := dk_42 (dk_at dksX3_findFar_4 5 rfl rfl)
theorem dX3_findFar_98 : decode cX3_findFar 98 = .ok (.getfield 32, 3) := dk_180 0 32 (dk_at dksX3_findFar_4 6 rfl rfl)
theorem dX3_findFar_101 : decode cX3_findFar 101 = .ok (.aload_n 0, 1) := dk_42 (dk_at dksX3_findFar_4 9 rfl rfl)
theorem dX3_findFar_102 : decode cX3_findFar 102 = .ok (.getfield 35, 3) := dk_180 0 35 (dk_at dksX3_findFar_4 10 rfl rfl)
theorem dX3_findFar_105 : decode cX3_findFar 105 = .ok (.iload_n 3, 1) := dk_29 (dk_at dksX3_findFar_4 13 rfl rfl)
theorem dX3_findFar_106 : decode cX3_findFar 106 = .ok (.iaload, 1) := dk_46 (dk_at dksX3_findFar_4 14 rfl rfl)
theorem dX3_findFar_107 : decode cX3_findFar 107 = .ok (.iaload, 1) := dk_46 (dk_at dksX3_findFar_4 15 rfl rfl)
theorem dX3_findFar_108 : decode cX3_findFar 108 = .ok (.iconst 1, 1) := dk_4 (dk_at dksX3_findFar_4 16 rfl rfl)
theorem dX3_findFar_109 : decode cX3_findFar 109 = .ok (.iadd, 1) := dk_96 (dk_at dksX3_findFar_4 17 rfl rfl)
theorem dX3_findFar_110 : decode cX3_findFar 110 = .ok (.iastore, 1) := dk_79 (dk_at dksX3_findFar_4 18 rfl rfl)
theorem dX3_findFar_111 : decode cX3_findFar 111 = .ok (.aload_n 0, 1) := dk_42 (dk_at dksX3_findFar_4 19 rfl rfl)
theorem dX3_findFar_112 : decode cX3_findFar 112 = .ok (.getfield 35, 3) := dk_180 0 35 (dk_at dksX3_findFar_4 20 rfl rfl)
theorem dX3_findFar_115 : decode cX3_findFar 115 = .ok (.iload_n 2, 1) := dk_28 (dk_at dksX3_findFar_4 23 rfl rfl)
theorem dX3_findFar_116 : decode cX3_findFar 116 = .ok (.iload 5, 2) := dk_21 5 (dk_at dksX3_findFar_5 0 rfl rfl)
theorem dX3_findFar_118 : decode cX3_findFar 118 = .ok (.iastore, 1) := dk_79 (dk_at dksX3_findFar_5 2 rfl rfl)
theorem dX3_findFar_119 : decode cX3_findFar 119 = .ok (.iinc 2 1, 3) := dk_132 2 1 (dk_at dksX3_findFar_5 3 rfl rfl)
theorem dX3_findFar_122 : decode cX3_findFar 122 = .ok (.iinc 4 1, 3) := dk_132 4 1 (dk_at dksX3_findFar_5 6 rfl rfl)
theorem dX3_findFar_125 : decode cX3_findFar 125 = .ok (.goto (-78), 3) := dk_167 255 178 (dk_at dksX3_findFar_5 9 rfl rfl)
theorem dX3_findFar_128 : decode cX3_findFar 128 = .ok (.iinc 3 1, 3) := dk_132 3 1 (dk_at dksX3_findFar_5 12 rfl rfl)
theorem dX3_findFar_131 : decode cX3_findFar 131 = .ok (.goto (-92), 3) := dk_167 255 164 (dk_at dksX3_findFar_5 15 rfl rfl)
theorem dX3_findFar_134 : decode cX3_findFar 134 = .ok (.return_, 1) := dk_177 (dk_at dksX3_findFar_5 18 rfl rfl)
abbrev cX3_distanceAgain : ByteArray := prog_12_method_44_code
def yX3_distanceAgain : MethodName := ⟨RX3, "distanceAgain", "(II)I"⟩
def dkwX3_distanceAgain_12 : List UInt8 := [181, 0, 49, 42, 180, 0, 49, 158, 0, 7, 3, 167, 0, 5, 21, 4, 172]
abbrev dktX3_distanceAgain_12 : List UInt8 := dkwX3_distanceAgain_12 ++ []
def dkwX3_distanceAgain_11 : List UInt8 := [16, 48, 27, 104, 28, 96, 46, 54, 4, 42, 21, 4, 17, 3, 232, 161, 0, 7, 5, 167, 0, 4, 3]
abbrev dktX3_distanceAgain_11 : List UInt8 := dkwX3_distanceAgain_11 ++ dktX3_distanceAgain_12
def dkwX3_distanceAgain_10 : List UInt8 := [79, 132, 6, 1, 167, 255, 187, 132, 5, 1, 167, 255, 172, 132, 4, 1, 167, 255, 157, 42, 180, 0, 38]
abbrev dktX3_distanceAgain_10 : List UInt8 := dkwX3_distanceAgain_10 ++ dktX3_distanceAgain_11
def dkwX3_distanceAgain_9 : List UInt8 := [21, 5, 104, 21, 6, 96, 42, 180, 0, 38, 16, 48, 21, 5, 104, 21, 6, 96, 46, 21, 7, 184, 0, 151]
abbrev dktX3_distanceAgain_9 : List UInt8 := dkwX3_distanceAgain_9 ++ dktX3_distanceAgain_10
def dkwX3_distanceAgain_8 : List UInt8 := [46, 42, 180, 0, 38, 16, 48, 21, 4, 104, 21, 6, 96, 46, 96, 54, 7, 42, 180, 0, 38, 16, 48]
abbrev dktX3_distanceAgain_8 : List UInt8 := dkwX3_distanceAgain_8 ++ dktX3_distanceAgain_9
def dkwX3_distanceAgain_7 : List UInt8 := [162, 0, 84, 3, 54, 6, 21, 6, 29, 162, 0, 69, 42, 180, 0, 38, 16, 48, 21, 5, 104, 21, 4, 96]
abbrev dktX3_distanceAgain_7 : List UInt8 := dkwX3_distanceAgain_7 ++ dktX3_distanceAgain_8
def dkwX3_distanceAgain_6 : List UInt8 := [167, 255, 209, 132, 4, 1, 167, 255, 152, 3, 54, 4, 21, 4, 29, 162, 0, 99, 3, 54, 5, 21, 5, 29]
abbrev dktX3_distanceAgain_6 : List UInt8 := dkwX3_distanceAgain_6 ++ dktX3_distanceAgain_7
def dkwX3_distanceAgain_5 : List UInt8 := [182, 0, 93, 153, 0, 17, 42, 180, 0, 38, 16, 48, 21, 4, 104, 21, 6, 96, 4, 79, 132, 5, 1]
abbrev dktX3_distanceAgain_5 : List UInt8 := dkwX3_distanceAgain_5 ++ dktX3_distanceAgain_6
def dkwX3_distanceAgain_4 : List UInt8 := [21, 5, 7, 162, 0, 47, 42, 21, 4, 21, 5, 182, 0, 124, 54, 6, 21, 6, 155, 0, 26, 42, 21, 6]
abbrev dktX3_distanceAgain_4 : List UInt8 := dkwX3_distanceAgain_4 ++ dktX3_distanceAgain_5
def dkwX3_distanceAgain_3 : List UInt8 := [21, 4, 21, 5, 160, 0, 7, 3, 167, 0, 6, 17, 3, 232, 79, 132, 5, 1, 167, 255, 220, 3, 54, 5]
abbrev dktX3_distanceAgain_3 : List UInt8 := dkwX3_distanceAgain_3 ++ dktX3_distanceAgain_4
def dkwX3_distanceAgain_2 : List UInt8 := [162, 0, 104, 3, 54, 5, 21, 5, 29, 162, 0, 36, 42, 180, 0, 38, 16, 48, 21, 4, 104, 21, 5, 96]
abbrev dktX3_distanceAgain_2 : List UInt8 := dkwX3_distanceAgain_2 ++ dktX3_distanceAgain_3
def dkwX3_distanceAgain_1 : List UInt8 := [181, 0, 49, 42, 180, 0, 49, 158, 0, 5, 3, 172, 42, 182, 0, 67, 62, 3, 54, 4, 21, 4, 29]
abbrev dktX3_distanceAgain_1 : List UInt8 := dkwX3_distanceAgain_1 ++ dktX3_distanceAgain_2
def dkwX3_distanceAgain_0 : List UInt8 := [42, 42, 27, 182, 0, 86, 153, 0, 15, 42, 28, 182, 0, 86, 153, 0, 7, 3, 167, 0, 4, 4]
abbrev dktX3_distanceAgain_0 : List UInt8 := dkwX3_distanceAgain_0 ++ dktX3_distanceAgain_1
theorem dksX3_distanceAgain_0 : cX3_distanceAgain.data.toList.drop 0 = dktX3_distanceAgain_0 := by decide +kernel
theorem dksX3_distanceAgain_1 : cX3_distanceAgain.data.toList.drop 22 = dktX3_distanceAgain_1 := dk_seg dksX3_distanceAgain_0 22 rfl rfl
theorem dksX3_distanceAgain_2 : cX3_distanceAgain.data.toList.drop 45 = dktX3_distanceAgain_2 := dk_seg dksX3_distanceAgain_1 23 rfl rfl
theorem dksX3_distanceAgain_3 : cX3_distanceAgain.data.toList.drop 69 = dktX3_distanceAgain_3 := dk_seg dksX3_distanceAgain_2 24 rfl rfl
theorem dksX3_distanceAgain_4 : cX3_distanceAgain.data.toList.drop 93 = dktX3_distanceAgain_4 := dk_seg dksX3_distanceAgain_3 24 rfl rfl
theorem dksX3_distanceAgain_5 : cX3_distanceAgain.data.toList.drop 117 = dktX3_distanceAgain_5 := dk_seg dksX3_distanceAgain_4 24 rfl rfl
theorem dksX3_distanceAgain_6 : cX3_distanceAgain.data.toList.drop 140 = dktX3_distanceAgain_6 := dk_seg dksX3_distanceAgain_5 23 rfl rfl
theorem dksX3_distanceAgain_7 : cX3_distanceAgain.data.toList.drop 164 = dktX3_distanceAgain_7 := dk_seg dksX3_distanceAgain_6 24 rfl rfl
theorem dksX3_distanceAgain_8 : cX3_distanceAgain.data.toList.drop 188 = dktX3_distanceAgain_8 := dk_seg dksX3_distanceAgain_7 24 rfl rfl
theorem dksX3_distanceAgain_9 : cX3_distanceAgain.data.toList.drop 211 = dktX3_distanceAgain_9 := dk_seg dksX3_distanceAgain_8 23 rfl rfl
theorem dksX3_distanceAgain_10 : cX3_distanceAgain.data.toList.drop 235 = dktX3_distanceAgain_10 := dk_seg dksX3_distanceAgain_9 24 rfl rfl
theorem dksX3_distanceAgain_11 : cX3_distanceAgain.data.toList.drop 258 = dktX3_distanceAgain_11 := dk_seg dksX3_distanceAgain_10 23 rfl rfl
theorem dksX3_distanceAgain_12 : cX3_distanceAgain.data.toList.drop 281 = dktX3_distanceAgain_12 := dk_seg dksX3_distanceAgain_11 23 rfl rfl
theorem dX3_distanceAgain_0 : decode cX3_distanceAgain 0 = .ok (.aload_n 0, 1) := dk_42 (dk_at dksX3_distanceAgain_0 0 rfl rfl)
theorem dX3_distanceAgain_1 : decode cX3_distanceAgain 1 = .ok (.aload_n 0, 1) := dk_42 (dk_at dksX3_distanceAgain_0 1 rfl rfl)
theorem dX3_distanceAgain_2 : decode cX3_distanceAgain 2 = .ok (.iload_n 1, 1) := dk_27 (dk_at dksX3_distanceAgain_0 2 rfl rfl)
theorem dX3_distanceAgain_3 : decode cX3_distanceAgain 3 = .ok (.invokevirtual 86, 3) := dk_182 0 86 (dk_at dksX3_distanceAgain_0 3 rfl rfl)
theorem dX3_distanceAgain_6 : decode cX3_distanceAgain 6 = .ok (.ifCond .eq 15, 3) := dk_153 0 15 (dk_at dksX3_distanceAgain_0 6 rfl rfl)
theorem dX3_distanceAgain_9 : decode cX3_distanceAgain 9 = .ok (.aload_n 0, 1) := dk_42 (dk_at dksX3_distanceAgain_0 9 rfl rfl)
theorem dX3_distanceAgain_10 : decode cX3_distanceAgain 10 = .ok (.iload_n 2, 1) := dk_28 (dk_at dksX3_distanceAgain_0 10 rfl rfl)
theorem dX3_distanceAgain_11 : decode cX3_distanceAgain 11 = .ok (.invokevirtual 86, 3) := dk_182 0 86 (dk_at dksX3_distanceAgain_0 11 rfl rfl)
theorem dX3_distanceAgain_14 : decode cX3_distanceAgain 14 = .ok (.ifCond .eq 7, 3) := dk_153 0 7 (dk_at dksX3_distanceAgain_0 14 rfl rfl)
theorem dX3_distanceAgain_17 : decode cX3_distanceAgain 17 = .ok (.iconst 0, 1) := dk_3 (dk_at dksX3_distanceAgain_0 17 rfl rfl)
theorem dX3_distanceAgain_18 : decode cX3_distanceAgain 18 = .ok (.goto 4, 3) := dk_167 0 4 (dk_at dksX3_distanceAgain_0 18 rfl rfl)
theorem dX3_distanceAgain_21 : decode cX3_distanceAgain 21 = .ok (.iconst 1, 1) := dk_4 (dk_at dksX3_distanceAgain_0 21 rfl rfl)
theorem dX3_distanceAgain_22 : decode cX3_distanceAgain 22 = .ok (.putfield 49, 3) := dk_181 0 49 (dk_at dksX3_distanceAgain_1 0 rfl rfl)
theorem dX3_distanceAgain_25 : decode cX3_distanceAgain 25 = .ok (.aload_n 0, 1) := dk_42 (dk_at dksX3_distanceAgain_1 3 rfl rfl)
theorem dX3_distanceAgain_26 : decode cX3_distanceAgain 26 = .ok (.getfield 49, 3) := dk_180 0 49 (dk_at dksX3_distanceAgain_1 4 rfl rfl)
theorem dX3_distanceAgain_29 : decode cX3_distanceAgain 29 = .ok (.ifCond .le 5, 3) := dk_158 0 5 (dk_at dksX3_distanceAgain_1 7 rfl rfl)
theorem dX3_distanceAgain_32 : decode cX3_distanceAgain 32 = .ok (.iconst 0, 1) := dk_3 (dk_at dksX3_distanceAgain_1 10 rfl rfl)
theorem dX3_distanceAgain_33 : decode cX3_distanceAgain 33 = .ok (.ireturn, 1) := dk_172 (dk_at dksX3_distanceAgain_1 11 rfl rfl)
theorem dX3_distanceAgain_34 : decode cX3_distanceAgain 34 = .ok (.aload_n 0, 1) := dk_42 (dk_at dksX3_distanceAgain_1 12 rfl rfl)
theorem dX3_distanceAgain_35 : decode cX3_distanceAgain 35 = .ok (.invokevirtual 67, 3) := dk_182 0 67 (dk_at dksX3_distanceAgain_1 13 rfl rfl)
theorem dX3_distanceAgain_38 : decode cX3_distanceAgain 38 = .ok (.istore_n 3, 1) := dk_62 (dk_at dksX3_distanceAgain_1 16 rfl rfl)
theorem dX3_distanceAgain_39 : decode cX3_distanceAgain 39 = .ok (.iconst 0, 1) := dk_3 (dk_at dksX3_distanceAgain_1 17 rfl rfl)
theorem dX3_distanceAgain_40 : decode cX3_distanceAgain 40 = .ok (.istore 4, 2) := dk_54 4 (dk_at dksX3_distanceAgain_1 18 rfl rfl)
theorem dX3_distanceAgain_42 : decode cX3_distanceAgain 42 = .ok (.iload 4, 2) := dk_21 4 (dk_at dksX3_distanceAgain_1 20 rfl rfl)
theorem dX3_distanceAgain_44 : decode cX3_distanceAgain 44 = .ok (.iload_n 3, 1) := dk_29 (dk_at dksX3_distanceAgain_1 22 rfl rfl)
theorem dX3_distanceAgain_45 : decode cX3_distanceAgain 45 = .ok (.if_icmp .ge 104, 3) := dk_162 0 104 (dk_at dksX3_distanceAgain_2 0 rfl rfl)
theorem dX3_distanceAgain_48 : decode cX3_distanceAgain 48 = .ok (.iconst 0, 1) := dk_3 (dk_at dksX3_distanceAgain_2 3 rfl rfl)
theorem dX3_distanceAgain_49 : decode cX3_distanceAgain 49 = .ok (.istore 5, 2) := dk_54 5 (dk_at dksX3_distanceAgain_2 4 rfl rfl)
theorem dX3_distanceAgain_51 : decode cX3_distanceAgain 51 = .ok (.iload 5, 2) := dk_21 5 (dk_at dksX3_distanceAgain_2 6 rfl rfl)
theorem dX3_distanceAgain_53 : decode cX3_distanceAgain 53 = .ok (.iload_n 3, 1) := dk_29 (dk_at dksX3_distanceAgain_2 8 rfl rfl)
theorem dX3_distanceAgain_54 : decode cX3_distanceAgain 54 = .ok (.if_icmp .ge 36, 3) := dk_162 0 36 (dk_at dksX3_distanceAgain_2 9 rfl rfl)
theorem dX3_distanceAgain_57 : decode cX3_distanceAgain 57 = .ok (.aload_n 0, 1) := dk_42 (dk_at dksX3_distanceAgain_2 12 rfl rfl)
theorem dX3_distanceAgain_58 : decode cX3_distanceAgain 58 = .ok (.getfield 38, 3) := dk_180 0 38 (dk_at dksX3_distanceAgain_2 13 rfl rfl)
theorem dX3_distanceAgain_61 : decode cX3_distanceAgain 61 = .ok (.bipush 48, 2) := dk_16 48 (dk_at dksX3_distanceAgain_2 16 rfl rfl)
theorem dX3_distanceAgain_63 : decode cX3_distanceAgain 63 = .ok (.iload 4, 2) := dk_21 4 (dk_at dksX3_distanceAgain_2 18 rfl rfl)
theorem dX3_distanceAgain_65 : decode cX3_distanceAgain 65 = .ok (.imul, 1) := dk_104 (dk_at dksX3_distanceAgain_2 20 rfl rfl)
theorem dX3_distanceAgain_66 : decode cX3_distanceAgain 66 = .ok (.iload 5, 2) := dk_21 5 (dk_at dksX3_distanceAgain_2 21 rfl rfl)
theorem dX3_distanceAgain_68 : decode cX3_distanceAgain 68 = .ok (.iadd, 1) := dk_96 (dk_at dksX3_distanceAgain_2 23 rfl rfl)
theorem dX3_distanceAgain_69 : decode cX3_distanceAgain 69 = .ok (.iload 4, 2) := dk_21 4 (dk_at dksX3_distanceAgain_3 0 rfl rfl)
theorem dX3_distanceAgain_71 : decode cX3_distanceAgain 71 = .ok (.iload 5, 2) := dk_21 5 (dk_at dksX3_distanceAgain_3 2 rfl rfl)
theorem dX3_distanceAgain_73 : decode cX3_distanceAgain 73 = .ok (.if_icmp .ne 7, 3) := dk_160 0 7 (dk_at dksX3_distanceAgain_3 4 rfl rfl)
theorem dX3_distanceAgain_76 : decode cX3_distanceAgain 76 = .ok (.iconst 0, 1) := dk_3 (dk_at dksX3_distanceAgain_3 7 rfl rfl)
theorem dX3_distanceAgain_77 : decode cX3_distanceAgain 77 = .ok (.goto 6, 3) := dk_167 0 6 (dk_at dksX3_distanceAgain_3 8 rfl rfl)
theorem dX3_distanceAgain_80 : decode cX3_distanceAgain 80 = .ok (.sipush 1000, 3) := dk_17 3 232 (dk_at dksX3_distanceAgain_3 11 rfl rfl)
theorem dX3_distanceAgain_83 : decode cX3_distanceAgain 83 = .ok (.iastore, 1) := dk_79 (dk_at dksX3_distanceAgain_3 14 rfl rfl)
theorem dX3_distanceAgain_84 : decode cX3_distanceAgain 84 = .ok (.iinc 5 1, 3) := dk_132 5 1 (dk_at dksX3_distanceAgain_3 15 rfl rfl)
theorem dX3_distanceAgain_87 : decode cX3_distanceAgain 87 = .ok (.goto (-36), 3) := dk_167 255 220 (dk_at dksX3_distanceAgain_3 18 rfl rfl)
theorem dX3_distanceAgain_90 : decode cX3_distanceAgain 90 = .ok (.iconst 0, 1) := dk_3 (dk_at dksX3_distanceAgain_3 21 rfl rfl)
theorem dX3_distanceAgain_91 : decode cX3_distanceAgain 91 = .ok (.istore 5, 2) := dk_54 5 (dk_at dksX3_distanceAgain_3 22 rfl rfl)
theorem dX3_distanceAgain_93 : decode cX3_distanceAgain 93 = .ok (.iload 5, 2) := dk_21 5 (dk_at dksX3_distanceAgain_4 0 rfl rfl)
theorem dX3_distanceAgain_95 : decode cX3_distanceAgain 95 = .ok (.iconst 4, 1) := dk_7 (dk_at dksX3_distanceAgain_4 2 rfl rfl)
theorem dX3_distanceAgain_96 : decode cX3_distanceAgain 96 = .ok (.if_icmp .ge 47, 3) := dk_162 0 47 (dk_at dksX3_distanceAgain_4 3 rfl rfl)
theorem dX3_distanceAgain_99 : decode cX3_distanceAgain 99 = .ok (.aload_n 0, 1) := dk_42 (dk_at dksX3_distanceAgain_4 6 rfl rfl)
theorem dX3_distanceAgain_100 : decode cX3_distanceAgain 100 = .ok (.iload 4, 2) := dk_21 4 (dk_at dksX3_distanceAgain_4 7 rfl rfl)
theorem dX3_distanceAgain_102 : decode cX3_distanceAgain 102 = .ok (.iload 5, 2) := dk_21 5 (dk_at dksX3_distanceAgain_4 9 rfl rfl)
theorem dX3_distanceAgain_104 : decode cX3_distanceAgain 104 = .ok (.invokevirtual 124, 3) := dk_182 0 124 (dk_at dksX3_distanceAgain_4 11 rfl rfl)
theorem dX3_distanceAgain_107 : decode cX3_distanceAgain 107 = .ok (.istore 6, 2) := dk_54 6 (dk_at dksX3_distanceAgain_4 14 rfl rfl)
theorem dX3_distanceAgain_109 : decode cX3_distanceAgain 109 = .ok (.iload 6, 2) := dk_21 6 (dk_at dksX3_distanceAgain_4 16 rfl rfl)
theorem dX3_distanceAgain_111 : decode cX3_distanceAgain 111 = .ok (.ifCond .lt 26, 3) := dk_155 0 26 (dk_at dksX3_distanceAgain_4 18 rfl rfl)
theorem dX3_distanceAgain_114 : decode cX3_distanceAgain 114 = .ok (.aload_n 0, 1) := dk_42 (dk_at dksX3_distanceAgain_4 21 rfl rfl)
theorem dX3_distanceAgain_115 : decode cX3_distanceAgain 115 = .ok (.iload 6, 2) := dk_21 6 (dk_at dksX3_distanceAgain_4 22 rfl rfl)
theorem dX3_distanceAgain_117 : decode cX3_distanceAgain 117 = .ok (.invokevirtual 93, 3) := dk_182 0 93 (dk_at dksX3_distanceAgain_5 0 rfl rfl)
theorem dX3_distanceAgain_120 : decode cX3_distanceAgain 120 = .ok (.ifCond .eq 17, 3) := dk_153 0 17 (dk_at dksX3_distanceAgain_5 3 rfl rfl)
theorem dX3_distanceAgain_123 : decode cX3_distanceAgain 123 = .ok (.aload_n 0, 1) := dk_42 (dk_at dksX3_distanceAgain_5 6 rfl rfl)
theorem dX3_distanceAgain_124 : decode cX3_distanceAgain 124 = .ok (.getfield 38, 3) := dk_180 0 38 (dk_at dksX3_distanceAgain_5 7 rfl rfl)
theorem dX3_distanceAgain_127 : decode cX3_distanceAgain 127 = .ok (.bipush 48, 2) := dk_16 48 (dk_at dksX3_distanceAgain_5 10 rfl rfl)
theorem dX3_distanceAgain_129 : decode cX3_distanceAgain 129 = .ok (.iload 4, 2) := dk_21 4 (dk_at dksX3_distanceAgain_5 12 rfl rfl)
theorem dX3_distanceAgain_131 : decode cX3_distanceAgain 131 = .ok (.imul, 1) := dk_104 (dk_at dksX3_distanceAgain_5 14 rfl rfl)
theorem dX3_distanceAgain_132 : decode cX3_distanceAgain 132 = .ok (.iload 6, 2) := dk_21 6 (dk_at dksX3_distanceAgain_5 15 rfl rfl)
theorem dX3_distanceAgain_134 : decode cX3_distanceAgain 134 = .ok (.iadd, 1) := dk_96 (dk_at dksX3_distanceAgain_5 17 rfl rfl)
theorem dX3_distanceAgain_135 : decode cX3_distanceAgain 135 = .ok (.iconst 1, 1) := dk_4 (dk_at dksX3_distanceAgain_5 18 rfl rfl)
theorem dX3_distanceAgain_136 : decode cX3_distanceAgain 136 = .ok (.iastore, 1) := dk_79 (dk_at dksX3_distanceAgain_5 19 rfl rfl)
theorem dX3_distanceAgain_137 : decode cX3_distanceAgain 137 = .ok (.iinc 5 1, 3) := dk_132 5 1 (dk_at dksX3_distanceAgain_5 20 rfl rfl)
theorem dX3_distanceAgain_140 : decode cX3_distanceAgain 140 = .ok (.goto (-47), 3) := dk_167 255 209 (dk_at dksX3_distanceAgain_6 0 rfl rfl)
theorem dX3_distanceAgain_143 : decode cX3_distanceAgain 143 = .ok (.iinc 4 1, 3) := dk_132 4 1 (dk_at dksX3_distanceAgain_6 3 rfl rfl)
theorem dX3_distanceAgain_146 : decode cX3_distanceAgain 146 = .ok (.goto (-104), 3) := dk_167 255 152 (dk_at dksX3_distanceAgain_6 6 rfl rfl)
theorem dX3_distanceAgain_149 : decode cX3_distanceAgain 149 = .ok (.iconst 0, 1) := dk_3 (dk_at dksX3_distanceAgain_6 9 rfl rfl)
theorem dX3_distanceAgain_150 : decode cX3_distanceAgain 150 = .ok (.istore 4, 2) := dk_54 4 (dk_at dksX3_distanceAgain_6 10 rfl rfl)
theorem dX3_distanceAgain_152 : decode cX3_distanceAgain 152 = .ok (.iload 4, 2) := dk_21 4 (dk_at dksX3_distanceAgain_6 12 rfl rfl)
theorem dX3_distanceAgain_154 : decode cX3_distanceAgain 154 = .ok (.iload_n 3, 1) := dk_29 (dk_at dksX3_distanceAgain_6 14 rfl rfl)
theorem dX3_distanceAgain_155 : decode cX3_distanceAgain 155 = .ok (.if_icmp .ge 99, 3) := dk_162 0 99 (dk_at dksX3_distanceAgain_6 15 rfl rfl)
theorem dX3_distanceAgain_158 : decode cX3_distanceAgain 158 = .ok (.iconst 0, 1) := dk_3 (dk_at dksX3_distanceAgain_6 18 rfl rfl)
theorem dX3_distanceAgain_159 : decode cX3_distanceAgain 159 = .ok (.istore 5, 2) := dk_54 5 (dk_at dksX3_distanceAgain_6 19 rfl rfl)
theorem dX3_distanceAgain_161 : decode cX3_distanceAgain 161 = .ok (.iload 5, 2) := dk_21 5 (dk_at dksX3_distanceAgain_6 21 rfl rfl)
theorem dX3_distanceAgain_163 : decode cX3_distanceAgain 163 = .ok (.iload_n 3, 1) := dk_29 (dk_at dksX3_distanceAgain_6 23 rfl rfl)
theorem dX3_distanceAgain_164 : decode cX3_distanceAgain 164 = .ok (.if_icmp .ge 84, 3) := dk_162 0 84 (dk_at dksX3_distanceAgain_7 0 rfl rfl)
theorem dX3_distanceAgain_167 : decode cX3_distanceAgain 167 = .ok (.iconst 0, 1) := dk_3 (dk_at dksX3_distanceAgain_7 3 rfl rfl)
theorem dX3_distanceAgain_168 : decode cX3_distanceAgain 168 = .ok (.istore 6, 2) := dk_54 6 (dk_at dksX3_distanceAgain_7 4 rfl rfl)
theorem dX3_distanceAgain_170 : decode cX3_distanceAgain 170 = .ok (.iload 6, 2) := dk_21 6 (dk_at dksX3_distanceAgain_7 6 rfl rfl)
theorem dX3_distanceAgain_172 : decode cX3_distanceAgain 172 = .ok (.iload_n 3, 1) := dk_29 (dk_at dksX3_distanceAgain_7 8 rfl rfl)
theorem dX3_distanceAgain_173 : decode cX3_distanceAgain 173 = .ok (.if_icmp .ge 69, 3) := dk_162 0 69 (dk_at dksX3_distanceAgain_7 9 rfl rfl)
theorem dX3_distanceAgain_176 : decode cX3_distanceAgain 176 = .ok (.aload_n 0, 1) := dk_42 (dk_at dksX3_distanceAgain_7 12 rfl rfl)
theorem dX3_distanceAgain_177 : decode cX3_distanceAgain 177 = .ok (.getfield 38, 3) := dk_180 0 38 (dk_at dksX3_distanceAgain_7 13 rfl rfl)
theorem dX3_distanceAgain_180 : decode cX3_distanceAgain 180 = .ok (.bipush 48, 2) := dk_16 48 (dk_at dksX3_distanceAgain_7 16 rfl rfl)
theorem dX3_distanceAgain_182 : decode cX3_distanceAgain 182 = .ok (.iload 5, 2) := dk_21 5 (dk_at dksX3_distanceAgain_7 18 rfl rfl)
theorem dX3_distanceAgain_184 : decode cX3_distanceAgain 184 = .ok (.imul, 1) := dk_104 (dk_at dksX3_distanceAgain_7 20 rfl rfl)
theorem dX3_distanceAgain_185 : decode cX3_distanceAgain 185 = .ok (.iload 4, 2) := dk_21 4 (dk_at dksX3_distanceAgain_7 21 rfl rfl)
theorem dX3_distanceAgain_187 : decode cX3_distanceAgain 187 = .ok (.iadd, 1) := dk_96 (dk_at dksX3_distanceAgain_7 23 rfl rfl)
theorem dX3_distanceAgain_188 : decode cX3_distanceAgain 188 = .ok (.iaload, 1) := dk_46 (dk_at dksX3_distanceAgain_8 0 rfl rfl)
theorem dX3_distanceAgain_189 : decode cX3_distanceAgain 189 = .ok (.aload_n 0, 1) := dk_42 (dk_at dksX3_distanceAgain_8 1 rfl rfl)
theorem dX3_distanceAgain_190 : decode cX3_distanceAgain 190 = .ok (.getfield 38, 3) := dk_180 0 38 (dk_at dksX3_distanceAgain_8 2 rfl rfl)
theorem dX3_distanceAgain_193 : decode cX3_distanceAgain 193 = .ok (.bipush 48, 2) := dk_16 48 (dk_at dksX3_distanceAgain_8 5 rfl rfl)
theorem dX3_distanceAgain_195 : decode cX3_distanceAgain 195 = .ok (.iload 4, 2) := dk_21 4 (dk_at dksX3_distanceAgain_8 7 rfl rfl)
theorem dX3_distanceAgain_197 : decode cX3_distanceAgain 197 = .ok (.imul, 1) := dk_104 (dk_at dksX3_distanceAgain_8 9 rfl rfl)
theorem dX3_distanceAgain_198 : decode cX3_distanceAgain 198 = .ok (.iload 6, 2) := dk_21 6 (dk_at dksX3_distanceAgain_8 10 rfl rfl)
theorem dX3_distanceAgain_200 : decode cX3_distanceAgain 200 = .ok (.iadd, 1) := dk_96 (dk_at dksX3_distanceAgain_8 12 rfl rfl)
theorem dX3_distanceAgain_201 : decode cX3_distanceAgain 201 = .ok (.iaload, 1) := dk_46 (dk_at dksX3_distanceAgain_8 13 rfl rfl)
theorem dX3_distanceAgain_202 : decode cX3_distanceAgain 202 = .ok (.iadd, 1) := dk_96 (dk_at dksX3_distanceAgain_8 14 rfl rfl)
theorem dX3_distanceAgain_203 : decode cX3_distanceAgain 203 = .ok (.istore 7, 2) := dk_54 7 (dk_at dksX3_distanceAgain_8 15 rfl rfl)
theorem dX3_distanceAgain_205 : decode cX3_distanceAgain 205 = .ok (.aload_n 0, 1) := dk_42 (dk_at dksX3_distanceAgain_8 17 rfl rfl)
theorem dX3_distanceAgain_206 : decode cX3_distanceAgain 206 = .ok (.getfield 38, 3) := dk_180 0 38 (dk_at dksX3_distanceAgain_8 18 rfl rfl)
theorem dX3_distanceAgain_209 : decode cX3_distanceAgain 209 = .ok (.bipush 48, 2) := dk_16 48 (dk_at dksX3_distanceAgain_8 21 rfl rfl)
theorem dX3_distanceAgain_211 : decode cX3_distanceAgain 211 = .ok (.iload 5, 2) := dk_21 5 (dk_at dksX3_distanceAgain_9 0 rfl rfl)
theorem dX3_distanceAgain_213 : decode cX3_distanceAgain 213 = .ok (.imul, 1) := dk_104 (dk_at dksX3_distanceAgain_9 2 rfl rfl)
theorem dX3_distanceAgain_214 : decode cX3_distanceAgain 214 = .ok (.iload 6, 2) := dk_21 6 (dk_at dksX3_distanceAgain_9 3 rfl rfl)
theorem dX3_distanceAgain_216 : decode cX3_distanceAgain 216 = .ok (.iadd, 1) := dk_96 (dk_at dksX3_distanceAgain_9 5 rfl rfl)
theorem dX3_distanceAgain_217 : decode cX3_distanceAgain 217 = .ok (.aload_n 0, 1) := dk_42 (dk_at dksX3_distanceAgain_9 6 rfl rfl)
theorem dX3_distanceAgain_218 : decode cX3_distanceAgain 218 = .ok (.getfield 38, 3) := dk_180 0 38 (dk_at dksX3_distanceAgain_9 7 rfl rfl)
theorem dX3_distanceAgain_221 : decode cX3_distanceAgain 221 = .ok (.bipush 48, 2) := dk_16 48 (dk_at dksX3_distanceAgain_9 10 rfl rfl)
theorem dX3_distanceAgain_223 : decode cX3_distanceAgain 223 = .ok (.iload 5, 2) := dk_21 5 (dk_at dksX3_distanceAgain_9 12 rfl rfl)
theorem dX3_distanceAgain_225 : decode cX3_distanceAgain 225 = .ok (.imul, 1) := dk_104 (dk_at dksX3_distanceAgain_9 14 rfl rfl)
theorem dX3_distanceAgain_226 : decode cX3_distanceAgain 226 = .ok (.iload 6, 2) := dk_21 6 (dk_at dksX3_distanceAgain_9 15 rfl rfl)
theorem dX3_distanceAgain_228 : decode cX3_distanceAgain 228 = .ok (.iadd, 1) := dk_96 (dk_at dksX3_distanceAgain_9 17 rfl rfl)
theorem dX3_distanceAgain_229 : decode cX3_distanceAgain 229 = .ok (.iaload, 1) := dk_46 (dk_at dksX3_distanceAgain_9 18 rfl rfl)
theorem dX3_distanceAgain_230 : decode cX3_distanceAgain 230 = .ok (.iload 7, 2) := dk_21 7 (dk_at dksX3_distanceAgain_9 19 rfl rfl)
theorem dX3_distanceAgain_232 : decode cX3_distanceAgain 232 = .ok (.invokestatic 151, 3) := dk_184 0 151 (dk_at dksX3_distanceAgain_9 21 rfl rfl)
theorem dX3_distanceAgain_235 : decode cX3_distanceAgain 235 = .ok (.iastore, 1) := dk_79 (dk_at dksX3_distanceAgain_10 0 rfl rfl)
theorem dX3_distanceAgain_236 : decode cX3_distanceAgain 236 = .ok (.iinc 6 1, 3) := dk_132 6 1 (dk_at dksX3_distanceAgain_10 1 rfl rfl)
theorem dX3_distanceAgain_239 : decode cX3_distanceAgain 239 = .ok (.goto (-69), 3) := dk_167 255 187 (dk_at dksX3_distanceAgain_10 4 rfl rfl)
theorem dX3_distanceAgain_242 : decode cX3_distanceAgain 242 = .ok (.iinc 5 1, 3) := dk_132 5 1 (dk_at dksX3_distanceAgain_10 7 rfl rfl)
theorem dX3_distanceAgain_245 : decode cX3_distanceAgain 245 = .ok (.goto (-84), 3) := dk_167 255 172 (dk_at dksX3_distanceAgain_10 10 rfl rfl)
theorem dX3_distanceAgain_248 : decode cX3_distanceAgain 248 = .ok (.iinc 4 1, 3) := dk_132 4 1 (dk_at dksX3_distanceAgain_10 13 rfl rfl)
theorem dX3_distanceAgain_251 : decode cX3_distanceAgain 251 = .ok (.goto (-99), 3) := dk_167 255 157 (dk_at dksX3_distanceAgain_10 16 rfl rfl)
theorem dX3_distanceAgain_254 : decode cX3_distanceAgain 254 = .ok (.aload_n 0, 1) := dk_42 (dk_at dksX3_distanceAgain_10 19 rfl rfl)
theorem dX3_distanceAgain_255 : decode cX3_distanceAgain 255 = .ok (.getfield 38, 3) := dk_180 0 38 (dk_at dksX3_distanceAgain_10 20 rfl rfl)
theorem dX3_distanceAgain_258 : decode cX3_distanceAgain 258 = .ok (.bipush 48, 2) := dk_16 48 (dk_at dksX3_distanceAgain_11 0 rfl rfl)
theorem dX3_distanceAgain_260 : decode cX3_distanceAgain 260 = .ok (.iload_n 1, 1) := dk_27 (dk_at dksX3_distanceAgain_11 2 rfl rfl)
theorem dX3_distanceAgain_261 : decode cX3_distanceAgain 261 = .ok (.imul, 1) := dk_104 (dk_at dksX3_distanceAgain_11 3 rfl rfl)
theorem dX3_distanceAgain_262 : decode cX3_distanceAgain 262 = .ok (.iload_n 2, 1) := dk_28 (dk_at dksX3_distanceAgain_11 4 rfl rfl)
theorem dX3_distanceAgain_263 : decode cX3_distanceAgain 263 = .ok (.iadd, 1) := dk_96 (dk_at dksX3_distanceAgain_11 5 rfl rfl)
theorem dX3_distanceAgain_264 : decode cX3_distanceAgain 264 = .ok (.iaload, 1) := dk_46 (dk_at dksX3_distanceAgain_11 6 rfl rfl)
theorem dX3_distanceAgain_265 : decode cX3_distanceAgain 265 = .ok (.istore 4, 2) := dk_54 4 (dk_at dksX3_distanceAgain_11 7 rfl rfl)
theorem dX3_distanceAgain_267 : decode cX3_distanceAgain 267 = .ok (.aload_n 0, 1) := dk_42 (dk_at dksX3_distanceAgain_11 9 rfl rfl)
theorem dX3_distanceAgain_268 : decode cX3_distanceAgain 268 = .ok (.iload 4, 2) := dk_21 4 (dk_at dksX3_distanceAgain_11 10 rfl rfl)
theorem dX3_distanceAgain_270 : decode cX3_distanceAgain 270 = .ok (.sipush 1000, 3) := dk_17 3 232 (dk_at dksX3_distanceAgain_11 12 rfl rfl)
theorem dX3_distanceAgain_273 : decode cX3_distanceAgain 273 = .ok (.if_icmp .lt 7, 3) := dk_161 0 7 (dk_at dksX3_distanceAgain_11 15 rfl rfl)
theorem dX3_distanceAgain_276 : decode cX3_distanceAgain 276 = .ok (.iconst 2, 1) := dk_5 (dk_at dksX3_distanceAgain_11 18 rfl rfl)
theorem dX3_distanceAgain_277 : decode cX3_distanceAgain 277 = .ok (.goto 4, 3) := dk_167 0 4 (dk_at dksX3_distanceAgain_11 19 rfl rfl)
theorem dX3_distanceAgain_280 : decode cX3_distanceAgain 280 = .ok (.iconst 0, 1) := dk_3 (dk_at dksX3_distanceAgain_11 22 rfl rfl)
theorem dX3_distanceAgain_281 : decode cX3_distanceAgain 281 = .ok (.putfield 49, 3) := dk_181 0 49 (dk_at dksX3_distanceAgain_12 0 rfl rfl)
theorem dX3_distanceAgain_284 : decode cX3_distanceAgain 284 = .ok (.aload_n 0, 1) := dk_42 (dk_at dksX3_distanceAgain_12 3 rfl rfl)
theorem dX3_distanceAgain_285 : decode cX3_distanceAgain 285 = .ok (.getfield 49, 3) := dk_180 0 49 (dk_at dksX3_distanceAgain_12 4 rfl rfl)
theorem dX3_distanceAgain_288 : decode cX3_distanceAgain 288 = .ok (.ifCond .le 7, 3) := dk_158 0 7 (dk_at dksX3_distanceAgain_12 7 rfl rfl)
theorem dX3_distanceAgain_291 : decode cX3_distanceAgain 291 = .ok (.iconst 0, 1) := dk_3 (dk_at dksX3_distanceAgain_12 10 rfl rfl)
theorem dX3_distanceAgain_292 : decode cX3_distanceAgain 292 = .ok (.goto 5, 3) := dk_167 0 5 (dk_at dksX3_distanceAgain_12 11 rfl rfl)
theorem dX3_distanceAgain_295 : decode cX3_distanceAgain 295 = .ok (.iload 4, 2) := dk_21 4 (dk_at dksX3_distanceAgain_12 14 rfl rfl)
theorem dX3_distanceAgain_297 : decode cX3_distanceAgain 297 = .ok (.ireturn, 1) := dk_172 (dk_at dksX3_distanceAgain_12 16 rfl rfl)
abbrev cX3_reach : ByteArray := prog_12_method_45_code
def yX3_reach : MethodName := ⟨RX3, "reach", "(I)I"⟩
def dkwX3_reach_2 : List UInt8 := [29, 46, 155, 0, 7, 4, 167, 0, 4, 3, 96, 61, 132, 3, 1, 167, 255, 228, 28, 172]
abbrev dktX3_reach_2 : List UInt8 := dkwX3_reach_2 ++ []
def dkwX3_reach_1 : List UInt8 := [3, 172, 42, 27, 182, 0, 162, 3, 61, 3, 62, 29, 42, 182, 0, 67, 162, 0, 26, 28, 42, 180, 0, 32]
abbrev dktX3_reach_1 : List UInt8 := dkwX3_reach_1 ++ dktX3_reach_2
def dkwX3_reach_0 : List UInt8 := [42, 42, 27, 182, 0, 86, 153, 0, 7, 3, 167, 0, 4, 4, 181, 0, 49, 42, 180, 0, 49, 158, 0, 5]
abbrev dktX3_reach_0 : List UInt8 := dkwX3_reach_0 ++ dktX3_reach_1
theorem dksX3_reach_0 : cX3_reach.data.toList.drop 0 = dktX3_reach_0 := by decide +kernel
theorem dksX3_reach_1 : cX3_reach.data.toList.drop 24 = dktX3_reach_1 := dk_seg dksX3_reach_0 24 rfl rfl
theorem dksX3_reach_2 : cX3_reach.data.toList.drop 48 = dktX3_reach_2 := dk_seg dksX3_reach_1 24 rfl rfl
theorem dX3_reach_0 : decode cX3_reach 0 = .ok (.aload_n 0, 1) := dk_42 (dk_at dksX3_reach_0 0 rfl rfl)
theorem dX3_reach_1 : decode cX3_reach 1 = .ok (.aload_n 0, 1) := dk_42 (dk_at dksX3_reach_0 1 rfl rfl)
theorem dX3_reach_2 : decode cX3_reach 2 = .ok (.iload_n 1, 1) := dk_27 (dk_at dksX3_reach_0 2 rfl rfl)
theorem dX3_reach_3 : decode cX3_reach 3 = .ok (.invokevirtual 86, 3) := dk_182 0 86 (dk_at dksX3_reach_0 3 rfl rfl)
theorem dX3_reach_6 : decode cX3_reach 6 = .ok (.ifCond .eq 7, 3) := dk_153 0 7 (dk_at dksX3_reach_0 6 rfl rfl)
theorem dX3_reach_9 : decode cX3_reach 9 = .ok (.iconst 0, 1) := dk_3 (dk_at dksX3_reach_0 9 rfl rfl)
theorem dX3_reach_10 : decode cX3_reach 10 = .ok (.goto 4, 3) := dk_167 0 4 (dk_at dksX3_reach_0 10 rfl rfl)
theorem dX3_reach_13 : decode cX3_reach 13 = .ok (.iconst 1, 1) := dk_4 (dk_at dksX3_reach_0 13 rfl rfl)
theorem dX3_reach_14 : decode cX3_reach 14 = .ok (.putfield 49, 3) := dk_181 0 49 (dk_at dksX3_reach_0 14 rfl rfl)
theorem dX3_reach_17 : decode cX3_reach 17 = .ok (.aload_n 0, 1) := dk_42 (dk_at dksX3_reach_0 17 rfl rfl)
theorem dX3_reach_18 : decode cX3_reach 18 = .ok (.getfield 49, 3) := dk_180 0 49 (dk_at dksX3_reach_0 18 rfl rfl)
theorem dX3_reach_21 : decode cX3_reach 21 = .ok (.ifCond .le 5, 3) := dk_158 0 5 (dk_at dksX3_reach_0 21 rfl rfl)
theorem dX3_reach_24 : decode cX3_reach 24 = .ok (.iconst 0, 1) := dk_3 (dk_at dksX3_reach_1 0 rfl rfl)
theorem dX3_reach_25 : decode cX3_reach 25 = .ok (.ireturn, 1) := dk_172 (dk_at dksX3_reach_1 1 rfl rfl)
theorem dX3_reach_26 : decode cX3_reach 26 = .ok (.aload_n 0, 1) := dk_42 (dk_at dksX3_reach_1 2 rfl rfl)
theorem dX3_reach_27 : decode cX3_reach 27 = .ok (.iload_n 1, 1) := dk_27 (dk_at dksX3_reach_1 3 rfl rfl)
theorem dX3_reach_28 : decode cX3_reach 28 = .ok (.invokevirtual 162, 3) := dk_182 0 162 (dk_at dksX3_reach_1 4 rfl rfl)
theorem dX3_reach_31 : decode cX3_reach 31 = .ok (.iconst 0, 1) := dk_3 (dk_at dksX3_reach_1 7 rfl rfl)
theorem dX3_reach_32 : decode cX3_reach 32 = .ok (.istore_n 2, 1) := dk_61 (dk_at dksX3_reach_1 8 rfl rfl)
theorem dX3_reach_33 : decode cX3_reach 33 = .ok (.iconst 0, 1) := dk_3 (dk_at dksX3_reach_1 9 rfl rfl)
theorem dX3_reach_34 : decode cX3_reach 34 = .ok (.istore_n 3, 1) := dk_62 (dk_at dksX3_reach_1 10 rfl rfl)
theorem dX3_reach_35 : decode cX3_reach 35 = .ok (.iload_n 3, 1) := dk_29 (dk_at dksX3_reach_1 11 rfl rfl)
theorem dX3_reach_36 : decode cX3_reach 36 = .ok (.aload_n 0, 1) := dk_42 (dk_at dksX3_reach_1 12 rfl rfl)
theorem dX3_reach_37 : decode cX3_reach 37 = .ok (.invokevirtual 67, 3) := dk_182 0 67 (dk_at dksX3_reach_1 13 rfl rfl)
theorem dX3_reach_40 : decode cX3_reach 40 = .ok (.if_icmp .ge 26, 3) := dk_162 0 26 (dk_at dksX3_reach_1 16 rfl rfl)
theorem dX3_reach_43 : decode cX3_reach 43 = .ok (.iload_n 2, 1) := dk_28 (dk_at dksX3_reach_1 19 rfl rfl)
theorem dX3_reach_44 : decode cX3_reach 44 = .ok (.aload_n 0, 1) := dk_42 (dk_at dksX3_reach_1 20 rfl rfl)
theorem dX3_reach_45 : decode cX3_reach 45 = .ok (.getfield 32, 3) := dk_180 0 32 (dk_at dksX3_reach_1 21 rfl rfl)
theorem dX3_reach_48 : decode cX3_reach 48 = .ok (.iload_n 3, 1) := dk_29 (dk_at dksX3_reach_2 0 rfl rfl)
theorem dX3_reach_49 : decode cX3_reach 49 = .ok (.iaload, 1) := dk_46 (dk_at dksX3_reach_2 1 rfl rfl)
theorem dX3_reach_50 : decode cX3_reach 50 = .ok (.ifCond .lt 7, 3) := dk_155 0 7 (dk_at dksX3_reach_2 2 rfl rfl)
theorem dX3_reach_53 : decode cX3_reach 53 = .ok (.iconst 1, 1) := dk_4 (dk_at dksX3_reach_2 5 rfl rfl)
theorem dX3_reach_54 : decode cX3_reach 54 = .ok (.goto 4, 3) := dk_167 0 4 (dk_at dksX3_reach_2 6 rfl rfl)
theorem dX3_reach_57 : decode cX3_reach 57 = .ok (.iconst 0, 1) := dk_3 (dk_at dksX3_reach_2 9 rfl rfl)
theorem dX3_reach_58 : decode cX3_reach 58 = .ok (.iadd, 1) := dk_96 (dk_at dksX3_reach_2 10 rfl rfl)
theorem dX3_reach_59 : decode cX3_reach 59 = .ok (.istore_n 2, 1) := dk_61 (dk_at dksX3_reach_2 11 rfl rfl)
theorem dX3_reach_60 : decode cX3_reach 60 = .ok (.iinc 3 1, 3) := dk_132 3 1 (dk_at dksX3_reach_2 12 rfl rfl)
theorem dX3_reach_63 : decode cX3_reach 63 = .ok (.goto (-28), 3) := dk_167 255 228 (dk_at dksX3_reach_2 15 rfl rfl)
theorem dX3_reach_66 : decode cX3_reach 66 = .ok (.iload_n 2, 1) := dk_28 (dk_at dksX3_reach_2 18 rfl rfl)
theorem dX3_reach_67 : decode cX3_reach 67 = .ok (.ireturn, 1) := dk_172 (dk_at dksX3_reach_2 19 rfl rfl)
abbrev cX3_farthest : ByteArray := prog_12_method_46_code
def yX3_farthest : MethodName := ⟨RX3, "farthest", "(I)I"⟩
def dkwX3_farthest_3 : List UInt8 := [172]
abbrev dktX3_farthest_3 : List UInt8 := dkwX3_farthest_3 ++ []
def dkwX3_farthest_2 : List UInt8 := [29, 46, 42, 180, 0, 32, 28, 46, 161, 0, 7, 29, 167, 0, 4, 28, 61, 132, 3, 255, 167, 255, 228, 28]
abbrev dktX3_farthest_2 : List UInt8 := dkwX3_farthest_2 ++ dktX3_farthest_3
def dkwX3_farthest_1 : List UInt8 := [3, 172, 42, 27, 182, 0, 162, 27, 61, 42, 182, 0, 67, 4, 100, 62, 29, 155, 0, 30, 42, 180, 0, 32]
abbrev dktX3_farthest_1 : List UInt8 := dkwX3_farthest_1 ++ dktX3_farthest_2
def dkwX3_farthest_0 : List UInt8 := [42, 42, 27, 182, 0, 86, 153, 0, 7, 3, 167, 0, 4, 4, 181, 0, 49, 42, 180, 0, 49, 158, 0, 5]
abbrev dktX3_farthest_0 : List UInt8 := dkwX3_farthest_0 ++ dktX3_farthest_1
theorem dksX3_farthest_0 : cX3_farthest.data.toList.drop 0 = dktX3_farthest_0 := by decide +kernel
theorem dksX3_farthest_1 : cX3_farthest.data.toList.drop 24 = dktX3_farthest_1 := dk_seg dksX3_farthest_0 24 rfl rfl
theorem dksX3_farthest_2 : cX3_farthest.data.toList.drop 48 = dktX3_farthest_2 := dk_seg dksX3_farthest_1 24 rfl rfl
theorem dksX3_farthest_3 : cX3_farthest.data.toList.drop 72 = dktX3_farthest_3 := dk_seg dksX3_farthest_2 24 rfl rfl
theorem dX3_farthest_0 : decode cX3_farthest 0 = .ok (.aload_n 0, 1) := dk_42 (dk_at dksX3_farthest_0 0 rfl rfl)
theorem dX3_farthest_1 : decode cX3_farthest 1 = .ok (.aload_n 0, 1) := dk_42 (dk_at dksX3_farthest_0 1 rfl rfl)
theorem dX3_farthest_2 : decode cX3_farthest 2 = .ok (.iload_n 1, 1) := dk_27 (dk_at dksX3_farthest_0 2 rfl rfl)
theorem dX3_farthest_3 : decode cX3_farthest 3 = .ok (.invokevirtual 86, 3) := dk_182 0 86 (dk_at dksX3_farthest_0 3 rfl rfl)
theorem dX3_farthest_6 : decode cX3_farthest 6 = .ok (.ifCond .eq 7, 3) := dk_153 0 7 (dk_at dksX3_farthest_0 6 rfl rfl)
theorem dX3_farthest_9 : decode cX3_farthest 9 = .ok (.iconst 0, 1) := dk_3 (dk_at dksX3_farthest_0 9 rfl rfl)
theorem dX3_farthest_10 : decode cX3_farthest 10 = .ok (.goto 4, 3) := dk_167 0 4 (dk_at dksX3_farthest_0 10 rfl rfl)
theorem dX3_farthest_13 : decode cX3_farthest 13 = .ok (.iconst 1, 1) := dk_4 (dk_at dksX3_farthest_0 13 rfl rfl)
theorem dX3_farthest_14 : decode cX3_farthest 14 = .ok (.putfield 49, 3) := dk_181 0 49 (dk_at dksX3_farthest_0 14 rfl rfl)
theorem dX3_farthest_17 : decode cX3_farthest 17 = .ok (.aload_n 0, 1) := dk_42 (dk_at dksX3_farthest_0 17 rfl rfl)
theorem dX3_farthest_18 : decode cX3_farthest 18 = .ok (.getfield 49, 3) := dk_180 0 49 (dk_at dksX3_farthest_0 18 rfl rfl)
theorem dX3_farthest_21 : decode cX3_farthest 21 = .ok (.ifCond .le 5, 3) := dk_158 0 5 (dk_at dksX3_farthest_0 21 rfl rfl)
theorem dX3_farthest_24 : decode cX3_farthest 24 = .ok (.iconst 0, 1) := dk_3 (dk_at dksX3_farthest_1 0 rfl rfl)
theorem dX3_farthest_25 : decode cX3_farthest 25 = .ok (.ireturn, 1) := dk_172 (dk_at dksX3_farthest_1 1 rfl rfl)
theorem dX3_farthest_26 : decode cX3_farthest 26 = .ok (.aload_n 0, 1) := dk_42 (dk_at dksX3_farthest_1 2 rfl rfl)
theorem dX3_farthest_27 : decode cX3_farthest 27 = .ok (.iload_n 1, 1) := dk_27 (dk_at dksX3_farthest_1 3 rfl rfl)
theorem dX3_farthest_28 : decode cX3_farthest 28 = .ok (.invokevirtual 162, 3) := dk_182 0 162 (dk_at dksX3_farthest_1 4 rfl rfl)
theorem dX3_farthest_31 : decode cX3_farthest 31 = .ok (.iload_n 1, 1) := dk_27 (dk_at dksX3_farthest_1 7 rfl rfl)
theorem dX3_farthest_32 : decode cX3_farthest 32 = .ok (.istore_n 2, 1) := dk_61 (dk_at dksX3_farthest_1 8 rfl rfl)
theorem dX3_farthest_33 : decode cX3_farthest 33 = .ok (.aload_n 0, 1) := dk_42 (dk_at dksX3_farthest_1 9 rfl rfl)
theorem dX3_farthest_34 : decode cX3_farthest 34 = .ok (.invokevirtual 67, 3) := dk_182 0 67 (dk_at dksX3_farthest_1 10 rfl rfl)
theorem dX3_farthest_37 : decode cX3_farthest 37 = .ok (.iconst 1, 1) := dk_4 (dk_at dksX3_farthest_1 13 rfl rfl)
theorem dX3_farthest_38 : decode cX3_farthest 38 = .ok (.isub, 1) := dk_100 (dk_at dksX3_farthest_1 14 rfl rfl)
theorem dX3_farthest_39 : decode cX3_farthest 39 = .ok (.istore_n 3, 1) := dk_62 (dk_at dksX3_farthest_1 15 rfl rfl)
theorem dX3_farthest_40 : decode cX3_farthest 40 = .ok (.iload_n 3, 1) := dk_29 (dk_at dksX3_farthest_1 16 rfl rfl)
theorem dX3_farthest_41 : decode cX3_farthest 41 = .ok (.ifCond .lt 30, 3) := dk_155 0 30 (dk_at dksX3_farthest_1 17 rfl rfl)
theorem dX3_farthest_44 : decode cX3_farthest 44 = .ok (.aload_n 0, 1) := dk_42 (dk_at dksX3_farthest_1 20 rfl rfl)
theorem dX3_farthest_45 : decode cX3_farthest 45 = .ok (.getfield 32, 3) := dk_180 0 32 (dk_at dksX3_farthest_1 21 rfl rfl)
theorem dX3_farthest_48 : decode cX3_farthest 48 = .ok (.iload_n 3, 1) := dk_29 (dk_at dksX3_farthest_2 0 rfl rfl)
theorem dX3_farthest_49 : decode cX3_farthest 49 = .ok (.iaload, 1) := dk_46 (dk_at dksX3_farthest_2 1 rfl rfl)
theorem dX3_farthest_50 : decode cX3_farthest 50 = .ok (.aload_n 0, 1) := dk_42 (dk_at dksX3_farthest_2 2 rfl rfl)
theorem dX3_farthest_51 : decode cX3_farthest 51 = .ok (.getfield 32, 3) := dk_180 0 32 (dk_at dksX3_farthest_2 3 rfl rfl)
theorem dX3_farthest_54 : decode cX3_farthest 54 = .ok (.iload_n 2, 1) := dk_28 (dk_at dksX3_farthest_2 6 rfl rfl)
theorem dX3_farthest_55 : decode cX3_farthest 55 = .ok (.iaload, 1) := dk_46 (dk_at dksX3_farthest_2 7 rfl rfl)
theorem dX3_farthest_56 : decode cX3_farthest 56 = .ok (.if_icmp .lt 7, 3) := dk_161 0 7 (dk_at dksX3_farthest_2 8 rfl rfl)
theorem dX3_farthest_59 : decode cX3_farthest 59 = .ok (.iload_n 3, 1) := dk_29 (dk_at dksX3_farthest_2 11 rfl rfl)
theorem dX3_farthest_60 : decode cX3_farthest 60 = .ok (.goto 4, 3) := dk_167 0 4 (dk_at dksX3_farthest_2 12 rfl rfl)
theorem dX3_farthest_63 : decode cX3_farthest 63 = .ok (.iload_n 2, 1) := dk_28 (dk_at dksX3_farthest_2 15 rfl rfl)
theorem dX3_farthest_64 : decode cX3_farthest 64 = .ok (.istore_n 2, 1) := dk_61 (dk_at dksX3_farthest_2 16 rfl rfl)
theorem dX3_farthest_65 : decode cX3_farthest 65 = .ok (.iinc 3 (-1), 3) := dk_132 3 255 (dk_at dksX3_farthest_2 17 rfl rfl)
theorem dX3_farthest_68 : decode cX3_farthest 68 = .ok (.goto (-28), 3) := dk_167 255 228 (dk_at dksX3_farthest_2 20 rfl rfl)
theorem dX3_farthest_71 : decode cX3_farthest 71 = .ok (.iload_n 2, 1) := dk_28 (dk_at dksX3_farthest_2 23 rfl rfl)
theorem dX3_farthest_72 : decode cX3_farthest 72 = .ok (.ireturn, 1) := dk_172 (dk_at dksX3_farthest_3 0 rfl rfl)
abbrev cX3_cell : ByteArray := prog_12_method_48_code
def yX3_cell : MethodName := ⟨RX3, "cell", "(II)I"⟩
def dkwX3_cell_6 : List UInt8 := [3, 96, 62, 132, 4, 1, 167, 255, 216, 29, 172]
abbrev dktX3_cell_6 : List UInt8 := dkwX3_cell_6 ++ []
def dkwX3_cell_5 : List UInt8 := [182, 0, 124, 54, 5, 29, 21, 5, 155, 0, 16, 42, 21, 5, 182, 0, 93, 153, 0, 7, 4, 167, 0, 4]
abbrev dktX3_cell_5 : List UInt8 := dkwX3_cell_5 ++ dktX3_cell_6
def dkwX3_cell_4 : List UInt8 := [42, 27, 3, 182, 0, 168, 172, 3, 62, 3, 54, 4, 21, 4, 7, 162, 0, 40, 42, 27, 21, 4]
abbrev dktX3_cell_4 : List UInt8 := dkwX3_cell_4 ++ dktX3_cell_5
def dkwX3_cell_3 : List UInt8 := [42, 180, 0, 9, 16, 8, 27, 96, 46, 172, 42, 27, 182, 0, 93, 153, 0, 7, 4, 167, 0, 4, 3, 172]
abbrev dktX3_cell_3 : List UInt8 := dkwX3_cell_3 ++ dktX3_cell_4
def dkwX3_cell_2 : List UInt8 := [170, 0, 0, 0, 0, 0, 0, 59, 0, 0, 0, 0, 0, 0, 0, 2, 0, 0, 0, 28, 0, 0, 0, 38, 0, 0, 0, 52]
abbrev dktX3_cell_2 : List UInt8 := dkwX3_cell_2 ++ dktX3_cell_3
def dkwX3_cell_1 : List UInt8 := [167, 0, 4, 3, 181, 0, 49, 42, 180, 0, 49, 158, 0, 5, 3, 172, 28]
abbrev dktX3_cell_1 : List UInt8 := dkwX3_cell_1 ++ dktX3_cell_2
def dkwX3_cell_0 : List UInt8 := [42, 42, 27, 182, 0, 86, 154, 0, 7, 4, 167, 0, 17, 28, 3, 6, 184, 0, 71, 154, 0, 7, 5]
abbrev dktX3_cell_0 : List UInt8 := dkwX3_cell_0 ++ dktX3_cell_1
theorem dksX3_cell_0 : cX3_cell.data.toList.drop 0 = dktX3_cell_0 := by decide +kernel
theorem dksX3_cell_1 : cX3_cell.data.toList.drop 23 = dktX3_cell_1 := dk_seg dksX3_cell_0 23 rfl rfl
theorem dksX3_cell_2 : cX3_cell.data.toList.drop 40 = dktX3_cell_2 := dk_seg dksX3_cell_1 17 rfl rfl
theorem dksX3_cell_3 : cX3_cell.data.toList.drop 68 = dktX3_cell_3 := dk_seg dksX3_cell_2 28 rfl rfl
theorem dksX3_cell_4 : cX3_cell.data.toList.drop 92 = dktX3_cell_4 := dk_seg dksX3_cell_3 24 rfl rfl
theorem dksX3_cell_5 : cX3_cell.data.toList.drop 114 = dktX3_cell_5 := dk_seg dksX3_cell_4 22 rfl rfl
theorem dksX3_cell_6 : cX3_cell.data.toList.drop 138 = dktX3_cell_6 := dk_seg dksX3_cell_5 24 rfl rfl
theorem dX3_cell_0 : decode cX3_cell 0 = .ok (.aload_n 0, 1) := dk_42 (dk_at dksX3_cell_0 0 rfl rfl)
theorem dX3_cell_1 : decode cX3_cell 1 = .ok (.aload_n 0, 1) := dk_42 (dk_at dksX3_cell_0 1 rfl rfl)
theorem dX3_cell_2 : decode cX3_cell 2 = .ok (.iload_n 1, 1) := dk_27 (dk_at dksX3_cell_0 2 rfl rfl)
theorem dX3_cell_3 : decode cX3_cell 3 = .ok (.invokevirtual 86, 3) := dk_182 0 86 (dk_at dksX3_cell_0 3 rfl rfl)
theorem dX3_cell_6 : decode cX3_cell 6 = .ok (.ifCond .ne 7, 3) := dk_154 0 7 (dk_at dksX3_cell_0 6 rfl rfl)
theorem dX3_cell_9 : decode cX3_cell 9 = .ok (.iconst 1, 1) := dk_4 (dk_at dksX3_cell_0 9 rfl rfl)
theorem dX3_cell_10 : decode cX3_cell 10 = .ok (.goto 17, 3) := dk_167 0 17 (dk_at dksX3_cell_0 10 rfl rfl)
theorem dX3_cell_13 : decode cX3_cell 13 = .ok (.iload_n 2, 1) := dk_28 (dk_at dksX3_cell_0 13 rfl rfl)
theorem dX3_cell_14 : decode cX3_cell 14 = .ok (.iconst 0, 1) := dk_3 (dk_at dksX3_cell_0 14 rfl rfl)
theorem dX3_cell_15 : decode cX3_cell 15 = .ok (.iconst 3, 1) := dk_6 (dk_at dksX3_cell_0 15 rfl rfl)
theorem dX3_cell_16 : decode cX3_cell 16 = .ok (.invokestatic 71, 3) := dk_184 0 71 (dk_at dksX3_cell_0 16 rfl rfl)
theorem dX3_cell_19 : decode cX3_cell 19 = .ok (.ifCond .ne 7, 3) := dk_154 0 7 (dk_at dksX3_cell_0 19 rfl rfl)
theorem dX3_cell_22 : decode cX3_cell 22 = .ok (.iconst 2, 1) := dk_5 (dk_at dksX3_cell_0 22 rfl rfl)
theorem dX3_cell_23 : decode cX3_cell 23 = .ok (.goto 4, 3) := dk_167 0 4 (dk_at dksX3_cell_1 0 rfl rfl)
theorem dX3_cell_26 : decode cX3_cell 26 = .ok (.iconst 0, 1) := dk_3 (dk_at dksX3_cell_1 3 rfl rfl)
theorem dX3_cell_27 : decode cX3_cell 27 = .ok (.putfield 49, 3) := dk_181 0 49 (dk_at dksX3_cell_1 4 rfl rfl)
theorem dX3_cell_30 : decode cX3_cell 30 = .ok (.aload_n 0, 1) := dk_42 (dk_at dksX3_cell_1 7 rfl rfl)
theorem dX3_cell_31 : decode cX3_cell 31 = .ok (.getfield 49, 3) := dk_180 0 49 (dk_at dksX3_cell_1 8 rfl rfl)
theorem dX3_cell_34 : decode cX3_cell 34 = .ok (.ifCond .le 5, 3) := dk_158 0 5 (dk_at dksX3_cell_1 11 rfl rfl)
theorem dX3_cell_37 : decode cX3_cell 37 = .ok (.iconst 0, 1) := dk_3 (dk_at dksX3_cell_1 14 rfl rfl)
theorem dX3_cell_38 : decode cX3_cell 38 = .ok (.ireturn, 1) := dk_172 (dk_at dksX3_cell_1 15 rfl rfl)
theorem dX3_cell_39 : decode cX3_cell 39 = .ok (.iload_n 2, 1) := dk_28 (dk_at dksX3_cell_1 16 rfl rfl)
theorem dX3_cell_40 : decode cX3_cell 40 = .ok (.tableswitch 59 0 2 #[28, 38, 52], 28) := by decide +kernel
theorem dX3_cell_68 : decode cX3_cell 68 = .ok (.aload_n 0, 1) := dk_42 (dk_at dksX3_cell_3 0 rfl rfl)
theorem dX3_cell_69 : decode cX3_cell 69 = .ok (.getfield 9, 3) := dk_180 0 9 (dk_at dksX3_cell_3 1 rfl rfl)
theorem dX3_cell_72 : decode cX3_cell 72 = .ok (.bipush 8, 2) := dk_16 8 (dk_at dksX3_cell_3 4 rfl rfl)
theorem dX3_cell_74 : decode cX3_cell 74 = .ok (.iload_n 1, 1) := dk_27 (dk_at dksX3_cell_3 6 rfl rfl)
theorem dX3_cell_75 : decode cX3_cell 75 = .ok (.iadd, 1) := dk_96 (dk_at dksX3_cell_3 7 rfl rfl)
theorem dX3_cell_76 : decode cX3_cell 76 = .ok (.iaload, 1) := dk_46 (dk_at dksX3_cell_3 8 rfl rfl)
theorem dX3_cell_77 : decode cX3_cell 77 = .ok (.ireturn, 1) := dk_172 (dk_at dksX3_cell_3 9 rfl rfl)
theorem dX3_cell_78 : decode cX3_cell 78 = .ok (.aload_n 0, 1) := dk_42 (dk_at dksX3_cell_3 10 rfl rfl)
theorem dX3_cell_79 : decode cX3_cell 79 = .ok (.iload_n 1, 1) := dk_27 (dk_at dksX3_cell_3 11 rfl rfl)
theorem dX3_cell_80 : decode cX3_cell 80 = .ok (.invokevirtual 93, 3) := dk_182 0 93 (dk_at dksX3_cell_3 12 rfl rfl)
theorem dX3_cell_83 : decode cX3_cell 83 = .ok (.ifCond .eq 7, 3) := dk_153 0 7 (dk_at dksX3_cell_3 15 rfl rfl)
theorem dX3_cell_86 : decode cX3_cell 86 = .ok (.iconst 1, 1) := dk_4 (dk_at dksX3_cell_3 18 rfl rfl)
theorem dX3_cell_87 : decode cX3_cell 87 = .ok (.goto 4, 3) := dk_167 0 4 (dk_at dksX3_cell_3 19 rfl rfl)
theorem dX3_cell_90 : decode cX3_cell 90 = .ok (.iconst 0, 1) := dk_3 (dk_at dksX3_cell_3 22 rfl rfl)
theorem dX3_cell_91 : decode cX3_cell 91 = .ok (.ireturn, 1) := dk_172 (dk_at dksX3_cell_3 23 rfl rfl)
theorem dX3_cell_92 : decode cX3_cell 92 = .ok (.aload_n 0, 1) := dk_42 (dk_at dksX3_cell_4 0 rfl rfl)
theorem dX3_cell_93 : decode cX3_cell 93 = .ok (.iload_n 1, 1) := dk_27 (dk_at dksX3_cell_4 1 rfl rfl)
theorem dX3_cell_94 : decode cX3_cell 94 = .ok (.iconst 0, 1) := dk_3 (dk_at dksX3_cell_4 2 rfl rfl)
theorem dX3_cell_95 : decode cX3_cell 95 = .ok (.invokevirtual 168, 3) := dk_182 0 168 (dk_at dksX3_cell_4 3 rfl rfl)
theorem dX3_cell_98 : decode cX3_cell 98 = .ok (.ireturn, 1) := dk_172 (dk_at dksX3_cell_4 6 rfl rfl)
theorem dX3_cell_99 : decode cX3_cell 99 = .ok (.iconst 0, 1) := dk_3 (dk_at dksX3_cell_4 7 rfl rfl)
theorem dX3_cell_100 : decode cX3_cell 100 = .ok (.istore_n 3, 1) := dk_62 (dk_at dksX3_cell_4 8 rfl rfl)
theorem dX3_cell_101 : decode cX3_cell 101 = .ok (.iconst 0, 1) := dk_3 (dk_at dksX3_cell_4 9 rfl rfl)
theorem dX3_cell_102 : decode cX3_cell 102 = .ok (.istore 4, 2) := dk_54 4 (dk_at dksX3_cell_4 10 rfl rfl)
theorem dX3_cell_104 : decode cX3_cell 104 = .ok (.iload 4, 2) := dk_21 4 (dk_at dksX3_cell_4 12 rfl rfl)
theorem dX3_cell_106 : decode cX3_cell 106 = .ok (.iconst 4, 1) := dk_7 (dk_at dksX3_cell_4 14 rfl rfl)
theorem dX3_cell_107 : decode cX3_cell 107 = .ok (.if_icmp .ge 40, 3) := dk_162 0 40 (dk_at dksX3_cell_4 15 rfl rfl)
theorem dX3_cell_110 : decode cX3_cell 110 = .ok (.aload_n 0, 1) := dk_42 (dk_at dksX3_cell_4 18 rfl rfl)
theorem dX3_cell_111 : decode cX3_cell 111 = .ok (.iload_n 1, 1) := dk_27 (dk_at dksX3_cell_4 19 rfl rfl)
theorem dX3_cell_112 : decode cX3_cell 112 = .ok (.iload 4, 2) := dk_21 4 (dk_at dksX3_cell_4 20 rfl rfl)
theorem dX3_cell_114 : decode cX3_cell 114 = .ok (.invokevirtual 124, 3) := dk_182 0 124 (dk_at dksX3_cell_5 0 rfl rfl)
theorem dX3_cell_117 : decode cX3_cell 117 = .ok (.istore 5, 2) := dk_54 5 (dk_at dksX3_cell_5 3 rfl rfl)
theorem dX3_cell_119 : decode cX3_cell 119 = .ok (.iload_n 3, 1) := dk_29 (dk_at dksX3_cell_5 5 rfl rfl)
theorem dX3_cell_120 : decode cX3_cell 120 = .ok (.iload 5, 2) := dk_21 5 (dk_at dksX3_cell_5 6 rfl rfl)
theorem dX3_cell_122 : decode cX3_cell 122 = .ok (.ifCond .lt 16, 3) := dk_155 0 16 (dk_at dksX3_cell_5 8 rfl rfl)
theorem dX3_cell_125 : decode cX3_cell 125 = .ok (.aload_n 0, 1) := dk_42 (dk_at dksX3_cell_5 11 rfl rfl)
theorem dX3_cell_126 : decode cX3_cell 126 = .ok (.iload 5, 2) := dk_21 5 (dk_at dksX3_cell_5 12 rfl rfl)
theorem dX3_cell_128 : decode cX3_cell 128 = .ok (.invokevirtual 93, 3) := dk_182 0 93 (dk_at dksX3_cell_5 14 rfl rfl)
theorem dX3_cell_131 : decode cX3_cell 131 = .ok (.ifCond .eq 7, 3) := dk_153 0 7 (dk_at dksX3_cell_5 17 rfl rfl)
theorem dX3_cell_134 : decode cX3_cell 134 = .ok (.iconst 1, 1) := dk_4 (dk_at dksX3_cell_5 20 rfl rfl)
theorem dX3_cell_135 : decode cX3_cell 135 = .ok (.goto 4, 3) := dk_167 0 4 (dk_at dksX3_cell_5 21 rfl rfl)
theorem dX3_cell_138 : decode cX3_cell 138 = .ok (.iconst 0, 1) := dk_3 (dk_at dksX3_cell_6 0 rfl rfl)
theorem dX3_cell_139 : decode cX3_cell 139 = .ok (.iadd, 1) := dk_96 (dk_at dksX3_cell_6 1 rfl rfl)
theorem dX3_cell_140 : decode cX3_cell 140 = .ok (.istore_n 3, 1) := dk_62 (dk_at dksX3_cell_6 2 rfl rfl)
theorem dX3_cell_141 : decode cX3_cell 141 = .ok (.iinc 4 1, 3) := dk_132 4 1 (dk_at dksX3_cell_6 3 rfl rfl)
theorem dX3_cell_144 : decode cX3_cell 144 = .ok (.goto (-40), 3) := dk_167 255 216 (dk_at dksX3_cell_6 6 rfl rfl)
theorem dX3_cell_147 : decode cX3_cell 147 = .ok (.iload_n 3, 1) := dk_29 (dk_at dksX3_cell_6 9 rfl rfl)
theorem dX3_cell_148 : decode cX3_cell 148 = .ok (.ireturn, 1) := dk_172 (dk_at dksX3_cell_6 10 rfl rfl)
abbrev cX3_robotIn : ByteArray := prog_12_method_47_code
def yX3_robotIn : MethodName := ⟨RX3, "robotIn", "(II)I"⟩
def dkwX3_robotIn_1 : List UInt8 := [27, 160, 0, 8, 21, 4, 167, 0, 4, 29, 62, 132, 4, 255, 167, 255, 230, 29, 172]
abbrev dktX3_robotIn_1 : List UInt8 := dkwX3_robotIn_1 ++ []
def dkwX3_robotIn_0 : List UInt8 := [2, 62, 42, 180, 0, 9, 6, 46, 4, 100, 54, 4, 21, 4, 155, 0, 27, 42, 21, 4, 28, 182, 0, 83]
abbrev dktX3_robotIn_0 : List UInt8 := dkwX3_robotIn_0 ++ dktX3_robotIn_1
theorem dksX3_robotIn_0 : cX3_robotIn.data.toList.drop 0 = dktX3_robotIn_0 := by decide +kernel
theorem dksX3_robotIn_1 : cX3_robotIn.data.toList.drop 24 = dktX3_robotIn_1 := dk_seg dksX3_robotIn_0 24 rfl rfl
theorem dX3_robotIn_0 : decode cX3_robotIn 0 = .ok (.iconst (-1), 1) := dk_2 (dk_at dksX3_robotIn_0 0 rfl rfl)
theorem dX3_robotIn_1 : decode cX3_robotIn 1 = .ok (.istore_n 3, 1) := dk_62 (dk_at dksX3_robotIn_0 1 rfl rfl)
theorem dX3_robotIn_2 : decode cX3_robotIn 2 = .ok (.aload_n 0, 1) := dk_42 (dk_at dksX3_robotIn_0 2 rfl rfl)
theorem dX3_robotIn_3 : decode cX3_robotIn 3 = .ok (.getfield 9, 3) := dk_180 0 9 (dk_at dksX3_robotIn_0 3 rfl rfl)
theorem dX3_robotIn_6 : decode cX3_robotIn 6 = .ok (.iconst 3, 1) := dk_6 (dk_at dksX3_robotIn_0 6 rfl rfl)
theorem dX3_robotIn_7 : decode cX3_robotIn 7 = .ok (.iaload, 1) := dk_46 (dk_at dksX3_robotIn_0 7 rfl rfl)
theorem dX3_robotIn_8 : decode cX3_robotIn 8 = .ok (.iconst 1, 1) := dk_4 (dk_at dksX3_robotIn_0 8 rfl rfl)
theorem dX3_robotIn_9 : decode cX3_robotIn 9 = .ok (.isub, 1) := dk_100 (dk_at dksX3_robotIn_0 9 rfl rfl)
theorem dX3_robotIn_10 : decode cX3_robotIn 10 = .ok (.istore 4, 2) := dk_54 4 (dk_at dksX3_robotIn_0 10 rfl rfl)
theorem dX3_robotIn_12 : decode cX3_robotIn 12 = .ok (.iload 4, 2) := dk_21 4 (dk_at dksX3_robotIn_0 12 rfl rfl)
theorem dX3_robotIn_14 : decode cX3_robotIn 14 = .ok (.ifCond .lt 27, 3) := dk_155 0 27 (dk_at dksX3_robotIn_0 14 rfl rfl)
theorem dX3_robotIn_17 : decode cX3_robotIn 17 = .ok (.aload_n 0, 1) := dk_42 (dk_at dksX3_robotIn_0 17 rfl rfl)
theorem dX3_robotIn_18 : decode cX3_robotIn 18 = .ok (.iload 4, 2) := dk_21 4 (dk_at dksX3_robotIn_0 18 rfl rfl)
theorem dX3_robotIn_20 : decode cX3_robotIn 20 = .ok (.iload_n 2, 1) := dk_28 (dk_at dksX3_robotIn_0 20 rfl rfl)
theorem dX3_robotIn_21 : decode cX3_robotIn 21 = .ok (.invokevirtual 83, 3) := dk_182 0 83 (dk_at dksX3_robotIn_0 21 rfl rfl)
theorem dX3_robotIn_24 : decode cX3_robotIn 24 = .ok (.iload_n 1, 1) := dk_27 (dk_at dksX3_robotIn_1 0 rfl rfl)
theorem dX3_robotIn_25 : decode cX3_robotIn 25 = .ok (.if_icmp .ne 8, 3) := dk_160 0 8 (dk_at dksX3_robotIn_1 1 rfl rfl)
theorem dX3_robotIn_28 : decode cX3_robotIn 28 = .ok (.iload 4, 2) := dk_21 4 (dk_at dksX3_robotIn_1 4 rfl rfl)
theorem dX3_robotIn_30 : decode cX3_robotIn 30 = .ok (.goto 4, 3) := dk_167 0 4 (dk_at dksX3_robotIn_1 6 rfl rfl)
theorem dX3_robotIn_33 : decode cX3_robotIn 33 = .ok (.iload_n 3, 1) := dk_29 (dk_at dksX3_robotIn_1 9 rfl rfl)
theorem dX3_robotIn_34 : decode cX3_robotIn 34 = .ok (.istore_n 3, 1) := dk_62 (dk_at dksX3_robotIn_1 10 rfl rfl)
theorem dX3_robotIn_35 : decode cX3_robotIn 35 = .ok (.iinc 4 (-1), 3) := dk_132 4 255 (dk_at dksX3_robotIn_1 11 rfl rfl)
theorem dX3_robotIn_38 : decode cX3_robotIn 38 = .ok (.goto (-26), 3) := dk_167 255 230 (dk_at dksX3_robotIn_1 14 rfl rfl)
theorem dX3_robotIn_41 : decode cX3_robotIn 41 = .ok (.iload_n 3, 1) := dk_29 (dk_at dksX3_robotIn_1 17 rfl rfl)
theorem dX3_robotIn_42 : decode cX3_robotIn 42 = .ok (.ireturn, 1) := dk_172 (dk_at dksX3_robotIn_1 18 rfl rfl)
abbrev cX3_letter : ByteArray := prog_12_method_49_code
def yX3_letter : MethodName := ⟨RX3, "letter", "(I)C"⟩
def dkwX3_letter_3 : List UInt8 := [46, 182, 0, 173, 172]
abbrev dktX3_letter_3 : List UInt8 := dkwX3_letter_3 ++ []
def dkwX3_letter_2 : List UInt8 := [16, 56, 27, 96, 46, 4, 160, 0, 8, 16, 120, 167, 0, 17, 18, 171, 42, 180, 0, 9, 16, 8, 27, 96]
abbrev dktX3_letter_2 : List UInt8 := dkwX3_letter_2 ++ dktX3_letter_3
def dkwX3_letter_1 : List UInt8 := [16, 32, 172, 42, 27, 3, 182, 0, 168, 61, 28, 155, 0, 9, 16, 48, 28, 96, 146, 172, 42, 180, 0, 9]
abbrev dktX3_letter_1 : List UInt8 := dkwX3_letter_1 ++ dktX3_letter_2
def dkwX3_letter_0 : List UInt8 := [42, 42, 27, 182, 0, 86, 153, 0, 7, 3, 167, 0, 4, 4, 181, 0, 49, 42, 180, 0, 49, 158, 0, 6]
abbrev dktX3_letter_0 : List UInt8 := dkwX3_letter_0 ++ dktX3_letter_1
theorem dksX3_letter_0 : cX3_letter.data.toList.drop 0 = dktX3_letter_0 := by decide +kernel
theorem dksX3_letter_1 : cX3_letter.data.toList.drop 24 = dktX3_letter_1 := dk_seg dksX3_letter_0 24 rfl rfl
theorem dksX3_letter_2 : cX3_letter.data.toList.drop 48 = dktX3_letter_2 := dk_seg dksX3_letter_1 24 rfl rfl
theorem dksX3_letter_3 : cX3_letter.data.toList.drop 72 = dktX3_letter_3 := dk_seg dksX3_letter_2 24 rfl rfl
theorem dX3_letter_0 : decode cX3_letter 0 = .ok (.aload_n 0, 1) := dk_42 (dk_at dksX3_letter_0 0 rfl rfl)
theorem dX3_letter_1 : decode cX3_letter 1 = .ok (.aload_n 0, 1) := dk_42 (dk_at dksX3_letter_0 1 rfl rfl)
theorem dX3_letter_2 : decode cX3_letter 2 = .ok (.iload_n 1, 1) := dk_27 (dk_at dksX3_letter_0 2 rfl rfl)
theorem dX3_letter_3 : decode cX3_letter 3 = .ok (.invokevirtual 86, 3) := dk_182 0 86 (dk_at dksX3_letter_0 3 rfl rfl)
theorem dX3_letter_6 : decode cX3_letter 6 = .ok (.ifCond .eq 7, 3) := dk_153 0 7 (dk_at dksX3_letter_0 6 rfl rfl)
theorem dX3_letter_9 : decode cX3_letter 9 = .ok (.iconst 0, 1) := dk_3 (dk_at dksX3_letter_0 9 rfl rfl)
theorem dX3_letter_10 : decode cX3_letter 10 = .ok (.goto 4, 3) := dk_167 0 4 (dk_at dksX3_letter_0 10 rfl rfl)
theorem dX3_letter_13 : decode cX3_letter 13 = .ok (.iconst 1, 1) := dk_4 (dk_at dksX3_letter_0 13 rfl rfl)
theorem dX3_letter_14 : decode cX3_letter 14 = .ok (.putfield 49, 3) := dk_181 0 49 (dk_at dksX3_letter_0 14 rfl rfl)
theorem dX3_letter_17 : decode cX3_letter 17 = .ok (.aload_n 0, 1) := dk_42 (dk_at dksX3_letter_0 17 rfl rfl)
theorem dX3_letter_18 : decode cX3_letter 18 = .ok (.getfield 49, 3) := dk_180 0 49 (dk_at dksX3_letter_0 18 rfl rfl)
theorem dX3_letter_21 : decode cX3_letter 21 = .ok (.ifCond .le 6, 3) := dk_158 0 6 (dk_at dksX3_letter_0 21 rfl rfl)
theorem dX3_letter_24 : decode cX3_letter 24 = .ok (.bipush 32, 2) := dk_16 32 (dk_at dksX3_letter_1 0 rfl rfl)
theorem dX3_letter_26 : decode cX3_letter 26 = .ok (.ireturn, 1) := dk_172 (dk_at dksX3_letter_1 2 rfl rfl)
theorem dX3_letter_27 : decode cX3_letter 27 = .ok (.aload_n 0, 1) := dk_42 (dk_at dksX3_letter_1 3 rfl rfl)
theorem dX3_letter_28 : decode cX3_letter 28 = .ok (.iload_n 1, 1) := dk_27 (dk_at dksX3_letter_1 4 rfl rfl)
theorem dX3_letter_29 : decode cX3_letter 29 = .ok (.iconst 0, 1) := dk_3 (dk_at dksX3_letter_1 5 rfl rfl)
theorem dX3_letter_30 : decode cX3_letter 30 = .ok (.invokevirtual 168, 3) := dk_182 0 168 (dk_at dksX3_letter_1 6 rfl rfl)
theorem dX3_letter_33 : decode cX3_letter 33 = .ok (.istore_n 2, 1) := dk_61 (dk_at dksX3_letter_1 9 rfl rfl)
theorem dX3_letter_34 : decode cX3_letter 34 = .ok (.iload_n 2, 1) := dk_28 (dk_at dksX3_letter_1 10 rfl rfl)
theorem dX3_letter_35 : decode cX3_letter 35 = .ok (.ifCond .lt 9, 3) := dk_155 0 9 (dk_at dksX3_letter_1 11 rfl rfl)
theorem dX3_letter_38 : decode cX3_letter 38 = .ok (.bipush 48, 2) := dk_16 48 (dk_at dksX3_letter_1 14 rfl rfl)
theorem dX3_letter_40 : decode cX3_letter 40 = .ok (.iload_n 2, 1) := dk_28 (dk_at dksX3_letter_1 16 rfl rfl)
theorem dX3_letter_41 : decode cX3_letter 41 = .ok (.iadd, 1) := dk_96 (dk_at dksX3_letter_1 17 rfl rfl)
theorem dX3_letter_42 : decode cX3_letter 42 = .ok (.i2c, 1) := dk_146 (dk_at dksX3_letter_1 18 rfl rfl)
theorem dX3_letter_43 : decode cX3_letter 43 = .ok (.ireturn, 1) := dk_172 (dk_at dksX3_letter_1 19 rfl rfl)
theorem dX3_letter_44 : decode cX3_letter 44 = .ok (.aload_n 0, 1) := dk_42 (dk_at dksX3_letter_1 20 rfl rfl)
theorem dX3_letter_45 : decode cX3_letter 45 = .ok (.getfield 9, 3) := dk_180 0 9 (dk_at dksX3_letter_1 21 rfl rfl)
theorem dX3_letter_48 : decode cX3_letter 48 = .ok (.bipush 56, 2) := dk_16 56 (dk_at dksX3_letter_2 0 rfl rfl)
theorem dX3_letter_50 : decode cX3_letter 50 = .ok (.iload_n 1, 1) := dk_27 (dk_at dksX3_letter_2 2 rfl rfl)
theorem dX3_letter_51 : decode cX3_letter 51 = .ok (.iadd, 1) := dk_96 (dk_at dksX3_letter_2 3 rfl rfl)
theorem dX3_letter_52 : decode cX3_letter 52 = .ok (.iaload, 1) := dk_46 (dk_at dksX3_letter_2 4 rfl rfl)
theorem dX3_letter_53 : decode cX3_letter 53 = .ok (.iconst 1, 1) := dk_4 (dk_at dksX3_letter_2 5 rfl rfl)
theorem dX3_letter_54 : decode cX3_letter 54 = .ok (.if_icmp .ne 8, 3) := dk_160 0 8 (dk_at dksX3_letter_2 6 rfl rfl)
theorem dX3_letter_57 : decode cX3_letter 57 = .ok (.bipush 120, 2) := dk_16 120 (dk_at dksX3_letter_2 9 rfl rfl)
theorem dX3_letter_59 : decode cX3_letter 59 = .ok (.goto 17, 3) := dk_167 0 17 (dk_at dksX3_letter_2 11 rfl rfl)
theorem dX3_letter_62 : decode cX3_letter 62 = .ok (.ldc 171, 2) := dk_18 171 (dk_at dksX3_letter_2 14 rfl rfl)
theorem dX3_letter_64 : decode cX3_letter 64 = .ok (.aload_n 0, 1) := dk_42 (dk_at dksX3_letter_2 16 rfl rfl)
theorem dX3_letter_65 : decode cX3_letter 65 = .ok (.getfield 9, 3) := dk_180 0 9 (dk_at dksX3_letter_2 17 rfl rfl)
theorem dX3_letter_68 : decode cX3_letter 68 = .ok (.bipush 8, 2) := dk_16 8 (dk_at dksX3_letter_2 20 rfl rfl)
theorem dX3_letter_70 : decode cX3_letter 70 = .ok (.iload_n 1, 1) := dk_27 (dk_at dksX3_letter_2 22 rfl rfl)
theorem dX3_letter_71 : decode cX3_letter 71 = .ok (.iadd, 1) := dk_96 (dk_at dksX3_letter_2 23 rfl rfl)
theorem dX3_letter_72 : decode cX3_letter 72 = .ok (.iaload, 1) := dk_46 (dk_at dksX3_letter_3 0 rfl rfl)
theorem dX3_letter_73 : decode cX3_letter 73 = .ok (.invokevirtual 173, 3) := dk_182 0 173 (dk_at dksX3_letter_3 1 rfl rfl)
theorem dX3_letter_76 : decode cX3_letter 76 = .ok (.ireturn, 1) := dk_172 (dk_at dksX3_letter_3 4 rfl rfl)
abbrev cX3_robotOf : ByteArray := prog_12_method_50_code
def yX3_robotOf : MethodName := ⟨RX3, "robotOf", "(II)I"⟩
def dkwX3_robotOf_5 : List UInt8 := [172, 42, 27, 28, 182, 0, 79, 172]
abbrev dktX3_robotOf_5 : List UInt8 := dkwX3_robotOf_5 ++ []
def dkwX3_robotOf_4 : List UInt8 := [182, 0, 83, 172, 42, 27, 182, 0, 145, 153, 0, 7, 4, 167, 0, 4, 3, 172, 42, 27, 8, 182, 0, 79]
abbrev dktX3_robotOf_4 : List UInt8 := dkwX3_robotOf_4 ++ dktX3_robotOf_5
def dkwX3_robotOf_3 : List UInt8 := [42, 27, 6, 182, 0, 79, 172, 42, 27, 6, 182, 0, 79, 154, 0, 7, 2, 167, 0, 10, 42, 27, 16, 30]
abbrev dktX3_robotOf_3 : List UInt8 := dkwX3_robotOf_3 ++ dktX3_robotOf_4
def dkwX3_robotOf_2 : List UInt8 := [170, 0, 0, 0, 0, 0, 80, 0, 0, 0, 3, 0, 0, 0, 6, 0, 0, 0, 31, 0, 0, 0, 38, 0, 0, 0, 59, 0, 0, 0, 73]
abbrev dktX3_robotOf_2 : List UInt8 := dkwX3_robotOf_2 ++ dktX3_robotOf_3
def dkwX3_robotOf_1 : List UInt8 := [167, 0, 4, 3, 181, 0, 49, 42, 180, 0, 49, 158, 0, 5, 3, 172, 28]
abbrev dktX3_robotOf_1 : List UInt8 := dkwX3_robotOf_1 ++ dktX3_robotOf_2
def dkwX3_robotOf_0 : List UInt8 := [42, 42, 27, 182, 0, 103, 154, 0, 7, 4, 167, 0, 18, 28, 3, 16, 6, 184, 0, 71, 154, 0, 7, 5]
abbrev dktX3_robotOf_0 : List UInt8 := dkwX3_robotOf_0 ++ dktX3_robotOf_1
theorem dksX3_robotOf_0 : cX3_robotOf.data.toList.drop 0 = dktX3_robotOf_0 := by decide +kernel
theorem dksX3_robotOf_1 : cX3_robotOf.data.toList.drop 24 = dktX3_robotOf_1 := dk_seg dksX3_robotOf_0 24 rfl rfl
theorem dksX3_robotOf_2 : cX3_robotOf.data.toList.drop 41 = dktX3_robotOf_2 := dk_seg dksX3_robotOf_1 17 rfl rfl
theorem dksX3_robotOf_3 : cX3_robotOf.data.toList.drop 72 = dktX3_robotOf_3 := dk_seg dksX3_robotOf_2 31 rfl rfl
theorem dksX3_robotOf_4 : cX3_robotOf.data.toList.drop 96 = dktX3_robotOf_4 := dk_seg dksX3_robotOf_3 24 rfl rfl
theorem dksX3_robotOf_5 : cX3_robotOf.data.toList.drop 120 = dktX3_robotOf_5 := dk_seg dksX3_robotOf_4 24 rfl rfl
theorem dX3_robotOf_0 : decode cX3_robotOf 0 = .ok (.aload_n 0, 1) := dk_42 (dk_at dksX3_robotOf_0 0 rfl rfl)
theorem dX3_robotOf_1 : decode cX3_robotOf 1 = .ok (.aload_n 0, 1) := dk_42 (dk_at dksX3_robotOf_0 1 rfl rfl)
theorem dX3_robotOf_2 : decode cX3_robotOf 2 = .ok (.iload_n 1, 1) := dk_27 (dk_at dksX3_robotOf_0 2 rfl rfl)
theorem dX3_robotOf_3 : decode cX3_robotOf 3 = .ok (.invokevirtual 103, 3) := dk_182 0 103 (dk_at dksX3_robotOf_0 3 rfl rfl)
theorem dX3_robotOf_6 : decode cX3_robotOf 6 = .ok (.ifCond .ne 7, 3) := dk_154 0 7 (dk_at dksX3_robotOf_0 6 rfl rfl)
theorem dX3_robotOf_9 : decode cX3_robotOf 9 = .ok (.iconst 1, 1) := dk_4 (dk_at dksX3_robotOf_0 9 rfl rfl)
theorem dX3_robotOf_10 : decode cX3_robotOf 10 = .ok (.goto 18, 3) := dk_167 0 18 (dk_at dksX3_robotOf_0 10 rfl rfl)
theorem dX3_robotOf_13 : decode cX3_robotOf 13 = .ok (.iload_n 2, 1) := dk_28 (dk_at dksX3_robotOf_0 13 rfl rfl)
theorem dX3_robotOf_14 : decode cX3_robotOf 14 = .ok (.iconst 0, 1) := dk_3 (dk_at dksX3_robotOf_0 14 rfl rfl)
theorem dX3_robotOf_15 : decode cX3_robotOf 15 = .ok (.bipush 6, 2) := dk_16 6 (dk_at dksX3_robotOf_0 15 rfl rfl)
theorem dX3_robotOf_17 : decode cX3_robotOf 17 = .ok (.invokestatic 71, 3) := dk_184 0 71 (dk_at dksX3_robotOf_0 17 rfl rfl)
theorem dX3_robotOf_20 : decode cX3_robotOf 20 = .ok (.ifCond .ne 7, 3) := dk_154 0 7 (dk_at dksX3_robotOf_0 20 rfl rfl)
theorem dX3_robotOf_23 : decode cX3_robotOf 23 = .ok (.iconst 2, 1) := dk_5 (dk_at dksX3_robotOf_0 23 rfl rfl)
theorem dX3_robotOf_24 : decode cX3_robotOf 24 = .ok (.goto 4, 3) := dk_167 0 4 (dk_at dksX3_robotOf_1 0 rfl rfl)
theorem dX3_robotOf_27 : decode cX3_robotOf 27 = .ok (.iconst 0, 1) := dk_3 (dk_at dksX3_robotOf_1 3 rfl rfl)
theorem dX3_robotOf_28 : decode cX3_robotOf 28 = .ok (.putfield 49, 3) := dk_181 0 49 (dk_at dksX3_robotOf_1 4 rfl rfl)
theorem dX3_robotOf_31 : decode cX3_robotOf 31 = .ok (.aload_n 0, 1) := dk_42 (dk_at dksX3_robotOf_1 7 rfl rfl)
theorem dX3_robotOf_32 : decode cX3_robotOf 32 = .ok (.getfield 49, 3) := dk_180 0 49 (dk_at dksX3_robotOf_1 8 rfl rfl)
theorem dX3_robotOf_35 : decode cX3_robotOf 35 = .ok (.ifCond .le 5, 3) := dk_158 0 5 (dk_at dksX3_robotOf_1 11 rfl rfl)
theorem dX3_robotOf_38 : decode cX3_robotOf 38 = .ok (.iconst 0, 1) := dk_3 (dk_at dksX3_robotOf_1 14 rfl rfl)
theorem dX3_robotOf_39 : decode cX3_robotOf 39 = .ok (.ireturn, 1) := dk_172 (dk_at dksX3_robotOf_1 15 rfl rfl)
theorem dX3_robotOf_40 : decode cX3_robotOf 40 = .ok (.iload_n 2, 1) := dk_28 (dk_at dksX3_robotOf_1 16 rfl rfl)
theorem dX3_robotOf_41 : decode cX3_robotOf 41 = .ok (.tableswitch 80 3 6 #[31, 38, 59, 73], 31) := by decide +kernel
theorem dX3_robotOf_72 : decode cX3_robotOf 72 = .ok (.aload_n 0, 1) := dk_42 (dk_at dksX3_robotOf_3 0 rfl rfl)
theorem dX3_robotOf_73 : decode cX3_robotOf 73 = .ok (.iload_n 1, 1) := dk_27 (dk_at dksX3_robotOf_3 1 rfl rfl)
theorem dX3_robotOf_74 : decode cX3_robotOf 74 = .ok (.iconst 3, 1) := dk_6 (dk_at dksX3_robotOf_3 2 rfl rfl)
theorem dX3_robotOf_75 : decode cX3_robotOf 75 = .ok (.invokevirtual 79, 3) := dk_182 0 79 (dk_at dksX3_robotOf_3 3 rfl rfl)
theorem dX3_robotOf_78 : decode cX3_robotOf 78 = .ok (.ireturn, 1) := dk_172 (dk_at dksX3_robotOf_3 6 rfl rfl)
theorem dX3_robotOf_79 : decode cX3_robotOf 79 = .ok (.aload_n 0, 1) := dk_42 (dk_at dksX3_robotOf_3 7 rfl rfl)
theorem dX3_robotOf_80 : decode cX3_robotOf 80 = .ok (.iload_n 1, 1) := dk_27 (dk_at dksX3_robotOf_3 8 rfl rfl)
theorem dX3_robotOf_81 : decode cX3_robotOf 81 = .ok (.iconst 3, 1) := dk_6 (dk_at dksX3_robotOf_3 9 rfl rfl)
theorem dX3_robotOf_82 : decode cX3_robotOf 82 = .ok (.invokevirtual 79, 3) := dk_182 0 79 (dk_at dksX3_robotOf_3 10 rfl rfl)
theorem dX3_robotOf_85 : decode cX3_robotOf 85 = .ok (.ifCond .ne 7, 3) := dk_154 0 7 (dk_at dksX3_robotOf_3 13 rfl rfl)
theorem dX3_robotOf_88 : decode cX3_robotOf 88 = .ok (.iconst (-1), 1) := dk_2 (dk_at dksX3_robotOf_3 16 rfl rfl)
theorem dX3_robotOf_89 : decode cX3_robotOf 89 = .ok (.goto 10, 3) := dk_167 0 10 (dk_at dksX3_robotOf_3 17 rfl rfl)
theorem dX3_robotOf_92 : decode cX3_robotOf 92 = .ok (.aload_n 0, 1) := dk_42 (dk_at dksX3_robotOf_3 20 rfl rfl)
theorem dX3_robotOf_93 : decode cX3_robotOf 93 = .ok (.iload_n 1, 1) := dk_27 (dk_at dksX3_robotOf_3 21 rfl rfl)
theorem dX3_robotOf_94 : decode cX3_robotOf 94 = .ok (.bipush 30, 2) := dk_16 30 (dk_at dksX3_robotOf_3 22 rfl rfl)
theorem dX3_robotOf_96 : decode cX3_robotOf 96 = .ok (.invokevirtual 83, 3) := dk_182 0 83 (dk_at dksX3_robotOf_4 0 rfl rfl)
theorem dX3_robotOf_99 : decode cX3_robotOf 99 = .ok (.ireturn, 1) := dk_172 (dk_at dksX3_robotOf_4 3 rfl rfl)
theorem dX3_robotOf_100 : decode cX3_robotOf 100 = .ok (.aload_n 0, 1) := dk_42 (dk_at dksX3_robotOf_4 4 rfl rfl)
theorem dX3_robotOf_101 : decode cX3_robotOf 101 = .ok (.iload_n 1, 1) := dk_27 (dk_at dksX3_robotOf_4 5 rfl rfl)
theorem dX3_robotOf_102 : decode cX3_robotOf 102 = .ok (.invokevirtual 145, 3) := dk_182 0 145 (dk_at dksX3_robotOf_4 6 rfl rfl)
theorem dX3_robotOf_105 : decode cX3_robotOf 105 = .ok (.ifCond .eq 7, 3) := dk_153 0 7 (dk_at dksX3_robotOf_4 9 rfl rfl)
theorem dX3_robotOf_108 : decode cX3_robotOf 108 = .ok (.iconst 1, 1) := dk_4 (dk_at dksX3_robotOf_4 12 rfl rfl)
theorem dX3_robotOf_109 : decode cX3_robotOf 109 = .ok (.goto 4, 3) := dk_167 0 4 (dk_at dksX3_robotOf_4 13 rfl rfl)
theorem dX3_robotOf_112 : decode cX3_robotOf 112 = .ok (.iconst 0, 1) := dk_3 (dk_at dksX3_robotOf_4 16 rfl rfl)
theorem dX3_robotOf_113 : decode cX3_robotOf 113 = .ok (.ireturn, 1) := dk_172 (dk_at dksX3_robotOf_4 17 rfl rfl)
theorem dX3_robotOf_114 : decode cX3_robotOf 114 = .ok (.aload_n 0, 1) := dk_42 (dk_at dksX3_robotOf_4 18 rfl rfl)
theorem dX3_robotOf_115 : decode cX3_robotOf 115 = .ok (.iload_n 1, 1) := dk_27 (dk_at dksX3_robotOf_4 19 rfl rfl)
theorem dX3_robotOf_116 : decode cX3_robotOf 116 = .ok (.iconst 5, 1) := dk_8 (dk_at dksX3_robotOf_4 20 rfl rfl)
theorem dX3_robotOf_117 : decode cX3_robotOf 117 = .ok (.invokevirtual 79, 3) := dk_182 0 79 (dk_at dksX3_robotOf_4 21 rfl rfl)
theorem dX3_robotOf_120 : decode cX3_robotOf 120 = .ok (.ireturn, 1) := dk_172 (dk_at dksX3_robotOf_5 0 rfl rfl)
theorem dX3_robotOf_121 : decode cX3_robotOf 121 = .ok (.aload_n 0, 1) := dk_42 (dk_at dksX3_robotOf_5 1 rfl rfl)
theorem dX3_robotOf_122 : decode cX3_robotOf 122 = .ok (.iload_n 1, 1) := dk_27 (dk_at dksX3_robotOf_5 2 rfl rfl)
theorem dX3_robotOf_123 : decode cX3_robotOf 123 = .ok (.iload_n 2, 1) := dk_28 (dk_at dksX3_robotOf_5 3 rfl rfl)
theorem dX3_robotOf_124 : decode cX3_robotOf 124 = .ok (.invokevirtual 79, 3) := dk_182 0 79 (dk_at dksX3_robotOf_5 4 rfl rfl)
theorem dX3_robotOf_127 : decode cX3_robotOf 127 = .ok (.ireturn, 1) := dk_172 (dk_at dksX3_robotOf_5 7 rfl rfl)
abbrev cX3_planned : ByteArray := prog_12_method_51_code
def yX3_planned : MethodName := ⟨RX3, "planned", "(II)I"⟩
def dkwX3_planned_1 : List UInt8 := [181, 0, 49, 42, 180, 0, 49, 158, 0, 7, 3, 167, 0, 9, 42, 27, 28, 182, 0, 83, 172]
abbrev dktX3_planned_1 : List UInt8 := dkwX3_planned_1 ++ []
def dkwX3_planned_0 : List UInt8 := [42, 42, 27, 182, 0, 103, 154, 0, 7, 4, 167, 0, 12, 28, 156, 0, 7, 5, 167, 0, 4, 3]
abbrev dktX3_planned_0 : List UInt8 := dkwX3_planned_0 ++ dktX3_planned_1
theorem dksX3_planned_0 : cX3_planned.data.toList.drop 0 = dktX3_planned_0 := by decide +kernel
theorem dksX3_planned_1 : cX3_planned.data.toList.drop 22 = dktX3_planned_1 := dk_seg dksX3_planned_0 22 rfl rfl
theorem dX3_planned_0 : decode cX3_planned 0 = .ok (.aload_n 0, 1) := dk_42 (dk_at dksX3_planned_0 0 rfl rfl)
theorem dX3_planned_1 : decode cX3_planned 1 = .ok (.aload_n 0, 1) := dk_42 (dk_at dksX3_planned_0 1 rfl rfl)
theorem dX3_planned_2 : decode cX3_planned 2 = .ok (.iload_n 1, 1) := dk_27 (dk_at dksX3_planned_0 2 rfl rfl)
theorem dX3_planned_3 : decode cX3_planned 3 = .ok (.invokevirtual 103, 3) := dk_182 0 103 (dk_at dksX3_planned_0 3 rfl rfl)
theorem dX3_planned_6 : decode cX3_planned 6 = .ok (.ifCond .ne 7, 3) := dk_154 0 7 (dk_at dksX3_planned_0 6 rfl rfl)
theorem dX3_planned_9 : decode cX3_planned 9 = .ok (.iconst 1, 1) := dk_4 (dk_at dksX3_planned_0 9 rfl rfl)
theorem dX3_planned_10 : decode cX3_planned 10 = .ok (.goto 12, 3) := dk_167 0 12 (dk_at dksX3_planned_0 10 rfl rfl)
theorem dX3_planned_13 : decode cX3_planned 13 = .ok (.iload_n 2, 1) := dk_28 (dk_at dksX3_planned_0 13 rfl rfl)
theorem dX3_planned_14 : decode cX3_planned 14 = .ok (.ifCond .ge 7, 3) := dk_156 0 7 (dk_at dksX3_planned_0 14 rfl rfl)
theorem dX3_planned_17 : decode cX3_planned 17 = .ok (.iconst 2, 1) := dk_5 (dk_at dksX3_planned_0 17 rfl rfl)
theorem dX3_planned_18 : decode cX3_planned 18 = .ok (.goto 4, 3) := dk_167 0 4 (dk_at dksX3_planned_0 18 rfl rfl)
theorem dX3_planned_21 : decode cX3_planned 21 = .ok (.iconst 0, 1) := dk_3 (dk_at dksX3_planned_0 21 rfl rfl)
theorem dX3_planned_22 : decode cX3_planned 22 = .ok (.putfield 49, 3) := dk_181 0 49 (dk_at dksX3_planned_1 0 rfl rfl)
theorem dX3_planned_25 : decode cX3_planned 25 = .ok (.aload_n 0, 1) := dk_42 (dk_at dksX3_planned_1 3 rfl rfl)
theorem dX3_planned_26 : decode cX3_planned 26 = .ok (.getfield 49, 3) := dk_180 0 49 (dk_at dksX3_planned_1 4 rfl rfl)
theorem dX3_planned_29 : decode cX3_planned 29 = .ok (.ifCond .le 7, 3) := dk_158 0 7 (dk_at dksX3_planned_1 7 rfl rfl)
theorem dX3_planned_32 : decode cX3_planned 32 = .ok (.iconst 0, 1) := dk_3 (dk_at dksX3_planned_1 10 rfl rfl)
theorem dX3_planned_33 : decode cX3_planned 33 = .ok (.goto 9, 3) := dk_167 0 9 (dk_at dksX3_planned_1 11 rfl rfl)
theorem dX3_planned_36 : decode cX3_planned 36 = .ok (.aload_n 0, 1) := dk_42 (dk_at dksX3_planned_1 14 rfl rfl)
theorem dX3_planned_37 : decode cX3_planned 37 = .ok (.iload_n 1, 1) := dk_27 (dk_at dksX3_planned_1 15 rfl rfl)
theorem dX3_planned_38 : decode cX3_planned 38 = .ok (.iload_n 2, 1) := dk_28 (dk_at dksX3_planned_1 16 rfl rfl)
theorem dX3_planned_39 : decode cX3_planned 39 = .ok (.invokevirtual 83, 3) := dk_182 0 83 (dk_at dksX3_planned_1 17 rfl rfl)
theorem dX3_planned_42 : decode cX3_planned 42 = .ok (.ireturn, 1) := dk_172 (dk_at dksX3_planned_1 20 rfl rfl)
abbrev cX3_reserved : ByteArray := prog_12_method_52_code
def yX3_reserved : MethodName := ⟨RX3, "reserved", "(II)I"⟩
def dkwX3_reserved_1 : List UInt8 := [181, 0, 49, 42, 180, 0, 49, 158, 0, 7, 3, 167, 0, 9, 42, 27, 28, 182, 0, 168, 172]
abbrev dktX3_reserved_1 : List UInt8 := dkwX3_reserved_1 ++ []
def dkwX3_reserved_0 : List UInt8 := [42, 42, 27, 182, 0, 86, 154, 0, 7, 4, 167, 0, 12, 28, 156, 0, 7, 5, 167, 0, 4, 3]
abbrev dktX3_reserved_0 : List UInt8 := dkwX3_reserved_0 ++ dktX3_reserved_1
theorem dksX3_reserved_0 : cX3_reserved.data.toList.drop 0 = dktX3_reserved_0 := by decide +kernel
theorem dksX3_reserved_1 : cX3_reserved.data.toList.drop 22 = dktX3_reserved_1 := dk_seg dksX3_reserved_0 22 rfl rfl
theorem dX3_reserved_0 : decode cX3_reserved 0 = .ok (.aload_n 0, 1) := dk_42 (dk_at dksX3_reserved_0 0 rfl rfl)
theorem dX3_reserved_1 : decode cX3_reserved 1 = .ok (.aload_n 0, 1) := dk_42 (dk_at dksX3_reserved_0 1 rfl rfl)
theorem dX3_reserved_2 : decode cX3_reserved 2 = .ok (.iload_n 1, 1) := dk_27 (dk_at dksX3_reserved_0 2 rfl rfl)
theorem dX3_reserved_3 : decode cX3_reserved 3 = .ok (.invokevirtual 86, 3) := dk_182 0 86 (dk_at dksX3_reserved_0 3 rfl rfl)
theorem dX3_reserved_6 : decode cX3_reserved 6 = .ok (.ifCond .ne 7, 3) := dk_154 0 7 (dk_at dksX3_reserved_0 6 rfl rfl)
theorem dX3_reserved_9 : decode cX3_reserved 9 = .ok (.iconst 1, 1) := dk_4 (dk_at dksX3_reserved_0 9 rfl rfl)
theorem dX3_reserved_10 : decode cX3_reserved 10 = .ok (.goto 12, 3) := dk_167 0 12 (dk_at dksX3_reserved_0 10 rfl rfl)
theorem dX3_reserved_13 : decode cX3_reserved 13 = .ok (.iload_n 2, 1) := dk_28 (dk_at dksX3_reserved_0 13 rfl rfl)
theorem dX3_reserved_14 : decode cX3_reserved 14 = .ok (.ifCond .ge 7, 3) := dk_156 0 7 (dk_at dksX3_reserved_0 14 rfl rfl)
theorem dX3_reserved_17 : decode cX3_reserved 17 = .ok (.iconst 2, 1) := dk_5 (dk_at dksX3_reserved_0 17 rfl rfl)
theorem dX3_reserved_18 : decode cX3_reserved 18 = .ok (.goto 4, 3) := dk_167 0 4 (dk_at dksX3_reserved_0 18 rfl rfl)
theorem dX3_reserved_21 : decode cX3_reserved 21 = .ok (.iconst 0, 1) := dk_3 (dk_at dksX3_reserved_0 21 rfl rfl)
theorem dX3_reserved_22 : decode cX3_reserved 22 = .ok (.putfield 49, 3) := dk_181 0 49 (dk_at dksX3_reserved_1 0 rfl rfl)
theorem dX3_reserved_25 : decode cX3_reserved 25 = .ok (.aload_n 0, 1) := dk_42 (dk_at dksX3_reserved_1 3 rfl rfl)
theorem dX3_reserved_26 : decode cX3_reserved 26 = .ok (.getfield 49, 3) := dk_180 0 49 (dk_at dksX3_reserved_1 4 rfl rfl)
theorem dX3_reserved_29 : decode cX3_reserved 29 = .ok (.ifCond .le 7, 3) := dk_158 0 7 (dk_at dksX3_reserved_1 7 rfl rfl)
theorem dX3_reserved_32 : decode cX3_reserved 32 = .ok (.iconst 0, 1) := dk_3 (dk_at dksX3_reserved_1 10 rfl rfl)
theorem dX3_reserved_33 : decode cX3_reserved 33 = .ok (.goto 9, 3) := dk_167 0 9 (dk_at dksX3_reserved_1 11 rfl rfl)
theorem dX3_reserved_36 : decode cX3_reserved 36 = .ok (.aload_n 0, 1) := dk_42 (dk_at dksX3_reserved_1 14 rfl rfl)
theorem dX3_reserved_37 : decode cX3_reserved 37 = .ok (.iload_n 1, 1) := dk_27 (dk_at dksX3_reserved_1 15 rfl rfl)
theorem dX3_reserved_38 : decode cX3_reserved 38 = .ok (.iload_n 2, 1) := dk_28 (dk_at dksX3_reserved_1 16 rfl rfl)
theorem dX3_reserved_39 : decode cX3_reserved 39 = .ok (.invokevirtual 168, 3) := dk_182 0 168 (dk_at dksX3_reserved_1 17 rfl rfl)
theorem dX3_reserved_42 : decode cX3_reserved 42 = .ok (.ireturn, 1) := dk_172 (dk_at dksX3_reserved_1 20 rfl rfl)
abbrev cX3_arrival : ByteArray := prog_12_method_53_code
def yX3_arrival : MethodName := ⟨RX3, "arrival", "(II)I"⟩
def dkwX3_arrival_3 : List UInt8 := [167, 0, 4, 3, 181, 0, 49, 42, 180, 0, 49, 158, 0, 7, 3, 167, 0, 4, 29, 172]
abbrev dktX3_arrival_3 : List UInt8 := dkwX3_arrival_3 ++ []
def dkwX3_arrival_2 : List UInt8 := [182, 0, 93, 153, 0, 12, 42, 27, 28, 182, 0, 142, 167, 0, 4, 2, 62, 42, 29, 156, 0, 7, 5]
abbrev dktX3_arrival_2 : List UInt8 := dkwX3_arrival_2 ++ dktX3_arrival_3
def dkwX3_arrival_1 : List UInt8 := [181, 0, 49, 42, 180, 0, 49, 157, 0, 13, 42, 27, 3, 182, 0, 79, 28, 160, 0, 5, 3, 172, 42, 28]
abbrev dktX3_arrival_1 : List UInt8 := dkwX3_arrival_1 ++ dktX3_arrival_2
def dkwX3_arrival_0 : List UInt8 := [42, 42, 27, 182, 0, 103, 153, 0, 15, 42, 28, 182, 0, 86, 153, 0, 7, 3, 167, 0, 4, 4]
abbrev dktX3_arrival_0 : List UInt8 := dkwX3_arrival_0 ++ dktX3_arrival_1
theorem dksX3_arrival_0 : cX3_arrival.data.toList.drop 0 = dktX3_arrival_0 := by decide +kernel
theorem dksX3_arrival_1 : cX3_arrival.data.toList.drop 22 = dktX3_arrival_1 := dk_seg dksX3_arrival_0 22 rfl rfl
theorem dksX3_arrival_2 : cX3_arrival.data.toList.drop 46 = dktX3_arrival_2 := dk_seg dksX3_arrival_1 24 rfl rfl
theorem dksX3_arrival_3 : cX3_arrival.data.toList.drop 69 = dktX3_arrival_3 := dk_seg dksX3_arrival_2 23 rfl rfl
theorem dX3_arrival_0 : decode cX3_arrival 0 = .ok (.aload_n 0, 1) := dk_42 (dk_at dksX3_arrival_0 0 rfl rfl)
theorem dX3_arrival_1 : decode cX3_arrival 1 = .ok (.aload_n 0, 1) := dk_42 (dk_at dksX3_arrival_0 1 rfl rfl)
theorem dX3_arrival_2 : decode cX3_arrival 2 = .ok (.iload_n 1, 1) := dk_27 (dk_at dksX3_arrival_0 2 rfl rfl)
theorem dX3_arrival_3 : decode cX3_arrival 3 = .ok (.invokevirtual 103, 3) := dk_182 0 103 (dk_at dksX3_arrival_0 3 rfl rfl)
theorem dX3_arrival_6 : decode cX3_arrival 6 = .ok (.ifCond .eq 15, 3) := dk_153 0 15 (dk_at dksX3_arrival_0 6 rfl rfl)
theorem dX3_arrival_9 : decode cX3_arrival 9 = .ok (.aload_n 0, 1) := dk_42 (dk_at dksX3_arrival_0 9 rfl rfl)
theorem dX3_arrival_10 : decode cX3_arrival 10 = .ok (.iload_n 2, 1) := dk_28 (dk_at dksX3_arrival_0 10 rfl rfl)
theorem dX3_arrival_11 : decode cX3_arrival 11 = .ok (.invokevirtual 86, 3) := dk_182 0 86 (dk_at dksX3_arrival_0 11 rfl rfl)
theorem dX3_arrival_14 : decode cX3_arrival 14 = .ok (.ifCond .eq 7, 3) := dk_153 0 7 (dk_at dksX3_arrival_0 14 rfl rfl)
theorem dX3_arrival_17 : decode cX3_arrival 17 = .ok (.iconst 0, 1) := dk_3 (dk_at dksX3_arrival_0 17 rfl rfl)
theorem dX3_arrival_18 : decode cX3_arrival 18 = .ok (.goto 4, 3) := dk_167 0 4 (dk_at dksX3_arrival_0 18 rfl rfl)
theorem dX3_arrival_21 : decode cX3_arrival 21 = .ok (.iconst 1, 1) := dk_4 (dk_at dksX3_arrival_0 21 rfl rfl)
theorem dX3_arrival_22 : decode cX3_arrival 22 = .ok (.putfield 49, 3) := dk_181 0 49 (dk_at dksX3_arrival_1 0 rfl rfl)
theorem dX3_arrival_25 : decode cX3_arrival 25 = .ok (.aload_n 0, 1) := dk_42 (dk_at dksX3_arrival_1 3 rfl rfl)
theorem dX3_arrival_26 : decode cX3_arrival 26 = .ok (.getfield 49, 3) := dk_180 0 49 (dk_at dksX3_arrival_1 4 rfl rfl)
theorem dX3_arrival_29 : decode cX3_arrival 29 = .ok (.ifCond .gt 13, 3) := dk_157 0 13 (dk_at dksX3_arrival_1 7 rfl rfl)
theorem dX3_arrival_32 : decode cX3_arrival 32 = .ok (.aload_n 0, 1) := dk_42 (dk_at dksX3_arrival_1 10 rfl rfl)
theorem dX3_arrival_33 : decode cX3_arrival 33 = .ok (.iload_n 1, 1) := dk_27 (dk_at dksX3_arrival_1 11 rfl rfl)
theorem dX3_arrival_34 : decode cX3_arrival 34 = .ok (.iconst 0, 1) := dk_3 (dk_at dksX3_arrival_1 12 rfl rfl)
theorem dX3_arrival_35 : decode cX3_arrival 35 = .ok (.invokevirtual 79, 3) := dk_182 0 79 (dk_at dksX3_arrival_1 13 rfl rfl)
theorem dX3_arrival_38 : decode cX3_arrival 38 = .ok (.iload_n 2, 1) := dk_28 (dk_at dksX3_arrival_1 16 rfl rfl)
theorem dX3_arrival_39 : decode cX3_arrival 39 = .ok (.if_icmp .ne 5, 3) := dk_160 0 5 (dk_at dksX3_arrival_1 17 rfl rfl)
theorem dX3_arrival_42 : decode cX3_arrival 42 = .ok (.iconst 0, 1) := dk_3 (dk_at dksX3_arrival_1 20 rfl rfl)
theorem dX3_arrival_43 : decode cX3_arrival 43 = .ok (.ireturn, 1) := dk_172 (dk_at dksX3_arrival_1 21 rfl rfl)
theorem dX3_arrival_44 : decode cX3_arrival 44 = .ok (.aload_n 0, 1) := dk_42 (dk_at dksX3_arrival_1 22 rfl rfl)
theorem dX3_arrival_45 : decode cX3_arrival 45 = .ok (.iload_n 2, 1) := dk_28 (dk_at dksX3_arrival_1 23 rfl rfl)
theorem dX3_arrival_46 : decode cX3_arrival 46 = .ok (.invokevirtual 93, 3) := dk_182 0 93 (dk_at dksX3_arrival_2 0 rfl rfl)
theorem dX3_arrival_49 : decode cX3_arrival 49 = .ok (.ifCond .eq 12, 3) := dk_153 0 12 (dk_at dksX3_arrival_2 3 rfl rfl)
theorem dX3_arrival_52 : decode cX3_arrival 52 = .ok (.aload_n 0, 1) := dk_42 (dk_at dksX3_arrival_2 6 rfl rfl)
theorem dX3_arrival_53 : decode cX3_arrival 53 = .ok (.iload_n 1, 1) := dk_27 (dk_at dksX3_arrival_2 7 rfl rfl)
theorem dX3_arrival_54 : decode cX3_arrival 54 = .ok (.iload_n 2, 1) := dk_28 (dk_at dksX3_arrival_2 8 rfl rfl)
theorem dX3_arrival_55 : decode cX3_arrival 55 = .ok (.invokevirtual 142, 3) := dk_182 0 142 (dk_at dksX3_arrival_2 9 rfl rfl)
theorem dX3_arrival_58 : decode cX3_arrival 58 = .ok (.goto 4, 3) := dk_167 0 4 (dk_at dksX3_arrival_2 12 rfl rfl)
theorem dX3_arrival_61 : decode cX3_arrival 61 = .ok (.iconst (-1), 1) := dk_2 (dk_at dksX3_arrival_2 15 rfl rfl)
theorem dX3_arrival_62 : decode cX3_arrival 62 = .ok (.istore_n 3, 1) := dk_62 (dk_at dksX3_arrival_2 16 rfl rfl)
theorem dX3_arrival_63 : decode cX3_arrival 63 = .ok (.aload_n 0, 1) := dk_42 (dk_at dksX3_arrival_2 17 rfl rfl)
theorem dX3_arrival_64 : decode cX3_arrival 64 = .ok (.iload_n 3, 1) := dk_29 (dk_at dksX3_arrival_2 18 rfl rfl)
theorem dX3_arrival_65 : decode cX3_arrival 65 = .ok (.ifCond .ge 7, 3) := dk_156 0 7 (dk_at dksX3_arrival_2 19 rfl rfl)
theorem dX3_arrival_68 : decode cX3_arrival 68 = .ok (.iconst 2, 1) := dk_5 (dk_at dksX3_arrival_2 22 rfl rfl)
theorem dX3_arrival_69 : decode cX3_arrival 69 = .ok (.goto 4, 3) := dk_167 0 4 (dk_at dksX3_arrival_3 0 rfl rfl)
theorem dX3_arrival_72 : decode cX3_arrival 72 = .ok (.iconst 0, 1) := dk_3 (dk_at dksX3_arrival_3 3 rfl rfl)
theorem dX3_arrival_73 : decode cX3_arrival 73 = .ok (.putfield 49, 3) := dk_181 0 49 (dk_at dksX3_arrival_3 4 rfl rfl)
theorem dX3_arrival_76 : decode cX3_arrival 76 = .ok (.aload_n 0, 1) := dk_42 (dk_at dksX3_arrival_3 7 rfl rfl)
theorem dX3_arrival_77 : decode cX3_arrival 77 = .ok (.getfield 49, 3) := dk_180 0 49 (dk_at dksX3_arrival_3 8 rfl rfl)
theorem dX3_arrival_80 : decode cX3_arrival 80 = .ok (.ifCond .le 7, 3) := dk_158 0 7 (dk_at dksX3_arrival_3 11 rfl rfl)
theorem dX3_arrival_83 : decode cX3_arrival 83 = .ok (.iconst 0, 1) := dk_3 (dk_at dksX3_arrival_3 14 rfl rfl)
theorem dX3_arrival_84 : decode cX3_arrival 84 = .ok (.goto 4, 3) := dk_167 0 4 (dk_at dksX3_arrival_3 15 rfl rfl)
theorem dX3_arrival_87 : decode cX3_arrival 87 = .ok (.iload_n 3, 1) := dk_29 (dk_at dksX3_arrival_3 18 rfl rfl)
theorem dX3_arrival_88 : decode cX3_arrival 88 = .ok (.ireturn, 1) := dk_172 (dk_at dksX3_arrival_3 19 rfl rfl)
abbrev cX3_arrivalAgain : ByteArray := prog_12_method_54_code
def yX3_arrivalAgain : MethodName := ⟨RX3, "arrivalAgain", "(II)I"⟩
def dkwX3_arrivalAgain_0 : List UInt8 := [42, 27, 28, 182, 0, 179, 172]
abbrev dktX3_arrivalAgain_0 : List UInt8 := dkwX3_arrivalAgain_0 ++ []
theorem dksX3_arrivalAgain_0 : cX3_arrivalAgain.data.toList.drop 0 = dktX3_arrivalAgain_0 := by decide +kernel
theorem dX3_arrivalAgain_0 : decode cX3_arrivalAgain 0 = .ok (.aload_n 0, 1) := dk_42 (dk_at dksX3_arrivalAgain_0 0 rfl rfl)
theorem dX3_arrivalAgain_1 : decode cX3_arrivalAgain 1 = .ok (.iload_n 1, 1) := dk_27 (dk_at dksX3_arrivalAgain_0 1 rfl rfl)
theorem dX3_arrivalAgain_2 : decode cX3_arrivalAgain 2 = .ok (.iload_n 2, 1) := dk_28 (dk_at dksX3_arrivalAgain_0 2 rfl rfl)
theorem dX3_arrivalAgain_3 : decode cX3_arrivalAgain 3 = .ok (.invokevirtual 179, 3) := dk_182 0 179 (dk_at dksX3_arrivalAgain_0 3 rfl rfl)
theorem dX3_arrivalAgain_6 : decode cX3_arrivalAgain 6 = .ok (.ireturn, 1) := dk_172 (dk_at dksX3_arrivalAgain_0 6 rfl rfl)
abbrev cX3_orderOf : ByteArray := prog_12_method_55_code
def yX3_orderOf : MethodName := ⟨RX3, "orderOf", "(II)I"⟩
def dkwX3_orderOf_4 : List UInt8 := [182, 0, 109, 172]
abbrev dktX3_orderOf_4 : List UInt8 := dkwX3_orderOf_4 ++ []
def dkwX3_orderOf_3 : List UInt8 := [42, 27, 182, 0, 115, 172, 42, 27, 6, 182, 0, 109, 172, 42, 27, 7, 182, 0, 109, 172, 42, 27, 28]
abbrev dktX3_orderOf_3 : List UInt8 := dkwX3_orderOf_3 ++ dktX3_orderOf_4
def dkwX3_orderOf_2 : List UInt8 := [170, 0, 0, 0, 0, 0, 0, 48, 0, 0, 0, 3, 0, 0, 0, 5, 0, 0, 0, 28, 0, 0, 0, 34, 0, 0, 0, 41]
abbrev dktX3_orderOf_2 : List UInt8 := dkwX3_orderOf_2 ++ dktX3_orderOf_3
def dkwX3_orderOf_1 : List UInt8 := [167, 0, 4, 3, 181, 0, 49, 42, 180, 0, 49, 158, 0, 5, 3, 172, 28]
abbrev dktX3_orderOf_1 : List UInt8 := dkwX3_orderOf_1 ++ dktX3_orderOf_2
def dkwX3_orderOf_0 : List UInt8 := [42, 42, 27, 182, 0, 112, 154, 0, 7, 4, 167, 0, 17, 28, 3, 8, 184, 0, 71, 154, 0, 7, 5]
abbrev dktX3_orderOf_0 : List UInt8 := dkwX3_orderOf_0 ++ dktX3_orderOf_1
theorem dksX3_orderOf_0 : cX3_orderOf.data.toList.drop 0 = dktX3_orderOf_0 := by decide +kernel
theorem dksX3_orderOf_1 : cX3_orderOf.data.toList.drop 23 = dktX3_orderOf_1 := dk_seg dksX3_orderOf_0 23 rfl rfl
theorem dksX3_orderOf_2 : cX3_orderOf.data.toList.drop 40 = dktX3_orderOf_2 := dk_seg dksX3_orderOf_1 17 rfl rfl
theorem dksX3_orderOf_3 : cX3_orderOf.data.toList.drop 68 = dktX3_orderOf_3 := dk_seg dksX3_orderOf_2 28 rfl rfl
theorem dksX3_orderOf_4 : cX3_orderOf.data.toList.drop 91 = dktX3_orderOf_4 := dk_seg dksX3_orderOf_3 23 rfl rfl
theorem dX3_orderOf_0 : decode cX3_orderOf 0 = .ok (.aload_n 0, 1) := dk_42 (dk_at dksX3_orderOf_0 0 rfl rfl)
theorem dX3_orderOf_1 : decode cX3_orderOf 1 = .ok (.aload_n 0, 1) := dk_42 (dk_at dksX3_orderOf_0 1 rfl rfl)
theorem dX3_orderOf_2 : decode cX3_orderOf 2 = .ok (.iload_n 1, 1) := dk_27 (dk_at dksX3_orderOf_0 2 rfl rfl)
theorem dX3_orderOf_3 : decode cX3_orderOf 3 = .ok (.invokevirtual 112, 3) := dk_182 0 112 (dk_at dksX3_orderOf_0 3 rfl rfl)
theorem dX3_orderOf_6 : decode cX3_orderOf 6 = .ok (.ifCond .ne 7, 3) := dk_154 0 7 (dk_at dksX3_orderOf_0 6 rfl rfl)
theorem dX3_orderOf_9 : decode cX3_orderOf 9 = .ok (.iconst 1, 1) := dk_4 (dk_at dksX3_orderOf_0 9 rfl rfl)
theorem dX3_orderOf_10 : decode cX3_orderOf 10 = .ok (.goto 17, 3) := dk_167 0 17 (dk_at dksX3_orderOf_0 10 rfl rfl)
theorem dX3_orderOf_13 : decode cX3_orderOf 13 = .ok (.iload_n 2, 1) := dk_28 (dk_at dksX3_orderOf_0 13 rfl rfl)
theorem dX3_orderOf_14 : decode cX3_orderOf 14 = .ok (.iconst 0, 1) := dk_3 (dk_at dksX3_orderOf_0 14 rfl rfl)
theorem dX3_orderOf_15 : decode cX3_orderOf 15 = .ok (.iconst 5, 1) := dk_8 (dk_at dksX3_orderOf_0 15 rfl rfl)
theorem dX3_orderOf_16 : decode cX3_orderOf 16 = .ok (.invokestatic 71, 3) := dk_184 0 71 (dk_at dksX3_orderOf_0 16 rfl rfl)
theorem dX3_orderOf_19 : decode cX3_orderOf 19 = .ok (.ifCond .ne 7, 3) := dk_154 0 7 (dk_at dksX3_orderOf_0 19 rfl rfl)
theorem dX3_orderOf_22 : decode cX3_orderOf 22 = .ok (.iconst 2, 1) := dk_5 (dk_at dksX3_orderOf_0 22 rfl rfl)
theorem dX3_orderOf_23 : decode cX3_orderOf 23 = .ok (.goto 4, 3) := dk_167 0 4 (dk_at dksX3_orderOf_1 0 rfl rfl)
theorem dX3_orderOf_26 : decode cX3_orderOf 26 = .ok (.iconst 0, 1) := dk_3 (dk_at dksX3_orderOf_1 3 rfl rfl)
theorem dX3_orderOf_27 : decode cX3_orderOf 27 = .ok (.putfield 49, 3) := dk_181 0 49 (dk_at dksX3_orderOf_1 4 rfl rfl)
theorem dX3_orderOf_30 : decode cX3_orderOf 30 = .ok (.aload_n 0, 1) := dk_42 (dk_at dksX3_orderOf_1 7 rfl rfl)
theorem dX3_orderOf_31 : decode cX3_orderOf 31 = .ok (.getfield 49, 3) := dk_180 0 49 (dk_at dksX3_orderOf_1 8 rfl rfl)
theorem dX3_orderOf_34 : decode cX3_orderOf 34 = .ok (.ifCond .le 5, 3) := dk_158 0 5 (dk_at dksX3_orderOf_1 11 rfl rfl)
theorem dX3_orderOf_37 : decode cX3_orderOf 37 = .ok (.iconst 0, 1) := dk_3 (dk_at dksX3_orderOf_1 14 rfl rfl)
theorem dX3_orderOf_38 : decode cX3_orderOf 38 = .ok (.ireturn, 1) := dk_172 (dk_at dksX3_orderOf_1 15 rfl rfl)
theorem dX3_orderOf_39 : decode cX3_orderOf 39 = .ok (.iload_n 2, 1) := dk_28 (dk_at dksX3_orderOf_1 16 rfl rfl)
theorem dX3_orderOf_40 : decode cX3_orderOf 40 = .ok (.tableswitch 48 3 5 #[28, 34, 41], 28) := by decide +kernel
theorem dX3_orderOf_68 : decode cX3_orderOf 68 = .ok (.aload_n 0, 1) := dk_42 (dk_at dksX3_orderOf_3 0 rfl rfl)
theorem dX3_orderOf_69 : decode cX3_orderOf 69 = .ok (.iload_n 1, 1) := dk_27 (dk_at dksX3_orderOf_3 1 rfl rfl)
theorem dX3_orderOf_70 : decode cX3_orderOf 70 = .ok (.invokevirtual 115, 3) := dk_182 0 115 (dk_at dksX3_orderOf_3 2 rfl rfl)
theorem dX3_orderOf_73 : decode cX3_orderOf 73 = .ok (.ireturn, 1) := dk_172 (dk_at dksX3_orderOf_3 5 rfl rfl)
theorem dX3_orderOf_74 : decode cX3_orderOf 74 = .ok (.aload_n 0, 1) := dk_42 (dk_at dksX3_orderOf_3 6 rfl rfl)
theorem dX3_orderOf_75 : decode cX3_orderOf 75 = .ok (.iload_n 1, 1) := dk_27 (dk_at dksX3_orderOf_3 7 rfl rfl)
theorem dX3_orderOf_76 : decode cX3_orderOf 76 = .ok (.iconst 3, 1) := dk_6 (dk_at dksX3_orderOf_3 8 rfl rfl)
theorem dX3_orderOf_77 : decode cX3_orderOf 77 = .ok (.invokevirtual 109, 3) := dk_182 0 109 (dk_at dksX3_orderOf_3 9 rfl rfl)
theorem dX3_orderOf_80 : decode cX3_orderOf 80 = .ok (.ireturn, 1) := dk_172 (dk_at dksX3_orderOf_3 12 rfl rfl)
theorem dX3_orderOf_81 : decode cX3_orderOf 81 = .ok (.aload_n 0, 1) := dk_42 (dk_at dksX3_orderOf_3 13 rfl rfl)
theorem dX3_orderOf_82 : decode cX3_orderOf 82 = .ok (.iload_n 1, 1) := dk_27 (dk_at dksX3_orderOf_3 14 rfl rfl)
theorem dX3_orderOf_83 : decode cX3_orderOf 83 = .ok (.iconst 4, 1) := dk_7 (dk_at dksX3_orderOf_3 15 rfl rfl)
theorem dX3_orderOf_84 : decode cX3_orderOf 84 = .ok (.invokevirtual 109, 3) := dk_182 0 109 (dk_at dksX3_orderOf_3 16 rfl rfl)
theorem dX3_orderOf_87 : decode cX3_orderOf 87 = .ok (.ireturn, 1) := dk_172 (dk_at dksX3_orderOf_3 19 rfl rfl)
theorem dX3_orderOf_88 : decode cX3_orderOf 88 = .ok (.aload_n 0, 1) := dk_42 (dk_at dksX3_orderOf_3 20 rfl rfl)
theorem dX3_orderOf_89 : decode cX3_orderOf 89 = .ok (.iload_n 1, 1) := dk_27 (dk_at dksX3_orderOf_3 21 rfl rfl)
theorem dX3_orderOf_90 : decode cX3_orderOf 90 = .ok (.iload_n 2, 1) := dk_28 (dk_at dksX3_orderOf_3 22 rfl rfl)
theorem dX3_orderOf_91 : decode cX3_orderOf 91 = .ok (.invokevirtual 109, 3) := dk_182 0 109 (dk_at dksX3_orderOf_4 0 rfl rfl)
theorem dX3_orderOf_94 : decode cX3_orderOf 94 = .ok (.ireturn, 1) := dk_172 (dk_at dksX3_orderOf_4 3 rfl rfl)
abbrev cX3_line : ByteArray := prog_12_method_56_code
def yX3_line : MethodName := ⟨RX3, "line", "(II)I"⟩
def dkwX3_line_2 : List UInt8 := [8, 28, 96, 182, 0, 109, 172]
abbrev dktX3_line_2 : List UInt8 := dkwX3_line_2 ++ []
def dkwX3_line_1 : List UInt8 := [153, 0, 7, 3, 167, 0, 4, 4, 181, 0, 49, 42, 180, 0, 49, 158, 0, 7, 3, 167, 0, 11, 42, 27]
abbrev dktX3_line_1 : List UInt8 := dkwX3_line_1 ++ dktX3_line_2
def dkwX3_line_0 : List UInt8 := [42, 42, 27, 182, 0, 112, 153, 0, 23, 28, 3, 42, 27, 4, 182, 0, 109, 4, 100, 184, 0, 71]
abbrev dktX3_line_0 : List UInt8 := dkwX3_line_0 ++ dktX3_line_1
theorem dksX3_line_0 : cX3_line.data.toList.drop 0 = dktX3_line_0 := by decide +kernel
theorem dksX3_line_1 : cX3_line.data.toList.drop 22 = dktX3_line_1 := dk_seg dksX3_line_0 22 rfl rfl
theorem dksX3_line_2 : cX3_line.data.toList.drop 46 = dktX3_line_2 := dk_seg dksX3_line_1 24 rfl rfl
theorem dX3_line_0 : decode cX3_line 0 = .ok (.aload_n 0, 1) := dk_42 (dk_at dksX3_line_0 0 rfl rfl)
theorem dX3_line_1 : decode cX3_line 1 = .ok (.aload_n 0, 1) := dk_42 (dk_at dksX3_line_0 1 rfl rfl)
theorem dX3_line_2 : decode cX3_line 2 = .ok (.iload_n 1, 1) := dk_27 (dk_at dksX3_line_0 2 rfl rfl)
theorem dX3_line_3 : decode cX3_line 3 = .ok (.invokevirtual 112, 3) := dk_182 0 112 (dk_at dksX3_line_0 3 rfl rfl)
theorem dX3_line_6 : decode cX3_line 6 = .ok (.ifCond .eq 23, 3) := dk_153 0 23 (dk_at dksX3_line_0 6 rfl rfl)
theorem dX3_line_9 : decode cX3_line 9 = .ok (.iload_n 2, 1) := dk_28 (dk_at dksX3_line_0 9 rfl rfl)
theorem dX3_line_10 : decode cX3_line 10 = .ok (.iconst 0, 1) := dk_3 (dk_at dksX3_line_0 10 rfl rfl)
theorem dX3_line_11 : decode cX3_line 11 = .ok (.aload_n 0, 1) := dk_42 (dk_at dksX3_line_0 11 rfl rfl)
theorem dX3_line_12 : decode cX3_line 12 = .ok (.iload_n 1, 1) := dk_27 (dk_at dksX3_line_0 12 rfl rfl)
theorem dX3_line_13 : decode cX3_line 13 = .ok (.iconst 1, 1) := dk_4 (dk_at dksX3_line_0 13 rfl rfl)
theorem dX3_line_14 : decode cX3_line 14 = .ok (.invokevirtual 109, 3) := dk_182 0 109 (dk_at dksX3_line_0 14 rfl rfl)
theorem dX3_line_17 : decode cX3_line 17 = .ok (.iconst 1, 1) := dk_4 (dk_at dksX3_line_0 17 rfl rfl)
theorem dX3_line_18 : decode cX3_line 18 = .ok (.isub, 1) := dk_100 (dk_at dksX3_line_0 18 rfl rfl)
theorem dX3_line_19 : decode cX3_line 19 = .ok (.invokestatic 71, 3) := dk_184 0 71 (dk_at dksX3_line_0 19 rfl rfl)
theorem dX3_line_22 : decode cX3_line 22 = .ok (.ifCond .eq 7, 3) := dk_153 0 7 (dk_at dksX3_line_1 0 rfl rfl)
theorem dX3_line_25 : decode cX3_line 25 = .ok (.iconst 0, 1) := dk_3 (dk_at dksX3_line_1 3 rfl rfl)
theorem dX3_line_26 : decode cX3_line 26 = .ok (.goto 4, 3) := dk_167 0 4 (dk_at dksX3_line_1 4 rfl rfl)
theorem dX3_line_29 : decode cX3_line 29 = .ok (.iconst 1, 1) := dk_4 (dk_at dksX3_line_1 7 rfl rfl)
theorem dX3_line_30 : decode cX3_line 30 = .ok (.putfield 49, 3) := dk_181 0 49 (dk_at dksX3_line_1 8 rfl rfl)
theorem dX3_line_33 : decode cX3_line 33 = .ok (.aload_n 0, 1) := dk_42 (dk_at dksX3_line_1 11 rfl rfl)
theorem dX3_line_34 : decode cX3_line 34 = .ok (.getfield 49, 3) := dk_180 0 49 (dk_at dksX3_line_1 12 rfl rfl)
theorem dX3_line_37 : decode cX3_line 37 = .ok (.ifCond .le 7, 3) := dk_158 0 7 (dk_at dksX3_line_1 15 rfl rfl)
theorem dX3_line_40 : decode cX3_line 40 = .ok (.iconst 0, 1) := dk_3 (dk_at dksX3_line_1 18 rfl rfl)
theorem dX3_line_41 : decode cX3_line 41 = .ok (.goto 11, 3) := dk_167 0 11 (dk_at dksX3_line_1 19 rfl rfl)
theorem dX3_line_44 : decode cX3_line 44 = .ok (.aload_n 0, 1) := dk_42 (dk_at dksX3_line_1 22 rfl rfl)
theorem dX3_line_45 : decode cX3_line 45 = .ok (.iload_n 1, 1) := dk_27 (dk_at dksX3_line_1 23 rfl rfl)
theorem dX3_line_46 : decode cX3_line 46 = .ok (.iconst 5, 1) := dk_8 (dk_at dksX3_line_2 0 rfl rfl)
theorem dX3_line_47 : decode cX3_line 47 = .ok (.iload_n 2, 1) := dk_28 (dk_at dksX3_line_2 1 rfl rfl)
theorem dX3_line_48 : decode cX3_line 48 = .ok (.iadd, 1) := dk_96 (dk_at dksX3_line_2 2 rfl rfl)
theorem dX3_line_49 : decode cX3_line 49 = .ok (.invokevirtual 109, 3) := dk_182 0 109 (dk_at dksX3_line_2 3 rfl rfl)
theorem dX3_line_52 : decode cX3_line 52 = .ok (.ireturn, 1) := dk_172 (dk_at dksX3_line_2 6 rfl rfl)
abbrev cX3_waiting : ByteArray := prog_12_method_58_code
def yX3_waiting : MethodName := ⟨RX3, "waiting", "(I)I"⟩
def dkwX3_waiting_6 : List UInt8 := [167, 0, 4, 29, 172]
abbrev dktX3_waiting_6 : List UInt8 := dkwX3_waiting_6 ++ []
def dkwX3_waiting_5 : List UInt8 := [167, 0, 4, 4, 181, 0, 49, 42, 180, 0, 49, 158, 0, 7, 3, 167, 0, 12, 27, 156, 0, 7, 28]
abbrev dktX3_waiting_5 : List UInt8 := dkwX3_waiting_5 ++ dktX3_waiting_6
def dkwX3_waiting_4 : List UInt8 := [29, 62, 132, 2, 1, 132, 4, 1, 167, 255, 161, 42, 27, 2, 28, 4, 100, 184, 0, 71, 153, 0, 7, 3]
abbrev dktX3_waiting_4 : List UInt8 := dkwX3_waiting_4 ++ dktX3_waiting_5
def dkwX3_waiting_3 : List UInt8 := [167, 0, 4, 3, 96, 54, 5, 132, 6, 1, 167, 255, 212, 21, 5, 27, 160, 0, 8, 21, 4, 167, 0, 4]
abbrev dktX3_waiting_3 : List UInt8 := dkwX3_waiting_3 ++ dktX3_waiting_4
def dkwX3_waiting_2 : List UInt8 := [21, 5, 42, 21, 6, 182, 0, 115, 154, 0, 18, 42, 21, 6, 21, 4, 182, 0, 182, 153, 0, 7, 4]
abbrev dktX3_waiting_2 : List UInt8 := dkwX3_waiting_2 ++ dktX3_waiting_3
def dkwX3_waiting_1 : List UInt8 := [153, 0, 6, 167, 0, 72, 3, 54, 5, 3, 54, 6, 21, 6, 42, 180, 0, 9, 7, 46, 162, 0, 39]
abbrev dktX3_waiting_1 : List UInt8 := dkwX3_waiting_1 ++ dktX3_waiting_2
def dkwX3_waiting_0 : List UInt8 := [3, 61, 2, 62, 3, 54, 4, 21, 4, 42, 180, 0, 9, 7, 46, 162, 0, 90, 42, 21, 4, 182, 0, 115]
abbrev dktX3_waiting_0 : List UInt8 := dkwX3_waiting_0 ++ dktX3_waiting_1
theorem dksX3_waiting_0 : cX3_waiting.data.toList.drop 0 = dktX3_waiting_0 := by decide +kernel
theorem dksX3_waiting_1 : cX3_waiting.data.toList.drop 24 = dktX3_waiting_1 := dk_seg dksX3_waiting_0 24 rfl rfl
theorem dksX3_waiting_2 : cX3_waiting.data.toList.drop 47 = dktX3_waiting_2 := dk_seg dksX3_waiting_1 23 rfl rfl
theorem dksX3_waiting_3 : cX3_waiting.data.toList.drop 70 = dktX3_waiting_3 := dk_seg dksX3_waiting_2 23 rfl rfl
theorem dksX3_waiting_4 : cX3_waiting.data.toList.drop 94 = dktX3_waiting_4 := dk_seg dksX3_waiting_3 24 rfl rfl
theorem dksX3_waiting_5 : cX3_waiting.data.toList.drop 118 = dktX3_waiting_5 := dk_seg dksX3_waiting_4 24 rfl rfl
theorem dksX3_waiting_6 : cX3_waiting.data.toList.drop 141 = dktX3_waiting_6 := dk_seg dksX3_waiting_5 23 rfl rfl
theorem dX3_waiting_0 : decode cX3_waiting 0 = .ok (.iconst 0, 1) := dk_3 (dk_at dksX3_waiting_0 0 rfl rfl)
theorem dX3_waiting_1 : decode cX3_waiting 1 = .ok (.istore_n 2, 1) := dk_61 (dk_at dksX3_waiting_0 1 rfl rfl)
theorem dX3_waiting_2 : decode cX3_waiting 2 = .ok (.iconst (-1), 1) := dk_2 (dk_at dksX3_waiting_0 2 rfl rfl)
theorem dX3_waiting_3 : decode cX3_waiting 3 = .ok (.istore_n 3, 1) := dk_62 (dk_at dksX3_waiting_0 3 rfl rfl)
theorem dX3_waiting_4 : decode cX3_waiting 4 = .ok (.iconst 0, 1) := dk_3 (dk_at dksX3_waiting_0 4 rfl rfl)
theorem dX3_waiting_5 : decode cX3_waiting 5 = .ok (.istore 4, 2) := dk_54 4 (dk_at dksX3_waiting_0 5 rfl rfl)
theorem dX3_waiting_7 : decode cX3_waiting 7 = .ok (.iload 4, 2) := dk_21 4 (dk_at dksX3_waiting_0 7 rfl rfl)
theorem dX3_waiting_9 : decode cX3_waiting 9 = .ok (.aload_n 0, 1) := dk_42 (dk_at dksX3_waiting_0 9 rfl rfl)
theorem dX3_waiting_10 : decode cX3_waiting 10 = .ok (.getfield 9, 3) := dk_180 0 9 (dk_at dksX3_waiting_0 10 rfl rfl)
theorem dX3_waiting_13 : decode cX3_waiting 13 = .ok (.iconst 4, 1) := dk_7 (dk_at dksX3_waiting_0 13 rfl rfl)
theorem dX3_waiting_14 : decode cX3_waiting 14 = .ok (.iaload, 1) := dk_46 (dk_at dksX3_waiting_0 14 rfl rfl)
theorem dX3_waiting_15 : decode cX3_waiting 15 = .ok (.if_icmp .ge 90, 3) := dk_162 0 90 (dk_at dksX3_waiting_0 15 rfl rfl)
theorem dX3_waiting_18 : decode cX3_waiting 18 = .ok (.aload_n 0, 1) := dk_42 (dk_at dksX3_waiting_0 18 rfl rfl)
theorem dX3_waiting_19 : decode cX3_waiting 19 = .ok (.iload 4, 2) := dk_21 4 (dk_at dksX3_waiting_0 19 rfl rfl)
theorem dX3_waiting_21 : decode cX3_waiting 21 = .ok (.invokevirtual 115, 3) := dk_182 0 115 (dk_at dksX3_waiting_0 21 rfl rfl)
theorem dX3_waiting_24 : decode cX3_waiting 24 = .ok (.ifCond .eq 6, 3) := dk_153 0 6 (dk_at dksX3_waiting_1 0 rfl rfl)
theorem dX3_waiting_27 : decode cX3_waiting 27 = .ok (.goto 72, 3) := dk_167 0 72 (dk_at dksX3_waiting_1 3 rfl rfl)
theorem dX3_waiting_30 : decode cX3_waiting 30 = .ok (.iconst 0, 1) := dk_3 (dk_at dksX3_waiting_1 6 rfl rfl)
theorem dX3_waiting_31 : decode cX3_waiting 31 = .ok (.istore 5, 2) := dk_54 5 (dk_at dksX3_waiting_1 7 rfl rfl)
theorem dX3_waiting_33 : decode cX3_waiting 33 = .ok (.iconst 0, 1) := dk_3 (dk_at dksX3_waiting_1 9 rfl rfl)
theorem dX3_waiting_34 : decode cX3_waiting 34 = .ok (.istore 6, 2) := dk_54 6 (dk_at dksX3_waiting_1 10 rfl rfl)
theorem dX3_waiting_36 : decode cX3_waiting 36 = .ok (.iload 6, 2) := dk_21 6 (dk_at dksX3_waiting_1 12 rfl rfl)
theorem dX3_waiting_38 : decode cX3_waiting 38 = .ok (.aload_n 0, 1) := dk_42 (dk_at dksX3_waiting_1 14 rfl rfl)
theorem dX3_waiting_39 : decode cX3_waiting 39 = .ok (.getfield 9, 3) := dk_180 0 9 (dk_at dksX3_waiting_1 15 rfl rfl)
theorem dX3_waiting_42 : decode cX3_waiting 42 = .ok (.iconst 4, 1) := dk_7 (dk_at dksX3_waiting_1 18 rfl rfl)
theorem dX3_waiting_43 : decode cX3_waiting 43 = .ok (.iaload, 1) := dk_46 (dk_at dksX3_waiting_1 19 rfl rfl)
theorem dX3_waiting_44 : decode cX3_waiting 44 = .ok (.if_icmp .ge 39, 3) := dk_162 0 39 (dk_at dksX3_waiting_1 20 rfl rfl)
theorem dX3_waiting_47 : decode cX3_waiting 47 = .ok (.iload 5, 2) := dk_21 5 (dk_at dksX3_waiting_2 0 rfl rfl)
theorem dX3_waiting_49 : decode cX3_waiting 49 = .ok (.aload_n 0, 1) := dk_42 (dk_at dksX3_waiting_2 2 rfl rfl)
theorem dX3_waiting_50 : decode cX3_waiting 50 = .ok (.iload 6, 2) := dk_21 6 (dk_at dksX3_waiting_2 3 rfl rfl)
theorem dX3_waiting_52 : decode cX3_waiting 52 = .ok (.invokevirtual 115, 3) := dk_182 0 115 (dk_at dksX3_waiting_2 5 rfl rfl)
theorem dX3_waiting_55 : decode cX3_waiting 55 = .ok (.ifCond .ne 18, 3) := dk_154 0 18 (dk_at dksX3_waiting_2 8 rfl rfl)
theorem dX3_waiting_58 : decode cX3_waiting 58 = .ok (.aload_n 0, 1) := dk_42 (dk_at dksX3_waiting_2 11 rfl rfl)
theorem dX3_waiting_59 : decode cX3_waiting 59 = .ok (.iload 6, 2) := dk_21 6 (dk_at dksX3_waiting_2 12 rfl rfl)
theorem dX3_waiting_61 : decode cX3_waiting 61 = .ok (.iload 4, 2) := dk_21 4 (dk_at dksX3_waiting_2 14 rfl rfl)
theorem dX3_waiting_63 : decode cX3_waiting 63 = .ok (.invokevirtual 182, 3) := dk_182 0 182 (dk_at dksX3_waiting_2 16 rfl rfl)
theorem dX3_waiting_66 : decode cX3_waiting 66 = .ok (.ifCond .eq 7, 3) := dk_153 0 7 (dk_at dksX3_waiting_2 19 rfl rfl)
theorem dX3_waiting_69 : decode cX3_waiting 69 = .ok (.iconst 1, 1) := dk_4 (dk_at dksX3_waiting_2 22 rfl rfl)
theorem dX3_waiting_70 : decode cX3_waiting 70 = .ok (.goto 4, 3) := dk_167 0 4 (dk_at dksX3_waiting_3 0 rfl rfl)
theorem dX3_waiting_73 : decode cX3_waiting 73 = .ok (.iconst 0, 1) := dk_3 (dk_at dksX3_waiting_3 3 rfl rfl)
theorem dX3_waiting_74 : decode cX3_waiting 74 = .ok (.iadd, 1) := dk_96 (dk_at dksX3_waiting_3 4 rfl rfl)
theorem dX3_waiting_75 : decode cX3_waiting 75 = .ok (.istore 5, 2) := dk_54 5 (dk_at dksX3_waiting_3 5 rfl rfl)
theorem dX3_waiting_77 : decode cX3_waiting 77 = .ok (.iinc 6 1, 3) := dk_132 6 1 (dk_at dksX3_waiting_3 7 rfl rfl)
theorem dX3_waiting_80 : decode cX3_waiting 80 = .ok (.goto (-44), 3) := dk_167 255 212 (dk_at dksX3_waiting_3 10 rfl rfl)
theorem dX3_waiting_83 : decode cX3_waiting 83 = .ok (.iload 5, 2) := dk_21 5 (dk_at dksX3_waiting_3 13 rfl rfl)
theorem dX3_waiting_85 : decode cX3_waiting 85 = .ok (.iload_n 1, 1) := dk_27 (dk_at dksX3_waiting_3 15 rfl rfl)
theorem dX3_waiting_86 : decode cX3_waiting 86 = .ok (.if_icmp .ne 8, 3) := dk_160 0 8 (dk_at dksX3_waiting_3 16 rfl rfl)
theorem dX3_waiting_89 : decode cX3_waiting 89 = .ok (.iload 4, 2) := dk_21 4 (dk_at dksX3_waiting_3 19 rfl rfl)
theorem dX3_waiting_91 : decode cX3_waiting 91 = .ok (.goto 4, 3) := dk_167 0 4 (dk_at dksX3_waiting_3 21 rfl rfl)
theorem dX3_waiting_94 : decode cX3_waiting 94 = .ok (.iload_n 3, 1) := dk_29 (dk_at dksX3_waiting_4 0 rfl rfl)
theorem dX3_waiting_95 : decode cX3_waiting 95 = .ok (.istore_n 3, 1) := dk_62 (dk_at dksX3_waiting_4 1 rfl rfl)
theorem dX3_waiting_96 : decode cX3_waiting 96 = .ok (.iinc 2 1, 3) := dk_132 2 1 (dk_at dksX3_waiting_4 2 rfl rfl)
theorem dX3_waiting_99 : decode cX3_waiting 99 = .ok (.iinc 4 1, 3) := dk_132 4 1 (dk_at dksX3_waiting_4 5 rfl rfl)
theorem dX3_waiting_102 : decode cX3_waiting 102 = .ok (.goto (-95), 3) := dk_167 255 161 (dk_at dksX3_waiting_4 8 rfl rfl)
theorem dX3_waiting_105 : decode cX3_waiting 105 = .ok (.aload_n 0, 1) := dk_42 (dk_at dksX3_waiting_4 11 rfl rfl)
theorem dX3_waiting_106 : decode cX3_waiting 106 = .ok (.iload_n 1, 1) := dk_27 (dk_at dksX3_waiting_4 12 rfl rfl)
theorem dX3_waiting_107 : decode cX3_waiting 107 = .ok (.iconst (-1), 1) := dk_2 (dk_at dksX3_waiting_4 13 rfl rfl)
theorem dX3_waiting_108 : decode cX3_waiting 108 = .ok (.iload_n 2, 1) := dk_28 (dk_at dksX3_waiting_4 14 rfl rfl)
theorem dX3_waiting_109 : decode cX3_waiting 109 = .ok (.iconst 1, 1) := dk_4 (dk_at dksX3_waiting_4 15 rfl rfl)
theorem dX3_waiting_110 : decode cX3_waiting 110 = .ok (.isub, 1) := dk_100 (dk_at dksX3_waiting_4 16 rfl rfl)
theorem dX3_waiting_111 : decode cX3_waiting 111 = .ok (.invokestatic 71, 3) := dk_184 0 71 (dk_at dksX3_waiting_4 17 rfl rfl)
theorem dX3_waiting_114 : decode cX3_waiting 114 = .ok (.ifCond .eq 7, 3) := dk_153 0 7 (dk_at dksX3_waiting_4 20 rfl rfl)
theorem dX3_waiting_117 : decode cX3_waiting 117 = .ok (.iconst 0, 1) := dk_3 (dk_at dksX3_waiting_4 23 rfl rfl)
theorem dX3_waiting_118 : decode cX3_waiting 118 = .ok (.goto 4, 3) := dk_167 0 4 (dk_at dksX3_waiting_5 0 rfl rfl)
theorem dX3_waiting_121 : decode cX3_waiting 121 = .ok (.iconst 1, 1) := dk_4 (dk_at dksX3_waiting_5 3 rfl rfl)
theorem dX3_waiting_122 : decode cX3_waiting 122 = .ok (.putfield 49, 3) := dk_181 0 49 (dk_at dksX3_waiting_5 4 rfl rfl)
theorem dX3_waiting_125 : decode cX3_waiting 125 = .ok (.aload_n 0, 1) := dk_42 (dk_at dksX3_waiting_5 7 rfl rfl)
theorem dX3_waiting_126 : decode cX3_waiting 126 = .ok (.getfield 49, 3) := dk_180 0 49 (dk_at dksX3_waiting_5 8 rfl rfl)
theorem dX3_waiting_129 : decode cX3_waiting 129 = .ok (.ifCond .le 7, 3) := dk_158 0 7 (dk_at dksX3_waiting_5 11 rfl rfl)
theorem dX3_waiting_132 : decode cX3_waiting 132 = .ok (.iconst 0, 1) := dk_3 (dk_at dksX3_waiting_5 14 rfl rfl)
theorem dX3_waiting_133 : decode cX3_waiting 133 = .ok (.goto 12, 3) := dk_167 0 12 (dk_at dksX3_waiting_5 15 rfl rfl)
theorem dX3_waiting_136 : decode cX3_waiting 136 = .ok (.iload_n 1, 1) := dk_27 (dk_at dksX3_waiting_5 18 rfl rfl)
theorem dX3_waiting_137 : decode cX3_waiting 137 = .ok (.ifCond .ge 7, 3) := dk_156 0 7 (dk_at dksX3_waiting_5 19 rfl rfl)
theorem dX3_waiting_140 : decode cX3_waiting 140 = .ok (.iload_n 2, 1) := dk_28 (dk_at dksX3_waiting_5 22 rfl rfl)
theorem dX3_waiting_141 : decode cX3_waiting 141 = .ok (.goto 4, 3) := dk_167 0 4 (dk_at dksX3_waiting_6 0 rfl rfl)
theorem dX3_waiting_144 : decode cX3_waiting 144 = .ok (.iload_n 3, 1) := dk_29 (dk_at dksX3_waiting_6 3 rfl rfl)
theorem dX3_waiting_145 : decode cX3_waiting 145 = .ok (.ireturn, 1) := dk_172 (dk_at dksX3_waiting_6 4 rfl rfl)
abbrev cX3_isAhead : ByteArray := prog_12_method_57_code
def yX3_isAhead : MethodName := ⟨RX3, "isAhead", "(II)Z"⟩
def dkwX3_isAhead_2 : List UInt8 := [29, 62, 29, 155, 0, 12, 29, 154, 0, 12, 27, 28, 162, 0, 7, 4, 167, 0, 4, 3, 172]
abbrev dktX3_isAhead_2 : List UInt8 := dkwX3_isAhead_2 ++ []
def dkwX3_isAhead_1 : List UInt8 := [42, 28, 5, 182, 0, 109, 100, 42, 27, 4, 182, 0, 109, 100, 42, 27, 5, 182, 0, 109, 96, 167, 0, 4]
abbrev dktX3_isAhead_1 : List UInt8 := dkwX3_isAhead_1 ++ dktX3_isAhead_2
def dkwX3_isAhead_0 : List UInt8 := [42, 27, 3, 182, 0, 109, 42, 28, 3, 182, 0, 109, 100, 62, 29, 154, 0, 33, 42, 28, 4, 182, 0, 109]
abbrev dktX3_isAhead_0 : List UInt8 := dkwX3_isAhead_0 ++ dktX3_isAhead_1
theorem dksX3_isAhead_0 : cX3_isAhead.data.toList.drop 0 = dktX3_isAhead_0 := by decide +kernel
theorem dksX3_isAhead_1 : cX3_isAhead.data.toList.drop 24 = dktX3_isAhead_1 := dk_seg dksX3_isAhead_0 24 rfl rfl
theorem dksX3_isAhead_2 : cX3_isAhead.data.toList.drop 48 = dktX3_isAhead_2 := dk_seg dksX3_isAhead_1 24 rfl rfl
theorem dX3_isAhead_0 : decode cX3_isAhead 0 = .ok (.aload_n 0, 1) := dk_42 (dk_at dksX3_isAhead_0 0 rfl rfl)
theorem dX3_isAhead_1 : decode cX3_isAhead 1 = .ok (.iload_n 1, 1) := dk_27 (dk_at dksX3_isAhead_0 1 rfl rfl)
theorem dX3_isAhead_2 : decode cX3_isAhead 2 = .ok (.iconst 0, 1) := dk_3 (dk_at dksX3_isAhead_0 2 rfl rfl)
theorem dX3_isAhead_3 : decode cX3_isAhead 3 = .ok (.invokevirtual 109, 3) := dk_182 0 109 (dk_at dksX3_isAhead_0 3 rfl rfl)
theorem dX3_isAhead_6 : decode cX3_isAhead 6 = .ok (.aload_n 0, 1) := dk_42 (dk_at dksX3_isAhead_0 6 rfl rfl)
theorem dX3_isAhead_7 : decode cX3_isAhead 7 = .ok (.iload_n 2, 1) := dk_28 (dk_at dksX3_isAhead_0 7 rfl rfl)
theorem dX3_isAhead_8 : decode cX3_isAhead 8 = .ok (.iconst 0, 1) := dk_3 (dk_at dksX3_isAhead_0 8 rfl rfl)
theorem dX3_isAhead_9 : decode cX3_isAhead 9 = .ok (.invokevirtual 109, 3) := dk_182 0 109 (dk_at dksX3_isAhead_0 9 rfl rfl)
theorem dX3_isAhead_12 : decode cX3_isAhead 12 = .ok (.isub, 1) := dk_100 (dk_at dksX3_isAhead_0 12 rfl rfl)
theorem dX3_isAhead_13 : decode cX3_isAhead 13 = .ok (.istore_n 3, 1) := dk_62 (dk_at dksX3_isAhead_0 13 rfl rfl)
theorem dX3_isAhead_14 : decode cX3_isAhead 14 = .ok (.iload_n 3, 1) := dk_29 (dk_at dksX3_isAhead_0 14 rfl rfl)
theorem dX3_isAhead_15 : decode cX3_isAhead 15 = .ok (.ifCond .ne 33, 3) := dk_154 0 33 (dk_at dksX3_isAhead_0 15 rfl rfl)
theorem dX3_isAhead_18 : decode cX3_isAhead 18 = .ok (.aload_n 0, 1) := dk_42 (dk_at dksX3_isAhead_0 18 rfl rfl)
theorem dX3_isAhead_19 : decode cX3_isAhead 19 = .ok (.iload_n 2, 1) := dk_28 (dk_at dksX3_isAhead_0 19 rfl rfl)
theorem dX3_isAhead_20 : decode cX3_isAhead 20 = .ok (.iconst 1, 1) := dk_4 (dk_at dksX3_isAhead_0 20 rfl rfl)
theorem dX3_isAhead_21 : decode cX3_isAhead 21 = .ok (.invokevirtual 109, 3) := dk_182 0 109 (dk_at dksX3_isAhead_0 21 rfl rfl)
theorem dX3_isAhead_24 : decode cX3_isAhead 24 = .ok (.aload_n 0, 1) := dk_42 (dk_at dksX3_isAhead_1 0 rfl rfl)
theorem dX3_isAhead_25 : decode cX3_isAhead 25 = .ok (.iload_n 2, 1) := dk_28 (dk_at dksX3_isAhead_1 1 rfl rfl)
theorem dX3_isAhead_26 : decode cX3_isAhead 26 = .ok (.iconst 2, 1) := dk_5 (dk_at dksX3_isAhead_1 2 rfl rfl)
theorem dX3_isAhead_27 : decode cX3_isAhead 27 = .ok (.invokevirtual 109, 3) := dk_182 0 109 (dk_at dksX3_isAhead_1 3 rfl rfl)
theorem dX3_isAhead_30 : decode cX3_isAhead 30 = .ok (.isub, 1) := dk_100 (dk_at dksX3_isAhead_1 6 rfl rfl)
theorem dX3_isAhead_31 : decode cX3_isAhead 31 = .ok (.aload_n 0, 1) := dk_42 (dk_at dksX3_isAhead_1 7 rfl rfl)
theorem dX3_isAhead_32 : decode cX3_isAhead 32 = .ok (.iload_n 1, 1) := dk_27 (dk_at dksX3_isAhead_1 8 rfl rfl)
theorem dX3_isAhead_33 : decode cX3_isAhead 33 = .ok (.iconst 1, 1) := dk_4 (dk_at dksX3_isAhead_1 9 rfl rfl)
theorem dX3_isAhead_34 : decode cX3_isAhead 34 = .ok (.invokevirtual 109, 3) := dk_182 0 109 (dk_at dksX3_isAhead_1 10 rfl rfl)
theorem dX3_isAhead_37 : decode cX3_isAhead 37 = .ok (.isub, 1) := dk_100 (dk_at dksX3_isAhead_1 13 rfl rfl)
theorem dX3_isAhead_38 : decode cX3_isAhead 38 = .ok (.aload_n 0, 1) := dk_42 (dk_at dksX3_isAhead_1 14 rfl rfl)
theorem dX3_isAhead_39 : decode cX3_isAhead 39 = .ok (.iload_n 1, 1) := dk_27 (dk_at dksX3_isAhead_1 15 rfl rfl)
theorem dX3_isAhead_40 : decode cX3_isAhead 40 = .ok (.iconst 2, 1) := dk_5 (dk_at dksX3_isAhead_1 16 rfl rfl)
theorem dX3_isAhead_41 : decode cX3_isAhead 41 = .ok (.invokevirtual 109, 3) := dk_182 0 109 (dk_at dksX3_isAhead_1 17 rfl rfl)
theorem dX3_isAhead_44 : decode cX3_isAhead 44 = .ok (.iadd, 1) := dk_96 (dk_at dksX3_isAhead_1 20 rfl rfl)
theorem dX3_isAhead_45 : decode cX3_isAhead 45 = .ok (.goto 4, 3) := dk_167 0 4 (dk_at dksX3_isAhead_1 21 rfl rfl)
theorem dX3_isAhead_48 : decode cX3_isAhead 48 = .ok (.iload_n 3, 1) := dk_29 (dk_at dksX3_isAhead_2 0 rfl rfl)
theorem dX3_isAhead_49 : decode cX3_isAhead 49 = .ok (.istore_n 3, 1) := dk_62 (dk_at dksX3_isAhead_2 1 rfl rfl)
theorem dX3_isAhead_50 : decode cX3_isAhead 50 = .ok (.iload_n 3, 1) := dk_29 (dk_at dksX3_isAhead_2 2 rfl rfl)
theorem dX3_isAhead_51 : decode cX3_isAhead 51 = .ok (.ifCond .lt 12, 3) := dk_155 0 12 (dk_at dksX3_isAhead_2 3 rfl rfl)
theorem dX3_isAhead_54 : decode cX3_isAhead 54 = .ok (.iload_n 3, 1) := dk_29 (dk_at dksX3_isAhead_2 6 rfl rfl)
theorem dX3_isAhead_55 : decode cX3_isAhead 55 = .ok (.ifCond .ne 12, 3) := dk_154 0 12 (dk_at dksX3_isAhead_2 7 rfl rfl)
theorem dX3_isAhead_58 : decode cX3_isAhead 58 = .ok (.iload_n 1, 1) := dk_27 (dk_at dksX3_isAhead_2 10 rfl rfl)
theorem dX3_isAhead_59 : decode cX3_isAhead 59 = .ok (.iload_n 2, 1) := dk_28 (dk_at dksX3_isAhead_2 11 rfl rfl)
theorem dX3_isAhead_60 : decode cX3_isAhead 60 = .ok (.if_icmp .ge 7, 3) := dk_162 0 7 (dk_at dksX3_isAhead_2 12 rfl rfl)
theorem dX3_isAhead_63 : decode cX3_isAhead 63 = .ok (.iconst 1, 1) := dk_4 (dk_at dksX3_isAhead_2 15 rfl rfl)
theorem dX3_isAhead_64 : decode cX3_isAhead 64 = .ok (.goto 4, 3) := dk_167 0 4 (dk_at dksX3_isAhead_2 16 rfl rfl)
theorem dX3_isAhead_67 : decode cX3_isAhead 67 = .ok (.iconst 0, 1) := dk_3 (dk_at dksX3_isAhead_2 19 rfl rfl)
theorem dX3_isAhead_68 : decode cX3_isAhead 68 = .ok (.ireturn, 1) := dk_172 (dk_at dksX3_isAhead_2 20 rfl rfl)
abbrev cX3_suited : ByteArray := prog_12_method_59_code
def yX3_suited : MethodName := ⟨RX3, "suited", "(I)I"⟩
def dkwX3_suited_6 : List UInt8 := [158, 0, 7, 3, 167, 0, 4, 28, 172]
abbrev dktX3_suited_6 : List UInt8 := dkwX3_suited_6 ++ []
def dkwX3_suited_5 : List UInt8 := [62, 132, 4, 1, 167, 255, 166, 42, 28, 156, 0, 7, 5, 167, 0, 4, 3, 181, 0, 49, 42, 180, 0, 49]
abbrev dktX3_suited_5 : List UInt8 := dkwX3_suited_5 ++ dktX3_suited_6
def dkwX3_suited_4 : List UInt8 := [160, 0, 25, 42, 21, 4, 4, 182, 0, 79, 42, 28, 4, 182, 0, 79, 164, 0, 9, 21, 4, 61, 21, 5]
abbrev dktX3_suited_4 : List UInt8 := dkwX3_suited_4 ++ dktX3_suited_5
def dkwX3_suited_3 : List UInt8 := [182, 0, 165, 54, 5, 21, 5, 155, 0, 41, 28, 155, 0, 31, 21, 5, 29, 161, 0, 25, 21, 5, 29]
abbrev dktX3_suited_3 : List UInt8 := dkwX3_suited_3 ++ dktX3_suited_4
def dkwX3_suited_2 : List UInt8 := [182, 0, 79, 155, 0, 7, 2, 167, 0, 20, 42, 42, 21, 4, 3, 182, 0, 79, 42, 27, 8, 182, 0, 109]
abbrev dktX3_suited_2 : List UInt8 := dkwX3_suited_2 ++ dktX3_suited_3
def dkwX3_suited_1 : List UInt8 := [3, 172, 2, 61, 3, 62, 3, 54, 4, 21, 4, 42, 180, 0, 9, 6, 46, 162, 0, 85, 42, 21, 4, 5]
abbrev dktX3_suited_1 : List UInt8 := dkwX3_suited_1 ++ dktX3_suited_2
def dkwX3_suited_0 : List UInt8 := [42, 42, 27, 182, 0, 112, 153, 0, 7, 3, 167, 0, 4, 4, 181, 0, 49, 42, 180, 0, 49, 158, 0, 5]
abbrev dktX3_suited_0 : List UInt8 := dkwX3_suited_0 ++ dktX3_suited_1
theorem dksX3_suited_0 : cX3_suited.data.toList.drop 0 = dktX3_suited_0 := by decide +kernel
theorem dksX3_suited_1 : cX3_suited.data.toList.drop 24 = dktX3_suited_1 := dk_seg dksX3_suited_0 24 rfl rfl
theorem dksX3_suited_2 : cX3_suited.data.toList.drop 48 = dktX3_suited_2 := dk_seg dksX3_suited_1 24 rfl rfl
theorem dksX3_suited_3 : cX3_suited.data.toList.drop 72 = dktX3_suited_3 := dk_seg dksX3_suited_2 24 rfl rfl
theorem dksX3_suited_4 : cX3_suited.data.toList.drop 95 = dktX3_suited_4 := dk_seg dksX3_suited_3 23 rfl rfl
theorem dksX3_suited_5 : cX3_suited.data.toList.drop 119 = dktX3_suited_5 := dk_seg dksX3_suited_4 24 rfl rfl
theorem dksX3_suited_6 : cX3_suited.data.toList.drop 143 = dktX3_suited_6 := dk_seg dksX3_suited_5 24 rfl rfl
theorem dX3_suited_0 : decode cX3_suited 0 = .ok (.aload_n 0, 1) := dk_42 (dk_at dksX3_suited_0 0 rfl rfl)
theorem dX3_suited_1 : decode cX3_suited 1 = .ok (.aload_n 0, 1) := dk_42 (dk_at dksX3_suited_0 1 rfl rfl)
theorem dX3_suited_2 : decode cX3_suited 2 = .ok (.iload_n 1, 1) := dk_27 (dk_at dksX3_suited_0 2 rfl rfl)
theorem dX3_suited_3 : decode cX3_suited 3 = .ok (.invokevirtual 112, 3) := dk_182 0 112 (dk_at dksX3_suited_0 3 rfl rfl)
theorem dX3_suited_6 : decode cX3_suited 6 = .ok (.ifCond .eq 7, 3) := dk_153 0 7 (dk_at dksX3_suited_0 6 rfl rfl)
theorem dX3_suited_9 : decode cX3_suited 9 = .ok (.iconst 0, 1) := dk_3 (dk_at dksX3_suited_0 9 rfl rfl)
theorem dX3_suited_10 : decode cX3_suited 10 = .ok (.goto 4, 3) := dk_167 0 4 (dk_at dksX3_suited_0 10 rfl rfl)
theorem dX3_suited_13 : decode cX3_suited 13 = .ok (.iconst 1, 1) := dk_4 (dk_at dksX3_suited_0 13 rfl rfl)
theorem dX3_suited_14 : decode cX3_suited 14 = .ok (.putfield 49, 3) := dk_181 0 49 (dk_at dksX3_suited_0 14 rfl rfl)
theorem dX3_suited_17 : decode cX3_suited 17 = .ok (.aload_n 0, 1) := dk_42 (dk_at dksX3_suited_0 17 rfl rfl)
theorem dX3_suited_18 : decode cX3_suited 18 = .ok (.getfield 49, 3) := dk_180 0 49 (dk_at dksX3_suited_0 18 rfl rfl)
theorem dX3_suited_21 : decode cX3_suited 21 = .ok (.ifCond .le 5, 3) := dk_158 0 5 (dk_at dksX3_suited_0 21 rfl rfl)
theorem dX3_suited_24 : decode cX3_suited 24 = .ok (.iconst 0, 1) := dk_3 (dk_at dksX3_suited_1 0 rfl rfl)
theorem dX3_suited_25 : decode cX3_suited 25 = .ok (.ireturn, 1) := dk_172 (dk_at dksX3_suited_1 1 rfl rfl)
theorem dX3_suited_26 : decode cX3_suited 26 = .ok (.iconst (-1), 1) := dk_2 (dk_at dksX3_suited_1 2 rfl rfl)
theorem dX3_suited_27 : decode cX3_suited 27 = .ok (.istore_n 2, 1) := dk_61 (dk_at dksX3_suited_1 3 rfl rfl)
theorem dX3_suited_28 : decode cX3_suited 28 = .ok (.iconst 0, 1) := dk_3 (dk_at dksX3_suited_1 4 rfl rfl)
theorem dX3_suited_29 : decode cX3_suited 29 = .ok (.istore_n 3, 1) := dk_62 (dk_at dksX3_suited_1 5 rfl rfl)
theorem dX3_suited_30 : decode cX3_suited 30 = .ok (.iconst 0, 1) := dk_3 (dk_at dksX3_suited_1 6 rfl rfl)
theorem dX3_suited_31 : decode cX3_suited 31 = .ok (.istore 4, 2) := dk_54 4 (dk_at dksX3_suited_1 7 rfl rfl)
theorem dX3_suited_33 : decode cX3_suited 33 = .ok (.iload 4, 2) := dk_21 4 (dk_at dksX3_suited_1 9 rfl rfl)
theorem dX3_suited_35 : decode cX3_suited 35 = .ok (.aload_n 0, 1) := dk_42 (dk_at dksX3_suited_1 11 rfl rfl)
theorem dX3_suited_36 : decode cX3_suited 36 = .ok (.getfield 9, 3) := dk_180 0 9 (dk_at dksX3_suited_1 12 rfl rfl)
theorem dX3_suited_39 : decode cX3_suited 39 = .ok (.iconst 3, 1) := dk_6 (dk_at dksX3_suited_1 15 rfl rfl)
theorem dX3_suited_40 : decode cX3_suited 40 = .ok (.iaload, 1) := dk_46 (dk_at dksX3_suited_1 16 rfl rfl)
theorem dX3_suited_41 : decode cX3_suited 41 = .ok (.if_icmp .ge 85, 3) := dk_162 0 85 (dk_at dksX3_suited_1 17 rfl rfl)
theorem dX3_suited_44 : decode cX3_suited 44 = .ok (.aload_n 0, 1) := dk_42 (dk_at dksX3_suited_1 20 rfl rfl)
theorem dX3_suited_45 : decode cX3_suited 45 = .ok (.iload 4, 2) := dk_21 4 (dk_at dksX3_suited_1 21 rfl rfl)
theorem dX3_suited_47 : decode cX3_suited 47 = .ok (.iconst 2, 1) := dk_5 (dk_at dksX3_suited_1 23 rfl rfl)
theorem dX3_suited_48 : decode cX3_suited 48 = .ok (.invokevirtual 79, 3) := dk_182 0 79 (dk_at dksX3_suited_2 0 rfl rfl)
theorem dX3_suited_51 : decode cX3_suited 51 = .ok (.ifCond .lt 7, 3) := dk_155 0 7 (dk_at dksX3_suited_2 3 rfl rfl)
theorem dX3_suited_54 : decode cX3_suited 54 = .ok (.iconst (-1), 1) := dk_2 (dk_at dksX3_suited_2 6 rfl rfl)
theorem dX3_suited_55 : decode cX3_suited 55 = .ok (.goto 20, 3) := dk_167 0 20 (dk_at dksX3_suited_2 7 rfl rfl)
theorem dX3_suited_58 : decode cX3_suited 58 = .ok (.aload_n 0, 1) := dk_42 (dk_at dksX3_suited_2 10 rfl rfl)
theorem dX3_suited_59 : decode cX3_suited 59 = .ok (.aload_n 0, 1) := dk_42 (dk_at dksX3_suited_2 11 rfl rfl)
theorem dX3_suited_60 : decode cX3_suited 60 = .ok (.iload 4, 2) := dk_21 4 (dk_at dksX3_suited_2 12 rfl rfl)
theorem dX3_suited_62 : decode cX3_suited 62 = .ok (.iconst 0, 1) := dk_3 (dk_at dksX3_suited_2 14 rfl rfl)
theorem dX3_suited_63 : decode cX3_suited 63 = .ok (.invokevirtual 79, 3) := dk_182 0 79 (dk_at dksX3_suited_2 15 rfl rfl)
theorem dX3_suited_66 : decode cX3_suited 66 = .ok (.aload_n 0, 1) := dk_42 (dk_at dksX3_suited_2 18 rfl rfl)
theorem dX3_suited_67 : decode cX3_suited 67 = .ok (.iload_n 1, 1) := dk_27 (dk_at dksX3_suited_2 19 rfl rfl)
theorem dX3_suited_68 : decode cX3_suited 68 = .ok (.iconst 5, 1) := dk_8 (dk_at dksX3_suited_2 20 rfl rfl)
theorem dX3_suited_69 : decode cX3_suited 69 = .ok (.invokevirtual 109, 3) := dk_182 0 109 (dk_at dksX3_suited_2 21 rfl rfl)
theorem dX3_suited_72 : decode cX3_suited 72 = .ok (.invokevirtual 165, 3) := dk_182 0 165 (dk_at dksX3_suited_3 0 rfl rfl)
theorem dX3_suited_75 : decode cX3_suited 75 = .ok (.istore 5, 2) := dk_54 5 (dk_at dksX3_suited_3 3 rfl rfl)
theorem dX3_suited_77 : decode cX3_suited 77 = .ok (.iload 5, 2) := dk_21 5 (dk_at dksX3_suited_3 5 rfl rfl)
theorem dX3_suited_79 : decode cX3_suited 79 = .ok (.ifCond .lt 41, 3) := dk_155 0 41 (dk_at dksX3_suited_3 7 rfl rfl)
theorem dX3_suited_82 : decode cX3_suited 82 = .ok (.iload_n 2, 1) := dk_28 (dk_at dksX3_suited_3 10 rfl rfl)
theorem dX3_suited_83 : decode cX3_suited 83 = .ok (.ifCond .lt 31, 3) := dk_155 0 31 (dk_at dksX3_suited_3 11 rfl rfl)
theorem dX3_suited_86 : decode cX3_suited 86 = .ok (.iload 5, 2) := dk_21 5 (dk_at dksX3_suited_3 14 rfl rfl)
theorem dX3_suited_88 : decode cX3_suited 88 = .ok (.iload_n 3, 1) := dk_29 (dk_at dksX3_suited_3 16 rfl rfl)
theorem dX3_suited_89 : decode cX3_suited 89 = .ok (.if_icmp .lt 25, 3) := dk_161 0 25 (dk_at dksX3_suited_3 17 rfl rfl)
theorem dX3_suited_92 : decode cX3_suited 92 = .ok (.iload 5, 2) := dk_21 5 (dk_at dksX3_suited_3 20 rfl rfl)
theorem dX3_suited_94 : decode cX3_suited 94 = .ok (.iload_n 3, 1) := dk_29 (dk_at dksX3_suited_3 22 rfl rfl)
theorem dX3_suited_95 : decode cX3_suited 95 = .ok (.if_icmp .ne 25, 3) := dk_160 0 25 (dk_at dksX3_suited_4 0 rfl rfl)
theorem dX3_suited_98 : decode cX3_suited 98 = .ok (.aload_n 0, 1) := dk_42 (dk_at dksX3_suited_4 3 rfl rfl)
theorem dX3_suited_99 : decode cX3_suited 99 = .ok (.iload 4, 2) := dk_21 4 (dk_at dksX3_suited_4 4 rfl rfl)
theorem dX3_suited_101 : decode cX3_suited 101 = .ok (.iconst 1, 1) := dk_4 (dk_at dksX3_suited_4 6 rfl rfl)
theorem dX3_suited_102 : decode cX3_suited 102 = .ok (.invokevirtual 79, 3) := dk_182 0 79 (dk_at dksX3_suited_4 7 rfl rfl)
theorem dX3_suited_105 : decode cX3_suited 105 = .ok (.aload_n 0, 1) := dk_42 (dk_at dksX3_suited_4 10 rfl rfl)
theorem dX3_suited_106 : decode cX3_suited 106 = .ok (.iload_n 2, 1) := dk_28 (dk_at dksX3_suited_4 11 rfl rfl)
theorem dX3_suited_107 : decode cX3_suited 107 = .ok (.iconst 1, 1) := dk_4 (dk_at dksX3_suited_4 12 rfl rfl)
theorem dX3_suited_108 : decode cX3_suited 108 = .ok (.invokevirtual 79, 3) := dk_182 0 79 (dk_at dksX3_suited_4 13 rfl rfl)
theorem dX3_suited_111 : decode cX3_suited 111 = .ok (.if_icmp .le 9, 3) := dk_164 0 9 (dk_at dksX3_suited_4 16 rfl rfl)
theorem dX3_suited_114 : decode cX3_suited 114 = .ok (.iload 4, 2) := dk_21 4 (dk_at dksX3_suited_4 19 rfl rfl)
theorem dX3_suited_116 : decode cX3_suited 116 = .ok (.istore_n 2, 1) := dk_61 (dk_at dksX3_suited_4 21 rfl rfl)
theorem dX3_suited_117 : decode cX3_suited 117 = .ok (.iload 5, 2) := dk_21 5 (dk_at dksX3_suited_4 22 rfl rfl)
theorem dX3_suited_119 : decode cX3_suited 119 = .ok (.istore_n 3, 1) := dk_62 (dk_at dksX3_suited_5 0 rfl rfl)
theorem dX3_suited_120 : decode cX3_suited 120 = .ok (.iinc 4 1, 3) := dk_132 4 1 (dk_at dksX3_suited_5 1 rfl rfl)
theorem dX3_suited_123 : decode cX3_suited 123 = .ok (.goto (-90), 3) := dk_167 255 166 (dk_at dksX3_suited_5 4 rfl rfl)
theorem dX3_suited_126 : decode cX3_suited 126 = .ok (.aload_n 0, 1) := dk_42 (dk_at dksX3_suited_5 7 rfl rfl)
theorem dX3_suited_127 : decode cX3_suited 127 = .ok (.iload_n 2, 1) := dk_28 (dk_at dksX3_suited_5 8 rfl rfl)
theorem dX3_suited_128 : decode cX3_suited 128 = .ok (.ifCond .ge 7, 3) := dk_156 0 7 (dk_at dksX3_suited_5 9 rfl rfl)
theorem dX3_suited_131 : decode cX3_suited 131 = .ok (.iconst 2, 1) := dk_5 (dk_at dksX3_suited_5 12 rfl rfl)
theorem dX3_suited_132 : decode cX3_suited 132 = .ok (.goto 4, 3) := dk_167 0 4 (dk_at dksX3_suited_5 13 rfl rfl)
theorem dX3_suited_135 : decode cX3_suited 135 = .ok (.iconst 0, 1) := dk_3 (dk_at dksX3_suited_5 16 rfl rfl)
theorem dX3_suited_136 : decode cX3_suited 136 = .ok (.putfield 49, 3) := dk_181 0 49 (dk_at dksX3_suited_5 17 rfl rfl)
theorem dX3_suited_139 : decode cX3_suited 139 = .ok (.aload_n 0, 1) := dk_42 (dk_at dksX3_suited_5 20 rfl rfl)
theorem dX3_suited_140 : decode cX3_suited 140 = .ok (.getfield 49, 3) := dk_180 0 49 (dk_at dksX3_suited_5 21 rfl rfl)
theorem dX3_suited_143 : decode cX3_suited 143 = .ok (.ifCond .le 7, 3) := dk_158 0 7 (dk_at dksX3_suited_6 0 rfl rfl)
theorem dX3_suited_146 : decode cX3_suited 146 = .ok (.iconst 0, 1) := dk_3 (dk_at dksX3_suited_6 3 rfl rfl)
theorem dX3_suited_147 : decode cX3_suited 147 = .ok (.goto 4, 3) := dk_167 0 4 (dk_at dksX3_suited_6 4 rfl rfl)
theorem dX3_suited_150 : decode cX3_suited 150 = .ok (.iload_n 2, 1) := dk_28 (dk_at dksX3_suited_6 7 rfl rfl)
theorem dX3_suited_151 : decode cX3_suited 151 = .ok (.ireturn, 1) := dk_172 (dk_at dksX3_suited_6 8 rfl rfl)
abbrev cX3_tour : ByteArray := prog_12_method_60_code
def yX3_tour : MethodName := ⟨RX3, "tour", "(I)I"⟩
def dkwX3_tour_9 : List UInt8 := [3, 167, 0, 4, 5, 181, 0, 49, 42, 180, 0, 49, 158, 0, 7, 3, 167, 0, 7, 28, 21, 5, 96, 172]
abbrev dktX3_tour_9 : List UInt8 := dkwX3_tour_9 ++ []
def dkwX3_tour_8 : List UInt8 := [167, 0, 5, 21, 5, 54, 5, 132, 6, 1, 167, 255, 177, 42, 21, 4, 153, 0, 12, 21, 5, 155, 0, 7]
abbrev dktX3_tour_8 : List UInt8 := dkwX3_tour_8 ++ dktX3_tour_9
def dkwX3_tour_7 : List UInt8 := [155, 0, 15, 42, 180, 0, 32, 21, 6, 46, 21, 5, 162, 0, 13, 42, 180, 0, 32, 21, 6, 46]
abbrev dktX3_tour_7 : List UInt8 := dkwX3_tour_7 ++ dktX3_tour_8
def dkwX3_tour_6 : List UInt8 := [180, 0, 32, 21, 6, 46, 155, 0, 7, 4, 167, 0, 4, 3, 54, 7, 21, 7, 153, 0, 30, 21, 5]
abbrev dktX3_tour_6 : List UInt8 := dkwX3_tour_6 ++ dktX3_tour_7
def dkwX3_tour_5 : List UInt8 := [21, 6, 42, 182, 0, 67, 162, 0, 76, 42, 180, 0, 9, 16, 8, 21, 6, 96, 46, 6, 160, 0, 17, 42]
abbrev dktX3_tour_5 : List UInt8 := dkwX3_tour_5 ++ dktX3_tour_6
def dkwX3_tour_4 : List UInt8 := [21, 5, 96, 182, 0, 109, 62, 132, 5, 1, 167, 255, 194, 42, 29, 182, 0, 162, 2, 54, 5, 3, 54, 6]
abbrev dktX3_tour_4 : List UInt8 := dkwX3_tour_4 ++ dktX3_tour_5
def dkwX3_tour_3 : List UInt8 := [153, 0, 12, 21, 6, 155, 0, 7, 4, 167, 0, 4, 3, 54, 4, 28, 21, 6, 96, 61, 42, 27, 8]
abbrev dktX3_tour_3 : List UInt8 := dkwX3_tour_3 ++ dktX3_tour_4
def dkwX3_tour_2 : List UInt8 := [182, 0, 109, 162, 0, 57, 42, 29, 42, 27, 8, 21, 5, 96, 182, 0, 109, 182, 0, 165, 54, 6, 21, 4]
abbrev dktX3_tour_2 : List UInt8 := dkwX3_tour_2 ++ dktX3_tour_3
def dkwX3_tour_1 : List UInt8 := [3, 172, 3, 61, 42, 27, 8, 182, 0, 109, 62, 4, 54, 4, 4, 54, 5, 21, 5, 42, 27, 4]
abbrev dktX3_tour_1 : List UInt8 := dkwX3_tour_1 ++ dktX3_tour_2
def dkwX3_tour_0 : List UInt8 := [42, 42, 27, 182, 0, 112, 153, 0, 7, 3, 167, 0, 4, 4, 181, 0, 49, 42, 180, 0, 49, 158, 0, 5]
abbrev dktX3_tour_0 : List UInt8 := dkwX3_tour_0 ++ dktX3_tour_1
theorem dksX3_tour_0 : cX3_tour.data.toList.drop 0 = dktX3_tour_0 := by decide +kernel
theorem dksX3_tour_1 : cX3_tour.data.toList.drop 24 = dktX3_tour_1 := dk_seg dksX3_tour_0 24 rfl rfl
theorem dksX3_tour_2 : cX3_tour.data.toList.drop 46 = dktX3_tour_2 := dk_seg dksX3_tour_1 22 rfl rfl
theorem dksX3_tour_3 : cX3_tour.data.toList.drop 70 = dktX3_tour_3 := dk_seg dksX3_tour_2 24 rfl rfl
theorem dksX3_tour_4 : cX3_tour.data.toList.drop 93 = dktX3_tour_4 := dk_seg dksX3_tour_3 23 rfl rfl
theorem dksX3_tour_5 : cX3_tour.data.toList.drop 117 = dktX3_tour_5 := dk_seg dksX3_tour_4 24 rfl rfl
theorem dksX3_tour_6 : cX3_tour.data.toList.drop 141 = dktX3_tour_6 := dk_seg dksX3_tour_5 24 rfl rfl
theorem dksX3_tour_7 : cX3_tour.data.toList.drop 164 = dktX3_tour_7 := dk_seg dksX3_tour_6 23 rfl rfl
theorem dksX3_tour_8 : cX3_tour.data.toList.drop 186 = dktX3_tour_8 := dk_seg dksX3_tour_7 22 rfl rfl
theorem dksX3_tour_9 : cX3_tour.data.toList.drop 210 = dktX3_tour_9 := dk_seg dksX3_tour_8 24 rfl rfl
theorem dX3_tour_0 : decode cX3_tour 0 = .ok (.aload_n 0, 1) := dk_42 (dk_at dksX3_tour_0 0 rfl rfl)
theorem dX3_tour_1 : decode cX3_tour 1 = .ok (.aload_n 0, 1) := dk_42 (dk_at dksX3_tour_0 1 rfl rfl)
theorem dX3_tour_2 : decode cX3_tour 2 = .ok (.iload_n 1, 1) := dk_27 (dk_at dksX3_tour_0 2 rfl rfl)
theorem dX3_tour_3 : decode cX3_tour 3 = .ok (.invokevirtual 112, 3) := dk_182 0 112 (dk_at dksX3_tour_0 3 rfl rfl)
theorem dX3_tour_6 : decode cX3_tour 6 = .ok (.ifCond .eq 7, 3) := dk_153 0 7 (dk_at dksX3_tour_0 6 rfl rfl)
theorem dX3_tour_9 : decode cX3_tour 9 = .ok (.iconst 0, 1) := dk_3 (dk_at dksX3_tour_0 9 rfl rfl)
theorem dX3_tour_10 : decode cX3_tour 10 = .ok (.goto 4, 3) := dk_167 0 4 (dk_at dksX3_tour_0 10 rfl rfl)
theorem dX3_tour_13 : decode cX3_tour 13 = .ok (.iconst 1, 1) := dk_4 (dk_at dksX3_tour_0 13 rfl rfl)
theorem dX3_tour_14 : decode cX3_tour 14 = .ok (.putfield 49, 3) := dk_181 0 49 (dk_at dksX3_tour_0 14 rfl rfl)
theorem dX3_tour_17 : decode cX3_tour 17 = .ok (.aload_n 0, 1) := dk_42 (dk_at dksX3_tour_0 17 rfl rfl)
theorem dX3_tour_18 : decode cX3_tour 18 = .ok (.getfield 49, 3) := dk_180 0 49 (dk_at dksX3_tour_0 18 rfl rfl)
theorem dX3_tour_21 : decode cX3_tour 21 = .ok (.ifCond .le 5, 3) := dk_158 0 5 (dk_at dksX3_tour_0 21 rfl rfl)
theorem dX3_tour_24 : decode cX3_tour 24 = .ok (.iconst 0, 1) := dk_3 (dk_at dksX3_tour_1 0 rfl rfl)
theorem dX3_tour_25 : decode cX3_tour 25 = .ok (.ireturn, 1) := dk_172 (dk_at dksX3_tour_1 1 rfl rfl)
theorem dX3_tour_26 : decode cX3_tour 26 = .ok (.iconst 0, 1) := dk_3 (dk_at dksX3_tour_1 2 rfl rfl)
theorem dX3_tour_27 : decode cX3_tour 27 = .ok (.istore_n 2, 1) := dk_61 (dk_at dksX3_tour_1 3 rfl rfl)
theorem dX3_tour_28 : decode cX3_tour 28 = .ok (.aload_n 0, 1) := dk_42 (dk_at dksX3_tour_1 4 rfl rfl)
theorem dX3_tour_29 : decode cX3_tour 29 = .ok (.iload_n 1, 1) := dk_27 (dk_at dksX3_tour_1 5 rfl rfl)
theorem dX3_tour_30 : decode cX3_tour 30 = .ok (.iconst 5, 1) := dk_8 (dk_at dksX3_tour_1 6 rfl rfl)
theorem dX3_tour_31 : decode cX3_tour 31 = .ok (.invokevirtual 109, 3) := dk_182 0 109 (dk_at dksX3_tour_1 7 rfl rfl)
theorem dX3_tour_34 : decode cX3_tour 34 = .ok (.istore_n 3, 1) := dk_62 (dk_at dksX3_tour_1 10 rfl rfl)
theorem dX3_tour_35 : decode cX3_tour 35 = .ok (.iconst 1, 1) := dk_4 (dk_at dksX3_tour_1 11 rfl rfl)
theorem dX3_tour_36 : decode cX3_tour 36 = .ok (.istore 4, 2) := dk_54 4 (dk_at dksX3_tour_1 12 rfl rfl)
theorem dX3_tour_38 : decode cX3_tour 38 = .ok (.iconst 1, 1) := dk_4 (dk_at dksX3_tour_1 14 rfl rfl)
theorem dX3_tour_39 : decode cX3_tour 39 = .ok (.istore 5, 2) := dk_54 5 (dk_at dksX3_tour_1 15 rfl rfl)
theorem dX3_tour_41 : decode cX3_tour 41 = .ok (.iload 5, 2) := dk_21 5 (dk_at dksX3_tour_1 17 rfl rfl)
theorem dX3_tour_43 : decode cX3_tour 43 = .ok (.aload_n 0, 1) := dk_42 (dk_at dksX3_tour_1 19 rfl rfl)
theorem dX3_tour_44 : decode cX3_tour 44 = .ok (.iload_n 1, 1) := dk_27 (dk_at dksX3_tour_1 20 rfl rfl)
theorem dX3_tour_45 : decode cX3_tour 45 = .ok (.iconst 1, 1) := dk_4 (dk_at dksX3_tour_1 21 rfl rfl)
theorem dX3_tour_46 : decode cX3_tour 46 = .ok (.invokevirtual 109, 3) := dk_182 0 109 (dk_at dksX3_tour_2 0 rfl rfl)
theorem dX3_tour_49 : decode cX3_tour 49 = .ok (.if_icmp .ge 57, 3) := dk_162 0 57 (dk_at dksX3_tour_2 3 rfl rfl)
theorem dX3_tour_52 : decode cX3_tour 52 = .ok (.aload_n 0, 1) := dk_42 (dk_at dksX3_tour_2 6 rfl rfl)
theorem dX3_tour_53 : decode cX3_tour 53 = .ok (.iload_n 3, 1) := dk_29 (dk_at dksX3_tour_2 7 rfl rfl)
theorem dX3_tour_54 : decode cX3_tour 54 = .ok (.aload_n 0, 1) := dk_42 (dk_at dksX3_tour_2 8 rfl rfl)
theorem dX3_tour_55 : decode cX3_tour 55 = .ok (.iload_n 1, 1) := dk_27 (dk_at dksX3_tour_2 9 rfl rfl)
theorem dX3_tour_56 : decode cX3_tour 56 = .ok (.iconst 5, 1) := dk_8 (dk_at dksX3_tour_2 10 rfl rfl)
theorem dX3_tour_57 : decode cX3_tour 57 = .ok (.iload 5, 2) := dk_21 5 (dk_at dksX3_tour_2 11 rfl rfl)
theorem dX3_tour_59 : decode cX3_tour 59 = .ok (.iadd, 1) := dk_96 (dk_at dksX3_tour_2 13 rfl rfl)
theorem dX3_tour_60 : decode cX3_tour 60 = .ok (.invokevirtual 109, 3) := dk_182 0 109 (dk_at dksX3_tour_2 14 rfl rfl)
theorem dX3_tour_63 : decode cX3_tour 63 = .ok (.invokevirtual 165, 3) := dk_182 0 165 (dk_at dksX3_tour_2 17 rfl rfl)
theorem dX3_tour_66 : decode cX3_tour 66 = .ok (.istore 6, 2) := dk_54 6 (dk_at dksX3_tour_2 20 rfl rfl)
theorem dX3_tour_68 : decode cX3_tour 68 = .ok (.iload 4, 2) := dk_21 4 (dk_at dksX3_tour_2 22 rfl rfl)
theorem dX3_tour_70 : decode cX3_tour 70 = .ok (.ifCond .eq 12, 3) := dk_153 0 12 (dk_at dksX3_tour_3 0 rfl rfl)
theorem dX3_tour_73 : decode cX3_tour 73 = .ok (.iload 6, 2) := dk_21 6 (dk_at dksX3_tour_3 3 rfl rfl)
theorem dX3_tour_75 : decode cX3_tour 75 = .ok (.ifCond .lt 7, 3) := dk_155 0 7 (dk_at dksX3_tour_3 5 rfl rfl)
theorem dX3_tour_78 : decode cX3_tour 78 = .ok (.iconst 1, 1) := dk_4 (dk_at dksX3_tour_3 8 rfl rfl)
theorem dX3_tour_79 : decode cX3_tour 79 = .ok (.goto 4, 3) := dk_167 0 4 (dk_at dksX3_tour_3 9 rfl rfl)
theorem dX3_tour_82 : decode cX3_tour 82 = .ok (.iconst 0, 1) := dk_3 (dk_at dksX3_tour_3 12 rfl rfl)
theorem dX3_tour_83 : decode cX3_tour 83 = .ok (.istore 4, 2) := dk_54 4 (dk_at dksX3_tour_3 13 rfl rfl)
theorem dX3_tour_85 : decode cX3_tour 85 = .ok (.iload_n 2, 1) := dk_28 (dk_at dksX3_tour_3 15 rfl rfl)
theorem dX3_tour_86 : decode cX3_tour 86 = .ok (.iload 6, 2) := dk_21 6 (dk_at dksX3_tour_3 16 rfl rfl)
theorem dX3_tour_88 : decode cX3_tour 88 = .ok (.iadd, 1) := dk_96 (dk_at dksX3_tour_3 18 rfl rfl)
theorem dX3_tour_89 : decode cX3_tour 89 = .ok (.istore_n 2, 1) := dk_61 (dk_at dksX3_tour_3 19 rfl rfl)
theorem dX3_tour_90 : decode cX3_tour 90 = .ok (.aload_n 0, 1) := dk_42 (dk_at dksX3_tour_3 20 rfl rfl)
theorem dX3_tour_91 : decode cX3_tour 91 = .ok (.iload_n 1, 1) := dk_27 (dk_at dksX3_tour_3 21 rfl rfl)
theorem dX3_tour_92 : decode cX3_tour 92 = .ok (.iconst 5, 1) := dk_8 (dk_at dksX3_tour_3 22 rfl rfl)
theorem dX3_tour_93 : decode cX3_tour 93 = .ok (.iload 5, 2) := dk_21 5 (dk_at dksX3_tour_4 0 rfl rfl)
theorem dX3_tour_95 : decode cX3_tour 95 = .ok (.iadd, 1) := dk_96 (dk_at dksX3_tour_4 2 rfl rfl)
theorem dX3_tour_96 : decode cX3_tour 96 = .ok (.invokevirtual 109, 3) := dk_182 0 109 (dk_at dksX3_tour_4 3 rfl rfl)
theorem dX3_tour_99 : decode cX3_tour 99 = .ok (.istore_n 3, 1) := dk_62 (dk_at dksX3_tour_4 6 rfl rfl)
theorem dX3_tour_100 : decode cX3_tour 100 = .ok (.iinc 5 1, 3) := dk_132 5 1 (dk_at dksX3_tour_4 7 rfl rfl)
theorem dX3_tour_103 : decode cX3_tour 103 = .ok (.goto (-62), 3) := dk_167 255 194 (dk_at dksX3_tour_4 10 rfl rfl)
theorem dX3_tour_106 : decode cX3_tour 106 = .ok (.aload_n 0, 1) := dk_42 (dk_at dksX3_tour_4 13 rfl rfl)
theorem dX3_tour_107 : decode cX3_tour 107 = .ok (.iload_n 3, 1) := dk_29 (dk_at dksX3_tour_4 14 rfl rfl)
theorem dX3_tour_108 : decode cX3_tour 108 = .ok (.invokevirtual 162, 3) := dk_182 0 162 (dk_at dksX3_tour_4 15 rfl rfl)
theorem dX3_tour_111 : decode cX3_tour 111 = .ok (.iconst (-1), 1) := dk_2 (dk_at dksX3_tour_4 18 rfl rfl)
theorem dX3_tour_112 : decode cX3_tour 112 = .ok (.istore 5, 2) := dk_54 5 (dk_at dksX3_tour_4 19 rfl rfl)
theorem dX3_tour_114 : decode cX3_tour 114 = .ok (.iconst 0, 1) := dk_3 (dk_at dksX3_tour_4 21 rfl rfl)
theorem dX3_tour_115 : decode cX3_tour 115 = .ok (.istore 6, 2) := dk_54 6 (dk_at dksX3_tour_4 22 rfl rfl)
theorem dX3_tour_117 : decode cX3_tour 117 = .ok (.iload 6, 2) := dk_21 6 (dk_at dksX3_tour_5 0 rfl rfl)
theorem dX3_tour_119 : decode cX3_tour 119 = .ok (.aload_n 0, 1) := dk_42 (dk_at dksX3_tour_5 2 rfl rfl)
theorem dX3_tour_120 : decode cX3_tour 120 = .ok (.invokevirtual 67, 3) := dk_182 0 67 (dk_at dksX3_tour_5 3 rfl rfl)
theorem dX3_tour_123 : decode cX3_tour 123 = .ok (.if_icmp .ge 76, 3) := dk_162 0 76 (dk_at dksX3_tour_5 6 rfl rfl)
theorem dX3_tour_126 : decode cX3_tour 126 = .ok (.aload_n 0, 1) := dk_42 (dk_at dksX3_tour_5 9 rfl rfl)
theorem dX3_tour_127 : decode cX3_tour 127 = .ok (.getfield 9, 3) := dk_180 0 9 (dk_at dksX3_tour_5 10 rfl rfl)
theorem dX3_tour_130 : decode cX3_tour 130 = .ok (.bipush 8, 2) := dk_16 8 (dk_at dksX3_tour_5 13 rfl rfl)
theorem dX3_tour_132 : decode cX3_tour 132 = .ok (.iload 6, 2) := dk_21 6 (dk_at dksX3_tour_5 15 rfl rfl)
theorem dX3_tour_134 : decode cX3_tour 134 = .ok (.iadd, 1) := dk_96 (dk_at dksX3_tour_5 17 rfl rfl)
theorem dX3_tour_135 : decode cX3_tour 135 = .ok (.iaload, 1) := dk_46 (dk_at dksX3_tour_5 18 rfl rfl)
theorem dX3_tour_136 : decode cX3_tour 136 = .ok (.iconst 3, 1) := dk_6 (dk_at dksX3_tour_5 19 rfl rfl)
theorem dX3_tour_137 : decode cX3_tour 137 = .ok (.if_icmp .ne 17, 3) := dk_160 0 17 (dk_at dksX3_tour_5 20 rfl rfl)
theorem dX3_tour_140 : decode cX3_tour 140 = .ok (.aload_n 0, 1) := dk_42 (dk_at dksX3_tour_5 23 rfl rfl)
theorem dX3_tour_141 : decode cX3_tour 141 = .ok (.getfield 32, 3) := dk_180 0 32 (dk_at dksX3_tour_6 0 rfl rfl)
theorem dX3_tour_144 : decode cX3_tour 144 = .ok (.iload 6, 2) := dk_21 6 (dk_at dksX3_tour_6 3 rfl rfl)
theorem dX3_tour_146 : decode cX3_tour 146 = .ok (.iaload, 1) := dk_46 (dk_at dksX3_tour_6 5 rfl rfl)
theorem dX3_tour_147 : decode cX3_tour 147 = .ok (.ifCond .lt 7, 3) := dk_155 0 7 (dk_at dksX3_tour_6 6 rfl rfl)
theorem dX3_tour_150 : decode cX3_tour 150 = .ok (.iconst 1, 1) := dk_4 (dk_at dksX3_tour_6 9 rfl rfl)
theorem dX3_tour_151 : decode cX3_tour 151 = .ok (.goto 4, 3) := dk_167 0 4 (dk_at dksX3_tour_6 10 rfl rfl)
theorem dX3_tour_154 : decode cX3_tour 154 = .ok (.iconst 0, 1) := dk_3 (dk_at dksX3_tour_6 13 rfl rfl)
theorem dX3_tour_155 : decode cX3_tour 155 = .ok (.istore 7, 2) := dk_54 7 (dk_at dksX3_tour_6 14 rfl rfl)
theorem dX3_tour_157 : decode cX3_tour 157 = .ok (.iload 7, 2) := dk_21 7 (dk_at dksX3_tour_6 16 rfl rfl)
theorem dX3_tour_159 : decode cX3_tour 159 = .ok (.ifCond .eq 30, 3) := dk_153 0 30 (dk_at dksX3_tour_6 18 rfl rfl)
theorem dX3_tour_162 : decode cX3_tour 162 = .ok (.iload 5, 2) := dk_21 5 (dk_at dksX3_tour_6 21 rfl rfl)
theorem dX3_tour_164 : decode cX3_tour 164 = .ok (.ifCond .lt 15, 3) := dk_155 0 15 (dk_at dksX3_tour_7 0 rfl rfl)
theorem dX3_tour_167 : decode cX3_tour 167 = .ok (.aload_n 0, 1) := dk_42 (dk_at dksX3_tour_7 3 rfl rfl)
theorem dX3_tour_168 : decode cX3_tour 168 = .ok (.getfield 32, 3) := dk_180 0 32 (dk_at dksX3_tour_7 4 rfl rfl)
theorem dX3_tour_171 : decode cX3_tour 171 = .ok (.iload 6, 2) := dk_21 6 (dk_at dksX3_tour_7 7 rfl rfl)
theorem dX3_tour_173 : decode cX3_tour 173 = .ok (.iaload, 1) := dk_46 (dk_at dksX3_tour_7 9 rfl rfl)
theorem dX3_tour_174 : decode cX3_tour 174 = .ok (.iload 5, 2) := dk_21 5 (dk_at dksX3_tour_7 10 rfl rfl)
theorem dX3_tour_176 : decode cX3_tour 176 = .ok (.if_icmp .ge 13, 3) := dk_162 0 13 (dk_at dksX3_tour_7 12 rfl rfl)
theorem dX3_tour_179 : decode cX3_tour 179 = .ok (.aload_n 0, 1) := dk_42 (dk_at dksX3_tour_7 15 rfl rfl)
theorem dX3_tour_180 : decode cX3_tour 180 = .ok (.getfield 32, 3) := dk_180 0 32 (dk_at dksX3_tour_7 16 rfl rfl)
theorem dX3_tour_183 : decode cX3_tour 183 = .ok (.iload 6, 2) := dk_21 6 (dk_at dksX3_tour_7 19 rfl rfl)
theorem dX3_tour_185 : decode cX3_tour 185 = .ok (.iaload, 1) := dk_46 (dk_at dksX3_tour_7 21 rfl rfl)
theorem dX3_tour_186 : decode cX3_tour 186 = .ok (.goto 5, 3) := dk_167 0 5 (dk_at dksX3_tour_8 0 rfl rfl)
theorem dX3_tour_189 : decode cX3_tour 189 = .ok (.iload 5, 2) := dk_21 5 (dk_at dksX3_tour_8 3 rfl rfl)
theorem dX3_tour_191 : decode cX3_tour 191 = .ok (.istore 5, 2) := dk_54 5 (dk_at dksX3_tour_8 5 rfl rfl)
theorem dX3_tour_193 : decode cX3_tour 193 = .ok (.iinc 6 1, 3) := dk_132 6 1 (dk_at dksX3_tour_8 7 rfl rfl)
theorem dX3_tour_196 : decode cX3_tour 196 = .ok (.goto (-79), 3) := dk_167 255 177 (dk_at dksX3_tour_8 10 rfl rfl)
theorem dX3_tour_199 : decode cX3_tour 199 = .ok (.aload_n 0, 1) := dk_42 (dk_at dksX3_tour_8 13 rfl rfl)
theorem dX3_tour_200 : decode cX3_tour 200 = .ok (.iload 4, 2) := dk_21 4 (dk_at dksX3_tour_8 14 rfl rfl)
theorem dX3_tour_202 : decode cX3_tour 202 = .ok (.ifCond .eq 12, 3) := dk_153 0 12 (dk_at dksX3_tour_8 16 rfl rfl)
theorem dX3_tour_205 : decode cX3_tour 205 = .ok (.iload 5, 2) := dk_21 5 (dk_at dksX3_tour_8 19 rfl rfl)
theorem dX3_tour_207 : decode cX3_tour 207 = .ok (.ifCond .lt 7, 3) := dk_155 0 7 (dk_at dksX3_tour_8 21 rfl rfl)
theorem dX3_tour_210 : decode cX3_tour 210 = .ok (.iconst 0, 1) := dk_3 (dk_at dksX3_tour_9 0 rfl rfl)
theorem dX3_tour_211 : decode cX3_tour 211 = .ok (.goto 4, 3) := dk_167 0 4 (dk_at dksX3_tour_9 1 rfl rfl)
theorem dX3_tour_214 : decode cX3_tour 214 = .ok (.iconst 2, 1) := dk_5 (dk_at dksX3_tour_9 4 rfl rfl)
theorem dX3_tour_215 : decode cX3_tour 215 = .ok (.putfield 49, 3) := dk_181 0 49 (dk_at dksX3_tour_9 5 rfl rfl)
theorem dX3_tour_218 : decode cX3_tour 218 = .ok (.aload_n 0, 1) := dk_42 (dk_at dksX3_tour_9 8 rfl rfl)
theorem dX3_tour_219 : decode cX3_tour 219 = .ok (.getfield 49, 3) := dk_180 0 49 (dk_at dksX3_tour_9 9 rfl rfl)
theorem dX3_tour_222 : decode cX3_tour 222 = .ok (.ifCond .le 7, 3) := dk_158 0 7 (dk_at dksX3_tour_9 12 rfl rfl)
theorem dX3_tour_225 : decode cX3_tour 225 = .ok (.iconst 0, 1) := dk_3 (dk_at dksX3_tour_9 15 rfl rfl)
theorem dX3_tour_226 : decode cX3_tour 226 = .ok (.goto 7, 3) := dk_167 0 7 (dk_at dksX3_tour_9 16 rfl rfl)
theorem dX3_tour_229 : decode cX3_tour 229 = .ok (.iload_n 2, 1) := dk_28 (dk_at dksX3_tour_9 19 rfl rfl)
theorem dX3_tour_230 : decode cX3_tour 230 = .ok (.iload 5, 2) := dk_21 5 (dk_at dksX3_tour_9 20 rfl rfl)
theorem dX3_tour_232 : decode cX3_tour 232 = .ok (.iadd, 1) := dk_96 (dk_at dksX3_tour_9 22 rfl rfl)
theorem dX3_tour_233 : decode cX3_tour 233 = .ok (.ireturn, 1) := dk_172 (dk_at dksX3_tour_9 23 rfl rfl)
abbrev cX3_loaded : ByteArray := prog_12_method_61_code
def yX3_loaded : MethodName := ⟨RX3, "loaded", "()F"⟩
def dkwX3_loaded_3 : List UInt8 := [180, 0, 9, 6, 46, 134, 110, 174]
abbrev dktX3_loaded_3 : List UInt8 := dkwX3_loaded_3 ++ []
def dkwX3_loaded_2 : List UInt8 := [182, 0, 145, 153, 0, 7, 4, 167, 0, 4, 3, 96, 60, 132, 2, 1, 167, 255, 227, 27, 134, 42]
abbrev dktX3_loaded_2 : List UInt8 := dkwX3_loaded_2 ++ dktX3_loaded_3
def dkwX3_loaded_1 : List UInt8 := [158, 0, 5, 11, 174, 3, 60, 3, 61, 28, 42, 180, 0, 9, 6, 46, 162, 0, 25, 27, 42, 28]
abbrev dktX3_loaded_1 : List UInt8 := dkwX3_loaded_1 ++ dktX3_loaded_2
def dkwX3_loaded_0 : List UInt8 := [42, 42, 180, 0, 9, 6, 46, 154, 0, 7, 4, 167, 0, 4, 3, 181, 0, 49, 42, 180, 0, 49]
abbrev dktX3_loaded_0 : List UInt8 := dkwX3_loaded_0 ++ dktX3_loaded_1
theorem dksX3_loaded_0 : cX3_loaded.data.toList.drop 0 = dktX3_loaded_0 := by decide +kernel
theorem dksX3_loaded_1 : cX3_loaded.data.toList.drop 22 = dktX3_loaded_1 := dk_seg dksX3_loaded_0 22 rfl rfl
theorem dksX3_loaded_2 : cX3_loaded.data.toList.drop 44 = dktX3_loaded_2 := dk_seg dksX3_loaded_1 22 rfl rfl
theorem dksX3_loaded_3 : cX3_loaded.data.toList.drop 66 = dktX3_loaded_3 := dk_seg dksX3_loaded_2 22 rfl rfl
theorem dX3_loaded_0 : decode cX3_loaded 0 = .ok (.aload_n 0, 1) := dk_42 (dk_at dksX3_loaded_0 0 rfl rfl)
theorem dX3_loaded_1 : decode cX3_loaded 1 = .ok (.aload_n 0, 1) := dk_42 (dk_at dksX3_loaded_0 1 rfl rfl)
theorem dX3_loaded_2 : decode cX3_loaded 2 = .ok (.getfield 9, 3) := dk_180 0 9 (dk_at dksX3_loaded_0 2 rfl rfl)
theorem dX3_loaded_5 : decode cX3_loaded 5 = .ok (.iconst 3, 1) := dk_6 (dk_at dksX3_loaded_0 5 rfl rfl)
theorem dX3_loaded_6 : decode cX3_loaded 6 = .ok (.iaload, 1) := dk_46 (dk_at dksX3_loaded_0 6 rfl rfl)
theorem dX3_loaded_7 : decode cX3_loaded 7 = .ok (.ifCond .ne 7, 3) := dk_154 0 7 (dk_at dksX3_loaded_0 7 rfl rfl)
theorem dX3_loaded_10 : decode cX3_loaded 10 = .ok (.iconst 1, 1) := dk_4 (dk_at dksX3_loaded_0 10 rfl rfl)
theorem dX3_loaded_11 : decode cX3_loaded 11 = .ok (.goto 4, 3) := dk_167 0 4 (dk_at dksX3_loaded_0 11 rfl rfl)
theorem dX3_loaded_14 : decode cX3_loaded 14 = .ok (.iconst 0, 1) := dk_3 (dk_at dksX3_loaded_0 14 rfl rfl)
theorem dX3_loaded_15 : decode cX3_loaded 15 = .ok (.putfield 49, 3) := dk_181 0 49 (dk_at dksX3_loaded_0 15 rfl rfl)
theorem dX3_loaded_18 : decode cX3_loaded 18 = .ok (.aload_n 0, 1) := dk_42 (dk_at dksX3_loaded_0 18 rfl rfl)
theorem dX3_loaded_19 : decode cX3_loaded 19 = .ok (.getfield 49, 3) := dk_180 0 49 (dk_at dksX3_loaded_0 19 rfl rfl)
theorem dX3_loaded_22 : decode cX3_loaded 22 = .ok (.ifCond .le 5, 3) := dk_158 0 5 (dk_at dksX3_loaded_1 0 rfl rfl)
theorem dX3_loaded_25 : decode cX3_loaded 25 = .ok (.fconst 0, 1) := dk_11 (dk_at dksX3_loaded_1 3 rfl rfl)
theorem dX3_loaded_26 : decode cX3_loaded 26 = .ok (.freturn, 1) := dk_174 (dk_at dksX3_loaded_1 4 rfl rfl)
theorem dX3_loaded_27 : decode cX3_loaded 27 = .ok (.iconst 0, 1) := dk_3 (dk_at dksX3_loaded_1 5 rfl rfl)
theorem dX3_loaded_28 : decode cX3_loaded 28 = .ok (.istore_n 1, 1) := dk_60 (dk_at dksX3_loaded_1 6 rfl rfl)
theorem dX3_loaded_29 : decode cX3_loaded 29 = .ok (.iconst 0, 1) := dk_3 (dk_at dksX3_loaded_1 7 rfl rfl)
theorem dX3_loaded_30 : decode cX3_loaded 30 = .ok (.istore_n 2, 1) := dk_61 (dk_at dksX3_loaded_1 8 rfl rfl)
theorem dX3_loaded_31 : decode cX3_loaded 31 = .ok (.iload_n 2, 1) := dk_28 (dk_at dksX3_loaded_1 9 rfl rfl)
theorem dX3_loaded_32 : decode cX3_loaded 32 = .ok (.aload_n 0, 1) := dk_42 (dk_at dksX3_loaded_1 10 rfl rfl)
theorem dX3_loaded_33 : decode cX3_loaded 33 = .ok (.getfield 9, 3) := dk_180 0 9 (dk_at dksX3_loaded_1 11 rfl rfl)
theorem dX3_loaded_36 : decode cX3_loaded 36 = .ok (.iconst 3, 1) := dk_6 (dk_at dksX3_loaded_1 14 rfl rfl)
theorem dX3_loaded_37 : decode cX3_loaded 37 = .ok (.iaload, 1) := dk_46 (dk_at dksX3_loaded_1 15 rfl rfl)
theorem dX3_loaded_38 : decode cX3_loaded 38 = .ok (.if_icmp .ge 25, 3) := dk_162 0 25 (dk_at dksX3_loaded_1 16 rfl rfl)
theorem dX3_loaded_41 : decode cX3_loaded 41 = .ok (.iload_n 1, 1) := dk_27 (dk_at dksX3_loaded_1 19 rfl rfl)
theorem dX3_loaded_42 : decode cX3_loaded 42 = .ok (.aload_n 0, 1) := dk_42 (dk_at dksX3_loaded_1 20 rfl rfl)
theorem dX3_loaded_43 : decode cX3_loaded 43 = .ok (.iload_n 2, 1) := dk_28 (dk_at dksX3_loaded_1 21 rfl rfl)
theorem dX3_loaded_44 : decode cX3_loaded 44 = .ok (.invokevirtual 145, 3) := dk_182 0 145 (dk_at dksX3_loaded_2 0 rfl rfl)
theorem dX3_loaded_47 : decode cX3_loaded 47 = .ok (.ifCond .eq 7, 3) := dk_153 0 7 (dk_at dksX3_loaded_2 3 rfl rfl)
theorem dX3_loaded_50 : decode cX3_loaded 50 = .ok (.iconst 1, 1) := dk_4 (dk_at dksX3_loaded_2 6 rfl rfl)
theorem dX3_loaded_51 : decode cX3_loaded 51 = .ok (.goto 4, 3) := dk_167 0 4 (dk_at dksX3_loaded_2 7 rfl rfl)
theorem dX3_loaded_54 : decode cX3_loaded 54 = .ok (.iconst 0, 1) := dk_3 (dk_at dksX3_loaded_2 10 rfl rfl)
theorem dX3_loaded_55 : decode cX3_loaded 55 = .ok (.iadd, 1) := dk_96 (dk_at dksX3_loaded_2 11 rfl rfl)
theorem dX3_loaded_56 : decode cX3_loaded 56 = .ok (.istore_n 1, 1) := dk_60 (dk_at dksX3_loaded_2 12 rfl rfl)
theorem dX3_loaded_57 : decode cX3_loaded 57 = .ok (.iinc 2 1, 3) := dk_132 2 1 (dk_at dksX3_loaded_2 13 rfl rfl)
theorem dX3_loaded_60 : decode cX3_loaded 60 = .ok (.goto (-29), 3) := dk_167 255 227 (dk_at dksX3_loaded_2 16 rfl rfl)
theorem dX3_loaded_63 : decode cX3_loaded 63 = .ok (.iload_n 1, 1) := dk_27 (dk_at dksX3_loaded_2 19 rfl rfl)
theorem dX3_loaded_64 : decode cX3_loaded 64 = .ok (.i2f, 1) := dk_134 (dk_at dksX3_loaded_2 20 rfl rfl)
theorem dX3_loaded_65 : decode cX3_loaded 65 = .ok (.aload_n 0, 1) := dk_42 (dk_at dksX3_loaded_2 21 rfl rfl)
theorem dX3_loaded_66 : decode cX3_loaded 66 = .ok (.getfield 9, 3) := dk_180 0 9 (dk_at dksX3_loaded_3 0 rfl rfl)
theorem dX3_loaded_69 : decode cX3_loaded 69 = .ok (.iconst 3, 1) := dk_6 (dk_at dksX3_loaded_3 3 rfl rfl)
theorem dX3_loaded_70 : decode cX3_loaded 70 = .ok (.iaload, 1) := dk_46 (dk_at dksX3_loaded_3 4 rfl rfl)
theorem dX3_loaded_71 : decode cX3_loaded 71 = .ok (.i2f, 1) := dk_134 (dk_at dksX3_loaded_3 5 rfl rfl)
theorem dX3_loaded_72 : decode cX3_loaded 72 = .ok (.fdiv, 1) := dk_110 (dk_at dksX3_loaded_3 6 rfl rfl)
theorem dX3_loaded_73 : decode cX3_loaded 73 = .ok (.freturn, 1) := dk_174 (dk_at dksX3_loaded_3 7 rfl rfl)
abbrev cX3_lateness : ByteArray := prog_12_method_62_code
def yX3_lateness : MethodName := ⟨RX3, "lateness", "()D"⟩
def dkwX3_lateness_3 : List UInt8 := [158, 0, 7, 14, 167, 0, 8, 27, 135, 28, 135, 111, 175]
abbrev dktX3_lateness_3 : List UInt8 := dkwX3_lateness_3 ++ []
def dkwX3_lateness_2 : List UInt8 := [132, 3, 1, 167, 255, 215, 42, 28, 154, 0, 7, 4, 167, 0, 4, 3, 181, 0, 49, 42, 180, 0, 49]
abbrev dktX3_lateness_2 : List UInt8 := dkwX3_lateness_2 ++ dktX3_lateness_3
def dkwX3_lateness_1 : List UInt8 := [160, 0, 22, 27, 42, 29, 7, 182, 0, 109, 42, 29, 3, 182, 0, 109, 100, 96, 60, 132, 2, 1]
abbrev dktX3_lateness_1 : List UInt8 := dkwX3_lateness_1 ++ dktX3_lateness_2
def dkwX3_lateness_0 : List UInt8 := [3, 60, 3, 61, 3, 62, 29, 42, 180, 0, 9, 7, 46, 162, 0, 37, 42, 29, 182, 0, 115, 5]
abbrev dktX3_lateness_0 : List UInt8 := dkwX3_lateness_0 ++ dktX3_lateness_1
theorem dksX3_lateness_0 : cX3_lateness.data.toList.drop 0 = dktX3_lateness_0 := by decide +kernel
theorem dksX3_lateness_1 : cX3_lateness.data.toList.drop 22 = dktX3_lateness_1 := dk_seg dksX3_lateness_0 22 rfl rfl
theorem dksX3_lateness_2 : cX3_lateness.data.toList.drop 44 = dktX3_lateness_2 := dk_seg dksX3_lateness_1 22 rfl rfl
theorem dksX3_lateness_3 : cX3_lateness.data.toList.drop 67 = dktX3_lateness_3 := dk_seg dksX3_lateness_2 23 rfl rfl
theorem dX3_lateness_0 : decode cX3_lateness 0 = .ok (.iconst 0, 1) := dk_3 (dk_at dksX3_lateness_0 0 rfl rfl)
theorem dX3_lateness_1 : decode cX3_lateness 1 = .ok (.istore_n 1, 1) := dk_60 (dk_at dksX3_lateness_0 1 rfl rfl)
theorem dX3_lateness_2 : decode cX3_lateness 2 = .ok (.iconst 0, 1) := dk_3 (dk_at dksX3_lateness_0 2 rfl rfl)
theorem dX3_lateness_3 : decode cX3_lateness 3 = .ok (.istore_n 2, 1) := dk_61 (dk_at dksX3_lateness_0 3 rfl rfl)
theorem dX3_lateness_4 : decode cX3_lateness 4 = .ok (.iconst 0, 1) := dk_3 (dk_at dksX3_lateness_0 4 rfl rfl)
theorem dX3_lateness_5 : decode cX3_lateness 5 = .ok (.istore_n 3, 1) := dk_62 (dk_at dksX3_lateness_0 5 rfl rfl)
theorem dX3_lateness_6 : decode cX3_lateness 6 = .ok (.iload_n 3, 1) := dk_29 (dk_at dksX3_lateness_0 6 rfl rfl)
theorem dX3_lateness_7 : decode cX3_lateness 7 = .ok (.aload_n 0, 1) := dk_42 (dk_at dksX3_lateness_0 7 rfl rfl)
theorem dX3_lateness_8 : decode cX3_lateness 8 = .ok (.getfield 9, 3) := dk_180 0 9 (dk_at dksX3_lateness_0 8 rfl rfl)
theorem dX3_lateness_11 : decode cX3_lateness 11 = .ok (.iconst 4, 1) := dk_7 (dk_at dksX3_lateness_0 11 rfl rfl)
theorem dX3_lateness_12 : decode cX3_lateness 12 = .ok (.iaload, 1) := dk_46 (dk_at dksX3_lateness_0 12 rfl rfl)
theorem dX3_lateness_13 : decode cX3_lateness 13 = .ok (.if_icmp .ge 37, 3) := dk_162 0 37 (dk_at dksX3_lateness_0 13 rfl rfl)
theorem dX3_lateness_16 : decode cX3_lateness 16 = .ok (.aload_n 0, 1) := dk_42 (dk_at dksX3_lateness_0 16 rfl rfl)
theorem dX3_lateness_17 : decode cX3_lateness 17 = .ok (.iload_n 3, 1) := dk_29 (dk_at dksX3_lateness_0 17 rfl rfl)
theorem dX3_lateness_18 : decode cX3_lateness 18 = .ok (.invokevirtual 115, 3) := dk_182 0 115 (dk_at dksX3_lateness_0 18 rfl rfl)
theorem dX3_lateness_21 : decode cX3_lateness 21 = .ok (.iconst 2, 1) := dk_5 (dk_at dksX3_lateness_0 21 rfl rfl)
theorem dX3_lateness_22 : decode cX3_lateness 22 = .ok (.if_icmp .ne 22, 3) := dk_160 0 22 (dk_at dksX3_lateness_1 0 rfl rfl)
theorem dX3_lateness_25 : decode cX3_lateness 25 = .ok (.iload_n 1, 1) := dk_27 (dk_at dksX3_lateness_1 3 rfl rfl)
theorem dX3_lateness_26 : decode cX3_lateness 26 = .ok (.aload_n 0, 1) := dk_42 (dk_at dksX3_lateness_1 4 rfl rfl)
theorem dX3_lateness_27 : decode cX3_lateness 27 = .ok (.iload_n 3, 1) := dk_29 (dk_at dksX3_lateness_1 5 rfl rfl)
theorem dX3_lateness_28 : decode cX3_lateness 28 = .ok (.iconst 4, 1) := dk_7 (dk_at dksX3_lateness_1 6 rfl rfl)
theorem dX3_lateness_29 : decode cX3_lateness 29 = .ok (.invokevirtual 109, 3) := dk_182 0 109 (dk_at dksX3_lateness_1 7 rfl rfl)
theorem dX3_lateness_32 : decode cX3_lateness 32 = .ok (.aload_n 0, 1) := dk_42 (dk_at dksX3_lateness_1 10 rfl rfl)
theorem dX3_lateness_33 : decode cX3_lateness 33 = .ok (.iload_n 3, 1) := dk_29 (dk_at dksX3_lateness_1 11 rfl rfl)
theorem dX3_lateness_34 : decode cX3_lateness 34 = .ok (.iconst 0, 1) := dk_3 (dk_at dksX3_lateness_1 12 rfl rfl)
theorem dX3_lateness_35 : decode cX3_lateness 35 = .ok (.invokevirtual 109, 3) := dk_182 0 109 (dk_at dksX3_lateness_1 13 rfl rfl)
theorem dX3_lateness_38 : decode cX3_lateness 38 = .ok (.isub, 1) := dk_100 (dk_at dksX3_lateness_1 16 rfl rfl)
theorem dX3_lateness_39 : decode cX3_lateness 39 = .ok (.iadd, 1) := dk_96 (dk_at dksX3_lateness_1 17 rfl rfl)
theorem dX3_lateness_40 : decode cX3_lateness 40 = .ok (.istore_n 1, 1) := dk_60 (dk_at dksX3_lateness_1 18 rfl rfl)
theorem dX3_lateness_41 : decode cX3_lateness 41 = .ok (.iinc 2 1, 3) := dk_132 2 1 (dk_at dksX3_lateness_1 19 rfl rfl)
theorem dX3_lateness_44 : decode cX3_lateness 44 = .ok (.iinc 3 1, 3) := dk_132 3 1 (dk_at dksX3_lateness_2 0 rfl rfl)
theorem dX3_lateness_47 : decode cX3_lateness 47 = .ok (.goto (-41), 3) := dk_167 255 215 (dk_at dksX3_lateness_2 3 rfl rfl)
theorem dX3_lateness_50 : decode cX3_lateness 50 = .ok (.aload_n 0, 1) := dk_42 (dk_at dksX3_lateness_2 6 rfl rfl)
theorem dX3_lateness_51 : decode cX3_lateness 51 = .ok (.iload_n 2, 1) := dk_28 (dk_at dksX3_lateness_2 7 rfl rfl)
theorem dX3_lateness_52 : decode cX3_lateness 52 = .ok (.ifCond .ne 7, 3) := dk_154 0 7 (dk_at dksX3_lateness_2 8 rfl rfl)
theorem dX3_lateness_55 : decode cX3_lateness 55 = .ok (.iconst 1, 1) := dk_4 (dk_at dksX3_lateness_2 11 rfl rfl)
theorem dX3_lateness_56 : decode cX3_lateness 56 = .ok (.goto 4, 3) := dk_167 0 4 (dk_at dksX3_lateness_2 12 rfl rfl)
theorem dX3_lateness_59 : decode cX3_lateness 59 = .ok (.iconst 0, 1) := dk_3 (dk_at dksX3_lateness_2 15 rfl rfl)
theorem dX3_lateness_60 : decode cX3_lateness 60 = .ok (.putfield 49, 3) := dk_181 0 49 (dk_at dksX3_lateness_2 16 rfl rfl)
theorem dX3_lateness_63 : decode cX3_lateness 63 = .ok (.aload_n 0, 1) := dk_42 (dk_at dksX3_lateness_2 19 rfl rfl)
theorem dX3_lateness_64 : decode cX3_lateness 64 = .ok (.getfield 49, 3) := dk_180 0 49 (dk_at dksX3_lateness_2 20 rfl rfl)
theorem dX3_lateness_67 : decode cX3_lateness 67 = .ok (.ifCond .le 7, 3) := dk_158 0 7 (dk_at dksX3_lateness_3 0 rfl rfl)
theorem dX3_lateness_70 : decode cX3_lateness 70 = .ok (.dconst 0, 1) := dk_14 (dk_at dksX3_lateness_3 3 rfl rfl)
theorem dX3_lateness_71 : decode cX3_lateness 71 = .ok (.goto 8, 3) := dk_167 0 8 (dk_at dksX3_lateness_3 4 rfl rfl)
theorem dX3_lateness_74 : decode cX3_lateness 74 = .ok (.iload_n 1, 1) := dk_27 (dk_at dksX3_lateness_3 7 rfl rfl)
theorem dX3_lateness_75 : decode cX3_lateness 75 = .ok (.i2d, 1) := dk_135 (dk_at dksX3_lateness_3 8 rfl rfl)
theorem dX3_lateness_76 : decode cX3_lateness 76 = .ok (.iload_n 2, 1) := dk_28 (dk_at dksX3_lateness_3 9 rfl rfl)
theorem dX3_lateness_77 : decode cX3_lateness 77 = .ok (.i2d, 1) := dk_135 (dk_at dksX3_lateness_3 10 rfl rfl)
theorem dX3_lateness_78 : decode cX3_lateness 78 = .ok (.ddiv, 1) := dk_111 (dk_at dksX3_lateness_3 11 rfl rfl)
theorem dX3_lateness_79 : decode cX3_lateness 79 = .ok (.dreturn, 1) := dk_175 (dk_at dksX3_lateness_3 12 rfl rfl)
abbrev cX3_reason : ByteArray := prog_12_method_63_code
def yX3_reason : MethodName := ⟨RX3, "reason", "(Z)I"⟩
def dkwX3_reason_1 : List UInt8 := [167, 0, 18, 27, 153, 0, 10, 42, 180, 0, 64, 167, 0, 7, 42, 180, 0, 61, 172]
abbrev dktX3_reason_1 : List UInt8 := dkwX3_reason_1 ++ []
def dkwX3_reason_0 : List UInt8 := [42, 42, 180, 0, 61, 154, 0, 7, 4, 167, 0, 4, 3, 181, 0, 49, 42, 180, 0, 49, 158, 0, 7, 3]
abbrev dktX3_reason_0 : List UInt8 := dkwX3_reason_0 ++ dktX3_reason_1
theorem dksX3_reason_0 : cX3_reason.data.toList.drop 0 = dktX3_reason_0 := by decide +kernel
theorem dksX3_reason_1 : cX3_reason.data.toList.drop 24 = dktX3_reason_1 := dk_seg dksX3_reason_0 24 rfl rfl
theorem dX3_reason_0 : decode cX3_reason 0 = .ok (.aload_n 0, 1) := dk_42 (dk_at dksX3_reason_0 0 rfl rfl)
theorem dX3_reason_1 : decode cX3_reason 1 = .ok (.aload_n 0, 1) := dk_42 (dk_at dksX3_reason_0 1 rfl rfl)
theorem dX3_reason_2 : decode cX3_reason 2 = .ok (.getfield 61, 3) := dk_180 0 61 (dk_at dksX3_reason_0 2 rfl rfl)
theorem dX3_reason_5 : decode cX3_reason 5 = .ok (.ifCond .ne 7, 3) := dk_154 0 7 (dk_at dksX3_reason_0 5 rfl rfl)
theorem dX3_reason_8 : decode cX3_reason 8 = .ok (.iconst 1, 1) := dk_4 (dk_at dksX3_reason_0 8 rfl rfl)
theorem dX3_reason_9 : decode cX3_reason 9 = .ok (.goto 4, 3) := dk_167 0 4 (dk_at dksX3_reason_0 9 rfl rfl)
theorem dX3_reason_12 : decode cX3_reason 12 = .ok (.iconst 0, 1) := dk_3 (dk_at dksX3_reason_0 12 rfl rfl)
theorem dX3_reason_13 : decode cX3_reason 13 = .ok (.putfield 49, 3) := dk_181 0 49 (dk_at dksX3_reason_0 13 rfl rfl)
theorem dX3_reason_16 : decode cX3_reason 16 = .ok (.aload_n 0, 1) := dk_42 (dk_at dksX3_reason_0 16 rfl rfl)
theorem dX3_reason_17 : decode cX3_reason 17 = .ok (.getfield 49, 3) := dk_180 0 49 (dk_at dksX3_reason_0 17 rfl rfl)
theorem dX3_reason_20 : decode cX3_reason 20 = .ok (.ifCond .le 7, 3) := dk_158 0 7 (dk_at dksX3_reason_0 20 rfl rfl)
theorem dX3_reason_23 : decode cX3_reason 23 = .ok (.iconst 0, 1) := dk_3 (dk_at dksX3_reason_0 23 rfl rfl)
theorem dX3_reason_24 : decode cX3_reason 24 = .ok (.goto 18, 3) := dk_167 0 18 (dk_at dksX3_reason_1 0 rfl rfl)
theorem dX3_reason_27 : decode cX3_reason 27 = .ok (.iload_n 1, 1) := dk_27 (dk_at dksX3_reason_1 3 rfl rfl)
theorem dX3_reason_28 : decode cX3_reason 28 = .ok (.ifCond .eq 10, 3) := dk_153 0 10 (dk_at dksX3_reason_1 4 rfl rfl)
theorem dX3_reason_31 : decode cX3_reason 31 = .ok (.aload_n 0, 1) := dk_42 (dk_at dksX3_reason_1 7 rfl rfl)
theorem dX3_reason_32 : decode cX3_reason 32 = .ok (.getfield 64, 3) := dk_180 0 64 (dk_at dksX3_reason_1 8 rfl rfl)
theorem dX3_reason_35 : decode cX3_reason 35 = .ok (.goto 7, 3) := dk_167 0 7 (dk_at dksX3_reason_1 11 rfl rfl)
theorem dX3_reason_38 : decode cX3_reason 38 = .ok (.aload_n 0, 1) := dk_42 (dk_at dksX3_reason_1 14 rfl rfl)
theorem dX3_reason_39 : decode cX3_reason 39 = .ok (.getfield 61, 3) := dk_180 0 61 (dk_at dksX3_reason_1 15 rfl rfl)
theorem dX3_reason_42 : decode cX3_reason 42 = .ok (.ireturn, 1) := dk_172 (dk_at dksX3_reason_1 18 rfl rfl)
abbrev cX3_account : ByteArray := prog_12_method_66_code
def yX3_account : MethodName := ⟨RX3, "account", "(I)I"⟩
def dkwX3_account_6 : List UInt8 := [172, 42, 180, 0, 192, 172, 42, 180, 0, 9, 8, 27, 96, 16, 14, 100, 46, 172]
abbrev dktX3_account_6 : List UInt8 := dkwX3_account_6 ++ []
def dkwX3_account_5 : List UInt8 := [46, 172, 42, 8, 182, 0, 189, 172, 42, 2, 182, 0, 186, 172, 42, 4, 182, 0, 189, 172, 42, 180, 0, 52]
abbrev dktX3_account_5 : List UInt8 := dkwX3_account_5 ++ dktX3_account_6
def dkwX3_account_4 : List UInt8 := [180, 0, 9, 7, 46, 172, 42, 27, 7, 100, 182, 0, 186, 172, 42, 182, 0, 118, 172, 42, 180, 0, 9, 5]
abbrev dktX3_account_4 : List UInt8 := dkwX3_account_4 ++ dktX3_account_5
def dkwX3_account_3 : List UInt8 := [42, 180, 0, 9, 3, 46, 172, 42, 180, 0, 9, 4, 46, 172, 42, 180, 0, 9, 6, 46, 172, 42]
abbrev dktX3_account_3 : List UInt8 := dkwX3_account_3 ++ dktX3_account_4
def dkwX3_account_2 : List UInt8 := [170, 0, 0, 0, 0, 0, 147, 0, 0, 0, 0, 0, 0, 0, 13, 0, 0, 0, 71, 0, 0, 0, 78, 0, 0, 0, 85, 0, 0, 0, 92, 0, 0, 0, 99, 0, 0, 0, 99, 0, 0, 0, 99, 0, 0, 0, 107, 0, 0, 0, 112, 0, 0, 0, 119, 0, 0, 0, 125, 0, 0, 0, 131, 0, 0, 0, 137, 0, 0, 0, 142]
abbrev dktX3_account_2 : List UInt8 := dkwX3_account_2 ++ dktX3_account_3
def dkwX3_account_1 : List UInt8 := [158, 0, 5, 3, 172, 27]
abbrev dktX3_account_1 : List UInt8 := dkwX3_account_1 ++ dktX3_account_2
def dkwX3_account_0 : List UInt8 := [42, 27, 3, 16, 16, 184, 0, 71, 153, 0, 7, 3, 167, 0, 4, 4, 181, 0, 49, 42, 180, 0, 49]
abbrev dktX3_account_0 : List UInt8 := dkwX3_account_0 ++ dktX3_account_1
theorem dksX3_account_0 : cX3_account.data.toList.drop 0 = dktX3_account_0 := by decide +kernel
theorem dksX3_account_1 : cX3_account.data.toList.drop 23 = dktX3_account_1 := dk_seg dksX3_account_0 23 rfl rfl
theorem dksX3_account_2 : cX3_account.data.toList.drop 29 = dktX3_account_2 := dk_seg dksX3_account_1 6 rfl rfl
theorem dksX3_account_3 : cX3_account.data.toList.drop 100 = dktX3_account_3 := dk_seg dksX3_account_2 71 rfl rfl
theorem dksX3_account_4 : cX3_account.data.toList.drop 122 = dktX3_account_4 := dk_seg dksX3_account_3 22 rfl rfl
theorem dksX3_account_5 : cX3_account.data.toList.drop 146 = dktX3_account_5 := dk_seg dksX3_account_4 24 rfl rfl
theorem dksX3_account_6 : cX3_account.data.toList.drop 170 = dktX3_account_6 := dk_seg dksX3_account_5 24 rfl rfl
theorem dX3_account_0 : decode cX3_account 0 = .ok (.aload_n 0, 1) := dk_42 (dk_at dksX3_account_0 0 rfl rfl)
theorem dX3_account_1 : decode cX3_account 1 = .ok (.iload_n 1, 1) := dk_27 (dk_at dksX3_account_0 1 rfl rfl)
theorem dX3_account_2 : decode cX3_account 2 = .ok (.iconst 0, 1) := dk_3 (dk_at dksX3_account_0 2 rfl rfl)
theorem dX3_account_3 : decode cX3_account 3 = .ok (.bipush 16, 2) := dk_16 16 (dk_at dksX3_account_0 3 rfl rfl)
theorem dX3_account_5 : decode cX3_account 5 = .ok (.invokestatic 71, 3) := dk_184 0 71 (dk_at dksX3_account_0 5 rfl rfl)
theorem dX3_account_8 : decode cX3_account 8 = .ok (.ifCond .eq 7, 3) := dk_153 0 7 (dk_at dksX3_account_0 8 rfl rfl)
theorem dX3_account_11 : decode cX3_account 11 = .ok (.iconst 0, 1) := dk_3 (dk_at dksX3_account_0 11 rfl rfl)
theorem dX3_account_12 : decode cX3_account 12 = .ok (.goto 4, 3) := dk_167 0 4 (dk_at dksX3_account_0 12 rfl rfl)
theorem dX3_account_15 : decode cX3_account 15 = .ok (.iconst 1, 1) := dk_4 (dk_at dksX3_account_0 15 rfl rfl)
theorem dX3_account_16 : decode cX3_account 16 = .ok (.putfield 49, 3) := dk_181 0 49 (dk_at dksX3_account_0 16 rfl rfl)
theorem dX3_account_19 : decode cX3_account 19 = .ok (.aload_n 0, 1) := dk_42 (dk_at dksX3_account_0 19 rfl rfl)
theorem dX3_account_20 : decode cX3_account 20 = .ok (.getfield 49, 3) := dk_180 0 49 (dk_at dksX3_account_0 20 rfl rfl)
theorem dX3_account_23 : decode cX3_account 23 = .ok (.ifCond .le 5, 3) := dk_158 0 5 (dk_at dksX3_account_1 0 rfl rfl)
theorem dX3_account_26 : decode cX3_account 26 = .ok (.iconst 0, 1) := dk_3 (dk_at dksX3_account_1 3 rfl rfl)
theorem dX3_account_27 : decode cX3_account 27 = .ok (.ireturn, 1) := dk_172 (dk_at dksX3_account_1 4 rfl rfl)
theorem dX3_account_28 : decode cX3_account 28 = .ok (.iload_n 1, 1) := dk_27 (dk_at dksX3_account_1 5 rfl rfl)
theorem dX3_account_29 : decode cX3_account 29 = .ok (.tableswitch 147 0 13 #[71, 78, 85, 92, 99, 99, 99, 107, 112, 119, 125, 131, 137, 142], 71) := by decide +kernel
theorem dX3_account_100 : decode cX3_account 100 = .ok (.aload_n 0, 1) := dk_42 (dk_at dksX3_account_3 0 rfl rfl)
theorem dX3_account_101 : decode cX3_account 101 = .ok (.getfield 9, 3) := dk_180 0 9 (dk_at dksX3_account_3 1 rfl rfl)
theorem dX3_account_104 : decode cX3_account 104 = .ok (.iconst 0, 1) := dk_3 (dk_at dksX3_account_3 4 rfl rfl)
theorem dX3_account_105 : decode cX3_account 105 = .ok (.iaload, 1) := dk_46 (dk_at dksX3_account_3 5 rfl rfl)
theorem dX3_account_106 : decode cX3_account 106 = .ok (.ireturn, 1) := dk_172 (dk_at dksX3_account_3 6 rfl rfl)
theorem dX3_account_107 : decode cX3_account 107 = .ok (.aload_n 0, 1) := dk_42 (dk_at dksX3_account_3 7 rfl rfl)
theorem dX3_account_108 : decode cX3_account 108 = .ok (.getfield 9, 3) := dk_180 0 9 (dk_at dksX3_account_3 8 rfl rfl)
theorem dX3_account_111 : decode cX3_account 111 = .ok (.iconst 1, 1) := dk_4 (dk_at dksX3_account_3 11 rfl rfl)
theorem dX3_account_112 : decode cX3_account 112 = .ok (.iaload, 1) := dk_46 (dk_at dksX3_account_3 12 rfl rfl)
theorem dX3_account_113 : decode cX3_account 113 = .ok (.ireturn, 1) := dk_172 (dk_at dksX3_account_3 13 rfl rfl)
theorem dX3_account_114 : decode cX3_account 114 = .ok (.aload_n 0, 1) := dk_42 (dk_at dksX3_account_3 14 rfl rfl)
theorem dX3_account_115 : decode cX3_account 115 = .ok (.getfield 9, 3) := dk_180 0 9 (dk_at dksX3_account_3 15 rfl rfl)
theorem dX3_account_118 : decode cX3_account 118 = .ok (.iconst 3, 1) := dk_6 (dk_at dksX3_account_3 18 rfl rfl)
theorem dX3_account_119 : decode cX3_account 119 = .ok (.iaload, 1) := dk_46 (dk_at dksX3_account_3 19 rfl rfl)
theorem dX3_account_120 : decode cX3_account 120 = .ok (.ireturn, 1) := dk_172 (dk_at dksX3_account_3 20 rfl rfl)
theorem dX3_account_121 : decode cX3_account 121 = .ok (.aload_n 0, 1) := dk_42 (dk_at dksX3_account_3 21 rfl rfl)
theorem dX3_account_122 : decode cX3_account 122 = .ok (.getfield 9, 3) := dk_180 0 9 (dk_at dksX3_account_4 0 rfl rfl)
theorem dX3_account_125 : decode cX3_account 125 = .ok (.iconst 4, 1) := dk_7 (dk_at dksX3_account_4 3 rfl rfl)
theorem dX3_account_126 : decode cX3_account 126 = .ok (.iaload, 1) := dk_46 (dk_at dksX3_account_4 4 rfl rfl)
theorem dX3_account_127 : decode cX3_account 127 = .ok (.ireturn, 1) := dk_172 (dk_at dksX3_account_4 5 rfl rfl)
theorem dX3_account_128 : decode cX3_account 128 = .ok (.aload_n 0, 1) := dk_42 (dk_at dksX3_account_4 6 rfl rfl)
theorem dX3_account_129 : decode cX3_account 129 = .ok (.iload_n 1, 1) := dk_27 (dk_at dksX3_account_4 7 rfl rfl)
theorem dX3_account_130 : decode cX3_account 130 = .ok (.iconst 4, 1) := dk_7 (dk_at dksX3_account_4 8 rfl rfl)
theorem dX3_account_131 : decode cX3_account 131 = .ok (.isub, 1) := dk_100 (dk_at dksX3_account_4 9 rfl rfl)
theorem dX3_account_132 : decode cX3_account 132 = .ok (.invokevirtual 186, 3) := dk_182 0 186 (dk_at dksX3_account_4 10 rfl rfl)
theorem dX3_account_135 : decode cX3_account 135 = .ok (.ireturn, 1) := dk_172 (dk_at dksX3_account_4 13 rfl rfl)
theorem dX3_account_136 : decode cX3_account 136 = .ok (.aload_n 0, 1) := dk_42 (dk_at dksX3_account_4 14 rfl rfl)
theorem dX3_account_137 : decode cX3_account 137 = .ok (.invokevirtual 118, 3) := dk_182 0 118 (dk_at dksX3_account_4 15 rfl rfl)
theorem dX3_account_140 : decode cX3_account 140 = .ok (.ireturn, 1) := dk_172 (dk_at dksX3_account_4 18 rfl rfl)
theorem dX3_account_141 : decode cX3_account 141 = .ok (.aload_n 0, 1) := dk_42 (dk_at dksX3_account_4 19 rfl rfl)
theorem dX3_account_142 : decode cX3_account 142 = .ok (.getfield 9, 3) := dk_180 0 9 (dk_at dksX3_account_4 20 rfl rfl)
theorem dX3_account_145 : decode cX3_account 145 = .ok (.iconst 2, 1) := dk_5 (dk_at dksX3_account_4 23 rfl rfl)
theorem dX3_account_146 : decode cX3_account 146 = .ok (.iaload, 1) := dk_46 (dk_at dksX3_account_5 0 rfl rfl)
theorem dX3_account_147 : decode cX3_account 147 = .ok (.ireturn, 1) := dk_172 (dk_at dksX3_account_5 1 rfl rfl)
theorem dX3_account_148 : decode cX3_account 148 = .ok (.aload_n 0, 1) := dk_42 (dk_at dksX3_account_5 2 rfl rfl)
theorem dX3_account_149 : decode cX3_account 149 = .ok (.iconst 5, 1) := dk_8 (dk_at dksX3_account_5 3 rfl rfl)
theorem dX3_account_150 : decode cX3_account 150 = .ok (.invokevirtual 189, 3) := dk_182 0 189 (dk_at dksX3_account_5 4 rfl rfl)
theorem dX3_account_153 : decode cX3_account 153 = .ok (.ireturn, 1) := dk_172 (dk_at dksX3_account_5 7 rfl rfl)
theorem dX3_account_154 : decode cX3_account 154 = .ok (.aload_n 0, 1) := dk_42 (dk_at dksX3_account_5 8 rfl rfl)
theorem dX3_account_155 : decode cX3_account 155 = .ok (.iconst (-1), 1) := dk_2 (dk_at dksX3_account_5 9 rfl rfl)
theorem dX3_account_156 : decode cX3_account 156 = .ok (.invokevirtual 186, 3) := dk_182 0 186 (dk_at dksX3_account_5 10 rfl rfl)
theorem dX3_account_159 : decode cX3_account 159 = .ok (.ireturn, 1) := dk_172 (dk_at dksX3_account_5 13 rfl rfl)
theorem dX3_account_160 : decode cX3_account 160 = .ok (.aload_n 0, 1) := dk_42 (dk_at dksX3_account_5 14 rfl rfl)
theorem dX3_account_161 : decode cX3_account 161 = .ok (.iconst 1, 1) := dk_4 (dk_at dksX3_account_5 15 rfl rfl)
theorem dX3_account_162 : decode cX3_account 162 = .ok (.invokevirtual 189, 3) := dk_182 0 189 (dk_at dksX3_account_5 16 rfl rfl)
theorem dX3_account_165 : decode cX3_account 165 = .ok (.ireturn, 1) := dk_172 (dk_at dksX3_account_5 19 rfl rfl)
theorem dX3_account_166 : decode cX3_account 166 = .ok (.aload_n 0, 1) := dk_42 (dk_at dksX3_account_5 20 rfl rfl)
theorem dX3_account_167 : decode cX3_account 167 = .ok (.getfield 52, 3) := dk_180 0 52 (dk_at dksX3_account_5 21 rfl rfl)
theorem dX3_account_170 : decode cX3_account 170 = .ok (.ireturn, 1) := dk_172 (dk_at dksX3_account_6 0 rfl rfl)
theorem dX3_account_171 : decode cX3_account 171 = .ok (.aload_n 0, 1) := dk_42 (dk_at dksX3_account_6 1 rfl rfl)
theorem dX3_account_172 : decode cX3_account 172 = .ok (.getfield 192, 3) := dk_180 0 192 (dk_at dksX3_account_6 2 rfl rfl)
theorem dX3_account_175 : decode cX3_account 175 = .ok (.ireturn, 1) := dk_172 (dk_at dksX3_account_6 5 rfl rfl)
theorem dX3_account_176 : decode cX3_account 176 = .ok (.aload_n 0, 1) := dk_42 (dk_at dksX3_account_6 6 rfl rfl)
theorem dX3_account_177 : decode cX3_account 177 = .ok (.getfield 9, 3) := dk_180 0 9 (dk_at dksX3_account_6 7 rfl rfl)
theorem dX3_account_180 : decode cX3_account 180 = .ok (.iconst 5, 1) := dk_8 (dk_at dksX3_account_6 10 rfl rfl)
theorem dX3_account_181 : decode cX3_account 181 = .ok (.iload_n 1, 1) := dk_27 (dk_at dksX3_account_6 11 rfl rfl)
theorem dX3_account_182 : decode cX3_account 182 = .ok (.iadd, 1) := dk_96 (dk_at dksX3_account_6 12 rfl rfl)
theorem dX3_account_183 : decode cX3_account 183 = .ok (.bipush 14, 2) := dk_16 14 (dk_at dksX3_account_6 13 rfl rfl)
theorem dX3_account_185 : decode cX3_account 185 = .ok (.isub, 1) := dk_100 (dk_at dksX3_account_6 15 rfl rfl)
theorem dX3_account_186 : decode cX3_account 186 = .ok (.iaload, 1) := dk_46 (dk_at dksX3_account_6 16 rfl rfl)
theorem dX3_account_187 : decode cX3_account 187 = .ok (.ireturn, 1) := dk_172 (dk_at dksX3_account_6 17 rfl rfl)
abbrev cX3_overOrders : ByteArray := prog_12_method_65_code
def yX3_overOrders : MethodName := ⟨RX3, "overOrders", "(I)I"⟩
def dkwX3_overOrders_2 : List UInt8 := [132, 3, 1, 167, 255, 213, 28, 172]
abbrev dktX3_overOrders_2 : List UInt8 := dkwX3_overOrders_2 ++ []
def dkwX3_overOrders_1 : List UInt8 := [182, 0, 109, 167, 0, 17, 42, 29, 182, 0, 115, 27, 160, 0, 7, 4, 167, 0, 4, 3, 96, 61]
abbrev dktX3_overOrders_1 : List UInt8 := dkwX3_overOrders_1 ++ dktX3_overOrders_2
def dkwX3_overOrders_0 : List UInt8 := [3, 61, 3, 62, 29, 42, 180, 0, 9, 7, 46, 162, 0, 39, 28, 27, 156, 0, 12, 42, 29, 5]
abbrev dktX3_overOrders_0 : List UInt8 := dkwX3_overOrders_0 ++ dktX3_overOrders_1
theorem dksX3_overOrders_0 : cX3_overOrders.data.toList.drop 0 = dktX3_overOrders_0 := by decide +kernel
theorem dksX3_overOrders_1 : cX3_overOrders.data.toList.drop 22 = dktX3_overOrders_1 := dk_seg dksX3_overOrders_0 22 rfl rfl
theorem dksX3_overOrders_2 : cX3_overOrders.data.toList.drop 44 = dktX3_overOrders_2 := dk_seg dksX3_overOrders_1 22 rfl rfl
theorem dX3_overOrders_0 : decode cX3_overOrders 0 = .ok (.iconst 0, 1) := dk_3 (dk_at dksX3_overOrders_0 0 rfl rfl)
theorem dX3_overOrders_1 : decode cX3_overOrders 1 = .ok (.istore_n 2, 1) := dk_61 (dk_at dksX3_overOrders_0 1 rfl rfl)
theorem dX3_overOrders_2 : decode cX3_overOrders 2 = .ok (.iconst 0, 1) := dk_3 (dk_at dksX3_overOrders_0 2 rfl rfl)
theorem dX3_overOrders_3 : decode cX3_overOrders 3 = .ok (.istore_n 3, 1) := dk_62 (dk_at dksX3_overOrders_0 3 rfl rfl)
theorem dX3_overOrders_4 : decode cX3_overOrders 4 = .ok (.iload_n 3, 1) := dk_29 (dk_at dksX3_overOrders_0 4 rfl rfl)
theorem dX3_overOrders_5 : decode cX3_overOrders 5 = .ok (.aload_n 0, 1) := dk_42 (dk_at dksX3_overOrders_0 5 rfl rfl)
theorem dX3_overOrders_6 : decode cX3_overOrders 6 = .ok (.getfield 9, 3) := dk_180 0 9 (dk_at dksX3_overOrders_0 6 rfl rfl)
theorem dX3_overOrders_9 : decode cX3_overOrders 9 = .ok (.iconst 4, 1) := dk_7 (dk_at dksX3_overOrders_0 9 rfl rfl)
theorem dX3_overOrders_10 : decode cX3_overOrders 10 = .ok (.iaload, 1) := dk_46 (dk_at dksX3_overOrders_0 10 rfl rfl)
theorem dX3_overOrders_11 : decode cX3_overOrders 11 = .ok (.if_icmp .ge 39, 3) := dk_162 0 39 (dk_at dksX3_overOrders_0 11 rfl rfl)
theorem dX3_overOrders_14 : decode cX3_overOrders 14 = .ok (.iload_n 2, 1) := dk_28 (dk_at dksX3_overOrders_0 14 rfl rfl)
theorem dX3_overOrders_15 : decode cX3_overOrders 15 = .ok (.iload_n 1, 1) := dk_27 (dk_at dksX3_overOrders_0 15 rfl rfl)
theorem dX3_overOrders_16 : decode cX3_overOrders 16 = .ok (.ifCond .ge 12, 3) := dk_156 0 12 (dk_at dksX3_overOrders_0 16 rfl rfl)
theorem dX3_overOrders_19 : decode cX3_overOrders 19 = .ok (.aload_n 0, 1) := dk_42 (dk_at dksX3_overOrders_0 19 rfl rfl)
theorem dX3_overOrders_20 : decode cX3_overOrders 20 = .ok (.iload_n 3, 1) := dk_29 (dk_at dksX3_overOrders_0 20 rfl rfl)
theorem dX3_overOrders_21 : decode cX3_overOrders 21 = .ok (.iconst 2, 1) := dk_5 (dk_at dksX3_overOrders_0 21 rfl rfl)
theorem dX3_overOrders_22 : decode cX3_overOrders 22 = .ok (.invokevirtual 109, 3) := dk_182 0 109 (dk_at dksX3_overOrders_1 0 rfl rfl)
theorem dX3_overOrders_25 : decode cX3_overOrders 25 = .ok (.goto 17, 3) := dk_167 0 17 (dk_at dksX3_overOrders_1 3 rfl rfl)
theorem dX3_overOrders_28 : decode cX3_overOrders 28 = .ok (.aload_n 0, 1) := dk_42 (dk_at dksX3_overOrders_1 6 rfl rfl)
theorem dX3_overOrders_29 : decode cX3_overOrders 29 = .ok (.iload_n 3, 1) := dk_29 (dk_at dksX3_overOrders_1 7 rfl rfl)
theorem dX3_overOrders_30 : decode cX3_overOrders 30 = .ok (.invokevirtual 115, 3) := dk_182 0 115 (dk_at dksX3_overOrders_1 8 rfl rfl)
theorem dX3_overOrders_33 : decode cX3_overOrders 33 = .ok (.iload_n 1, 1) := dk_27 (dk_at dksX3_overOrders_1 11 rfl rfl)
theorem dX3_overOrders_34 : decode cX3_overOrders 34 = .ok (.if_icmp .ne 7, 3) := dk_160 0 7 (dk_at dksX3_overOrders_1 12 rfl rfl)
theorem dX3_overOrders_37 : decode cX3_overOrders 37 = .ok (.iconst 1, 1) := dk_4 (dk_at dksX3_overOrders_1 15 rfl rfl)
theorem dX3_overOrders_38 : decode cX3_overOrders 38 = .ok (.goto 4, 3) := dk_167 0 4 (dk_at dksX3_overOrders_1 16 rfl rfl)
theorem dX3_overOrders_41 : decode cX3_overOrders 41 = .ok (.iconst 0, 1) := dk_3 (dk_at dksX3_overOrders_1 19 rfl rfl)
theorem dX3_overOrders_42 : decode cX3_overOrders 42 = .ok (.iadd, 1) := dk_96 (dk_at dksX3_overOrders_1 20 rfl rfl)
theorem dX3_overOrders_43 : decode cX3_overOrders 43 = .ok (.istore_n 2, 1) := dk_61 (dk_at dksX3_overOrders_1 21 rfl rfl)
theorem dX3_overOrders_44 : decode cX3_overOrders 44 = .ok (.iinc 3 1, 3) := dk_132 3 1 (dk_at dksX3_overOrders_2 0 rfl rfl)
theorem dX3_overOrders_47 : decode cX3_overOrders 47 = .ok (.goto (-43), 3) := dk_167 255 213 (dk_at dksX3_overOrders_2 3 rfl rfl)
theorem dX3_overOrders_50 : decode cX3_overOrders 50 = .ok (.iload_n 2, 1) := dk_28 (dk_at dksX3_overOrders_2 6 rfl rfl)
theorem dX3_overOrders_51 : decode cX3_overOrders 51 = .ok (.ireturn, 1) := dk_172 (dk_at dksX3_overOrders_2 7 rfl rfl)
abbrev cX3_overRobots : ByteArray := prog_12_method_64_code
def yX3_overRobots : MethodName := ⟨RX3, "overRobots", "(I)I"⟩
def dkwX3_overRobots_1 : List UInt8 := [132, 3, 1, 167, 255, 234, 28, 172]
abbrev dktX3_overRobots_1 : List UInt8 := dkwX3_overRobots_1 ++ []
def dkwX3_overRobots_0 : List UInt8 := [3, 61, 3, 62, 29, 42, 180, 0, 9, 6, 46, 162, 0, 18, 28, 42, 29, 27, 182, 0, 79, 96, 61]
abbrev dktX3_overRobots_0 : List UInt8 := dkwX3_overRobots_0 ++ dktX3_overRobots_1
theorem dksX3_overRobots_0 : cX3_overRobots.data.toList.drop 0 = dktX3_overRobots_0 := by decide +kernel
theorem dksX3_overRobots_1 : cX3_overRobots.data.toList.drop 23 = dktX3_overRobots_1 := dk_seg dksX3_overRobots_0 23 rfl rfl
theorem dX3_overRobots_0 : decode cX3_overRobots 0 = .ok (.iconst 0, 1) := dk_3 (dk_at dksX3_overRobots_0 0 rfl rfl)
theorem dX3_overRobots_1 : decode cX3_overRobots 1 = .ok (.istore_n 2, 1) := dk_61 (dk_at dksX3_overRobots_0 1 rfl rfl)
theorem dX3_overRobots_2 : decode cX3_overRobots 2 = .ok (.iconst 0, 1) := dk_3 (dk_at dksX3_overRobots_0 2 rfl rfl)
theorem dX3_overRobots_3 : decode cX3_overRobots 3 = .ok (.istore_n 3, 1) := dk_62 (dk_at dksX3_overRobots_0 3 rfl rfl)
theorem dX3_overRobots_4 : decode cX3_overRobots 4 = .ok (.iload_n 3, 1) := dk_29 (dk_at dksX3_overRobots_0 4 rfl rfl)
theorem dX3_overRobots_5 : decode cX3_overRobots 5 = .ok (.aload_n 0, 1) := dk_42 (dk_at dksX3_overRobots_0 5 rfl rfl)
theorem dX3_overRobots_6 : decode cX3_overRobots 6 = .ok (.getfield 9, 3) := dk_180 0 9 (dk_at dksX3_overRobots_0 6 rfl rfl)
theorem dX3_overRobots_9 : decode cX3_overRobots 9 = .ok (.iconst 3, 1) := dk_6 (dk_at dksX3_overRobots_0 9 rfl rfl)
theorem dX3_overRobots_10 : decode cX3_overRobots 10 = .ok (.iaload, 1) := dk_46 (dk_at dksX3_overRobots_0 10 rfl rfl)
theorem dX3_overRobots_11 : decode cX3_overRobots 11 = .ok (.if_icmp .ge 18, 3) := dk_162 0 18 (dk_at dksX3_overRobots_0 11 rfl rfl)
theorem dX3_overRobots_14 : decode cX3_overRobots 14 = .ok (.iload_n 2, 1) := dk_28 (dk_at dksX3_overRobots_0 14 rfl rfl)
theorem dX3_overRobots_15 : decode cX3_overRobots 15 = .ok (.aload_n 0, 1) := dk_42 (dk_at dksX3_overRobots_0 15 rfl rfl)
theorem dX3_overRobots_16 : decode cX3_overRobots 16 = .ok (.iload_n 3, 1) := dk_29 (dk_at dksX3_overRobots_0 16 rfl rfl)
theorem dX3_overRobots_17 : decode cX3_overRobots 17 = .ok (.iload_n 1, 1) := dk_27 (dk_at dksX3_overRobots_0 17 rfl rfl)
theorem dX3_overRobots_18 : decode cX3_overRobots 18 = .ok (.invokevirtual 79, 3) := dk_182 0 79 (dk_at dksX3_overRobots_0 18 rfl rfl)
theorem dX3_overRobots_21 : decode cX3_overRobots 21 = .ok (.iadd, 1) := dk_96 (dk_at dksX3_overRobots_0 21 rfl rfl)
theorem dX3_overRobots_22 : decode cX3_overRobots 22 = .ok (.istore_n 2, 1) := dk_61 (dk_at dksX3_overRobots_0 22 rfl rfl)
theorem dX3_overRobots_23 : decode cX3_overRobots 23 = .ok (.iinc 3 1, 3) := dk_132 3 1 (dk_at dksX3_overRobots_1 0 rfl rfl)
theorem dX3_overRobots_26 : decode cX3_overRobots 26 = .ok (.goto (-22), 3) := dk_167 255 234 (dk_at dksX3_overRobots_1 3 rfl rfl)
theorem dX3_overRobots_29 : decode cX3_overRobots 29 = .ok (.iload_n 2, 1) := dk_28 (dk_at dksX3_overRobots_1 6 rfl rfl)
theorem dX3_overRobots_30 : decode cX3_overRobots 30 = .ok (.ireturn, 1) := dk_172 (dk_at dksX3_overRobots_1 7 rfl rfl)
abbrev cX3_append : ByteArray := prog_12_method_67_code
def yX3_append : MethodName := ⟨RX3, "append", "(C)I"⟩
def dkwX3_append_2 : List UInt8 := [181, 0, 192, 42, 180, 0, 192, 172]
abbrev dktX3_append_2 : List UInt8 := dkwX3_append_2 ++ []
def dkwX3_append_1 : List UInt8 := [158, 0, 5, 3, 172, 42, 180, 0, 41, 42, 180, 0, 192, 27, 85, 42, 89, 180, 0, 192, 4, 96]
abbrev dktX3_append_1 : List UInt8 := dkwX3_append_1 ++ dktX3_append_2
def dkwX3_append_0 : List UInt8 := [42, 42, 180, 0, 192, 16, 60, 160, 0, 7, 4, 167, 0, 4, 3, 181, 0, 49, 42, 180, 0, 49]
abbrev dktX3_append_0 : List UInt8 := dkwX3_append_0 ++ dktX3_append_1
theorem dksX3_append_0 : cX3_append.data.toList.drop 0 = dktX3_append_0 := by decide +kernel
theorem dksX3_append_1 : cX3_append.data.toList.drop 22 = dktX3_append_1 := dk_seg dksX3_append_0 22 rfl rfl
theorem dksX3_append_2 : cX3_append.data.toList.drop 44 = dktX3_append_2 := dk_seg dksX3_append_1 22 rfl rfl
theorem dX3_append_0 : decode cX3_append 0 = .ok (.aload_n 0, 1) := dk_42 (dk_at dksX3_append_0 0 rfl rfl)
theorem dX3_append_1 : decode cX3_append 1 = .ok (.aload_n 0, 1) := dk_42 (dk_at dksX3_append_0 1 rfl rfl)
theorem dX3_append_2 : decode cX3_append 2 = .ok (.getfield 192, 3) := dk_180 0 192 (dk_at dksX3_append_0 2 rfl rfl)
theorem dX3_append_5 : decode cX3_append 5 = .ok (.bipush 60, 2) := dk_16 60 (dk_at dksX3_append_0 5 rfl rfl)
theorem dX3_append_7 : decode cX3_append 7 = .ok (.if_icmp .ne 7, 3) := dk_160 0 7 (dk_at dksX3_append_0 7 rfl rfl)
theorem dX3_append_10 : decode cX3_append 10 = .ok (.iconst 1, 1) := dk_4 (dk_at dksX3_append_0 10 rfl rfl)
theorem dX3_append_11 : decode cX3_append 11 = .ok (.goto 4, 3) := dk_167 0 4 (dk_at dksX3_append_0 11 rfl rfl)
theorem dX3_append_14 : decode cX3_append 14 = .ok (.iconst 0, 1) := dk_3 (dk_at dksX3_append_0 14 rfl rfl)
theorem dX3_append_15 : decode cX3_append 15 = .ok (.putfield 49, 3) := dk_181 0 49 (dk_at dksX3_append_0 15 rfl rfl)
theorem dX3_append_18 : decode cX3_append 18 = .ok (.aload_n 0, 1) := dk_42 (dk_at dksX3_append_0 18 rfl rfl)
theorem dX3_append_19 : decode cX3_append 19 = .ok (.getfield 49, 3) := dk_180 0 49 (dk_at dksX3_append_0 19 rfl rfl)
theorem dX3_append_22 : decode cX3_append 22 = .ok (.ifCond .le 5, 3) := dk_158 0 5 (dk_at dksX3_append_1 0 rfl rfl)
theorem dX3_append_25 : decode cX3_append 25 = .ok (.iconst 0, 1) := dk_3 (dk_at dksX3_append_1 3 rfl rfl)
theorem dX3_append_26 : decode cX3_append 26 = .ok (.ireturn, 1) := dk_172 (dk_at dksX3_append_1 4 rfl rfl)
theorem dX3_append_27 : decode cX3_append 27 = .ok (.aload_n 0, 1) := dk_42 (dk_at dksX3_append_1 5 rfl rfl)
theorem dX3_append_28 : decode cX3_append 28 = .ok (.getfield 41, 3) := dk_180 0 41 (dk_at dksX3_append_1 6 rfl rfl)
theorem dX3_append_31 : decode cX3_append 31 = .ok (.aload_n 0, 1) := dk_42 (dk_at dksX3_append_1 9 rfl rfl)
theorem dX3_append_32 : decode cX3_append 32 = .ok (.getfield 192, 3) := dk_180 0 192 (dk_at dksX3_append_1 10 rfl rfl)
theorem dX3_append_35 : decode cX3_append 35 = .ok (.iload_n 1, 1) := dk_27 (dk_at dksX3_append_1 13 rfl rfl)
theorem dX3_append_36 : decode cX3_append 36 = .ok (.castore, 1) := dk_85 (dk_at dksX3_append_1 14 rfl rfl)
theorem dX3_append_37 : decode cX3_append 37 = .ok (.aload_n 0, 1) := dk_42 (dk_at dksX3_append_1 15 rfl rfl)
theorem dX3_append_38 : decode cX3_append 38 = .ok (.dup, 1) := dk_89 (dk_at dksX3_append_1 16 rfl rfl)
theorem dX3_append_39 : decode cX3_append 39 = .ok (.getfield 192, 3) := dk_180 0 192 (dk_at dksX3_append_1 17 rfl rfl)
theorem dX3_append_42 : decode cX3_append 42 = .ok (.iconst 1, 1) := dk_4 (dk_at dksX3_append_1 20 rfl rfl)
theorem dX3_append_43 : decode cX3_append 43 = .ok (.iadd, 1) := dk_96 (dk_at dksX3_append_1 21 rfl rfl)
theorem dX3_append_44 : decode cX3_append 44 = .ok (.putfield 192, 3) := dk_181 0 192 (dk_at dksX3_append_2 0 rfl rfl)
theorem dX3_append_47 : decode cX3_append 47 = .ok (.aload_n 0, 1) := dk_42 (dk_at dksX3_append_2 3 rfl rfl)
theorem dX3_append_48 : decode cX3_append 48 = .ok (.getfield 192, 3) := dk_180 0 192 (dk_at dksX3_append_2 4 rfl rfl)
theorem dX3_append_51 : decode cX3_append 51 = .ok (.ireturn, 1) := dk_172 (dk_at dksX3_append_2 7 rfl rfl)
abbrev cX3_layout : ByteArray := prog_12_method_69_code
def yX3_layout : MethodName := ⟨RX3, "layout", "()I"⟩
def dkwX3_layout_6 : List UInt8 := [29, 52, 182, 0, 201, 79, 132, 2, 1, 132, 3, 1, 167, 255, 214, 28, 172]
abbrev dktX3_layout_6 : List UInt8 := dkwX3_layout_6 ++ []
def dkwX3_layout_5 : List UInt8 := [180, 0, 41, 29, 52, 16, 47, 159, 0, 26, 42, 180, 0, 9, 16, 8, 28, 96, 18, 171, 42, 180, 0, 41]
abbrev dktX3_layout_5 : List UInt8 := dkwX3_layout_5 ++ dktX3_layout_6
def dkwX3_layout_4 : List UInt8 := [180, 0, 195, 79, 42, 180, 0, 9, 4, 42, 180, 0, 198, 79, 3, 61, 3, 62, 29, 27, 162, 0, 43, 42]
abbrev dktX3_layout_4 : List UInt8 := dkwX3_layout_4 ++ dktX3_layout_5
def dkwX3_layout_3 : List UInt8 := [42, 180, 0, 9, 28, 46, 167, 0, 4, 3, 79, 132, 2, 1, 167, 255, 220, 42, 180, 0, 9, 3, 42]
abbrev dktX3_layout_3 : List UInt8 := dkwX3_layout_3 ++ dktX3_layout_4
def dkwX3_layout_2 : List UInt8 := [3, 61, 28, 17, 1, 144, 162, 0, 35, 42, 180, 0, 9, 28, 28, 8, 16, 7, 184, 0, 71, 153, 0, 12]
abbrev dktX3_layout_2 : List UInt8 := dkwX3_layout_2 ++ dktX3_layout_3
def dkwX3_layout_1 : List UInt8 := [156, 0, 7, 3, 167, 0, 4, 4, 181, 0, 49, 42, 180, 0, 49, 158, 0, 5, 3, 172, 42, 182, 0, 100]
abbrev dktX3_layout_1 : List UInt8 := dkwX3_layout_1 ++ dktX3_layout_2
def dkwX3_layout_0 : List UInt8 := [42, 42, 182, 0, 204, 181, 0, 45, 42, 180, 0, 192, 60, 42, 3, 181, 0, 192, 42, 42, 180, 0, 45]
abbrev dktX3_layout_0 : List UInt8 := dkwX3_layout_0 ++ dktX3_layout_1
theorem dksX3_layout_0 : cX3_layout.data.toList.drop 0 = dktX3_layout_0 := by decide +kernel
theorem dksX3_layout_1 : cX3_layout.data.toList.drop 23 = dktX3_layout_1 := dk_seg dksX3_layout_0 23 rfl rfl
theorem dksX3_layout_2 : cX3_layout.data.toList.drop 47 = dktX3_layout_2 := dk_seg dksX3_layout_1 24 rfl rfl
theorem dksX3_layout_3 : cX3_layout.data.toList.drop 71 = dktX3_layout_3 := dk_seg dksX3_layout_2 24 rfl rfl
theorem dksX3_layout_4 : cX3_layout.data.toList.drop 94 = dktX3_layout_4 := dk_seg dksX3_layout_3 23 rfl rfl
theorem dksX3_layout_5 : cX3_layout.data.toList.drop 118 = dktX3_layout_5 := dk_seg dksX3_layout_4 24 rfl rfl
theorem dksX3_layout_6 : cX3_layout.data.toList.drop 142 = dktX3_layout_6 := dk_seg dksX3_layout_5 24 rfl rfl
theorem dX3_layout_0 : decode cX3_layout 0 = .ok (.aload_n 0, 1) := dk_42 (dk_at dksX3_layout_0 0 rfl rfl)
theorem dX3_layout_1 : decode cX3_layout 1 = .ok (.aload_n 0, 1) := dk_42 (dk_at dksX3_layout_0 1 rfl rfl)
theorem dX3_layout_2 : decode cX3_layout 2 = .ok (.invokevirtual 204, 3) := dk_182 0 204 (dk_at dksX3_layout_0 2 rfl rfl)
theorem dX3_layout_5 : decode cX3_layout 5 = .ok (.putfield 45, 3) := dk_181 0 45 (dk_at dksX3_layout_0 5 rfl rfl)
theorem dX3_layout_8 : decode cX3_layout 8 = .ok (.aload_n 0, 1) := dk_42 (dk_at dksX3_layout_0 8 rfl rfl)
theorem dX3_layout_9 : decode cX3_layout 9 = .ok (.getfield 192, 3) := dk_180 0 192 (dk_at dksX3_layout_0 9 rfl rfl)
theorem dX3_layout_12 : decode cX3_layout 12 = .ok (.istore_n 1, 1) := dk_60 (dk_at dksX3_layout_0 12 rfl rfl)
theorem dX3_layout_13 : decode cX3_layout 13 = .ok (.aload_n 0, 1) := dk_42 (dk_at dksX3_layout_0 13 rfl rfl)
theorem dX3_layout_14 : decode cX3_layout 14 = .ok (.iconst 0, 1) := dk_3 (dk_at dksX3_layout_0 14 rfl rfl)
theorem dX3_layout_15 : decode cX3_layout 15 = .ok (.putfield 192, 3) := dk_181 0 192 (dk_at dksX3_layout_0 15 rfl rfl)
theorem dX3_layout_18 : decode cX3_layout 18 = .ok (.aload_n 0, 1) := dk_42 (dk_at dksX3_layout_0 18 rfl rfl)
theorem dX3_layout_19 : decode cX3_layout 19 = .ok (.aload_n 0, 1) := dk_42 (dk_at dksX3_layout_0 19 rfl rfl)
theorem dX3_layout_20 : decode cX3_layout 20 = .ok (.getfield 45, 3) := dk_180 0 45 (dk_at dksX3_layout_0 20 rfl rfl)
theorem dX3_layout_23 : decode cX3_layout 23 = .ok (.ifCond .ge 7, 3) := dk_156 0 7 (dk_at dksX3_layout_1 0 rfl rfl)
theorem dX3_layout_26 : decode cX3_layout 26 = .ok (.iconst 0, 1) := dk_3 (dk_at dksX3_layout_1 3 rfl rfl)
theorem dX3_layout_27 : decode cX3_layout 27 = .ok (.goto 4, 3) := dk_167 0 4 (dk_at dksX3_layout_1 4 rfl rfl)
theorem dX3_layout_30 : decode cX3_layout 30 = .ok (.iconst 1, 1) := dk_4 (dk_at dksX3_layout_1 7 rfl rfl)
theorem dX3_layout_31 : decode cX3_layout 31 = .ok (.putfield 49, 3) := dk_181 0 49 (dk_at dksX3_layout_1 8 rfl rfl)
theorem dX3_layout_34 : decode cX3_layout 34 = .ok (.aload_n 0, 1) := dk_42 (dk_at dksX3_layout_1 11 rfl rfl)
theorem dX3_layout_35 : decode cX3_layout 35 = .ok (.getfield 49, 3) := dk_180 0 49 (dk_at dksX3_layout_1 12 rfl rfl)
theorem dX3_layout_38 : decode cX3_layout 38 = .ok (.ifCond .le 5, 3) := dk_158 0 5 (dk_at dksX3_layout_1 15 rfl rfl)
theorem dX3_layout_41 : decode cX3_layout 41 = .ok (.iconst 0, 1) := dk_3 (dk_at dksX3_layout_1 18 rfl rfl)
theorem dX3_layout_42 : decode cX3_layout 42 = .ok (.ireturn, 1) := dk_172 (dk_at dksX3_layout_1 19 rfl rfl)
theorem dX3_layout_43 : decode cX3_layout 43 = .ok (.aload_n 0, 1) := dk_42 (dk_at dksX3_layout_1 20 rfl rfl)
theorem dX3_layout_44 : decode cX3_layout 44 = .ok (.invokevirtual 100, 3) := dk_182 0 100 (dk_at dksX3_layout_1 21 rfl rfl)
theorem dX3_layout_47 : decode cX3_layout 47 = .ok (.iconst 0, 1) := dk_3 (dk_at dksX3_layout_2 0 rfl rfl)
theorem dX3_layout_48 : decode cX3_layout 48 = .ok (.istore_n 2, 1) := dk_61 (dk_at dksX3_layout_2 1 rfl rfl)
theorem dX3_layout_49 : decode cX3_layout 49 = .ok (.iload_n 2, 1) := dk_28 (dk_at dksX3_layout_2 2 rfl rfl)
theorem dX3_layout_50 : decode cX3_layout 50 = .ok (.sipush 400, 3) := dk_17 1 144 (dk_at dksX3_layout_2 3 rfl rfl)
theorem dX3_layout_53 : decode cX3_layout 53 = .ok (.if_icmp .ge 35, 3) := dk_162 0 35 (dk_at dksX3_layout_2 6 rfl rfl)
theorem dX3_layout_56 : decode cX3_layout 56 = .ok (.aload_n 0, 1) := dk_42 (dk_at dksX3_layout_2 9 rfl rfl)
theorem dX3_layout_57 : decode cX3_layout 57 = .ok (.getfield 9, 3) := dk_180 0 9 (dk_at dksX3_layout_2 10 rfl rfl)
theorem dX3_layout_60 : decode cX3_layout 60 = .ok (.iload_n 2, 1) := dk_28 (dk_at dksX3_layout_2 13 rfl rfl)
theorem dX3_layout_61 : decode cX3_layout 61 = .ok (.iload_n 2, 1) := dk_28 (dk_at dksX3_layout_2 14 rfl rfl)
theorem dX3_layout_62 : decode cX3_layout 62 = .ok (.iconst 5, 1) := dk_8 (dk_at dksX3_layout_2 15 rfl rfl)
theorem dX3_layout_63 : decode cX3_layout 63 = .ok (.bipush 7, 2) := dk_16 7 (dk_at dksX3_layout_2 16 rfl rfl)
theorem dX3_layout_65 : decode cX3_layout 65 = .ok (.invokestatic 71, 3) := dk_184 0 71 (dk_at dksX3_layout_2 18 rfl rfl)
theorem dX3_layout_68 : decode cX3_layout 68 = .ok (.ifCond .eq 12, 3) := dk_153 0 12 (dk_at dksX3_layout_2 21 rfl rfl)
theorem dX3_layout_71 : decode cX3_layout 71 = .ok (.aload_n 0, 1) := dk_42 (dk_at dksX3_layout_3 0 rfl rfl)
theorem dX3_layout_72 : decode cX3_layout 72 = .ok (.getfield 9, 3) := dk_180 0 9 (dk_at dksX3_layout_3 1 rfl rfl)
theorem dX3_layout_75 : decode cX3_layout 75 = .ok (.iload_n 2, 1) := dk_28 (dk_at dksX3_layout_3 4 rfl rfl)
theorem dX3_layout_76 : decode cX3_layout 76 = .ok (.iaload, 1) := dk_46 (dk_at dksX3_layout_3 5 rfl rfl)
theorem dX3_layout_77 : decode cX3_layout 77 = .ok (.goto 4, 3) := dk_167 0 4 (dk_at dksX3_layout_3 6 rfl rfl)
theorem dX3_layout_80 : decode cX3_layout 80 = .ok (.iconst 0, 1) := dk_3 (dk_at dksX3_layout_3 9 rfl rfl)
theorem dX3_layout_81 : decode cX3_layout 81 = .ok (.iastore, 1) := dk_79 (dk_at dksX3_layout_3 10 rfl rfl)
theorem dX3_layout_82 : decode cX3_layout 82 = .ok (.iinc 2 1, 3) := dk_132 2 1 (dk_at dksX3_layout_3 11 rfl rfl)
theorem dX3_layout_85 : decode cX3_layout 85 = .ok (.goto (-36), 3) := dk_167 255 220 (dk_at dksX3_layout_3 14 rfl rfl)
theorem dX3_layout_88 : decode cX3_layout 88 = .ok (.aload_n 0, 1) := dk_42 (dk_at dksX3_layout_3 17 rfl rfl)
theorem dX3_layout_89 : decode cX3_layout 89 = .ok (.getfield 9, 3) := dk_180 0 9 (dk_at dksX3_layout_3 18 rfl rfl)
theorem dX3_layout_92 : decode cX3_layout 92 = .ok (.iconst 0, 1) := dk_3 (dk_at dksX3_layout_3 21 rfl rfl)
theorem dX3_layout_93 : decode cX3_layout 93 = .ok (.aload_n 0, 1) := dk_42 (dk_at dksX3_layout_3 22 rfl rfl)
theorem dX3_layout_94 : decode cX3_layout 94 = .ok (.getfield 195, 3) := dk_180 0 195 (dk_at dksX3_layout_4 0 rfl rfl)
theorem dX3_layout_97 : decode cX3_layout 97 = .ok (.iastore, 1) := dk_79 (dk_at dksX3_layout_4 3 rfl rfl)
theorem dX3_layout_98 : decode cX3_layout 98 = .ok (.aload_n 0, 1) := dk_42 (dk_at dksX3_layout_4 4 rfl rfl)
theorem dX3_layout_99 : decode cX3_layout 99 = .ok (.getfield 9, 3) := dk_180 0 9 (dk_at dksX3_layout_4 5 rfl rfl)
theorem dX3_layout_102 : decode cX3_layout 102 = .ok (.iconst 1, 1) := dk_4 (dk_at dksX3_layout_4 8 rfl rfl)
theorem dX3_layout_103 : decode cX3_layout 103 = .ok (.aload_n 0, 1) := dk_42 (dk_at dksX3_layout_4 9 rfl rfl)
theorem dX3_layout_104 : decode cX3_layout 104 = .ok (.getfield 198, 3) := dk_180 0 198 (dk_at dksX3_layout_4 10 rfl rfl)
theorem dX3_layout_107 : decode cX3_layout 107 = .ok (.iastore, 1) := dk_79 (dk_at dksX3_layout_4 13 rfl rfl)
theorem dX3_layout_108 : decode cX3_layout 108 = .ok (.iconst 0, 1) := dk_3 (dk_at dksX3_layout_4 14 rfl rfl)
theorem dX3_layout_109 : decode cX3_layout 109 = .ok (.istore_n 2, 1) := dk_61 (dk_at dksX3_layout_4 15 rfl rfl)
theorem dX3_layout_110 : decode cX3_layout 110 = .ok (.iconst 0, 1) := dk_3 (dk_at dksX3_layout_4 16 rfl rfl)
theorem dX3_layout_111 : decode cX3_layout 111 = .ok (.istore_n 3, 1) := dk_62 (dk_at dksX3_layout_4 17 rfl rfl)
theorem dX3_layout_112 : decode cX3_layout 112 = .ok (.iload_n 3, 1) := dk_29 (dk_at dksX3_layout_4 18 rfl rfl)
theorem dX3_layout_113 : decode cX3_layout 113 = .ok (.iload_n 1, 1) := dk_27 (dk_at dksX3_layout_4 19 rfl rfl)
theorem dX3_layout_114 : decode cX3_layout 114 = .ok (.if_icmp .ge 43, 3) := dk_162 0 43 (dk_at dksX3_layout_4 20 rfl rfl)
theorem dX3_layout_117 : decode cX3_layout 117 = .ok (.aload_n 0, 1) := dk_42 (dk_at dksX3_layout_4 23 rfl rfl)
theorem dX3_layout_118 : decode cX3_layout 118 = .ok (.getfield 41, 3) := dk_180 0 41 (dk_at dksX3_layout_5 0 rfl rfl)
theorem dX3_layout_121 : decode cX3_layout 121 = .ok (.iload_n 3, 1) := dk_29 (dk_at dksX3_layout_5 3 rfl rfl)
theorem dX3_layout_122 : decode cX3_layout 122 = .ok (.caload, 1) := dk_52 (dk_at dksX3_layout_5 4 rfl rfl)
theorem dX3_layout_123 : decode cX3_layout 123 = .ok (.bipush 47, 2) := dk_16 47 (dk_at dksX3_layout_5 5 rfl rfl)
theorem dX3_layout_125 : decode cX3_layout 125 = .ok (.if_icmp .eq 26, 3) := dk_159 0 26 (dk_at dksX3_layout_5 7 rfl rfl)
theorem dX3_layout_128 : decode cX3_layout 128 = .ok (.aload_n 0, 1) := dk_42 (dk_at dksX3_layout_5 10 rfl rfl)
theorem dX3_layout_129 : decode cX3_layout 129 = .ok (.getfield 9, 3) := dk_180 0 9 (dk_at dksX3_layout_5 11 rfl rfl)
theorem dX3_layout_132 : decode cX3_layout 132 = .ok (.bipush 8, 2) := dk_16 8 (dk_at dksX3_layout_5 14 rfl rfl)
theorem dX3_layout_134 : decode cX3_layout 134 = .ok (.iload_n 2, 1) := dk_28 (dk_at dksX3_layout_5 16 rfl rfl)
theorem dX3_layout_135 : decode cX3_layout 135 = .ok (.iadd, 1) := dk_96 (dk_at dksX3_layout_5 17 rfl rfl)
theorem dX3_layout_136 : decode cX3_layout 136 = .ok (.ldc 171, 2) := dk_18 171 (dk_at dksX3_layout_5 18 rfl rfl)
theorem dX3_layout_138 : decode cX3_layout 138 = .ok (.aload_n 0, 1) := dk_42 (dk_at dksX3_layout_5 20 rfl rfl)
theorem dX3_layout_139 : decode cX3_layout 139 = .ok (.getfield 41, 3) := dk_180 0 41 (dk_at dksX3_layout_5 21 rfl rfl)
theorem dX3_layout_142 : decode cX3_layout 142 = .ok (.iload_n 3, 1) := dk_29 (dk_at dksX3_layout_6 0 rfl rfl)
theorem dX3_layout_143 : decode cX3_layout 143 = .ok (.caload, 1) := dk_52 (dk_at dksX3_layout_6 1 rfl rfl)
theorem dX3_layout_144 : decode cX3_layout 144 = .ok (.invokevirtual 201, 3) := dk_182 0 201 (dk_at dksX3_layout_6 2 rfl rfl)
theorem dX3_layout_147 : decode cX3_layout 147 = .ok (.iastore, 1) := dk_79 (dk_at dksX3_layout_6 5 rfl rfl)
theorem dX3_layout_148 : decode cX3_layout 148 = .ok (.iinc 2 1, 3) := dk_132 2 1 (dk_at dksX3_layout_6 6 rfl rfl)
theorem dX3_layout_151 : decode cX3_layout 151 = .ok (.iinc 3 1, 3) := dk_132 3 1 (dk_at dksX3_layout_6 9 rfl rfl)
theorem dX3_layout_154 : decode cX3_layout 154 = .ok (.goto (-42), 3) := dk_167 255 214 (dk_at dksX3_layout_6 12 rfl rfl)
theorem dX3_layout_157 : decode cX3_layout 157 = .ok (.iload_n 2, 1) := dk_28 (dk_at dksX3_layout_6 15 rfl rfl)
theorem dX3_layout_158 : decode cX3_layout 158 = .ok (.ireturn, 1) := dk_172 (dk_at dksX3_layout_6 16 rfl rfl)
abbrev cX3_wrongPlace : ByteArray := prog_12_method_68_code
def yX3_wrongPlace : MethodName := ⟨RX3, "wrongPlace", "()I"⟩
def dkwX3_wrongPlace_8 : List UInt8 := [42, 180, 0, 198, 162, 0, 10, 42, 180, 0, 192, 167, 0, 4, 2, 172]
abbrev dktX3_wrongPlace_8 : List UInt8 := dkwX3_wrongPlace_8 ++ []
def dkwX3_wrongPlace_7 : List UInt8 := [180, 0, 195, 4, 160, 0, 7, 27, 167, 0, 7, 42, 180, 0, 198, 181, 0, 198, 27, 5, 161, 0, 11, 27]
abbrev dktX3_wrongPlace_7 : List UInt8 := dkwX3_wrongPlace_7 ++ dktX3_wrongPlace_8
def dkwX3_wrongPlace_6 : List UInt8 := [181, 0, 198, 42, 89, 180, 0, 195, 4, 96, 181, 0, 195, 3, 60, 132, 2, 1, 167, 255, 110, 42, 42]
abbrev dktX3_wrongPlace_6 : List UInt8 := dkwX3_wrongPlace_6 ++ dktX3_wrongPlace_7
def dkwX3_wrongPlace_5 : List UInt8 := [21, 4, 154, 0, 5, 28, 172, 42, 42, 180, 0, 195, 4, 160, 0, 7, 27, 167, 0, 7, 42, 180, 0, 198]
abbrev dktX3_wrongPlace_5 : List UInt8 := dkwX3_wrongPlace_5 ++ dktX3_wrongPlace_6
def dkwX3_wrongPlace_4 : List UInt8 := [27, 5, 161, 0, 18, 167, 0, 11, 27, 42, 180, 0, 198, 160, 0, 7, 4, 167, 0, 4, 3, 54, 4]
abbrev dktX3_wrongPlace_4 : List UInt8 := dkwX3_wrongPlace_4 ++ dktX3_wrongPlace_5
def dkwX3_wrongPlace_3 : List UInt8 := [28, 52, 16, 47, 160, 0, 40, 42, 180, 0, 195, 16, 6, 162, 0, 31, 42, 180, 0, 195, 4, 160, 0, 11]
abbrev dktX3_wrongPlace_3 : List UInt8 := dkwX3_wrongPlace_3 ++ dktX3_wrongPlace_4
def dkwX3_wrongPlace_2 : List UInt8 := [16, 8, 167, 0, 7, 42, 180, 0, 198, 160, 0, 5, 28, 172, 132, 1, 1, 167, 0, 93, 42, 180, 0, 41]
abbrev dktX3_wrongPlace_2 : List UInt8 := dkwX3_wrongPlace_2 ++ dktX3_wrongPlace_3
def dkwX3_wrongPlace_1 : List UInt8 := [42, 180, 0, 41, 28, 52, 182, 0, 201, 62, 29, 155, 0, 32, 27, 42, 180, 0, 195, 4, 160, 0, 8]
abbrev dktX3_wrongPlace_1 : List UInt8 := dkwX3_wrongPlace_1 ++ dktX3_wrongPlace_2
def dkwX3_wrongPlace_0 : List UInt8 := [42, 4, 181, 0, 195, 42, 3, 181, 0, 198, 3, 60, 3, 61, 28, 42, 180, 0, 192, 162, 0, 144, 18, 171]
abbrev dktX3_wrongPlace_0 : List UInt8 := dkwX3_wrongPlace_0 ++ dktX3_wrongPlace_1
theorem dksX3_wrongPlace_0 : cX3_wrongPlace.data.toList.drop 0 = dktX3_wrongPlace_0 := by decide +kernel
theorem dksX3_wrongPlace_1 : cX3_wrongPlace.data.toList.drop 24 = dktX3_wrongPlace_1 := dk_seg dksX3_wrongPlace_0 24 rfl rfl
theorem dksX3_wrongPlace_2 : cX3_wrongPlace.data.toList.drop 47 = dktX3_wrongPlace_2 := dk_seg dksX3_wrongPlace_1 23 rfl rfl
theorem dksX3_wrongPlace_3 : cX3_wrongPlace.data.toList.drop 71 = dktX3_wrongPlace_3 := dk_seg dksX3_wrongPlace_2 24 rfl rfl
theorem dksX3_wrongPlace_4 : cX3_wrongPlace.data.toList.drop 95 = dktX3_wrongPlace_4 := dk_seg dksX3_wrongPlace_3 24 rfl rfl
theorem dksX3_wrongPlace_5 : cX3_wrongPlace.data.toList.drop 118 = dktX3_wrongPlace_5 := dk_seg dksX3_wrongPlace_4 23 rfl rfl
theorem dksX3_wrongPlace_6 : cX3_wrongPlace.data.toList.drop 142 = dktX3_wrongPlace_6 := dk_seg dksX3_wrongPlace_5 24 rfl rfl
theorem dksX3_wrongPlace_7 : cX3_wrongPlace.data.toList.drop 165 = dktX3_wrongPlace_7 := dk_seg dksX3_wrongPlace_6 23 rfl rfl
theorem dksX3_wrongPlace_8 : cX3_wrongPlace.data.toList.drop 189 = dktX3_wrongPlace_8 := dk_seg dksX3_wrongPlace_7 24 rfl rfl
theorem dX3_wrongPlace_0 : decode cX3_wrongPlace 0 = .ok (.aload_n 0, 1) := dk_42 (dk_at dksX3_wrongPlace_0 0 rfl rfl)
theorem dX3_wrongPlace_1 : decode cX3_wrongPlace 1 = .ok (.iconst 1, 1) := dk_4 (dk_at dksX3_wrongPlace_0 1 rfl rfl)
theorem dX3_wrongPlace_2 : decode cX3_wrongPlace 2 = .ok (.putfield 195, 3) := dk_181 0 195 (dk_at dksX3_wrongPlace_0 2 rfl rfl)
theorem dX3_wrongPlace_5 : decode cX3_wrongPlace 5 = .ok (.aload_n 0, 1) := dk_42 (dk_at dksX3_wrongPlace_0 5 rfl rfl)
theorem dX3_wrongPlace_6 : decode cX3_wrongPlace 6 = .ok (.iconst 0, 1) := dk_3 (dk_at dksX3_wrongPlace_0 6 rfl rfl)
theorem dX3_wrongPlace_7 : decode cX3_wrongPlace 7 = .ok (.putfield 198, 3) := dk_181 0 198 (dk_at dksX3_wrongPlace_0 7 rfl rfl)
theorem dX3_wrongPlace_10 : decode cX3_wrongPlace 10 = .ok (.iconst 0, 1) := dk_3 (dk_at dksX3_wrongPlace_0 10 rfl rfl)
theorem dX3_wrongPlace_11 : decode cX3_wrongPlace 11 = .ok (.istore_n 1, 1) := dk_60 (dk_at dksX3_wrongPlace_0 11 rfl rfl)
theorem dX3_wrongPlace_12 : decode cX3_wrongPlace 12 = .ok (.iconst 0, 1) := dk_3 (dk_at dksX3_wrongPlace_0 12 rfl rfl)
theorem dX3_wrongPlace_13 : decode cX3_wrongPlace 13 = .ok (.istore_n 2, 1) := dk_61 (dk_at dksX3_wrongPlace_0 13 rfl rfl)
theorem dX3_wrongPlace_14 : decode cX3_wrongPlace 14 = .ok (.iload_n 2, 1) := dk_28 (dk_at dksX3_wrongPlace_0 14 rfl rfl)
theorem dX3_wrongPlace_15 : decode cX3_wrongPlace 15 = .ok (.aload_n 0, 1) := dk_42 (dk_at dksX3_wrongPlace_0 15 rfl rfl)
theorem dX3_wrongPlace_16 : decode cX3_wrongPlace 16 = .ok (.getfield 192, 3) := dk_180 0 192 (dk_at dksX3_wrongPlace_0 16 rfl rfl)
theorem dX3_wrongPlace_19 : decode cX3_wrongPlace 19 = .ok (.if_icmp .ge 144, 3) := dk_162 0 144 (dk_at dksX3_wrongPlace_0 19 rfl rfl)
theorem dX3_wrongPlace_22 : decode cX3_wrongPlace 22 = .ok (.ldc 171, 2) := dk_18 171 (dk_at dksX3_wrongPlace_0 22 rfl rfl)
theorem dX3_wrongPlace_24 : decode cX3_wrongPlace 24 = .ok (.aload_n 0, 1) := dk_42 (dk_at dksX3_wrongPlace_1 0 rfl rfl)
theorem dX3_wrongPlace_25 : decode cX3_wrongPlace 25 = .ok (.getfield 41, 3) := dk_180 0 41 (dk_at dksX3_wrongPlace_1 1 rfl rfl)
theorem dX3_wrongPlace_28 : decode cX3_wrongPlace 28 = .ok (.iload_n 2, 1) := dk_28 (dk_at dksX3_wrongPlace_1 4 rfl rfl)
theorem dX3_wrongPlace_29 : decode cX3_wrongPlace 29 = .ok (.caload, 1) := dk_52 (dk_at dksX3_wrongPlace_1 5 rfl rfl)
theorem dX3_wrongPlace_30 : decode cX3_wrongPlace 30 = .ok (.invokevirtual 201, 3) := dk_182 0 201 (dk_at dksX3_wrongPlace_1 6 rfl rfl)
theorem dX3_wrongPlace_33 : decode cX3_wrongPlace 33 = .ok (.istore_n 3, 1) := dk_62 (dk_at dksX3_wrongPlace_1 9 rfl rfl)
theorem dX3_wrongPlace_34 : decode cX3_wrongPlace 34 = .ok (.iload_n 3, 1) := dk_29 (dk_at dksX3_wrongPlace_1 10 rfl rfl)
theorem dX3_wrongPlace_35 : decode cX3_wrongPlace 35 = .ok (.ifCond .lt 32, 3) := dk_155 0 32 (dk_at dksX3_wrongPlace_1 11 rfl rfl)
theorem dX3_wrongPlace_38 : decode cX3_wrongPlace 38 = .ok (.iload_n 1, 1) := dk_27 (dk_at dksX3_wrongPlace_1 14 rfl rfl)
theorem dX3_wrongPlace_39 : decode cX3_wrongPlace 39 = .ok (.aload_n 0, 1) := dk_42 (dk_at dksX3_wrongPlace_1 15 rfl rfl)
theorem dX3_wrongPlace_40 : decode cX3_wrongPlace 40 = .ok (.getfield 195, 3) := dk_180 0 195 (dk_at dksX3_wrongPlace_1 16 rfl rfl)
theorem dX3_wrongPlace_43 : decode cX3_wrongPlace 43 = .ok (.iconst 1, 1) := dk_4 (dk_at dksX3_wrongPlace_1 19 rfl rfl)
theorem dX3_wrongPlace_44 : decode cX3_wrongPlace 44 = .ok (.if_icmp .ne 8, 3) := dk_160 0 8 (dk_at dksX3_wrongPlace_1 20 rfl rfl)
theorem dX3_wrongPlace_47 : decode cX3_wrongPlace 47 = .ok (.bipush 8, 2) := dk_16 8 (dk_at dksX3_wrongPlace_2 0 rfl rfl)
theorem dX3_wrongPlace_49 : decode cX3_wrongPlace 49 = .ok (.goto 7, 3) := dk_167 0 7 (dk_at dksX3_wrongPlace_2 2 rfl rfl)
theorem dX3_wrongPlace_52 : decode cX3_wrongPlace 52 = .ok (.aload_n 0, 1) := dk_42 (dk_at dksX3_wrongPlace_2 5 rfl rfl)
theorem dX3_wrongPlace_53 : decode cX3_wrongPlace 53 = .ok (.getfield 198, 3) := dk_180 0 198 (dk_at dksX3_wrongPlace_2 6 rfl rfl)
theorem dX3_wrongPlace_56 : decode cX3_wrongPlace 56 = .ok (.if_icmp .ne 5, 3) := dk_160 0 5 (dk_at dksX3_wrongPlace_2 9 rfl rfl)
theorem dX3_wrongPlace_59 : decode cX3_wrongPlace 59 = .ok (.iload_n 2, 1) := dk_28 (dk_at dksX3_wrongPlace_2 12 rfl rfl)
theorem dX3_wrongPlace_60 : decode cX3_wrongPlace 60 = .ok (.ireturn, 1) := dk_172 (dk_at dksX3_wrongPlace_2 13 rfl rfl)
theorem dX3_wrongPlace_61 : decode cX3_wrongPlace 61 = .ok (.iinc 1 1, 3) := dk_132 1 1 (dk_at dksX3_wrongPlace_2 14 rfl rfl)
theorem dX3_wrongPlace_64 : decode cX3_wrongPlace 64 = .ok (.goto 93, 3) := dk_167 0 93 (dk_at dksX3_wrongPlace_2 17 rfl rfl)
theorem dX3_wrongPlace_67 : decode cX3_wrongPlace 67 = .ok (.aload_n 0, 1) := dk_42 (dk_at dksX3_wrongPlace_2 20 rfl rfl)
theorem dX3_wrongPlace_68 : decode cX3_wrongPlace 68 = .ok (.getfield 41, 3) := dk_180 0 41 (dk_at dksX3_wrongPlace_2 21 rfl rfl)
theorem dX3_wrongPlace_71 : decode cX3_wrongPlace 71 = .ok (.iload_n 2, 1) := dk_28 (dk_at dksX3_wrongPlace_3 0 rfl rfl)
theorem dX3_wrongPlace_72 : decode cX3_wrongPlace 72 = .ok (.caload, 1) := dk_52 (dk_at dksX3_wrongPlace_3 1 rfl rfl)
theorem dX3_wrongPlace_73 : decode cX3_wrongPlace 73 = .ok (.bipush 47, 2) := dk_16 47 (dk_at dksX3_wrongPlace_3 2 rfl rfl)
theorem dX3_wrongPlace_75 : decode cX3_wrongPlace 75 = .ok (.if_icmp .ne 40, 3) := dk_160 0 40 (dk_at dksX3_wrongPlace_3 4 rfl rfl)
theorem dX3_wrongPlace_78 : decode cX3_wrongPlace 78 = .ok (.aload_n 0, 1) := dk_42 (dk_at dksX3_wrongPlace_3 7 rfl rfl)
theorem dX3_wrongPlace_79 : decode cX3_wrongPlace 79 = .ok (.getfield 195, 3) := dk_180 0 195 (dk_at dksX3_wrongPlace_3 8 rfl rfl)
theorem dX3_wrongPlace_82 : decode cX3_wrongPlace 82 = .ok (.bipush 6, 2) := dk_16 6 (dk_at dksX3_wrongPlace_3 11 rfl rfl)
theorem dX3_wrongPlace_84 : decode cX3_wrongPlace 84 = .ok (.if_icmp .ge 31, 3) := dk_162 0 31 (dk_at dksX3_wrongPlace_3 13 rfl rfl)
theorem dX3_wrongPlace_87 : decode cX3_wrongPlace 87 = .ok (.aload_n 0, 1) := dk_42 (dk_at dksX3_wrongPlace_3 16 rfl rfl)
theorem dX3_wrongPlace_88 : decode cX3_wrongPlace 88 = .ok (.getfield 195, 3) := dk_180 0 195 (dk_at dksX3_wrongPlace_3 17 rfl rfl)
theorem dX3_wrongPlace_91 : decode cX3_wrongPlace 91 = .ok (.iconst 1, 1) := dk_4 (dk_at dksX3_wrongPlace_3 20 rfl rfl)
theorem dX3_wrongPlace_92 : decode cX3_wrongPlace 92 = .ok (.if_icmp .ne 11, 3) := dk_160 0 11 (dk_at dksX3_wrongPlace_3 21 rfl rfl)
theorem dX3_wrongPlace_95 : decode cX3_wrongPlace 95 = .ok (.iload_n 1, 1) := dk_27 (dk_at dksX3_wrongPlace_4 0 rfl rfl)
theorem dX3_wrongPlace_96 : decode cX3_wrongPlace 96 = .ok (.iconst 2, 1) := dk_5 (dk_at dksX3_wrongPlace_4 1 rfl rfl)
theorem dX3_wrongPlace_97 : decode cX3_wrongPlace 97 = .ok (.if_icmp .lt 18, 3) := dk_161 0 18 (dk_at dksX3_wrongPlace_4 2 rfl rfl)
theorem dX3_wrongPlace_100 : decode cX3_wrongPlace 100 = .ok (.goto 11, 3) := dk_167 0 11 (dk_at dksX3_wrongPlace_4 5 rfl rfl)
theorem dX3_wrongPlace_103 : decode cX3_wrongPlace 103 = .ok (.iload_n 1, 1) := dk_27 (dk_at dksX3_wrongPlace_4 8 rfl rfl)
theorem dX3_wrongPlace_104 : decode cX3_wrongPlace 104 = .ok (.aload_n 0, 1) := dk_42 (dk_at dksX3_wrongPlace_4 9 rfl rfl)
theorem dX3_wrongPlace_105 : decode cX3_wrongPlace 105 = .ok (.getfield 198, 3) := dk_180 0 198 (dk_at dksX3_wrongPlace_4 10 rfl rfl)
theorem dX3_wrongPlace_108 : decode cX3_wrongPlace 108 = .ok (.if_icmp .ne 7, 3) := dk_160 0 7 (dk_at dksX3_wrongPlace_4 13 rfl rfl)
theorem dX3_wrongPlace_111 : decode cX3_wrongPlace 111 = .ok (.iconst 1, 1) := dk_4 (dk_at dksX3_wrongPlace_4 16 rfl rfl)
theorem dX3_wrongPlace_112 : decode cX3_wrongPlace 112 = .ok (.goto 4, 3) := dk_167 0 4 (dk_at dksX3_wrongPlace_4 17 rfl rfl)
theorem dX3_wrongPlace_115 : decode cX3_wrongPlace 115 = .ok (.iconst 0, 1) := dk_3 (dk_at dksX3_wrongPlace_4 20 rfl rfl)
theorem dX3_wrongPlace_116 : decode cX3_wrongPlace 116 = .ok (.istore 4, 2) := dk_54 4 (dk_at dksX3_wrongPlace_4 21 rfl rfl)
theorem dX3_wrongPlace_118 : decode cX3_wrongPlace 118 = .ok (.iload 4, 2) := dk_21 4 (dk_at dksX3_wrongPlace_5 0 rfl rfl)
theorem dX3_wrongPlace_120 : decode cX3_wrongPlace 120 = .ok (.ifCond .ne 5, 3) := dk_154 0 5 (dk_at dksX3_wrongPlace_5 2 rfl rfl)
theorem dX3_wrongPlace_123 : decode cX3_wrongPlace 123 = .ok (.iload_n 2, 1) := dk_28 (dk_at dksX3_wrongPlace_5 5 rfl rfl)
theorem dX3_wrongPlace_124 : decode cX3_wrongPlace 124 = .ok (.ireturn, 1) := dk_172 (dk_at dksX3_wrongPlace_5 6 rfl rfl)
theorem dX3_wrongPlace_125 : decode cX3_wrongPlace 125 = .ok (.aload_n 0, 1) := dk_42 (dk_at dksX3_wrongPlace_5 7 rfl rfl)
theorem dX3_wrongPlace_126 : decode cX3_wrongPlace 126 = .ok (.aload_n 0, 1) := dk_42 (dk_at dksX3_wrongPlace_5 8 rfl rfl)
theorem dX3_wrongPlace_127 : decode cX3_wrongPlace 127 = .ok (.getfield 195, 3) := dk_180 0 195 (dk_at dksX3_wrongPlace_5 9 rfl rfl)
theorem dX3_wrongPlace_130 : decode cX3_wrongPlace 130 = .ok (.iconst 1, 1) := dk_4 (dk_at dksX3_wrongPlace_5 12 rfl rfl)
theorem dX3_wrongPlace_131 : decode cX3_wrongPlace 131 = .ok (.if_icmp .ne 7, 3) := dk_160 0 7 (dk_at dksX3_wrongPlace_5 13 rfl rfl)
theorem dX3_wrongPlace_134 : decode cX3_wrongPlace 134 = .ok (.iload_n 1, 1) := dk_27 (dk_at dksX3_wrongPlace_5 16 rfl rfl)
theorem dX3_wrongPlace_135 : decode cX3_wrongPlace 135 = .ok (.goto 7, 3) := dk_167 0 7 (dk_at dksX3_wrongPlace_5 17 rfl rfl)
theorem dX3_wrongPlace_138 : decode cX3_wrongPlace 138 = .ok (.aload_n 0, 1) := dk_42 (dk_at dksX3_wrongPlace_5 20 rfl rfl)
theorem dX3_wrongPlace_139 : decode cX3_wrongPlace 139 = .ok (.getfield 198, 3) := dk_180 0 198 (dk_at dksX3_wrongPlace_5 21 rfl rfl)
theorem dX3_wrongPlace_142 : decode cX3_wrongPlace 142 = .ok (.putfield 198, 3) := dk_181 0 198 (dk_at dksX3_wrongPlace_6 0 rfl rfl)
theorem dX3_wrongPlace_145 : decode cX3_wrongPlace 145 = .ok (.aload_n 0, 1) := dk_42 (dk_at dksX3_wrongPlace_6 3 rfl rfl)
theorem dX3_wrongPlace_146 : decode cX3_wrongPlace 146 = .ok (.dup, 1) := dk_89 (dk_at dksX3_wrongPlace_6 4 rfl rfl)
theorem dX3_wrongPlace_147 : decode cX3_wrongPlace 147 = .ok (.getfield 195, 3) := dk_180 0 195 (dk_at dksX3_wrongPlace_6 5 rfl rfl)
theorem dX3_wrongPlace_150 : decode cX3_wrongPlace 150 = .ok (.iconst 1, 1) := dk_4 (dk_at dksX3_wrongPlace_6 8 rfl rfl)
theorem dX3_wrongPlace_151 : decode cX3_wrongPlace 151 = .ok (.iadd, 1) := dk_96 (dk_at dksX3_wrongPlace_6 9 rfl rfl)
theorem dX3_wrongPlace_152 : decode cX3_wrongPlace 152 = .ok (.putfield 195, 3) := dk_181 0 195 (dk_at dksX3_wrongPlace_6 10 rfl rfl)
theorem dX3_wrongPlace_155 : decode cX3_wrongPlace 155 = .ok (.iconst 0, 1) := dk_3 (dk_at dksX3_wrongPlace_6 13 rfl rfl)
theorem dX3_wrongPlace_156 : decode cX3_wrongPlace 156 = .ok (.istore_n 1, 1) := dk_60 (dk_at dksX3_wrongPlace_6 14 rfl rfl)
theorem dX3_wrongPlace_157 : decode cX3_wrongPlace 157 = .ok (.iinc 2 1, 3) := dk_132 2 1 (dk_at dksX3_wrongPlace_6 15 rfl rfl)
theorem dX3_wrongPlace_160 : decode cX3_wrongPlace 160 = .ok (.goto (-146), 3) := dk_167 255 110 (dk_at dksX3_wrongPlace_6 18 rfl rfl)
theorem dX3_wrongPlace_163 : decode cX3_wrongPlace 163 = .ok (.aload_n 0, 1) := dk_42 (dk_at dksX3_wrongPlace_6 21 rfl rfl)
theorem dX3_wrongPlace_164 : decode cX3_wrongPlace 164 = .ok (.aload_n 0, 1) := dk_42 (dk_at dksX3_wrongPlace_6 22 rfl rfl)
theorem dX3_wrongPlace_165 : decode cX3_wrongPlace 165 = .ok (.getfield 195, 3) := dk_180 0 195 (dk_at dksX3_wrongPlace_7 0 rfl rfl)
theorem dX3_wrongPlace_168 : decode cX3_wrongPlace 168 = .ok (.iconst 1, 1) := dk_4 (dk_at dksX3_wrongPlace_7 3 rfl rfl)
theorem dX3_wrongPlace_169 : decode cX3_wrongPlace 169 = .ok (.if_icmp .ne 7, 3) := dk_160 0 7 (dk_at dksX3_wrongPlace_7 4 rfl rfl)
theorem dX3_wrongPlace_172 : decode cX3_wrongPlace 172 = .ok (.iload_n 1, 1) := dk_27 (dk_at dksX3_wrongPlace_7 7 rfl rfl)
theorem dX3_wrongPlace_173 : decode cX3_wrongPlace 173 = .ok (.goto 7, 3) := dk_167 0 7 (dk_at dksX3_wrongPlace_7 8 rfl rfl)
theorem dX3_wrongPlace_176 : decode cX3_wrongPlace 176 = .ok (.aload_n 0, 1) := dk_42 (dk_at dksX3_wrongPlace_7 11 rfl rfl)
theorem dX3_wrongPlace_177 : decode cX3_wrongPlace 177 = .ok (.getfield 198, 3) := dk_180 0 198 (dk_at dksX3_wrongPlace_7 12 rfl rfl)
theorem dX3_wrongPlace_180 : decode cX3_wrongPlace 180 = .ok (.putfield 198, 3) := dk_181 0 198 (dk_at dksX3_wrongPlace_7 15 rfl rfl)
theorem dX3_wrongPlace_183 : decode cX3_wrongPlace 183 = .ok (.iload_n 1, 1) := dk_27 (dk_at dksX3_wrongPlace_7 18 rfl rfl)
theorem dX3_wrongPlace_184 : decode cX3_wrongPlace 184 = .ok (.iconst 2, 1) := dk_5 (dk_at dksX3_wrongPlace_7 19 rfl rfl)
theorem dX3_wrongPlace_185 : decode cX3_wrongPlace 185 = .ok (.if_icmp .lt 11, 3) := dk_161 0 11 (dk_at dksX3_wrongPlace_7 20 rfl rfl)
theorem dX3_wrongPlace_188 : decode cX3_wrongPlace 188 = .ok (.iload_n 1, 1) := dk_27 (dk_at dksX3_wrongPlace_7 23 rfl rfl)
theorem dX3_wrongPlace_189 : decode cX3_wrongPlace 189 = .ok (.aload_n 0, 1) := dk_42 (dk_at dksX3_wrongPlace_8 0 rfl rfl)
theorem dX3_wrongPlace_190 : decode cX3_wrongPlace 190 = .ok (.getfield 198, 3) := dk_180 0 198 (dk_at dksX3_wrongPlace_8 1 rfl rfl)
theorem dX3_wrongPlace_193 : decode cX3_wrongPlace 193 = .ok (.if_icmp .ge 10, 3) := dk_162 0 10 (dk_at dksX3_wrongPlace_8 4 rfl rfl)
theorem dX3_wrongPlace_196 : decode cX3_wrongPlace 196 = .ok (.aload_n 0, 1) := dk_42 (dk_at dksX3_wrongPlace_8 7 rfl rfl)
theorem dX3_wrongPlace_197 : decode cX3_wrongPlace 197 = .ok (.getfield 192, 3) := dk_180 0 192 (dk_at dksX3_wrongPlace_8 8 rfl rfl)
theorem dX3_wrongPlace_200 : decode cX3_wrongPlace 200 = .ok (.goto 4, 3) := dk_167 0 4 (dk_at dksX3_wrongPlace_8 11 rfl rfl)
theorem dX3_wrongPlace_203 : decode cX3_wrongPlace 203 = .ok (.iconst (-1), 1) := dk_2 (dk_at dksX3_wrongPlace_8 14 rfl rfl)
theorem dX3_wrongPlace_204 : decode cX3_wrongPlace 204 = .ok (.ireturn, 1) := dk_172 (dk_at dksX3_wrongPlace_8 15 rfl rfl)
abbrev cX3_faultPosition : ByteArray := prog_12_method_70_code
def yX3_faultPosition : MethodName := ⟨RX3, "faultPosition", "()I"⟩
def dkwX3_faultPosition_0 : List UInt8 := [42, 3, 181, 0, 49, 42, 180, 0, 45, 172]
abbrev dktX3_faultPosition_0 : List UInt8 := dkwX3_faultPosition_0 ++ []
theorem dksX3_faultPosition_0 : cX3_faultPosition.data.toList.drop 0 = dktX3_faultPosition_0 := by decide +kernel
theorem dX3_faultPosition_0 : decode cX3_faultPosition 0 = .ok (.aload_n 0, 1) := dk_42 (dk_at dksX3_faultPosition_0 0 rfl rfl)
theorem dX3_faultPosition_1 : decode cX3_faultPosition 1 = .ok (.iconst 0, 1) := dk_3 (dk_at dksX3_faultPosition_0 1 rfl rfl)
theorem dX3_faultPosition_2 : decode cX3_faultPosition 2 = .ok (.putfield 49, 3) := dk_181 0 49 (dk_at dksX3_faultPosition_0 2 rfl rfl)
theorem dX3_faultPosition_5 : decode cX3_faultPosition 5 = .ok (.aload_n 0, 1) := dk_42 (dk_at dksX3_faultPosition_0 5 rfl rfl)
theorem dX3_faultPosition_6 : decode cX3_faultPosition 6 = .ok (.getfield 45, 3) := dk_180 0 45 (dk_at dksX3_faultPosition_0 6 rfl rfl)
theorem dX3_faultPosition_9 : decode cX3_faultPosition 9 = .ok (.ireturn, 1) := dk_172 (dk_at dksX3_faultPosition_0 9 rfl rfl)
abbrev cX3_undo : ByteArray := prog_12_method_71_code
def yX3_undo : MethodName := ⟨RX3, "undo", "()I"⟩
def dkwX3_undo_2 : List UInt8 := [180, 0, 9, 3, 17, 1, 144, 184, 0, 55, 42, 180, 0, 52, 172]
abbrev dktX3_undo_2 : List UInt8 := dkwX3_undo_2 ++ []
def dkwX3_undo_1 : List UInt8 := [172, 42, 89, 180, 0, 52, 4, 100, 181, 0, 52, 42, 180, 0, 16, 17, 1, 144, 42, 180, 0, 52, 104, 42]
abbrev dktX3_undo_1 : List UInt8 := dkwX3_undo_1 ++ dktX3_undo_2
def dkwX3_undo_0 : List UInt8 := [42, 42, 180, 0, 52, 154, 0, 7, 4, 167, 0, 4, 3, 181, 0, 49, 42, 180, 0, 49, 158, 0, 5, 3]
abbrev dktX3_undo_0 : List UInt8 := dkwX3_undo_0 ++ dktX3_undo_1
theorem dksX3_undo_0 : cX3_undo.data.toList.drop 0 = dktX3_undo_0 := by decide +kernel
theorem dksX3_undo_1 : cX3_undo.data.toList.drop 24 = dktX3_undo_1 := dk_seg dksX3_undo_0 24 rfl rfl
theorem dksX3_undo_2 : cX3_undo.data.toList.drop 48 = dktX3_undo_2 := dk_seg dksX3_undo_1 24 rfl rfl
theorem dX3_undo_0 : decode cX3_undo 0 = .ok (.aload_n 0, 1) := dk_42 (dk_at dksX3_undo_0 0 rfl rfl)
theorem dX3_undo_1 : decode cX3_undo 1 = .ok (.aload_n 0, 1) := dk_42 (dk_at dksX3_undo_0 1 rfl rfl)
theorem dX3_undo_2 : decode cX3_undo 2 = .ok (.getfield 52, 3) := dk_180 0 52 (dk_at dksX3_undo_0 2 rfl rfl)
theorem dX3_undo_5 : decode cX3_undo 5 = .ok (.ifCond .ne 7, 3) := dk_154 0 7 (dk_at dksX3_undo_0 5 rfl rfl)
theorem dX3_undo_8 : decode cX3_undo 8 = .ok (.iconst 1, 1) := dk_4 (dk_at dksX3_undo_0 8 rfl rfl)
theorem dX3_undo_9 : decode cX3_undo 9 = .ok (.goto 4, 3) := dk_167 0 4 (dk_at dksX3_undo_0 9 rfl rfl)
theorem dX3_undo_12 : decode cX3_undo 12 = .ok (.iconst 0, 1) := dk_3 (dk_at dksX3_undo_0 12 rfl rfl)
theorem dX3_undo_13 : decode cX3_undo 13 = .ok (.putfield 49, 3) := dk_181 0 49 (dk_at dksX3_undo_0 13 rfl rfl)
theorem dX3_undo_16 : decode cX3_undo 16 = .ok (.aload_n 0, 1) := dk_42 (dk_at dksX3_undo_0 16 rfl rfl)
theorem dX3_undo_17 : decode cX3_undo 17 = .ok (.getfield 49, 3) := dk_180 0 49 (dk_at dksX3_undo_0 17 rfl rfl)
theorem dX3_undo_20 : decode cX3_undo 20 = .ok (.ifCond .le 5, 3) := dk_158 0 5 (dk_at dksX3_undo_0 20 rfl rfl)
theorem dX3_undo_23 : decode cX3_undo 23 = .ok (.iconst 0, 1) := dk_3 (dk_at dksX3_undo_0 23 rfl rfl)
theorem dX3_undo_24 : decode cX3_undo 24 = .ok (.ireturn, 1) := dk_172 (dk_at dksX3_undo_1 0 rfl rfl)
theorem dX3_undo_25 : decode cX3_undo 25 = .ok (.aload_n 0, 1) := dk_42 (dk_at dksX3_undo_1 1 rfl rfl)
theorem dX3_undo_26 : decode cX3_undo 26 = .ok (.dup, 1) := dk_89 (dk_at dksX3_undo_1 2 rfl rfl)
theorem dX3_undo_27 : decode cX3_undo 27 = .ok (.getfield 52, 3) := dk_180 0 52 (dk_at dksX3_undo_1 3 rfl rfl)
theorem dX3_undo_30 : decode cX3_undo 30 = .ok (.iconst 1, 1) := dk_4 (dk_at dksX3_undo_1 6 rfl rfl)
theorem dX3_undo_31 : decode cX3_undo 31 = .ok (.isub, 1) := dk_100 (dk_at dksX3_undo_1 7 rfl rfl)
theorem dX3_undo_32 : decode cX3_undo 32 = .ok (.putfield 52, 3) := dk_181 0 52 (dk_at dksX3_undo_1 8 rfl rfl)
theorem dX3_undo_35 : decode cX3_undo 35 = .ok (.aload_n 0, 1) := dk_42 (dk_at dksX3_undo_1 11 rfl rfl)
theorem dX3_undo_36 : decode cX3_undo 36 = .ok (.getfield 16, 3) := dk_180 0 16 (dk_at dksX3_undo_1 12 rfl rfl)
theorem dX3_undo_39 : decode cX3_undo 39 = .ok (.sipush 400, 3) := dk_17 1 144 (dk_at dksX3_undo_1 15 rfl rfl)
theorem dX3_undo_42 : decode cX3_undo 42 = .ok (.aload_n 0, 1) := dk_42 (dk_at dksX3_undo_1 18 rfl rfl)
theorem dX3_undo_43 : decode cX3_undo 43 = .ok (.getfield 52, 3) := dk_180 0 52 (dk_at dksX3_undo_1 19 rfl rfl)
theorem dX3_undo_46 : decode cX3_undo 46 = .ok (.imul, 1) := dk_104 (dk_at dksX3_undo_1 22 rfl rfl)
theorem dX3_undo_47 : decode cX3_undo 47 = .ok (.aload_n 0, 1) := dk_42 (dk_at dksX3_undo_1 23 rfl rfl)
theorem dX3_undo_48 : decode cX3_undo 48 = .ok (.getfield 9, 3) := dk_180 0 9 (dk_at dksX3_undo_2 0 rfl rfl)
theorem dX3_undo_51 : decode cX3_undo 51 = .ok (.iconst 0, 1) := dk_3 (dk_at dksX3_undo_2 3 rfl rfl)
theorem dX3_undo_52 : decode cX3_undo 52 = .ok (.sipush 400, 3) := dk_17 1 144 (dk_at dksX3_undo_2 4 rfl rfl)
theorem dX3_undo_55 : decode cX3_undo 55 = .ok (.invokestatic 55, 3) := dk_184 0 55 (dk_at dksX3_undo_2 7 rfl rfl)
theorem dX3_undo_58 : decode cX3_undo 58 = .ok (.aload_n 0, 1) := dk_42 (dk_at dksX3_undo_2 10 rfl rfl)
theorem dX3_undo_59 : decode cX3_undo 59 = .ok (.getfield 52, 3) := dk_180 0 52 (dk_at dksX3_undo_2 11 rfl rfl)
theorem dX3_undo_62 : decode cX3_undo 62 = .ok (.ireturn, 1) := dk_172 (dk_at dksX3_undo_2 14 rfl rfl)
abbrev cX3_save : ByteArray := prog_12_method_72_code
def yX3_save : MethodName := ⟨RX3, "save", "()I"⟩
def dkwX3_save_1 : List UInt8 := [181, 0, 207, 42, 180, 0, 9, 6, 46, 172]
abbrev dktX3_save_1 : List UInt8 := dkwX3_save_1 ++ []
def dkwX3_save_0 : List UInt8 := [42, 3, 181, 0, 49, 42, 180, 0, 9, 3, 42, 180, 0, 13, 3, 17, 1, 144, 184, 0, 55, 42, 4]
abbrev dktX3_save_0 : List UInt8 := dkwX3_save_0 ++ dktX3_save_1
theorem dksX3_save_0 : cX3_save.data.toList.drop 0 = dktX3_save_0 := by decide +kernel
theorem dksX3_save_1 : cX3_save.data.toList.drop 23 = dktX3_save_1 := dk_seg dksX3_save_0 23 rfl rfl
theorem dX3_save_0 : decode cX3_save 0 = .ok (.aload_n 0, 1) := dk_42 (dk_at dksX3_save_0 0 rfl rfl)
theorem dX3_save_1 : decode cX3_save 1 = .ok (.iconst 0, 1) := dk_3 (dk_at dksX3_save_0 1 rfl rfl)
theorem dX3_save_2 : decode cX3_save 2 = .ok (.putfield 49, 3) := dk_181 0 49 (dk_at dksX3_save_0 2 rfl rfl)
theorem dX3_save_5 : decode cX3_save 5 = .ok (.aload_n 0, 1) := dk_42 (dk_at dksX3_save_0 5 rfl rfl)
theorem dX3_save_6 : decode cX3_save 6 = .ok (.getfield 9, 3) := dk_180 0 9 (dk_at dksX3_save_0 6 rfl rfl)
theorem dX3_save_9 : decode cX3_save 9 = .ok (.iconst 0, 1) := dk_3 (dk_at dksX3_save_0 9 rfl rfl)
theorem dX3_save_10 : decode cX3_save 10 = .ok (.aload_n 0, 1) := dk_42 (dk_at dksX3_save_0 10 rfl rfl)
theorem dX3_save_11 : decode cX3_save 11 = .ok (.getfield 13, 3) := dk_180 0 13 (dk_at dksX3_save_0 11 rfl rfl)
theorem dX3_save_14 : decode cX3_save 14 = .ok (.iconst 0, 1) := dk_3 (dk_at dksX3_save_0 14 rfl rfl)
theorem dX3_save_15 : decode cX3_save 15 = .ok (.sipush 400, 3) := dk_17 1 144 (dk_at dksX3_save_0 15 rfl rfl)
theorem dX3_save_18 : decode cX3_save 18 = .ok (.invokestatic 55, 3) := dk_184 0 55 (dk_at dksX3_save_0 18 rfl rfl)
theorem dX3_save_21 : decode cX3_save 21 = .ok (.aload_n 0, 1) := dk_42 (dk_at dksX3_save_0 21 rfl rfl)
theorem dX3_save_22 : decode cX3_save 22 = .ok (.iconst 1, 1) := dk_4 (dk_at dksX3_save_0 22 rfl rfl)
theorem dX3_save_23 : decode cX3_save 23 = .ok (.putfield 207, 3) := dk_181 0 207 (dk_at dksX3_save_1 0 rfl rfl)
theorem dX3_save_26 : decode cX3_save 26 = .ok (.aload_n 0, 1) := dk_42 (dk_at dksX3_save_1 3 rfl rfl)
theorem dX3_save_27 : decode cX3_save 27 = .ok (.getfield 9, 3) := dk_180 0 9 (dk_at dksX3_save_1 4 rfl rfl)
theorem dX3_save_30 : decode cX3_save 30 = .ok (.iconst 3, 1) := dk_6 (dk_at dksX3_save_1 7 rfl rfl)
theorem dX3_save_31 : decode cX3_save 31 = .ok (.iaload, 1) := dk_46 (dk_at dksX3_save_1 8 rfl rfl)
theorem dX3_save_32 : decode cX3_save 32 = .ok (.ireturn, 1) := dk_172 (dk_at dksX3_save_1 9 rfl rfl)
abbrev cX3_restore : ByteArray := prog_12_method_73_code
def yX3_restore : MethodName := ⟨RX3, "restore", "()I"⟩
def dkwX3_restore_2 : List UInt8 := [180, 0, 9, 6, 46, 172]
abbrev dktX3_restore_2 : List UInt8 := dkwX3_restore_2 ++ []
def dkwX3_restore_1 : List UInt8 := [172, 42, 180, 0, 13, 3, 42, 180, 0, 9, 3, 17, 1, 144, 184, 0, 55, 42, 3, 181, 0, 52, 42]
abbrev dktX3_restore_1 : List UInt8 := dkwX3_restore_1 ++ dktX3_restore_2
def dkwX3_restore_0 : List UInt8 := [42, 42, 180, 0, 207, 153, 0, 7, 3, 167, 0, 4, 4, 181, 0, 49, 42, 180, 0, 49, 158, 0, 5, 3]
abbrev dktX3_restore_0 : List UInt8 := dkwX3_restore_0 ++ dktX3_restore_1
theorem dksX3_restore_0 : cX3_restore.data.toList.drop 0 = dktX3_restore_0 := by decide +kernel
theorem dksX3_restore_1 : cX3_restore.data.toList.drop 24 = dktX3_restore_1 := dk_seg dksX3_restore_0 24 rfl rfl
theorem dksX3_restore_2 : cX3_restore.data.toList.drop 47 = dktX3_restore_2 := dk_seg dksX3_restore_1 23 rfl rfl
theorem dX3_restore_0 : decode cX3_restore 0 = .ok (.aload_n 0, 1) := dk_42 (dk_at dksX3_restore_0 0 rfl rfl)
theorem dX3_restore_1 : decode cX3_restore 1 = .ok (.aload_n 0, 1) := dk_42 (dk_at dksX3_restore_0 1 rfl rfl)
theorem dX3_restore_2 : decode cX3_restore 2 = .ok (.getfield 207, 3) := dk_180 0 207 (dk_at dksX3_restore_0 2 rfl rfl)
theorem dX3_restore_5 : decode cX3_restore 5 = .ok (.ifCond .eq 7, 3) := dk_153 0 7 (dk_at dksX3_restore_0 5 rfl rfl)
theorem dX3_restore_8 : decode cX3_restore 8 = .ok (.iconst 0, 1) := dk_3 (dk_at dksX3_restore_0 8 rfl rfl)
theorem dX3_restore_9 : decode cX3_restore 9 = .ok (.goto 4, 3) := dk_167 0 4 (dk_at dksX3_restore_0 9 rfl rfl)
theorem dX3_restore_12 : decode cX3_restore 12 = .ok (.iconst 1, 1) := dk_4 (dk_at dksX3_restore_0 12 rfl rfl)
theorem dX3_restore_13 : decode cX3_restore 13 = .ok (.putfield 49, 3) := dk_181 0 49 (dk_at dksX3_restore_0 13 rfl rfl)
theorem dX3_restore_16 : decode cX3_restore 16 = .ok (.aload_n 0, 1) := dk_42 (dk_at dksX3_restore_0 16 rfl rfl)
theorem dX3_restore_17 : decode cX3_restore 17 = .ok (.getfield 49, 3) := dk_180 0 49 (dk_at dksX3_restore_0 17 rfl rfl)
theorem dX3_restore_20 : decode cX3_restore 20 = .ok (.ifCond .le 5, 3) := dk_158 0 5 (dk_at dksX3_restore_0 20 rfl rfl)
theorem dX3_restore_23 : decode cX3_restore 23 = .ok (.iconst 0, 1) := dk_3 (dk_at dksX3_restore_0 23 rfl rfl)
theorem dX3_restore_24 : decode cX3_restore 24 = .ok (.ireturn, 1) := dk_172 (dk_at dksX3_restore_1 0 rfl rfl)
theorem dX3_restore_25 : decode cX3_restore 25 = .ok (.aload_n 0, 1) := dk_42 (dk_at dksX3_restore_1 1 rfl rfl)
theorem dX3_restore_26 : decode cX3_restore 26 = .ok (.getfield 13, 3) := dk_180 0 13 (dk_at dksX3_restore_1 2 rfl rfl)
theorem dX3_restore_29 : decode cX3_restore 29 = .ok (.iconst 0, 1) := dk_3 (dk_at dksX3_restore_1 5 rfl rfl)
theorem dX3_restore_30 : decode cX3_restore 30 = .ok (.aload_n 0, 1) := dk_42 (dk_at dksX3_restore_1 6 rfl rfl)
theorem dX3_restore_31 : decode cX3_restore 31 = .ok (.getfield 9, 3) := dk_180 0 9 (dk_at dksX3_restore_1 7 rfl rfl)
theorem dX3_restore_34 : decode cX3_restore 34 = .ok (.iconst 0, 1) := dk_3 (dk_at dksX3_restore_1 10 rfl rfl)
theorem dX3_restore_35 : decode cX3_restore 35 = .ok (.sipush 400, 3) := dk_17 1 144 (dk_at dksX3_restore_1 11 rfl rfl)
theorem dX3_restore_38 : decode cX3_restore 38 = .ok (.invokestatic 55, 3) := dk_184 0 55 (dk_at dksX3_restore_1 14 rfl rfl)
theorem dX3_restore_41 : decode cX3_restore 41 = .ok (.aload_n 0, 1) := dk_42 (dk_at dksX3_restore_1 17 rfl rfl)
theorem dX3_restore_42 : decode cX3_restore 42 = .ok (.iconst 0, 1) := dk_3 (dk_at dksX3_restore_1 18 rfl rfl)
theorem dX3_restore_43 : decode cX3_restore 43 = .ok (.putfield 52, 3) := dk_181 0 52 (dk_at dksX3_restore_1 19 rfl rfl)
theorem dX3_restore_46 : decode cX3_restore 46 = .ok (.aload_n 0, 1) := dk_42 (dk_at dksX3_restore_1 22 rfl rfl)
theorem dX3_restore_47 : decode cX3_restore 47 = .ok (.getfield 9, 3) := dk_180 0 9 (dk_at dksX3_restore_2 0 rfl rfl)
theorem dX3_restore_50 : decode cX3_restore 50 = .ok (.iconst 3, 1) := dk_6 (dk_at dksX3_restore_2 3 rfl rfl)
theorem dX3_restore_51 : decode cX3_restore 51 = .ok (.iaload, 1) := dk_46 (dk_at dksX3_restore_2 4 rfl rfl)
theorem dX3_restore_52 : decode cX3_restore 52 = .ok (.ireturn, 1) := dk_172 (dk_at dksX3_restore_2 5 rfl rfl)
theorem q76 : (Jvm.Cond.initialized "RobotAislesModel") ∈ lw_all := lw_g (lw_at lw_m1 6 rfl) rfl
theorem q346 : (Jvm.Cond.selects "RobotAislesModel" ({ cls := "java/lang/Object", name := "getClass", desc := "()Ljava/lang/Class;" } : Jvm.MethodName) ({ cls := "java/lang/Object", name := "getClass", desc := "()Ljava/lang/Class;" } : Jvm.MethodName)) ∈ lw_all := lw_g (lw_at lw_m2 36 rfl) rfl
theorem q1924 : (Jvm.Cond.instantiable "RobotAislesModel" (20 : Nat)) ∈ lw_all := lw_g (lw_at lw_m8 174 rfl) rfl
theorem q1926 : (Jvm.Cond.instanceMethod ({ cls := "RobotAislesModel", name := "<init>", desc := "()V" } : Jvm.MethodName)) ∈ lw_all := lw_g (lw_at lw_m8 176 rfl) rfl
theorem q1927 : (Jvm.Cond.code ({ cls := "RobotAislesModel", name := "<init>", desc := "()V" } : Jvm.MethodName) prog_12_method_1_code (1 : Nat) (Option.none : Option Jvm.ClassFile.FieldType)) ∈ lw_all := lw_g (lw_at lw_m8 177 rfl) rfl
theorem q1928 : (Jvm.Cond.methodLink "RobotAislesModel" (3 : Nat) ({ cls := "java/lang/Object", name := "<init>", desc := "()V" } : Jvm.MethodName)) ∈ lw_all := lw_g (lw_at lw_m8 178 rfl) rfl
theorem q1929 : (Jvm.Cond.fieldLink "RobotAislesModel" (9 : Nat) "RobotAislesModel" "s" "[I") ∈ lw_all := lw_g (lw_at lw_m8 179 rfl) rfl
theorem q1930 : (Jvm.Cond.fieldLink "RobotAislesModel" (13 : Nat) "RobotAislesModel" "saved" "[I") ∈ lw_all := lw_g (lw_at lw_m8 180 rfl) rfl
theorem q1931 : (Jvm.Cond.fieldLink "RobotAislesModel" (207 : Nat) "RobotAislesModel" "isSaved" "Z") ∈ lw_all := lw_g (lw_at lw_m8 181 rfl) rfl
theorem q1932 : (Jvm.Cond.fieldLink "RobotAislesModel" (16 : Nat) "RobotAislesModel" "past" "[I") ∈ lw_all := lw_g (lw_at lw_m8 182 rfl) rfl
theorem q1933 : (Jvm.Cond.fieldLink "RobotAislesModel" (52 : Nat) "RobotAislesModel" "pastMany" "I") ∈ lw_all := lw_g (lw_at lw_m8 183 rfl) rfl
theorem q1934 : (Jvm.Cond.fieldLink "RobotAislesModel" (49 : Nat) "RobotAislesModel" "thrown" "I") ∈ lw_all := lw_g (lw_at lw_m8 184 rfl) rfl
theorem q1935 : (Jvm.Cond.fieldLink "RobotAislesModel" (61 : Nat) "RobotAislesModel" "reason" "I") ∈ lw_all := lw_g (lw_at lw_m8 185 rfl) rfl
theorem q1936 : (Jvm.Cond.fieldLink "RobotAislesModel" (64 : Nat) "RobotAislesModel" "detail" "I") ∈ lw_all := lw_g (lw_at lw_m8 186 rfl) rfl
theorem q1937 : (Jvm.Cond.fieldLink "RobotAislesModel" (19 : Nat) "RobotAislesModel" "lines" "[I") ∈ lw_all := lw_g (lw_at lw_m8 187 rfl) rfl
theorem q1938 : (Jvm.Cond.fieldLink "RobotAislesModel" (22 : Nat) "RobotAislesModel" "comes" "[Z") ∈ lw_all := lw_g (lw_at lw_m8 188 rfl) rfl
theorem q1939 : (Jvm.Cond.fieldLink "RobotAislesModel" (26 : Nat) "RobotAislesModel" "goes" "[Z") ∈ lw_all := lw_g (lw_at lw_m8 189 rfl) rfl
theorem q1940 : (Jvm.Cond.fieldLink "RobotAislesModel" (29 : Nat) "RobotAislesModel" "path" "[I") ∈ lw_all := lw_g (lw_at lw_m8 190 rfl) rfl
theorem q1941 : (Jvm.Cond.fieldLink "RobotAislesModel" (32 : Nat) "RobotAislesModel" "far" "[I") ∈ lw_all := lw_g (lw_at lw_m8 191 rfl) rfl
theorem q1942 : (Jvm.Cond.fieldLink "RobotAislesModel" (35 : Nat) "RobotAislesModel" "queue" "[I") ∈ lw_all := lw_g (lw_at lw_m8 192 rfl) rfl
theorem q1943 : (Jvm.Cond.fieldLink "RobotAislesModel" (38 : Nat) "RobotAislesModel" "table" "[I") ∈ lw_all := lw_g (lw_at lw_m8 193 rfl) rfl
theorem q1944 : (Jvm.Cond.fieldLink "RobotAislesModel" (41 : Nat) "RobotAislesModel" "input" "[C") ∈ lw_all := lw_g (lw_at lw_m8 194 rfl) rfl
theorem q1945 : (Jvm.Cond.fieldLink "RobotAislesModel" (192 : Nat) "RobotAislesModel" "length" "I") ∈ lw_all := lw_g (lw_at lw_m8 195 rfl) rfl
theorem q1946 : (Jvm.Cond.fieldLink "RobotAislesModel" (45 : Nat) "RobotAislesModel" "fault" "I") ∈ lw_all := lw_g (lw_at lw_m8 196 rfl) rfl
theorem q1947 : (Jvm.Cond.fieldLink "RobotAislesModel" (195 : Nat) "RobotAislesModel" "readRows" "I") ∈ lw_all := lw_g (lw_at lw_m8 197 rfl) rfl
theorem q1948 : (Jvm.Cond.fieldLink "RobotAislesModel" (198 : Nat) "RobotAislesModel" "readColumns" "I") ∈ lw_all := lw_g (lw_at lw_m8 198 rfl) rfl
theorem q1949 : (Jvm.Cond.laysFinal "RobotAislesModel" "RobotAislesModel" "s" "[I") ∈ lw_all := lw_g (lw_at lw_m8 199 rfl) rfl
theorem q1950 : (Jvm.Cond.soleField "RobotAislesModel" "s") ∈ lw_all := lw_g (lw_at lw_m8 200 rfl) rfl
theorem q1951 : (Jvm.Cond.laysFinal "RobotAislesModel" "RobotAislesModel" "saved" "[I") ∈ lw_all := lw_g (lw_at lw_m8 201 rfl) rfl
theorem q1952 : (Jvm.Cond.soleField "RobotAislesModel" "saved") ∈ lw_all := lw_g (lw_at lw_m8 202 rfl) rfl
theorem q1953 : (Jvm.Cond.lays "RobotAislesModel" "RobotAislesModel" "isSaved" "Z") ∈ lw_all := lw_g (lw_at lw_m8 203 rfl) rfl
theorem q1954 : (Jvm.Cond.soleField "RobotAislesModel" "isSaved") ∈ lw_all := lw_g (lw_at lw_m8 204 rfl) rfl
theorem q1955 : (Jvm.Cond.laysFinal "RobotAislesModel" "RobotAislesModel" "past" "[I") ∈ lw_all := lw_g (lw_at lw_m8 205 rfl) rfl
theorem q1956 : (Jvm.Cond.soleField "RobotAislesModel" "past") ∈ lw_all := lw_g (lw_at lw_m8 206 rfl) rfl
theorem q1957 : (Jvm.Cond.lays "RobotAislesModel" "RobotAislesModel" "pastMany" "I") ∈ lw_all := lw_g (lw_at lw_m8 207 rfl) rfl
theorem q1958 : (Jvm.Cond.soleField "RobotAislesModel" "pastMany") ∈ lw_all := lw_g (lw_at lw_m8 208 rfl) rfl
theorem q1959 : (Jvm.Cond.lays "RobotAislesModel" "RobotAislesModel" "thrown" "I") ∈ lw_all := lw_g (lw_at lw_m8 209 rfl) rfl
theorem q1960 : (Jvm.Cond.soleField "RobotAislesModel" "thrown") ∈ lw_all := lw_g (lw_at lw_m8 210 rfl) rfl
theorem q1961 : (Jvm.Cond.lays "RobotAislesModel" "RobotAislesModel" "reason" "I") ∈ lw_all := lw_g (lw_at lw_m8 211 rfl) rfl
theorem q1962 : (Jvm.Cond.soleField "RobotAislesModel" "reason") ∈ lw_all := lw_g (lw_at lw_m8 212 rfl) rfl
theorem q1963 : (Jvm.Cond.lays "RobotAislesModel" "RobotAislesModel" "detail" "I") ∈ lw_all := lw_g (lw_at lw_m8 213 rfl) rfl
theorem q1964 : (Jvm.Cond.soleField "RobotAislesModel" "detail") ∈ lw_all := lw_g (lw_at lw_m8 214 rfl) rfl
theorem q1965 : (Jvm.Cond.laysFinal "RobotAislesModel" "RobotAislesModel" "lines" "[I") ∈ lw_all := lw_g (lw_at lw_m8 215 rfl) rfl
theorem q1966 : (Jvm.Cond.soleField "RobotAislesModel" "lines") ∈ lw_all := lw_g (lw_at lw_m8 216 rfl) rfl
theorem q1967 : (Jvm.Cond.laysFinal "RobotAislesModel" "RobotAislesModel" "comes" "[Z") ∈ lw_all := lw_g (lw_at lw_m8 217 rfl) rfl
theorem q1968 : (Jvm.Cond.soleField "RobotAislesModel" "comes") ∈ lw_all := lw_g (lw_at lw_m8 218 rfl) rfl
theorem q1969 : (Jvm.Cond.laysFinal "RobotAislesModel" "RobotAislesModel" "goes" "[Z") ∈ lw_all := lw_g (lw_at lw_m8 219 rfl) rfl
theorem q1970 : (Jvm.Cond.soleField "RobotAislesModel" "goes") ∈ lw_all := lw_g (lw_at lw_m8 220 rfl) rfl
theorem q1971 : (Jvm.Cond.laysFinal "RobotAislesModel" "RobotAislesModel" "path" "[I") ∈ lw_all := lw_g (lw_at lw_m8 221 rfl) rfl
theorem q1972 : (Jvm.Cond.soleField "RobotAislesModel" "path") ∈ lw_all := lw_g (lw_at lw_m8 222 rfl) rfl
theorem q1973 : (Jvm.Cond.laysFinal "RobotAislesModel" "RobotAislesModel" "far" "[I") ∈ lw_all := lw_g (lw_at lw_m8 223 rfl) rfl
theorem q1974 : (Jvm.Cond.soleField "RobotAislesModel" "far") ∈ lw_all := lw_g (lw_at lw_m8 224 rfl) rfl
theorem q1975 : (Jvm.Cond.laysFinal "RobotAislesModel" "RobotAislesModel" "queue" "[I") ∈ lw_all := lw_g (lw_at lw_m8 225 rfl) rfl
theorem q1976 : (Jvm.Cond.soleField "RobotAislesModel" "queue") ∈ lw_all := lw_g (lw_at lw_m8 226 rfl) rfl
theorem q1977 : (Jvm.Cond.laysFinal "RobotAislesModel" "RobotAislesModel" "table" "[I") ∈ lw_all := lw_g (lw_at lw_m8 227 rfl) rfl
theorem q1978 : (Jvm.Cond.soleField "RobotAislesModel" "table") ∈ lw_all := lw_g (lw_at lw_m8 228 rfl) rfl
theorem q1979 : (Jvm.Cond.laysFinal "RobotAislesModel" "RobotAislesModel" "input" "[C") ∈ lw_all := lw_g (lw_at lw_m8 229 rfl) rfl
theorem q1980 : (Jvm.Cond.soleField "RobotAislesModel" "input") ∈ lw_all := lw_g (lw_at lw_m8 230 rfl) rfl
theorem q1981 : (Jvm.Cond.lays "RobotAislesModel" "RobotAislesModel" "length" "I") ∈ lw_all := lw_g (lw_at lw_m8 231 rfl) rfl
theorem q1982 : (Jvm.Cond.soleField "RobotAislesModel" "length") ∈ lw_all := lw_g (lw_at lw_m8 232 rfl) rfl
theorem q1983 : (Jvm.Cond.lays "RobotAislesModel" "RobotAislesModel" "fault" "I") ∈ lw_all := lw_g (lw_at lw_m8 233 rfl) rfl
theorem q1984 : (Jvm.Cond.soleField "RobotAislesModel" "fault") ∈ lw_all := lw_g (lw_at lw_m8 234 rfl) rfl
theorem q1985 : (Jvm.Cond.lays "RobotAislesModel" "RobotAislesModel" "readRows" "I") ∈ lw_all := lw_g (lw_at lw_m8 235 rfl) rfl
theorem q1986 : (Jvm.Cond.soleField "RobotAislesModel" "readRows") ∈ lw_all := lw_g (lw_at lw_m8 236 rfl) rfl
theorem q1987 : (Jvm.Cond.lays "RobotAislesModel" "RobotAislesModel" "readColumns" "I") ∈ lw_all := lw_g (lw_at lw_m8 237 rfl) rfl
theorem q1988 : (Jvm.Cond.soleField "RobotAislesModel" "readColumns") ∈ lw_all := lw_g (lw_at lw_m8 238 rfl) rfl
theorem q1989 : (Jvm.Cond.superclass "RobotAislesModel" "java/lang/Object") ∈ lw_all := lw_g (lw_at lw_m8 239 rfl) rfl
theorem q1992 : (Jvm.Cond.instanceMethod ({ cls := "RobotAislesModel", name := "thrown", desc := "()I" } : Jvm.MethodName)) ∈ lw_all := lw_g (lw_at lw_m9 2 rfl) rfl
theorem q1993 : (Jvm.Cond.selects "RobotAislesModel" ({ cls := "RobotAislesModel", name := "thrown", desc := "()I" } : Jvm.MethodName) ({ cls := "RobotAislesModel", name := "thrown", desc := "()I" } : Jvm.MethodName)) ∈ lw_all := lw_g (lw_at lw_m9 3 rfl) rfl
theorem q1994 : (Jvm.Cond.code ({ cls := "RobotAislesModel", name := "thrown", desc := "()I" } : Jvm.MethodName) prog_12_method_2_code (1 : Nat) (Option.some Jvm.ClassFile.FieldType.int)) ∈ lw_all := lw_g (lw_at lw_m9 4 rfl) rfl
theorem q1996 : (Jvm.Cond.instanceMethod ({ cls := "RobotAislesModel", name := "add", desc := "(II)I" } : Jvm.MethodName)) ∈ lw_all := lw_g (lw_at lw_m9 6 rfl) rfl
theorem q1997 : (Jvm.Cond.selects "RobotAislesModel" ({ cls := "RobotAislesModel", name := "add", desc := "(II)I" } : Jvm.MethodName) ({ cls := "RobotAislesModel", name := "add", desc := "(II)I" } : Jvm.MethodName)) ∈ lw_all := lw_g (lw_at lw_m9 7 rfl) rfl
theorem q1998 : (Jvm.Cond.code ({ cls := "RobotAislesModel", name := "add", desc := "(II)I" } : Jvm.MethodName) prog_12_method_16_code (6 : Nat) (Option.some Jvm.ClassFile.FieldType.int)) ∈ lw_all := lw_g (lw_at lw_m9 8 rfl) rfl
theorem q1999 : (Jvm.Cond.methodLink "RobotAislesModel" (86 : Nat) ({ cls := "RobotAislesModel", name := "isCell", desc := "(I)Z" } : Jvm.MethodName)) ∈ lw_all := lw_g (lw_at lw_m9 9 rfl) rfl
theorem q2000 : (Jvm.Cond.privateMethod ({ cls := "RobotAislesModel", name := "isCell", desc := "(I)Z" } : Jvm.MethodName)) ∈ lw_tbl := lw_at lw_m9 10 rfl
theorem q2001 : (Jvm.Cond.instanceMethod ({ cls := "RobotAislesModel", name := "isCell", desc := "(I)Z" } : Jvm.MethodName)) ∈ lw_all := lw_g (lw_at lw_m9 11 rfl) rfl
theorem q2002 : (Jvm.Cond.code ({ cls := "RobotAislesModel", name := "isCell", desc := "(I)Z" } : Jvm.MethodName) prog_12_method_7_code (2 : Nat) (Option.some Jvm.ClassFile.FieldType.boolean)) ∈ lw_all := lw_g (lw_at lw_m9 12 rfl) rfl
theorem q2003 : (Jvm.Cond.methodLink "RobotAislesModel" (67 : Nat) ({ cls := "RobotAislesModel", name := "cells", desc := "()I" } : Jvm.MethodName)) ∈ lw_all := lw_g (lw_at lw_m9 13 rfl) rfl
theorem q2004 : (Jvm.Cond.privateMethod ({ cls := "RobotAislesModel", name := "cells", desc := "()I" } : Jvm.MethodName)) ∈ lw_tbl := lw_at lw_m9 14 rfl
theorem q2005 : (Jvm.Cond.instanceMethod ({ cls := "RobotAislesModel", name := "cells", desc := "()I" } : Jvm.MethodName)) ∈ lw_all := lw_g (lw_at lw_m9 15 rfl) rfl
theorem q2006 : (Jvm.Cond.code ({ cls := "RobotAislesModel", name := "cells", desc := "()I" } : Jvm.MethodName) prog_12_method_6_code (1 : Nat) (Option.some Jvm.ClassFile.FieldType.int)) ∈ lw_all := lw_g (lw_at lw_m9 16 rfl) rfl
theorem q2007 : (Jvm.Cond.methodLink "RobotAislesModel" (71 : Nat) ({ cls := "RobotAislesModel", name := "in", desc := "(III)Z" } : Jvm.MethodName)) ∈ lw_all := lw_g (lw_at lw_m9 17 rfl) rfl
theorem q2008 : (Jvm.Cond.static ({ cls := "RobotAislesModel", name := "in", desc := "(III)Z" } : Jvm.MethodName)) ∈ lw_all := lw_g (lw_at lw_m9 18 rfl) rfl
theorem q2009 : (Jvm.Cond.code ({ cls := "RobotAislesModel", name := "in", desc := "(III)Z" } : Jvm.MethodName) prog_12_method_3_code (3 : Nat) (Option.some Jvm.ClassFile.FieldType.boolean)) ∈ lw_all := lw_g (lw_at lw_m9 19 rfl) rfl
theorem q2010 : (Jvm.Cond.methodLink "RobotAislesModel" (90 : Nat) ({ cls := "RobotAislesModel", name := "refuse", desc := "(II)I" } : Jvm.MethodName)) ∈ lw_all := lw_g (lw_at lw_m9 20 rfl) rfl
theorem q2011 : (Jvm.Cond.privateMethod ({ cls := "RobotAislesModel", name := "refuse", desc := "(II)I" } : Jvm.MethodName)) ∈ lw_tbl := lw_at lw_m9 21 rfl
theorem q2012 : (Jvm.Cond.instanceMethod ({ cls := "RobotAislesModel", name := "refuse", desc := "(II)I" } : Jvm.MethodName)) ∈ lw_all := lw_g (lw_at lw_m9 22 rfl) rfl
theorem q2013 : (Jvm.Cond.code ({ cls := "RobotAislesModel", name := "refuse", desc := "(II)I" } : Jvm.MethodName) prog_12_method_5_code (3 : Nat) (Option.some Jvm.ClassFile.FieldType.int)) ∈ lw_all := lw_g (lw_at lw_m9 23 rfl) rfl
theorem q2014 : (Jvm.Cond.methodLink "RobotAislesModel" (93 : Nat) ({ cls := "RobotAislesModel", name := "canEnter", desc := "(I)Z" } : Jvm.MethodName)) ∈ lw_all := lw_g (lw_at lw_m9 24 rfl) rfl
theorem q2015 : (Jvm.Cond.privateMethod ({ cls := "RobotAislesModel", name := "canEnter", desc := "(I)Z" } : Jvm.MethodName)) ∈ lw_tbl := lw_at lw_m9 25 rfl
theorem q2016 : (Jvm.Cond.instanceMethod ({ cls := "RobotAislesModel", name := "canEnter", desc := "(I)Z" } : Jvm.MethodName)) ∈ lw_all := lw_g (lw_at lw_m9 26 rfl) rfl
theorem q2017 : (Jvm.Cond.code ({ cls := "RobotAislesModel", name := "canEnter", desc := "(I)Z" } : Jvm.MethodName) prog_12_method_8_code (2 : Nat) (Option.some Jvm.ClassFile.FieldType.boolean)) ∈ lw_all := lw_g (lw_at lw_m9 27 rfl) rfl
theorem q2018 : (Jvm.Cond.methodLink "RobotAislesModel" (96 : Nat) ({ cls := "RobotAislesModel", name := "willBe", desc := "(III)I" } : Jvm.MethodName)) ∈ lw_all := lw_g (lw_at lw_m9 28 rfl) rfl
theorem q2019 : (Jvm.Cond.privateMethod ({ cls := "RobotAislesModel", name := "willBe", desc := "(III)I" } : Jvm.MethodName)) ∈ lw_tbl := lw_at lw_m9 29 rfl
theorem q2020 : (Jvm.Cond.instanceMethod ({ cls := "RobotAislesModel", name := "willBe", desc := "(III)I" } : Jvm.MethodName)) ∈ lw_all := lw_g (lw_at lw_m9 30 rfl) rfl
theorem q2021 : (Jvm.Cond.code ({ cls := "RobotAislesModel", name := "willBe", desc := "(III)I" } : Jvm.MethodName) prog_12_method_15_code (7 : Nat) (Option.some Jvm.ClassFile.FieldType.int)) ∈ lw_all := lw_g (lw_at lw_m9 31 rfl) rfl
theorem q2022 : (Jvm.Cond.methodLink "RobotAislesModel" (83 : Nat) ({ cls := "RobotAislesModel", name := "cellOf", desc := "(II)I" } : Jvm.MethodName)) ∈ lw_all := lw_g (lw_at lw_m9 32 rfl) rfl
theorem q2023 : (Jvm.Cond.privateMethod ({ cls := "RobotAislesModel", name := "cellOf", desc := "(II)I" } : Jvm.MethodName)) ∈ lw_tbl := lw_at lw_m9 33 rfl
theorem q2024 : (Jvm.Cond.instanceMethod ({ cls := "RobotAislesModel", name := "cellOf", desc := "(II)I" } : Jvm.MethodName)) ∈ lw_all := lw_g (lw_at lw_m9 34 rfl) rfl
theorem q2025 : (Jvm.Cond.code ({ cls := "RobotAislesModel", name := "cellOf", desc := "(II)I" } : Jvm.MethodName) prog_12_method_14_code (4 : Nat) (Option.some Jvm.ClassFile.FieldType.int)) ∈ lw_all := lw_g (lw_at lw_m9 35 rfl) rfl
theorem q2026 : (Jvm.Cond.methodLink "RobotAislesModel" (79 : Nat) ({ cls := "RobotAislesModel", name := "of", desc := "(II)I" } : Jvm.MethodName)) ∈ lw_all := lw_g (lw_at lw_m9 36 rfl) rfl
theorem q2027 : (Jvm.Cond.privateMethod ({ cls := "RobotAislesModel", name := "of", desc := "(II)I" } : Jvm.MethodName)) ∈ lw_tbl := lw_at lw_m9 37 rfl
theorem q2028 : (Jvm.Cond.instanceMethod ({ cls := "RobotAislesModel", name := "of", desc := "(II)I" } : Jvm.MethodName)) ∈ lw_all := lw_g (lw_at lw_m9 38 rfl) rfl
theorem q2029 : (Jvm.Cond.code ({ cls := "RobotAislesModel", name := "of", desc := "(II)I" } : Jvm.MethodName) prog_12_method_13_code (3 : Nat) (Option.some Jvm.ClassFile.FieldType.int)) ∈ lw_all := lw_g (lw_at lw_m9 39 rfl) rfl
theorem q2030 : (Jvm.Cond.methodLink "RobotAislesModel" (75 : Nat) ({ cls := "RobotAislesModel", name := "at", desc := "(I)I" } : Jvm.MethodName)) ∈ lw_all := lw_g (lw_at lw_m9 40 rfl) rfl
theorem q2031 : (Jvm.Cond.static ({ cls := "RobotAislesModel", name := "at", desc := "(I)I" } : Jvm.MethodName)) ∈ lw_all := lw_g (lw_at lw_m9 41 rfl) rfl
theorem q2032 : (Jvm.Cond.code ({ cls := "RobotAislesModel", name := "at", desc := "(I)I" } : Jvm.MethodName) prog_12_method_12_code (1 : Nat) (Option.some Jvm.ClassFile.FieldType.int)) ∈ lw_all := lw_g (lw_at lw_m9 42 rfl) rfl
theorem q2033 : (Jvm.Cond.methodLink "RobotAislesModel" (100 : Nat) ({ cls := "RobotAislesModel", name := "change", desc := "()V" } : Jvm.MethodName)) ∈ lw_all := lw_g (lw_at lw_m9 43 rfl) rfl
theorem q2034 : (Jvm.Cond.privateMethod ({ cls := "RobotAislesModel", name := "change", desc := "()V" } : Jvm.MethodName)) ∈ lw_tbl := lw_at lw_m9 44 rfl
theorem q2035 : (Jvm.Cond.instanceMethod ({ cls := "RobotAislesModel", name := "change", desc := "()V" } : Jvm.MethodName)) ∈ lw_all := lw_g (lw_at lw_m9 45 rfl) rfl
theorem q2036 : (Jvm.Cond.code ({ cls := "RobotAislesModel", name := "change", desc := "()V" } : Jvm.MethodName) prog_12_method_4_code (1 : Nat) (Option.none : Option Jvm.ClassFile.FieldType)) ∈ lw_all := lw_g (lw_at lw_m9 46 rfl) rfl
theorem q2037 : (Jvm.Cond.methodLink "RobotAislesModel" (55 : Nat) ({ cls := "java/lang/System", name := "arraycopy", desc := "(Ljava/lang/Object;ILjava/lang/Object;II)V" } : Jvm.MethodName)) ∈ lw_all := lw_g (lw_at lw_m9 47 rfl) rfl
theorem q2039 : (Jvm.Cond.instanceMethod ({ cls := "RobotAislesModel", name := "takeOff", desc := "(I)I" } : Jvm.MethodName)) ∈ lw_all := lw_g (lw_at lw_m9 49 rfl) rfl
theorem q2040 : (Jvm.Cond.selects "RobotAislesModel" ({ cls := "RobotAislesModel", name := "takeOff", desc := "(I)I" } : Jvm.MethodName) ({ cls := "RobotAislesModel", name := "takeOff", desc := "(I)I" } : Jvm.MethodName)) ∈ lw_all := lw_g (lw_at lw_m9 50 rfl) rfl
theorem q2041 : (Jvm.Cond.code ({ cls := "RobotAislesModel", name := "takeOff", desc := "(I)I" } : Jvm.MethodName) prog_12_method_17_code (3 : Nat) (Option.some Jvm.ClassFile.FieldType.int)) ∈ lw_all := lw_g (lw_at lw_m9 51 rfl) rfl
theorem q2042 : (Jvm.Cond.methodLink "RobotAislesModel" (103 : Nat) ({ cls := "RobotAislesModel", name := "isRobot", desc := "(I)Z" } : Jvm.MethodName)) ∈ lw_all := lw_g (lw_at lw_m9 52 rfl) rfl
theorem q2043 : (Jvm.Cond.privateMethod ({ cls := "RobotAislesModel", name := "isRobot", desc := "(I)Z" } : Jvm.MethodName)) ∈ lw_tbl := lw_at lw_m9 53 rfl
theorem q2044 : (Jvm.Cond.instanceMethod ({ cls := "RobotAislesModel", name := "isRobot", desc := "(I)Z" } : Jvm.MethodName)) ∈ lw_all := lw_g (lw_at lw_m9 54 rfl) rfl
theorem q2045 : (Jvm.Cond.code ({ cls := "RobotAislesModel", name := "isRobot", desc := "(I)Z" } : Jvm.MethodName) prog_12_method_11_code (2 : Nat) (Option.some Jvm.ClassFile.FieldType.boolean)) ∈ lw_all := lw_g (lw_at lw_m9 55 rfl) rfl
theorem q2046 : (Jvm.Cond.methodLink "RobotAislesModel" (106 : Nat) ({ cls := "RobotAislesModel", name := "order", desc := "(I)I" } : Jvm.MethodName)) ∈ lw_all := lw_g (lw_at lw_m9 56 rfl) rfl
theorem q2047 : (Jvm.Cond.static ({ cls := "RobotAislesModel", name := "order", desc := "(I)I" } : Jvm.MethodName)) ∈ lw_all := lw_g (lw_at lw_m9 57 rfl) rfl
theorem q2048 : (Jvm.Cond.code ({ cls := "RobotAislesModel", name := "order", desc := "(I)I" } : Jvm.MethodName) prog_12_method_19_code (1 : Nat) (Option.some Jvm.ClassFile.FieldType.int)) ∈ lw_all := lw_g (lw_at lw_m9 58 rfl) rfl
theorem q2050 : (Jvm.Cond.instanceMethod ({ cls := "RobotAislesModel", name := "order", desc := "(IIII)I" } : Jvm.MethodName)) ∈ lw_all := lw_g (lw_at lw_m9 60 rfl) rfl
theorem q2051 : (Jvm.Cond.selects "RobotAislesModel" ({ cls := "RobotAislesModel", name := "order", desc := "(IIII)I" } : Jvm.MethodName) ({ cls := "RobotAislesModel", name := "order", desc := "(IIII)I" } : Jvm.MethodName)) ∈ lw_all := lw_g (lw_at lw_m9 61 rfl) rfl
theorem q2052 : (Jvm.Cond.code ({ cls := "RobotAislesModel", name := "order", desc := "(IIII)I" } : Jvm.MethodName) prog_12_method_22_code (7 : Nat) (Option.some Jvm.ClassFile.FieldType.int)) ∈ lw_all := lw_g (lw_at lw_m9 62 rfl) rfl
theorem q2054 : (Jvm.Cond.instanceMethod ({ cls := "RobotAislesModel", name := "assign", desc := "(II)I" } : Jvm.MethodName)) ∈ lw_all := lw_g (lw_at lw_m9 64 rfl) rfl
theorem q2055 : (Jvm.Cond.selects "RobotAislesModel" ({ cls := "RobotAislesModel", name := "assign", desc := "(II)I" } : Jvm.MethodName) ({ cls := "RobotAislesModel", name := "assign", desc := "(II)I" } : Jvm.MethodName)) ∈ lw_all := lw_g (lw_at lw_m9 65 rfl) rfl
theorem q2056 : (Jvm.Cond.code ({ cls := "RobotAislesModel", name := "assign", desc := "(II)I" } : Jvm.MethodName) prog_12_method_23_code (3 : Nat) (Option.some Jvm.ClassFile.FieldType.int)) ∈ lw_all := lw_g (lw_at lw_m9 66 rfl) rfl
theorem q2057 : (Jvm.Cond.methodLink "RobotAislesModel" (112 : Nat) ({ cls := "RobotAislesModel", name := "isOrder", desc := "(I)Z" } : Jvm.MethodName)) ∈ lw_all := lw_g (lw_at lw_m9 67 rfl) rfl
theorem q2058 : (Jvm.Cond.privateMethod ({ cls := "RobotAislesModel", name := "isOrder", desc := "(I)Z" } : Jvm.MethodName)) ∈ lw_tbl := lw_at lw_m9 68 rfl
theorem q2059 : (Jvm.Cond.instanceMethod ({ cls := "RobotAislesModel", name := "isOrder", desc := "(I)Z" } : Jvm.MethodName)) ∈ lw_all := lw_g (lw_at lw_m9 69 rfl) rfl
theorem q2060 : (Jvm.Cond.code ({ cls := "RobotAislesModel", name := "isOrder", desc := "(I)Z" } : Jvm.MethodName) prog_12_method_18_code (2 : Nat) (Option.some Jvm.ClassFile.FieldType.boolean)) ∈ lw_all := lw_g (lw_at lw_m9 70 rfl) rfl
theorem q2061 : (Jvm.Cond.methodLink "RobotAislesModel" (115 : Nat) ({ cls := "RobotAislesModel", name := "stateOf", desc := "(I)I" } : Jvm.MethodName)) ∈ lw_all := lw_g (lw_at lw_m9 71 rfl) rfl
theorem q2062 : (Jvm.Cond.privateMethod ({ cls := "RobotAislesModel", name := "stateOf", desc := "(I)I" } : Jvm.MethodName)) ∈ lw_tbl := lw_at lw_m9 72 rfl
theorem q2063 : (Jvm.Cond.instanceMethod ({ cls := "RobotAislesModel", name := "stateOf", desc := "(I)I" } : Jvm.MethodName)) ∈ lw_all := lw_g (lw_at lw_m9 73 rfl) rfl
theorem q2064 : (Jvm.Cond.code ({ cls := "RobotAislesModel", name := "stateOf", desc := "(I)I" } : Jvm.MethodName) prog_12_method_21_code (2 : Nat) (Option.some Jvm.ClassFile.FieldType.int)) ∈ lw_all := lw_g (lw_at lw_m9 74 rfl) rfl
theorem q2065 : (Jvm.Cond.methodLink "RobotAislesModel" (109 : Nat) ({ cls := "RobotAislesModel", name := "get", desc := "(II)I" } : Jvm.MethodName)) ∈ lw_all := lw_g (lw_at lw_m9 75 rfl) rfl
theorem q2066 : (Jvm.Cond.privateMethod ({ cls := "RobotAislesModel", name := "get", desc := "(II)I" } : Jvm.MethodName)) ∈ lw_tbl := lw_at lw_m9 76 rfl
theorem q2067 : (Jvm.Cond.instanceMethod ({ cls := "RobotAislesModel", name := "get", desc := "(II)I" } : Jvm.MethodName)) ∈ lw_all := lw_g (lw_at lw_m9 77 rfl) rfl
theorem q2068 : (Jvm.Cond.code ({ cls := "RobotAislesModel", name := "get", desc := "(II)I" } : Jvm.MethodName) prog_12_method_20_code (3 : Nat) (Option.some Jvm.ClassFile.FieldType.int)) ∈ lw_all := lw_g (lw_at lw_m9 78 rfl) rfl
theorem q2070 : (Jvm.Cond.instanceMethod ({ cls := "RobotAislesModel", name := "release", desc := "(I)I" } : Jvm.MethodName)) ∈ lw_all := lw_g (lw_at lw_m9 80 rfl) rfl
theorem q2071 : (Jvm.Cond.selects "RobotAislesModel" ({ cls := "RobotAislesModel", name := "release", desc := "(I)I" } : Jvm.MethodName) ({ cls := "RobotAislesModel", name := "release", desc := "(I)I" } : Jvm.MethodName)) ∈ lw_all := lw_g (lw_at lw_m9 81 rfl) rfl
theorem q2072 : (Jvm.Cond.code ({ cls := "RobotAislesModel", name := "release", desc := "(I)I" } : Jvm.MethodName) prog_12_method_24_code (3 : Nat) (Option.some Jvm.ClassFile.FieldType.int)) ∈ lw_all := lw_g (lw_at lw_m9 82 rfl) rfl
theorem q2074 : (Jvm.Cond.instanceMethod ({ cls := "RobotAislesModel", name := "close", desc := "(I)I" } : Jvm.MethodName)) ∈ lw_all := lw_g (lw_at lw_m9 84 rfl) rfl
theorem q2075 : (Jvm.Cond.selects "RobotAislesModel" ({ cls := "RobotAislesModel", name := "close", desc := "(I)I" } : Jvm.MethodName) ({ cls := "RobotAislesModel", name := "close", desc := "(I)I" } : Jvm.MethodName)) ∈ lw_all := lw_g (lw_at lw_m9 85 rfl) rfl
theorem q2076 : (Jvm.Cond.code ({ cls := "RobotAislesModel", name := "close", desc := "(I)I" } : Jvm.MethodName) prog_12_method_26_code (3 : Nat) (Option.some Jvm.ClassFile.FieldType.int)) ∈ lw_all := lw_g (lw_at lw_m9 86 rfl) rfl
theorem q2077 : (Jvm.Cond.methodLink "RobotAislesModel" (118 : Nat) ({ cls := "RobotAislesModel", name := "closedCells", desc := "()I" } : Jvm.MethodName)) ∈ lw_all := lw_g (lw_at lw_m9 87 rfl) rfl
theorem q2078 : (Jvm.Cond.privateMethod ({ cls := "RobotAislesModel", name := "closedCells", desc := "()I" } : Jvm.MethodName)) ∈ lw_tbl := lw_at lw_m9 88 rfl
theorem q2079 : (Jvm.Cond.instanceMethod ({ cls := "RobotAislesModel", name := "closedCells", desc := "()I" } : Jvm.MethodName)) ∈ lw_all := lw_g (lw_at lw_m9 89 rfl) rfl
theorem q2080 : (Jvm.Cond.code ({ cls := "RobotAislesModel", name := "closedCells", desc := "()I" } : Jvm.MethodName) prog_12_method_10_code (3 : Nat) (Option.some Jvm.ClassFile.FieldType.int)) ∈ lw_all := lw_g (lw_at lw_m9 90 rfl) rfl
theorem q2082 : (Jvm.Cond.instanceMethod ({ cls := "RobotAislesModel", name := "open", desc := "(I)I" } : Jvm.MethodName)) ∈ lw_all := lw_g (lw_at lw_m9 92 rfl) rfl
theorem q2083 : (Jvm.Cond.selects "RobotAislesModel" ({ cls := "RobotAislesModel", name := "open", desc := "(I)I" } : Jvm.MethodName) ({ cls := "RobotAislesModel", name := "open", desc := "(I)I" } : Jvm.MethodName)) ∈ lw_all := lw_g (lw_at lw_m9 93 rfl) rfl
theorem q2084 : (Jvm.Cond.code ({ cls := "RobotAislesModel", name := "open", desc := "(I)I" } : Jvm.MethodName) prog_12_method_27_code (2 : Nat) (Option.some Jvm.ClassFile.FieldType.int)) ∈ lw_all := lw_g (lw_at lw_m9 94 rfl) rfl
theorem q2086 : (Jvm.Cond.instanceMethod ({ cls := "RobotAislesModel", name := "set", desc := "(II)I" } : Jvm.MethodName)) ∈ lw_all := lw_g (lw_at lw_m9 96 rfl) rfl
theorem q2087 : (Jvm.Cond.selects "RobotAislesModel" ({ cls := "RobotAislesModel", name := "set", desc := "(II)I" } : Jvm.MethodName) ({ cls := "RobotAislesModel", name := "set", desc := "(II)I" } : Jvm.MethodName)) ∈ lw_all := lw_g (lw_at lw_m9 97 rfl) rfl
theorem q2088 : (Jvm.Cond.code ({ cls := "RobotAislesModel", name := "set", desc := "(II)I" } : Jvm.MethodName) prog_12_method_29_code (4 : Nat) (Option.some Jvm.ClassFile.FieldType.int)) ∈ lw_all := lw_g (lw_at lw_m9 98 rfl) rfl
theorem q2089 : (Jvm.Cond.methodLink "RobotAislesModel" (121 : Nat) ({ cls := "RobotAislesModel", name := "mostOf", desc := "(I)I" } : Jvm.MethodName)) ∈ lw_all := lw_g (lw_at lw_m9 99 rfl) rfl
theorem q2090 : (Jvm.Cond.static ({ cls := "RobotAislesModel", name := "mostOf", desc := "(I)I" } : Jvm.MethodName)) ∈ lw_all := lw_g (lw_at lw_m9 100 rfl) rfl
theorem q2091 : (Jvm.Cond.code ({ cls := "RobotAislesModel", name := "mostOf", desc := "(I)I" } : Jvm.MethodName) prog_12_method_28_code (1 : Nat) (Option.some Jvm.ClassFile.FieldType.int)) ∈ lw_all := lw_g (lw_at lw_m9 101 rfl) rfl
theorem q2093 : (Jvm.Cond.instanceMethod ({ cls := "RobotAislesModel", name := "plan", desc := "(II)I" } : Jvm.MethodName)) ∈ lw_all := lw_g (lw_at lw_m9 103 rfl) rfl
theorem q2094 : (Jvm.Cond.selects "RobotAislesModel" ({ cls := "RobotAislesModel", name := "plan", desc := "(II)I" } : Jvm.MethodName) ({ cls := "RobotAislesModel", name := "plan", desc := "(II)I" } : Jvm.MethodName)) ∈ lw_all := lw_g (lw_at lw_m9 104 rfl) rfl
theorem q2095 : (Jvm.Cond.code ({ cls := "RobotAislesModel", name := "plan", desc := "(II)I" } : Jvm.MethodName) prog_12_method_36_code (6 : Nat) (Option.some Jvm.ClassFile.FieldType.int)) ∈ lw_all := lw_g (lw_at lw_m9 105 rfl) rfl
theorem q2096 : (Jvm.Cond.methodLink "RobotAislesModel" (142 : Nat) ({ cls := "RobotAislesModel", name := "fewest", desc := "(II)I" } : Jvm.MethodName)) ∈ lw_all := lw_g (lw_at lw_m9 106 rfl) rfl
theorem q2097 : (Jvm.Cond.privateMethod ({ cls := "RobotAislesModel", name := "fewest", desc := "(II)I" } : Jvm.MethodName)) ∈ lw_tbl := lw_at lw_m9 107 rfl
theorem q2098 : (Jvm.Cond.instanceMethod ({ cls := "RobotAislesModel", name := "fewest", desc := "(II)I" } : Jvm.MethodName)) ∈ lw_all := lw_g (lw_at lw_m9 108 rfl) rfl
theorem q2099 : (Jvm.Cond.code ({ cls := "RobotAislesModel", name := "fewest", desc := "(II)I" } : Jvm.MethodName) prog_12_method_33_code (4 : Nat) (Option.some Jvm.ClassFile.FieldType.int)) ∈ lw_all := lw_g (lw_at lw_m9 109 rfl) rfl
theorem q2100 : (Jvm.Cond.methodLink "RobotAislesModel" (131 : Nat) ({ cls := "RobotAislesModel", name := "findComing", desc := "(I)V" } : Jvm.MethodName)) ∈ lw_all := lw_g (lw_at lw_m9 110 rfl) rfl
theorem q2101 : (Jvm.Cond.privateMethod ({ cls := "RobotAislesModel", name := "findComing", desc := "(I)V" } : Jvm.MethodName)) ∈ lw_tbl := lw_at lw_m9 111 rfl
theorem q2102 : (Jvm.Cond.instanceMethod ({ cls := "RobotAislesModel", name := "findComing", desc := "(I)V" } : Jvm.MethodName)) ∈ lw_all := lw_g (lw_at lw_m9 112 rfl) rfl
theorem q2103 : (Jvm.Cond.code ({ cls := "RobotAislesModel", name := "findComing", desc := "(I)V" } : Jvm.MethodName) prog_12_method_31_code (6 : Nat) (Option.none : Option Jvm.ClassFile.FieldType)) ∈ lw_all := lw_g (lw_at lw_m9 113 rfl) rfl
theorem q2104 : (Jvm.Cond.methodLink "RobotAislesModel" (124 : Nat) ({ cls := "RobotAislesModel", name := "beside", desc := "(II)I" } : Jvm.MethodName)) ∈ lw_all := lw_g (lw_at lw_m9 114 rfl) rfl
theorem q2105 : (Jvm.Cond.privateMethod ({ cls := "RobotAislesModel", name := "beside", desc := "(II)I" } : Jvm.MethodName)) ∈ lw_tbl := lw_at lw_m9 115 rfl
theorem q2106 : (Jvm.Cond.instanceMethod ({ cls := "RobotAislesModel", name := "beside", desc := "(II)I" } : Jvm.MethodName)) ∈ lw_all := lw_g (lw_at lw_m9 116 rfl) rfl
theorem q2107 : (Jvm.Cond.code ({ cls := "RobotAislesModel", name := "beside", desc := "(II)I" } : Jvm.MethodName) prog_12_method_9_code (5 : Nat) (Option.some Jvm.ClassFile.FieldType.int)) ∈ lw_all := lw_g (lw_at lw_m9 117 rfl) rfl
theorem q2108 : (Jvm.Cond.methodLink "RobotAislesModel" (127 : Nat) ({ cls := "RobotAislesModel", name := "mayGo", desc := "(IIII)Z" } : Jvm.MethodName)) ∈ lw_all := lw_g (lw_at lw_m9 118 rfl) rfl
theorem q2109 : (Jvm.Cond.privateMethod ({ cls := "RobotAislesModel", name := "mayGo", desc := "(IIII)Z" } : Jvm.MethodName)) ∈ lw_tbl := lw_at lw_m9 119 rfl
theorem q2110 : (Jvm.Cond.instanceMethod ({ cls := "RobotAislesModel", name := "mayGo", desc := "(IIII)Z" } : Jvm.MethodName)) ∈ lw_all := lw_g (lw_at lw_m9 120 rfl) rfl
theorem q2111 : (Jvm.Cond.code ({ cls := "RobotAislesModel", name := "mayGo", desc := "(IIII)Z" } : Jvm.MethodName) prog_12_method_30_code (7 : Nat) (Option.some Jvm.ClassFile.FieldType.boolean)) ∈ lw_all := lw_g (lw_at lw_m9 121 rfl) rfl
theorem q2112 : (Jvm.Cond.methodLink "RobotAislesModel" (135 : Nat) ({ cls := "RobotAislesModel", name := "canEnd", desc := "(III)Z" } : Jvm.MethodName)) ∈ lw_all := lw_g (lw_at lw_m9 122 rfl) rfl
theorem q2113 : (Jvm.Cond.privateMethod ({ cls := "RobotAislesModel", name := "canEnd", desc := "(III)Z" } : Jvm.MethodName)) ∈ lw_tbl := lw_at lw_m9 123 rfl
theorem q2114 : (Jvm.Cond.instanceMethod ({ cls := "RobotAislesModel", name := "canEnd", desc := "(III)Z" } : Jvm.MethodName)) ∈ lw_all := lw_g (lw_at lw_m9 124 rfl) rfl
theorem q2115 : (Jvm.Cond.code ({ cls := "RobotAislesModel", name := "canEnd", desc := "(III)Z" } : Jvm.MethodName) prog_12_method_32_code (7 : Nat) (Option.some Jvm.ClassFile.FieldType.boolean)) ∈ lw_all := lw_g (lw_at lw_m9 125 rfl) rfl
theorem q2116 : (Jvm.Cond.methodLink "RobotAislesModel" (145 : Nat) ({ cls := "RobotAislesModel", name := "isLoaded", desc := "(I)Z" } : Jvm.MethodName)) ∈ lw_all := lw_g (lw_at lw_m9 126 rfl) rfl
theorem q2117 : (Jvm.Cond.privateMethod ({ cls := "RobotAislesModel", name := "isLoaded", desc := "(I)Z" } : Jvm.MethodName)) ∈ lw_tbl := lw_at lw_m9 127 rfl
theorem q2118 : (Jvm.Cond.instanceMethod ({ cls := "RobotAislesModel", name := "isLoaded", desc := "(I)Z" } : Jvm.MethodName)) ∈ lw_all := lw_g (lw_at lw_m9 128 rfl) rfl
theorem q2119 : (Jvm.Cond.code ({ cls := "RobotAislesModel", name := "isLoaded", desc := "(I)Z" } : Jvm.MethodName) prog_12_method_25_code (2 : Nat) (Option.some Jvm.ClassFile.FieldType.boolean)) ∈ lw_all := lw_g (lw_at lw_m9 129 rfl) rfl
theorem q2120 : (Jvm.Cond.methodLink "RobotAislesModel" (148 : Nat) ({ cls := "RobotAislesModel", name := "findPath", desc := "(III)I" } : Jvm.MethodName)) ∈ lw_all := lw_g (lw_at lw_m9 130 rfl) rfl
theorem q2121 : (Jvm.Cond.privateMethod ({ cls := "RobotAislesModel", name := "findPath", desc := "(III)I" } : Jvm.MethodName)) ∈ lw_tbl := lw_at lw_m9 131 rfl
theorem q2122 : (Jvm.Cond.instanceMethod ({ cls := "RobotAislesModel", name := "findPath", desc := "(III)I" } : Jvm.MethodName)) ∈ lw_all := lw_g (lw_at lw_m9 132 rfl) rfl
theorem q2123 : (Jvm.Cond.code ({ cls := "RobotAislesModel", name := "findPath", desc := "(III)I" } : Jvm.MethodName) prog_12_method_35_code (9 : Nat) (Option.some Jvm.ClassFile.FieldType.int)) ∈ lw_all := lw_g (lw_at lw_m9 133 rfl) rfl
theorem q2124 : (Jvm.Cond.methodLink "RobotAislesModel" (138 : Nat) ({ cls := "RobotAislesModel", name := "findGoing", desc := "(III)V" } : Jvm.MethodName)) ∈ lw_all := lw_g (lw_at lw_m9 134 rfl) rfl
theorem q2125 : (Jvm.Cond.privateMethod ({ cls := "RobotAislesModel", name := "findGoing", desc := "(III)V" } : Jvm.MethodName)) ∈ lw_tbl := lw_at lw_m9 135 rfl
theorem q2126 : (Jvm.Cond.instanceMethod ({ cls := "RobotAislesModel", name := "findGoing", desc := "(III)V" } : Jvm.MethodName)) ∈ lw_all := lw_g (lw_at lw_m9 136 rfl) rfl
theorem q2127 : (Jvm.Cond.code ({ cls := "RobotAislesModel", name := "findGoing", desc := "(III)V" } : Jvm.MethodName) prog_12_method_34_code (9 : Nat) (Option.none : Option Jvm.ClassFile.FieldType)) ∈ lw_all := lw_g (lw_at lw_m9 137 rfl) rfl
theorem q2129 : (Jvm.Cond.instanceMethod ({ cls := "RobotAislesModel", name := "cancel", desc := "(I)I" } : Jvm.MethodName)) ∈ lw_all := lw_g (lw_at lw_m9 139 rfl) rfl
theorem q2130 : (Jvm.Cond.selects "RobotAislesModel" ({ cls := "RobotAislesModel", name := "cancel", desc := "(I)I" } : Jvm.MethodName) ({ cls := "RobotAislesModel", name := "cancel", desc := "(I)I" } : Jvm.MethodName)) ∈ lw_all := lw_g (lw_at lw_m9 140 rfl) rfl
theorem q2131 : (Jvm.Cond.code ({ cls := "RobotAislesModel", name := "cancel", desc := "(I)I" } : Jvm.MethodName) prog_12_method_37_code (4 : Nat) (Option.some Jvm.ClassFile.FieldType.int)) ∈ lw_all := lw_g (lw_at lw_m9 141 rfl) rfl
theorem q2133 : (Jvm.Cond.instanceMethod ({ cls := "RobotAislesModel", name := "pass", desc := "(I)I" } : Jvm.MethodName)) ∈ lw_all := lw_g (lw_at lw_m9 143 rfl) rfl
theorem q2134 : (Jvm.Cond.selects "RobotAislesModel" ({ cls := "RobotAislesModel", name := "pass", desc := "(I)I" } : Jvm.MethodName) ({ cls := "RobotAislesModel", name := "pass", desc := "(I)I" } : Jvm.MethodName)) ∈ lw_all := lw_g (lw_at lw_m9 144 rfl) rfl
theorem q2135 : (Jvm.Cond.code ({ cls := "RobotAislesModel", name := "pass", desc := "(I)I" } : Jvm.MethodName) prog_12_method_40_code (4 : Nat) (Option.some Jvm.ClassFile.FieldType.int)) ∈ lw_all := lw_g (lw_at lw_m9 145 rfl) rfl
theorem q2136 : (Jvm.Cond.methodLink "RobotAislesModel" (159 : Nat) ({ cls := "RobotAislesModel", name := "tick", desc := "()I" } : Jvm.MethodName)) ∈ lw_all := lw_g (lw_at lw_m9 146 rfl) rfl
theorem q2137 : (Jvm.Cond.privateMethod ({ cls := "RobotAislesModel", name := "tick", desc := "()I" } : Jvm.MethodName)) ∈ lw_tbl := lw_at lw_m9 147 rfl
theorem q2138 : (Jvm.Cond.instanceMethod ({ cls := "RobotAislesModel", name := "tick", desc := "()I" } : Jvm.MethodName)) ∈ lw_all := lw_g (lw_at lw_m9 148 rfl) rfl
theorem q2139 : (Jvm.Cond.code ({ cls := "RobotAislesModel", name := "tick", desc := "()I" } : Jvm.MethodName) prog_12_method_39_code (5 : Nat) (Option.some Jvm.ClassFile.FieldType.int)) ∈ lw_all := lw_g (lw_at lw_m9 149 rfl) rfl
theorem q2140 : (Jvm.Cond.methodLink "RobotAislesModel" (151 : Nat) ({ cls := "java/lang/Math", name := "min", desc := "(II)I" } : Jvm.MethodName)) ∈ lw_all := lw_g (lw_at lw_m9 150 rfl) rfl
theorem q2141 : (Jvm.Cond.methodLink "RobotAislesModel" (156 : Nat) ({ cls := "RobotAislesModel", name := "ends", desc := "(I)I" } : Jvm.MethodName)) ∈ lw_all := lw_g (lw_at lw_m9 151 rfl) rfl
theorem q2142 : (Jvm.Cond.privateMethod ({ cls := "RobotAislesModel", name := "ends", desc := "(I)I" } : Jvm.MethodName)) ∈ lw_tbl := lw_at lw_m9 152 rfl
theorem q2143 : (Jvm.Cond.instanceMethod ({ cls := "RobotAislesModel", name := "ends", desc := "(I)I" } : Jvm.MethodName)) ∈ lw_all := lw_g (lw_at lw_m9 153 rfl) rfl
theorem q2144 : (Jvm.Cond.code ({ cls := "RobotAislesModel", name := "ends", desc := "(I)I" } : Jvm.MethodName) prog_12_method_38_code (5 : Nat) (Option.some Jvm.ClassFile.FieldType.int)) ∈ lw_all := lw_g (lw_at lw_m9 154 rfl) rfl
theorem q2146 : (Jvm.Cond.instanceMethod ({ cls := "RobotAislesModel", name := "distance", desc := "(II)I" } : Jvm.MethodName)) ∈ lw_all := lw_g (lw_at lw_m9 156 rfl) rfl
theorem q2147 : (Jvm.Cond.selects "RobotAislesModel" ({ cls := "RobotAislesModel", name := "distance", desc := "(II)I" } : Jvm.MethodName) ({ cls := "RobotAislesModel", name := "distance", desc := "(II)I" } : Jvm.MethodName)) ∈ lw_all := lw_g (lw_at lw_m9 157 rfl) rfl
theorem q2148 : (Jvm.Cond.code ({ cls := "RobotAislesModel", name := "distance", desc := "(II)I" } : Jvm.MethodName) prog_12_method_43_code (4 : Nat) (Option.some Jvm.ClassFile.FieldType.int)) ∈ lw_all := lw_g (lw_at lw_m9 158 rfl) rfl
theorem q2149 : (Jvm.Cond.methodLink "RobotAislesModel" (165 : Nat) ({ cls := "RobotAislesModel", name := "farOf", desc := "(II)I" } : Jvm.MethodName)) ∈ lw_all := lw_g (lw_at lw_m9 159 rfl) rfl
theorem q2150 : (Jvm.Cond.privateMethod ({ cls := "RobotAislesModel", name := "farOf", desc := "(II)I" } : Jvm.MethodName)) ∈ lw_tbl := lw_at lw_m9 160 rfl
theorem q2151 : (Jvm.Cond.instanceMethod ({ cls := "RobotAislesModel", name := "farOf", desc := "(II)I" } : Jvm.MethodName)) ∈ lw_all := lw_g (lw_at lw_m9 161 rfl) rfl
theorem q2152 : (Jvm.Cond.code ({ cls := "RobotAislesModel", name := "farOf", desc := "(II)I" } : Jvm.MethodName) prog_12_method_42_code (3 : Nat) (Option.some Jvm.ClassFile.FieldType.int)) ∈ lw_all := lw_g (lw_at lw_m9 162 rfl) rfl
theorem q2153 : (Jvm.Cond.methodLink "RobotAislesModel" (162 : Nat) ({ cls := "RobotAislesModel", name := "findFar", desc := "(I)V" } : Jvm.MethodName)) ∈ lw_all := lw_g (lw_at lw_m9 163 rfl) rfl
theorem q2154 : (Jvm.Cond.privateMethod ({ cls := "RobotAislesModel", name := "findFar", desc := "(I)V" } : Jvm.MethodName)) ∈ lw_tbl := lw_at lw_m9 164 rfl
theorem q2155 : (Jvm.Cond.instanceMethod ({ cls := "RobotAislesModel", name := "findFar", desc := "(I)V" } : Jvm.MethodName)) ∈ lw_all := lw_g (lw_at lw_m9 165 rfl) rfl
theorem q2156 : (Jvm.Cond.code ({ cls := "RobotAislesModel", name := "findFar", desc := "(I)V" } : Jvm.MethodName) prog_12_method_41_code (6 : Nat) (Option.none : Option Jvm.ClassFile.FieldType)) ∈ lw_all := lw_g (lw_at lw_m9 166 rfl) rfl
theorem q2158 : (Jvm.Cond.instanceMethod ({ cls := "RobotAislesModel", name := "distanceAgain", desc := "(II)I" } : Jvm.MethodName)) ∈ lw_all := lw_g (lw_at lw_m9 168 rfl) rfl
theorem q2159 : (Jvm.Cond.selects "RobotAislesModel" ({ cls := "RobotAislesModel", name := "distanceAgain", desc := "(II)I" } : Jvm.MethodName) ({ cls := "RobotAislesModel", name := "distanceAgain", desc := "(II)I" } : Jvm.MethodName)) ∈ lw_all := lw_g (lw_at lw_m9 169 rfl) rfl
theorem q2160 : (Jvm.Cond.code ({ cls := "RobotAislesModel", name := "distanceAgain", desc := "(II)I" } : Jvm.MethodName) prog_12_method_44_code (8 : Nat) (Option.some Jvm.ClassFile.FieldType.int)) ∈ lw_all := lw_g (lw_at lw_m9 170 rfl) rfl
theorem q2162 : (Jvm.Cond.instanceMethod ({ cls := "RobotAislesModel", name := "reach", desc := "(I)I" } : Jvm.MethodName)) ∈ lw_all := lw_g (lw_at lw_m9 172 rfl) rfl
theorem q2163 : (Jvm.Cond.selects "RobotAislesModel" ({ cls := "RobotAislesModel", name := "reach", desc := "(I)I" } : Jvm.MethodName) ({ cls := "RobotAislesModel", name := "reach", desc := "(I)I" } : Jvm.MethodName)) ∈ lw_all := lw_g (lw_at lw_m9 173 rfl) rfl
theorem q2164 : (Jvm.Cond.code ({ cls := "RobotAislesModel", name := "reach", desc := "(I)I" } : Jvm.MethodName) prog_12_method_45_code (4 : Nat) (Option.some Jvm.ClassFile.FieldType.int)) ∈ lw_all := lw_g (lw_at lw_m9 174 rfl) rfl
theorem q2166 : (Jvm.Cond.instanceMethod ({ cls := "RobotAislesModel", name := "farthest", desc := "(I)I" } : Jvm.MethodName)) ∈ lw_all := lw_g (lw_at lw_m9 176 rfl) rfl
theorem q2167 : (Jvm.Cond.selects "RobotAislesModel" ({ cls := "RobotAislesModel", name := "farthest", desc := "(I)I" } : Jvm.MethodName) ({ cls := "RobotAislesModel", name := "farthest", desc := "(I)I" } : Jvm.MethodName)) ∈ lw_all := lw_g (lw_at lw_m9 177 rfl) rfl
theorem q2168 : (Jvm.Cond.code ({ cls := "RobotAislesModel", name := "farthest", desc := "(I)I" } : Jvm.MethodName) prog_12_method_46_code (4 : Nat) (Option.some Jvm.ClassFile.FieldType.int)) ∈ lw_all := lw_g (lw_at lw_m9 178 rfl) rfl
theorem q2170 : (Jvm.Cond.instanceMethod ({ cls := "RobotAislesModel", name := "cell", desc := "(II)I" } : Jvm.MethodName)) ∈ lw_all := lw_g (lw_at lw_m9 180 rfl) rfl
theorem q2171 : (Jvm.Cond.selects "RobotAislesModel" ({ cls := "RobotAislesModel", name := "cell", desc := "(II)I" } : Jvm.MethodName) ({ cls := "RobotAislesModel", name := "cell", desc := "(II)I" } : Jvm.MethodName)) ∈ lw_all := lw_g (lw_at lw_m9 181 rfl) rfl
theorem q2172 : (Jvm.Cond.code ({ cls := "RobotAislesModel", name := "cell", desc := "(II)I" } : Jvm.MethodName) prog_12_method_48_code (6 : Nat) (Option.some Jvm.ClassFile.FieldType.int)) ∈ lw_all := lw_g (lw_at lw_m9 182 rfl) rfl
theorem q2173 : (Jvm.Cond.methodLink "RobotAislesModel" (168 : Nat) ({ cls := "RobotAislesModel", name := "robotIn", desc := "(II)I" } : Jvm.MethodName)) ∈ lw_all := lw_g (lw_at lw_m9 183 rfl) rfl
theorem q2174 : (Jvm.Cond.privateMethod ({ cls := "RobotAislesModel", name := "robotIn", desc := "(II)I" } : Jvm.MethodName)) ∈ lw_tbl := lw_at lw_m9 184 rfl
theorem q2175 : (Jvm.Cond.instanceMethod ({ cls := "RobotAislesModel", name := "robotIn", desc := "(II)I" } : Jvm.MethodName)) ∈ lw_all := lw_g (lw_at lw_m9 185 rfl) rfl
theorem q2176 : (Jvm.Cond.code ({ cls := "RobotAislesModel", name := "robotIn", desc := "(II)I" } : Jvm.MethodName) prog_12_method_47_code (5 : Nat) (Option.some Jvm.ClassFile.FieldType.int)) ∈ lw_all := lw_g (lw_at lw_m9 186 rfl) rfl
theorem q2178 : (Jvm.Cond.instanceMethod ({ cls := "RobotAislesModel", name := "letter", desc := "(I)C" } : Jvm.MethodName)) ∈ lw_all := lw_g (lw_at lw_m9 188 rfl) rfl
theorem q2179 : (Jvm.Cond.selects "RobotAislesModel" ({ cls := "RobotAislesModel", name := "letter", desc := "(I)C" } : Jvm.MethodName) ({ cls := "RobotAislesModel", name := "letter", desc := "(I)C" } : Jvm.MethodName)) ∈ lw_all := lw_g (lw_at lw_m9 189 rfl) rfl
theorem q2180 : (Jvm.Cond.code ({ cls := "RobotAislesModel", name := "letter", desc := "(I)C" } : Jvm.MethodName) prog_12_method_49_code (3 : Nat) (Option.some Jvm.ClassFile.FieldType.char)) ∈ lw_all := lw_g (lw_at lw_m9 190 rfl) rfl
theorem q2181 : (Jvm.Cond.stringRef "RobotAislesModel" (171 : Nat) ".#+@") ∈ lw_tbl := lw_at lw_m9 191 rfl
theorem q2182 : (Jvm.Cond.methodLink "RobotAislesModel" (173 : Nat) ({ cls := "java/lang/String", name := "charAt", desc := "(I)C" } : Jvm.MethodName)) ∈ lw_all := lw_g (lw_at lw_m9 192 rfl) rfl
theorem q2184 : (Jvm.Cond.instanceMethod ({ cls := "RobotAislesModel", name := "robotOf", desc := "(II)I" } : Jvm.MethodName)) ∈ lw_all := lw_g (lw_at lw_m9 194 rfl) rfl
theorem q2185 : (Jvm.Cond.selects "RobotAislesModel" ({ cls := "RobotAislesModel", name := "robotOf", desc := "(II)I" } : Jvm.MethodName) ({ cls := "RobotAislesModel", name := "robotOf", desc := "(II)I" } : Jvm.MethodName)) ∈ lw_all := lw_g (lw_at lw_m9 195 rfl) rfl
theorem q2186 : (Jvm.Cond.code ({ cls := "RobotAislesModel", name := "robotOf", desc := "(II)I" } : Jvm.MethodName) prog_12_method_50_code (3 : Nat) (Option.some Jvm.ClassFile.FieldType.int)) ∈ lw_all := lw_g (lw_at lw_m9 196 rfl) rfl
theorem q2188 : (Jvm.Cond.instanceMethod ({ cls := "RobotAislesModel", name := "planned", desc := "(II)I" } : Jvm.MethodName)) ∈ lw_all := lw_g (lw_at lw_m9 198 rfl) rfl
theorem q2189 : (Jvm.Cond.selects "RobotAislesModel" ({ cls := "RobotAislesModel", name := "planned", desc := "(II)I" } : Jvm.MethodName) ({ cls := "RobotAislesModel", name := "planned", desc := "(II)I" } : Jvm.MethodName)) ∈ lw_all := lw_g (lw_at lw_m9 199 rfl) rfl
theorem q2190 : (Jvm.Cond.code ({ cls := "RobotAislesModel", name := "planned", desc := "(II)I" } : Jvm.MethodName) prog_12_method_51_code (3 : Nat) (Option.some Jvm.ClassFile.FieldType.int)) ∈ lw_all := lw_g (lw_at lw_m9 200 rfl) rfl
theorem q2192 : (Jvm.Cond.instanceMethod ({ cls := "RobotAislesModel", name := "reserved", desc := "(II)I" } : Jvm.MethodName)) ∈ lw_all := lw_g (lw_at lw_m9 202 rfl) rfl
theorem q2193 : (Jvm.Cond.selects "RobotAislesModel" ({ cls := "RobotAislesModel", name := "reserved", desc := "(II)I" } : Jvm.MethodName) ({ cls := "RobotAislesModel", name := "reserved", desc := "(II)I" } : Jvm.MethodName)) ∈ lw_all := lw_g (lw_at lw_m9 203 rfl) rfl
theorem q2194 : (Jvm.Cond.code ({ cls := "RobotAislesModel", name := "reserved", desc := "(II)I" } : Jvm.MethodName) prog_12_method_52_code (3 : Nat) (Option.some Jvm.ClassFile.FieldType.int)) ∈ lw_all := lw_g (lw_at lw_m9 204 rfl) rfl
theorem q2196 : (Jvm.Cond.instanceMethod ({ cls := "RobotAislesModel", name := "arrival", desc := "(II)I" } : Jvm.MethodName)) ∈ lw_all := lw_g (lw_at lw_m9 206 rfl) rfl
theorem q2197 : (Jvm.Cond.selects "RobotAislesModel" ({ cls := "RobotAislesModel", name := "arrival", desc := "(II)I" } : Jvm.MethodName) ({ cls := "RobotAislesModel", name := "arrival", desc := "(II)I" } : Jvm.MethodName)) ∈ lw_all := lw_g (lw_at lw_m9 207 rfl) rfl
theorem q2198 : (Jvm.Cond.code ({ cls := "RobotAislesModel", name := "arrival", desc := "(II)I" } : Jvm.MethodName) prog_12_method_53_code (4 : Nat) (Option.some Jvm.ClassFile.FieldType.int)) ∈ lw_all := lw_g (lw_at lw_m9 208 rfl) rfl
theorem q2200 : (Jvm.Cond.instanceMethod ({ cls := "RobotAislesModel", name := "arrivalAgain", desc := "(II)I" } : Jvm.MethodName)) ∈ lw_all := lw_g (lw_at lw_m9 210 rfl) rfl
theorem q2201 : (Jvm.Cond.selects "RobotAislesModel" ({ cls := "RobotAislesModel", name := "arrivalAgain", desc := "(II)I" } : Jvm.MethodName) ({ cls := "RobotAislesModel", name := "arrivalAgain", desc := "(II)I" } : Jvm.MethodName)) ∈ lw_all := lw_g (lw_at lw_m9 211 rfl) rfl
theorem q2202 : (Jvm.Cond.code ({ cls := "RobotAislesModel", name := "arrivalAgain", desc := "(II)I" } : Jvm.MethodName) prog_12_method_54_code (3 : Nat) (Option.some Jvm.ClassFile.FieldType.int)) ∈ lw_all := lw_g (lw_at lw_m9 212 rfl) rfl
theorem q2203 : (Jvm.Cond.methodLink "RobotAislesModel" (179 : Nat) ({ cls := "RobotAislesModel", name := "arrival", desc := "(II)I" } : Jvm.MethodName)) ∈ lw_all := lw_g (lw_at lw_m9 213 rfl) rfl
theorem q2205 : (Jvm.Cond.instanceMethod ({ cls := "RobotAislesModel", name := "orderOf", desc := "(II)I" } : Jvm.MethodName)) ∈ lw_all := lw_g (lw_at lw_m9 215 rfl) rfl
theorem q2206 : (Jvm.Cond.selects "RobotAislesModel" ({ cls := "RobotAislesModel", name := "orderOf", desc := "(II)I" } : Jvm.MethodName) ({ cls := "RobotAislesModel", name := "orderOf", desc := "(II)I" } : Jvm.MethodName)) ∈ lw_all := lw_g (lw_at lw_m9 216 rfl) rfl
theorem q2207 : (Jvm.Cond.code ({ cls := "RobotAislesModel", name := "orderOf", desc := "(II)I" } : Jvm.MethodName) prog_12_method_55_code (3 : Nat) (Option.some Jvm.ClassFile.FieldType.int)) ∈ lw_all := lw_g (lw_at lw_m9 217 rfl) rfl
theorem q2209 : (Jvm.Cond.instanceMethod ({ cls := "RobotAislesModel", name := "line", desc := "(II)I" } : Jvm.MethodName)) ∈ lw_all := lw_g (lw_at lw_m9 219 rfl) rfl
theorem q2210 : (Jvm.Cond.selects "RobotAislesModel" ({ cls := "RobotAislesModel", name := "line", desc := "(II)I" } : Jvm.MethodName) ({ cls := "RobotAislesModel", name := "line", desc := "(II)I" } : Jvm.MethodName)) ∈ lw_all := lw_g (lw_at lw_m9 220 rfl) rfl
theorem q2211 : (Jvm.Cond.code ({ cls := "RobotAislesModel", name := "line", desc := "(II)I" } : Jvm.MethodName) prog_12_method_56_code (3 : Nat) (Option.some Jvm.ClassFile.FieldType.int)) ∈ lw_all := lw_g (lw_at lw_m9 221 rfl) rfl
theorem q2213 : (Jvm.Cond.instanceMethod ({ cls := "RobotAislesModel", name := "waiting", desc := "(I)I" } : Jvm.MethodName)) ∈ lw_all := lw_g (lw_at lw_m9 223 rfl) rfl
theorem q2214 : (Jvm.Cond.selects "RobotAislesModel" ({ cls := "RobotAislesModel", name := "waiting", desc := "(I)I" } : Jvm.MethodName) ({ cls := "RobotAislesModel", name := "waiting", desc := "(I)I" } : Jvm.MethodName)) ∈ lw_all := lw_g (lw_at lw_m9 224 rfl) rfl
theorem q2215 : (Jvm.Cond.code ({ cls := "RobotAislesModel", name := "waiting", desc := "(I)I" } : Jvm.MethodName) prog_12_method_58_code (7 : Nat) (Option.some Jvm.ClassFile.FieldType.int)) ∈ lw_all := lw_g (lw_at lw_m9 225 rfl) rfl
theorem q2216 : (Jvm.Cond.methodLink "RobotAislesModel" (182 : Nat) ({ cls := "RobotAislesModel", name := "isAhead", desc := "(II)Z" } : Jvm.MethodName)) ∈ lw_all := lw_g (lw_at lw_m9 226 rfl) rfl
theorem q2217 : (Jvm.Cond.privateMethod ({ cls := "RobotAislesModel", name := "isAhead", desc := "(II)Z" } : Jvm.MethodName)) ∈ lw_tbl := lw_at lw_m9 227 rfl
theorem q2218 : (Jvm.Cond.instanceMethod ({ cls := "RobotAislesModel", name := "isAhead", desc := "(II)Z" } : Jvm.MethodName)) ∈ lw_all := lw_g (lw_at lw_m9 228 rfl) rfl
theorem q2219 : (Jvm.Cond.code ({ cls := "RobotAislesModel", name := "isAhead", desc := "(II)Z" } : Jvm.MethodName) prog_12_method_57_code (4 : Nat) (Option.some Jvm.ClassFile.FieldType.boolean)) ∈ lw_all := lw_g (lw_at lw_m9 229 rfl) rfl
theorem q2221 : (Jvm.Cond.instanceMethod ({ cls := "RobotAislesModel", name := "suited", desc := "(I)I" } : Jvm.MethodName)) ∈ lw_all := lw_g (lw_at lw_m9 231 rfl) rfl
theorem q2222 : (Jvm.Cond.selects "RobotAislesModel" ({ cls := "RobotAislesModel", name := "suited", desc := "(I)I" } : Jvm.MethodName) ({ cls := "RobotAislesModel", name := "suited", desc := "(I)I" } : Jvm.MethodName)) ∈ lw_all := lw_g (lw_at lw_m9 232 rfl) rfl
theorem q2223 : (Jvm.Cond.code ({ cls := "RobotAislesModel", name := "suited", desc := "(I)I" } : Jvm.MethodName) prog_12_method_59_code (6 : Nat) (Option.some Jvm.ClassFile.FieldType.int)) ∈ lw_all := lw_g (lw_at lw_m9 233 rfl) rfl
theorem q2225 : (Jvm.Cond.instanceMethod ({ cls := "RobotAislesModel", name := "tour", desc := "(I)I" } : Jvm.MethodName)) ∈ lw_all := lw_g (lw_at lw_m9 235 rfl) rfl
theorem q2226 : (Jvm.Cond.selects "RobotAislesModel" ({ cls := "RobotAislesModel", name := "tour", desc := "(I)I" } : Jvm.MethodName) ({ cls := "RobotAislesModel", name := "tour", desc := "(I)I" } : Jvm.MethodName)) ∈ lw_all := lw_g (lw_at lw_m9 236 rfl) rfl
theorem q2227 : (Jvm.Cond.code ({ cls := "RobotAislesModel", name := "tour", desc := "(I)I" } : Jvm.MethodName) prog_12_method_60_code (8 : Nat) (Option.some Jvm.ClassFile.FieldType.int)) ∈ lw_all := lw_g (lw_at lw_m9 237 rfl) rfl
theorem q2229 : (Jvm.Cond.instanceMethod ({ cls := "RobotAislesModel", name := "loaded", desc := "()F" } : Jvm.MethodName)) ∈ lw_all := lw_g (lw_at lw_m9 239 rfl) rfl
theorem q2230 : (Jvm.Cond.selects "RobotAislesModel" ({ cls := "RobotAislesModel", name := "loaded", desc := "()F" } : Jvm.MethodName) ({ cls := "RobotAislesModel", name := "loaded", desc := "()F" } : Jvm.MethodName)) ∈ lw_all := lw_g (lw_at lw_m10 0 rfl) rfl
theorem q2231 : (Jvm.Cond.code ({ cls := "RobotAislesModel", name := "loaded", desc := "()F" } : Jvm.MethodName) prog_12_method_61_code (3 : Nat) (Option.some Jvm.ClassFile.FieldType.float)) ∈ lw_all := lw_g (lw_at lw_m10 1 rfl) rfl
theorem q2233 : (Jvm.Cond.instanceMethod ({ cls := "RobotAislesModel", name := "lateness", desc := "()D" } : Jvm.MethodName)) ∈ lw_all := lw_g (lw_at lw_m10 3 rfl) rfl
theorem q2234 : (Jvm.Cond.selects "RobotAislesModel" ({ cls := "RobotAislesModel", name := "lateness", desc := "()D" } : Jvm.MethodName) ({ cls := "RobotAislesModel", name := "lateness", desc := "()D" } : Jvm.MethodName)) ∈ lw_all := lw_g (lw_at lw_m10 4 rfl) rfl
theorem q2235 : (Jvm.Cond.code ({ cls := "RobotAislesModel", name := "lateness", desc := "()D" } : Jvm.MethodName) prog_12_method_62_code (4 : Nat) (Option.some Jvm.ClassFile.FieldType.double)) ∈ lw_all := lw_g (lw_at lw_m10 5 rfl) rfl
theorem q2237 : (Jvm.Cond.instanceMethod ({ cls := "RobotAislesModel", name := "reason", desc := "(Z)I" } : Jvm.MethodName)) ∈ lw_all := lw_g (lw_at lw_m10 7 rfl) rfl
theorem q2238 : (Jvm.Cond.selects "RobotAislesModel" ({ cls := "RobotAislesModel", name := "reason", desc := "(Z)I" } : Jvm.MethodName) ({ cls := "RobotAislesModel", name := "reason", desc := "(Z)I" } : Jvm.MethodName)) ∈ lw_all := lw_g (lw_at lw_m10 8 rfl) rfl
theorem q2239 : (Jvm.Cond.code ({ cls := "RobotAislesModel", name := "reason", desc := "(Z)I" } : Jvm.MethodName) prog_12_method_63_code (2 : Nat) (Option.some Jvm.ClassFile.FieldType.int)) ∈ lw_all := lw_g (lw_at lw_m10 9 rfl) rfl
theorem q2241 : (Jvm.Cond.instanceMethod ({ cls := "RobotAislesModel", name := "account", desc := "(I)I" } : Jvm.MethodName)) ∈ lw_all := lw_g (lw_at lw_m10 11 rfl) rfl
theorem q2242 : (Jvm.Cond.selects "RobotAislesModel" ({ cls := "RobotAislesModel", name := "account", desc := "(I)I" } : Jvm.MethodName) ({ cls := "RobotAislesModel", name := "account", desc := "(I)I" } : Jvm.MethodName)) ∈ lw_all := lw_g (lw_at lw_m10 12 rfl) rfl
theorem q2243 : (Jvm.Cond.code ({ cls := "RobotAislesModel", name := "account", desc := "(I)I" } : Jvm.MethodName) prog_12_method_66_code (2 : Nat) (Option.some Jvm.ClassFile.FieldType.int)) ∈ lw_all := lw_g (lw_at lw_m10 13 rfl) rfl
theorem q2244 : (Jvm.Cond.methodLink "RobotAislesModel" (186 : Nat) ({ cls := "RobotAislesModel", name := "overOrders", desc := "(I)I" } : Jvm.MethodName)) ∈ lw_all := lw_g (lw_at lw_m10 14 rfl) rfl
theorem q2245 : (Jvm.Cond.privateMethod ({ cls := "RobotAislesModel", name := "overOrders", desc := "(I)I" } : Jvm.MethodName)) ∈ lw_tbl := lw_at lw_m10 15 rfl
theorem q2246 : (Jvm.Cond.instanceMethod ({ cls := "RobotAislesModel", name := "overOrders", desc := "(I)I" } : Jvm.MethodName)) ∈ lw_all := lw_g (lw_at lw_m10 16 rfl) rfl
theorem q2247 : (Jvm.Cond.code ({ cls := "RobotAislesModel", name := "overOrders", desc := "(I)I" } : Jvm.MethodName) prog_12_method_65_code (4 : Nat) (Option.some Jvm.ClassFile.FieldType.int)) ∈ lw_all := lw_g (lw_at lw_m10 17 rfl) rfl
theorem q2248 : (Jvm.Cond.methodLink "RobotAislesModel" (189 : Nat) ({ cls := "RobotAislesModel", name := "overRobots", desc := "(I)I" } : Jvm.MethodName)) ∈ lw_all := lw_g (lw_at lw_m10 18 rfl) rfl
theorem q2249 : (Jvm.Cond.privateMethod ({ cls := "RobotAislesModel", name := "overRobots", desc := "(I)I" } : Jvm.MethodName)) ∈ lw_tbl := lw_at lw_m10 19 rfl
theorem q2250 : (Jvm.Cond.instanceMethod ({ cls := "RobotAislesModel", name := "overRobots", desc := "(I)I" } : Jvm.MethodName)) ∈ lw_all := lw_g (lw_at lw_m10 20 rfl) rfl
theorem q2251 : (Jvm.Cond.code ({ cls := "RobotAislesModel", name := "overRobots", desc := "(I)I" } : Jvm.MethodName) prog_12_method_64_code (4 : Nat) (Option.some Jvm.ClassFile.FieldType.int)) ∈ lw_all := lw_g (lw_at lw_m10 21 rfl) rfl
theorem q2253 : (Jvm.Cond.instanceMethod ({ cls := "RobotAislesModel", name := "append", desc := "(C)I" } : Jvm.MethodName)) ∈ lw_all := lw_g (lw_at lw_m10 23 rfl) rfl
theorem q2254 : (Jvm.Cond.selects "RobotAislesModel" ({ cls := "RobotAislesModel", name := "append", desc := "(C)I" } : Jvm.MethodName) ({ cls := "RobotAislesModel", name := "append", desc := "(C)I" } : Jvm.MethodName)) ∈ lw_all := lw_g (lw_at lw_m10 24 rfl) rfl
theorem q2255 : (Jvm.Cond.code ({ cls := "RobotAislesModel", name := "append", desc := "(C)I" } : Jvm.MethodName) prog_12_method_67_code (2 : Nat) (Option.some Jvm.ClassFile.FieldType.int)) ∈ lw_all := lw_g (lw_at lw_m10 25 rfl) rfl
theorem q2257 : (Jvm.Cond.instanceMethod ({ cls := "RobotAislesModel", name := "layout", desc := "()I" } : Jvm.MethodName)) ∈ lw_all := lw_g (lw_at lw_m10 27 rfl) rfl
theorem q2258 : (Jvm.Cond.selects "RobotAislesModel" ({ cls := "RobotAislesModel", name := "layout", desc := "()I" } : Jvm.MethodName) ({ cls := "RobotAislesModel", name := "layout", desc := "()I" } : Jvm.MethodName)) ∈ lw_all := lw_g (lw_at lw_m10 28 rfl) rfl
theorem q2259 : (Jvm.Cond.code ({ cls := "RobotAislesModel", name := "layout", desc := "()I" } : Jvm.MethodName) prog_12_method_69_code (4 : Nat) (Option.some Jvm.ClassFile.FieldType.int)) ∈ lw_all := lw_g (lw_at lw_m10 29 rfl) rfl
theorem q2260 : (Jvm.Cond.methodLink "RobotAislesModel" (204 : Nat) ({ cls := "RobotAislesModel", name := "wrongPlace", desc := "()I" } : Jvm.MethodName)) ∈ lw_all := lw_g (lw_at lw_m10 30 rfl) rfl
theorem q2261 : (Jvm.Cond.privateMethod ({ cls := "RobotAislesModel", name := "wrongPlace", desc := "()I" } : Jvm.MethodName)) ∈ lw_tbl := lw_at lw_m10 31 rfl
theorem q2262 : (Jvm.Cond.instanceMethod ({ cls := "RobotAislesModel", name := "wrongPlace", desc := "()I" } : Jvm.MethodName)) ∈ lw_all := lw_g (lw_at lw_m10 32 rfl) rfl
theorem q2263 : (Jvm.Cond.code ({ cls := "RobotAislesModel", name := "wrongPlace", desc := "()I" } : Jvm.MethodName) prog_12_method_68_code (5 : Nat) (Option.some Jvm.ClassFile.FieldType.int)) ∈ lw_all := lw_g (lw_at lw_m10 33 rfl) rfl
theorem q2264 : (Jvm.Cond.methodLink "RobotAislesModel" (201 : Nat) ({ cls := "java/lang/String", name := "indexOf", desc := "(I)I" } : Jvm.MethodName)) ∈ lw_all := lw_g (lw_at lw_m10 34 rfl) rfl
theorem q2266 : (Jvm.Cond.instanceMethod ({ cls := "RobotAislesModel", name := "faultPosition", desc := "()I" } : Jvm.MethodName)) ∈ lw_all := lw_g (lw_at lw_m10 36 rfl) rfl
theorem q2267 : (Jvm.Cond.selects "RobotAislesModel" ({ cls := "RobotAislesModel", name := "faultPosition", desc := "()I" } : Jvm.MethodName) ({ cls := "RobotAislesModel", name := "faultPosition", desc := "()I" } : Jvm.MethodName)) ∈ lw_all := lw_g (lw_at lw_m10 37 rfl) rfl
theorem q2268 : (Jvm.Cond.code ({ cls := "RobotAislesModel", name := "faultPosition", desc := "()I" } : Jvm.MethodName) prog_12_method_70_code (1 : Nat) (Option.some Jvm.ClassFile.FieldType.int)) ∈ lw_all := lw_g (lw_at lw_m10 38 rfl) rfl
theorem q2270 : (Jvm.Cond.instanceMethod ({ cls := "RobotAislesModel", name := "undo", desc := "()I" } : Jvm.MethodName)) ∈ lw_all := lw_g (lw_at lw_m10 40 rfl) rfl
theorem q2271 : (Jvm.Cond.selects "RobotAislesModel" ({ cls := "RobotAislesModel", name := "undo", desc := "()I" } : Jvm.MethodName) ({ cls := "RobotAislesModel", name := "undo", desc := "()I" } : Jvm.MethodName)) ∈ lw_all := lw_g (lw_at lw_m10 41 rfl) rfl
theorem q2272 : (Jvm.Cond.code ({ cls := "RobotAislesModel", name := "undo", desc := "()I" } : Jvm.MethodName) prog_12_method_71_code (1 : Nat) (Option.some Jvm.ClassFile.FieldType.int)) ∈ lw_all := lw_g (lw_at lw_m10 42 rfl) rfl
theorem q2274 : (Jvm.Cond.instanceMethod ({ cls := "RobotAislesModel", name := "save", desc := "()I" } : Jvm.MethodName)) ∈ lw_all := lw_g (lw_at lw_m10 44 rfl) rfl
theorem q2275 : (Jvm.Cond.selects "RobotAislesModel" ({ cls := "RobotAislesModel", name := "save", desc := "()I" } : Jvm.MethodName) ({ cls := "RobotAislesModel", name := "save", desc := "()I" } : Jvm.MethodName)) ∈ lw_all := lw_g (lw_at lw_m10 45 rfl) rfl
theorem q2276 : (Jvm.Cond.code ({ cls := "RobotAislesModel", name := "save", desc := "()I" } : Jvm.MethodName) prog_12_method_72_code (1 : Nat) (Option.some Jvm.ClassFile.FieldType.int)) ∈ lw_all := lw_g (lw_at lw_m10 46 rfl) rfl
theorem q2278 : (Jvm.Cond.instanceMethod ({ cls := "RobotAislesModel", name := "restore", desc := "()I" } : Jvm.MethodName)) ∈ lw_all := lw_g (lw_at lw_m10 48 rfl) rfl
theorem q2279 : (Jvm.Cond.selects "RobotAislesModel" ({ cls := "RobotAislesModel", name := "restore", desc := "()I" } : Jvm.MethodName) ({ cls := "RobotAislesModel", name := "restore", desc := "()I" } : Jvm.MethodName)) ∈ lw_all := lw_g (lw_at lw_m10 49 rfl) rfl
theorem q2280 : (Jvm.Cond.code ({ cls := "RobotAislesModel", name := "restore", desc := "()I" } : Jvm.MethodName) prog_12_method_73_code (1 : Nat) (Option.some Jvm.ClassFile.FieldType.int)) ∈ lw_all := lw_g (lw_at lw_m10 50 rfl) rfl
theorem q2289 : (Jvm.Cond.castable "RobotAislesModel" "java/lang/Object") ∈ lw_tbl := lw_at lw_m10 59 rfl
theorem in_X3 : ∀ w ∈ wsX30, w ∈ lw_all := lw_in wsX30 [1949, 1951, 1953, 1955, 1957, 1959, 1961, 1963, 1965, 1967, 1969, 1971, 1973, 1975, 1977, 1979, 1981, 1983, 1985, 1987] (by decide +kernel) (by decide +kernel)
