/-! RobotAisles$Core -/
set_option maxRecDepth 100000
def RX2 : String := "RobotAisles$Core"
def TX2 : u_T := fun k => match k with
  | 0 => ("RobotAisles$Core", "rows", "I", true)
  | 1 => ("RobotAisles$Core", "columns", "I", true)
  | 2 => ("RobotAisles$Core", "kinds", "[I", true)
  | 3 => ("RobotAisles$Core", "robots", "Ljava/util/ArrayList;", true)
  | 4 => ("RobotAisles$Core", "orders", "Ljava/util/ArrayList;", true)
  | 5 => ("RobotAisles$Core", "settings", "[I", true)
  | 6 => ("RobotAisles$Core", "closed", "J", false)
  | _ => ("RobotAisles$Core", "now", "I", false)
def tyX2 : Nat → FieldType := fun k => match k with
  | 0 => .int
  | 1 => .int
  | 2 => .array .int
  | 3 => .object "java/util/ArrayList"
  | 4 => .object "java/util/ArrayList"
  | 5 => .array .int
  | 6 => .long
  | _ => .int
abbrev wsX20 : List Cond := u_ws RX2 TX2 8
theorem nmX2 : ∀ a, a < 8 → ∀ b, b < 8 → a ≠ b → (TX2 a).2.1 ≠ (TX2 b).2.1 := by decide +kernel
theorem tyX2_ok : ∀ k, k < 8 → parseFieldDescriptor (TX2 k).2.2.1 = some (tyX2 k) := by decide +kernel
abbrev cX2_init : ByteArray := prog_2_method_1_code
def yX2_init : MethodName := ⟨RX2, "<init>", "(II[I)V"⟩
def dkwX2_init_2 : List UInt8 := [27, 181, 0, 25, 42, 28, 181, 0, 29, 42, 45, 181, 0, 32, 177]
abbrev dktX2_init_2 : List UInt8 := dkwX2_init_2 ++ []
def dkwX2_init_1 : List UInt8 := [181, 0, 18, 42, 6, 188, 10, 89, 3, 8, 79, 89, 4, 5, 79, 89, 5, 16, 30, 79, 181, 0, 21, 42]
abbrev dktX2_init_1 : List UInt8 := dkwX2_init_1 ++ dktX2_init_2
def dkwX2_init_0 : List UInt8 := [42, 183, 0, 3, 42, 187, 0, 9, 89, 183, 0, 11, 181, 0, 12, 42, 187, 0, 9, 89, 183, 0, 11]
abbrev dktX2_init_0 : List UInt8 := dkwX2_init_0 ++ dktX2_init_1
theorem dksX2_init_0 : cX2_init.data.toList.drop 0 = dktX2_init_0 := by decide +kernel
theorem dksX2_init_1 : cX2_init.data.toList.drop 23 = dktX2_init_1 := dk_seg dksX2_init_0 23 rfl rfl
theorem dksX2_init_2 : cX2_init.data.toList.drop 47 = dktX2_init_2 := dk_seg dksX2_init_1 24 rfl rfl
theorem dX2_init_0 : decode cX2_init 0 = .ok (.aload_n 0, 1) := dk_42 (dk_at dksX2_init_0 0 rfl rfl)
theorem dX2_init_1 : decode cX2_init 1 = .ok (.invokespecial 3, 3) := dk_183 0 3 (dk_at dksX2_init_0 1 rfl rfl)
theorem dX2_init_4 : decode cX2_init 4 = .ok (.aload_n 0, 1) := dk_42 (dk_at dksX2_init_0 4 rfl rfl)
theorem dX2_init_5 : decode cX2_init 5 = .ok (.new 9, 3) := dk_187 0 9 (dk_at dksX2_init_0 5 rfl rfl)
theorem dX2_init_8 : decode cX2_init 8 = .ok (.dup, 1) := dk_89 (dk_at dksX2_init_0 8 rfl rfl)
theorem dX2_init_9 : decode cX2_init 9 = .ok (.invokespecial 11, 3) := dk_183 0 11 (dk_at dksX2_init_0 9 rfl rfl)
theorem dX2_init_12 : decode cX2_init 12 = .ok (.putfield 12, 3) := dk_181 0 12 (dk_at dksX2_init_0 12 rfl rfl)
theorem dX2_init_15 : decode cX2_init 15 = .ok (.aload_n 0, 1) := dk_42 (dk_at dksX2_init_0 15 rfl rfl)
theorem dX2_init_16 : decode cX2_init 16 = .ok (.new 9, 3) := dk_187 0 9 (dk_at dksX2_init_0 16 rfl rfl)
theorem dX2_init_19 : decode cX2_init 19 = .ok (.dup, 1) := dk_89 (dk_at dksX2_init_0 19 rfl rfl)
theorem dX2_init_20 : decode cX2_init 20 = .ok (.invokespecial 11, 3) := dk_183 0 11 (dk_at dksX2_init_0 20 rfl rfl)
theorem dX2_init_23 : decode cX2_init 23 = .ok (.putfield 18, 3) := dk_181 0 18 (dk_at dksX2_init_1 0 rfl rfl)
theorem dX2_init_26 : decode cX2_init 26 = .ok (.aload_n 0, 1) := dk_42 (dk_at dksX2_init_1 3 rfl rfl)
theorem dX2_init_27 : decode cX2_init 27 = .ok (.iconst 3, 1) := dk_6 (dk_at dksX2_init_1 4 rfl rfl)
theorem dX2_init_28 : decode cX2_init 28 = .ok (.newarray .int, 2) := dk_188_10 (dk_at dksX2_init_1 5 rfl rfl)
theorem dX2_init_30 : decode cX2_init 30 = .ok (.dup, 1) := dk_89 (dk_at dksX2_init_1 7 rfl rfl)
theorem dX2_init_31 : decode cX2_init 31 = .ok (.iconst 0, 1) := dk_3 (dk_at dksX2_init_1 8 rfl rfl)
theorem dX2_init_32 : decode cX2_init 32 = .ok (.iconst 5, 1) := dk_8 (dk_at dksX2_init_1 9 rfl rfl)
theorem dX2_init_33 : decode cX2_init 33 = .ok (.iastore, 1) := dk_79 (dk_at dksX2_init_1 10 rfl rfl)
theorem dX2_init_34 : decode cX2_init 34 = .ok (.dup, 1) := dk_89 (dk_at dksX2_init_1 11 rfl rfl)
theorem dX2_init_35 : decode cX2_init 35 = .ok (.iconst 1, 1) := dk_4 (dk_at dksX2_init_1 12 rfl rfl)
theorem dX2_init_36 : decode cX2_init 36 = .ok (.iconst 2, 1) := dk_5 (dk_at dksX2_init_1 13 rfl rfl)
theorem dX2_init_37 : decode cX2_init 37 = .ok (.iastore, 1) := dk_79 (dk_at dksX2_init_1 14 rfl rfl)
theorem dX2_init_38 : decode cX2_init 38 = .ok (.dup, 1) := dk_89 (dk_at dksX2_init_1 15 rfl rfl)
theorem dX2_init_39 : decode cX2_init 39 = .ok (.iconst 2, 1) := dk_5 (dk_at dksX2_init_1 16 rfl rfl)
theorem dX2_init_40 : decode cX2_init 40 = .ok (.bipush 30, 2) := dk_16 30 (dk_at dksX2_init_1 17 rfl rfl)
theorem dX2_init_42 : decode cX2_init 42 = .ok (.iastore, 1) := dk_79 (dk_at dksX2_init_1 19 rfl rfl)
theorem dX2_init_43 : decode cX2_init 43 = .ok (.putfield 21, 3) := dk_181 0 21 (dk_at dksX2_init_1 20 rfl rfl)
theorem dX2_init_46 : decode cX2_init 46 = .ok (.aload_n 0, 1) := dk_42 (dk_at dksX2_init_1 23 rfl rfl)
theorem dX2_init_47 : decode cX2_init 47 = .ok (.iload_n 1, 1) := dk_27 (dk_at dksX2_init_2 0 rfl rfl)
theorem dX2_init_48 : decode cX2_init 48 = .ok (.putfield 25, 3) := dk_181 0 25 (dk_at dksX2_init_2 1 rfl rfl)
theorem dX2_init_51 : decode cX2_init 51 = .ok (.aload_n 0, 1) := dk_42 (dk_at dksX2_init_2 4 rfl rfl)
theorem dX2_init_52 : decode cX2_init 52 = .ok (.iload_n 2, 1) := dk_28 (dk_at dksX2_init_2 5 rfl rfl)
theorem dX2_init_53 : decode cX2_init 53 = .ok (.putfield 29, 3) := dk_181 0 29 (dk_at dksX2_init_2 6 rfl rfl)
theorem dX2_init_56 : decode cX2_init 56 = .ok (.aload_n 0, 1) := dk_42 (dk_at dksX2_init_2 9 rfl rfl)
theorem dX2_init_57 : decode cX2_init 57 = .ok (.aload_n 3, 1) := dk_45 (dk_at dksX2_init_2 10 rfl rfl)
theorem dX2_init_58 : decode cX2_init 58 = .ok (.putfield 32, 3) := dk_181 0 32 (dk_at dksX2_init_2 11 rfl rfl)
theorem dX2_init_61 : decode cX2_init 61 = .ok (.return_, 1) := dk_177 (dk_at dksX2_init_2 14 rfl rfl)
abbrev cX2_copy : ByteArray := prog_2_method_2_code
def yX2_copy : MethodName := ⟨RX2, "copy", "()LRobotAisles$Core;"⟩
def dkwX2_copy_5 : List UInt8 := [180, 0, 67, 181, 0, 67, 43, 42, 180, 0, 71, 181, 0, 71, 43, 176]
abbrev dktX2_copy_5 : List UInt8 := dkwX2_copy_5 ++ []
def dkwX2_copy_4 : List UInt8 := [87, 132, 2, 1, 167, 255, 220, 42, 180, 0, 21, 3, 43, 180, 0, 21, 3, 6, 184, 0, 61, 43, 42]
abbrev dktX2_copy_4 : List UInt8 := dkwX2_copy_4 ++ dktX2_copy_5
def dkwX2_copy_3 : List UInt8 := [162, 0, 31, 43, 180, 0, 18, 42, 180, 0, 18, 28, 182, 0, 42, 192, 0, 56, 182, 0, 58, 182, 0, 52]
abbrev dktX2_copy_3 : List UInt8 := dkwX2_copy_3 ++ dktX2_copy_4
def dkwX2_copy_2 : List UInt8 := [182, 0, 48, 182, 0, 52, 87, 132, 2, 1, 167, 255, 220, 3, 61, 28, 42, 180, 0, 18, 182, 0, 38]
abbrev dktX2_copy_2 : List UInt8 := dkwX2_copy_2 ++ dktX2_copy_3
def dkwX2_copy_1 : List UInt8 := [180, 0, 12, 182, 0, 38, 162, 0, 31, 43, 180, 0, 12, 42, 180, 0, 12, 28, 182, 0, 42, 192, 0, 46]
abbrev dktX2_copy_1 : List UInt8 := dkwX2_copy_1 ++ dktX2_copy_2
def dkwX2_copy_0 : List UInt8 := [187, 0, 13, 89, 42, 180, 0, 25, 42, 180, 0, 29, 42, 180, 0, 32, 183, 0, 35, 76, 3, 61, 28, 42]
abbrev dktX2_copy_0 : List UInt8 := dkwX2_copy_0 ++ dktX2_copy_1
theorem dksX2_copy_0 : cX2_copy.data.toList.drop 0 = dktX2_copy_0 := by decide +kernel
theorem dksX2_copy_1 : cX2_copy.data.toList.drop 24 = dktX2_copy_1 := dk_seg dksX2_copy_0 24 rfl rfl
theorem dksX2_copy_2 : cX2_copy.data.toList.drop 48 = dktX2_copy_2 := dk_seg dksX2_copy_1 24 rfl rfl
theorem dksX2_copy_3 : cX2_copy.data.toList.drop 71 = dktX2_copy_3 := dk_seg dksX2_copy_2 23 rfl rfl
theorem dksX2_copy_4 : cX2_copy.data.toList.drop 95 = dktX2_copy_4 := dk_seg dksX2_copy_3 24 rfl rfl
theorem dksX2_copy_5 : cX2_copy.data.toList.drop 118 = dktX2_copy_5 := dk_seg dksX2_copy_4 23 rfl rfl
theorem dX2_copy_0 : decode cX2_copy 0 = .ok (.new 13, 3) := dk_187 0 13 (dk_at dksX2_copy_0 0 rfl rfl)
theorem dX2_copy_3 : decode cX2_copy 3 = .ok (.dup, 1) := dk_89 (dk_at dksX2_copy_0 3 rfl rfl)
theorem dX2_copy_4 : decode cX2_copy 4 = .ok (.aload_n 0, 1) := dk_42 (dk_at dksX2_copy_0 4 rfl rfl)
theorem dX2_copy_5 : decode cX2_copy 5 = .ok (.getfield 25, 3) := dk_180 0 25 (dk_at dksX2_copy_0 5 rfl rfl)
theorem dX2_copy_8 : decode cX2_copy 8 = .ok (.aload_n 0, 1) := dk_42 (dk_at dksX2_copy_0 8 rfl rfl)
theorem dX2_copy_9 : decode cX2_copy 9 = .ok (.getfield 29, 3) := dk_180 0 29 (dk_at dksX2_copy_0 9 rfl rfl)
theorem dX2_copy_12 : decode cX2_copy 12 = .ok (.aload_n 0, 1) := dk_42 (dk_at dksX2_copy_0 12 rfl rfl)
theorem dX2_copy_13 : decode cX2_copy 13 = .ok (.getfield 32, 3) := dk_180 0 32 (dk_at dksX2_copy_0 13 rfl rfl)
theorem dX2_copy_16 : decode cX2_copy 16 = .ok (.invokespecial 35, 3) := dk_183 0 35 (dk_at dksX2_copy_0 16 rfl rfl)
theorem dX2_copy_19 : decode cX2_copy 19 = .ok (.astore_n 1, 1) := dk_76 (dk_at dksX2_copy_0 19 rfl rfl)
theorem dX2_copy_20 : decode cX2_copy 20 = .ok (.iconst 0, 1) := dk_3 (dk_at dksX2_copy_0 20 rfl rfl)
theorem dX2_copy_21 : decode cX2_copy 21 = .ok (.istore_n 2, 1) := dk_61 (dk_at dksX2_copy_0 21 rfl rfl)
theorem dX2_copy_22 : decode cX2_copy 22 = .ok (.iload_n 2, 1) := dk_28 (dk_at dksX2_copy_0 22 rfl rfl)
theorem dX2_copy_23 : decode cX2_copy 23 = .ok (.aload_n 0, 1) := dk_42 (dk_at dksX2_copy_0 23 rfl rfl)
theorem dX2_copy_24 : decode cX2_copy 24 = .ok (.getfield 12, 3) := dk_180 0 12 (dk_at dksX2_copy_1 0 rfl rfl)
theorem dX2_copy_27 : decode cX2_copy 27 = .ok (.invokevirtual 38, 3) := dk_182 0 38 (dk_at dksX2_copy_1 3 rfl rfl)
theorem dX2_copy_30 : decode cX2_copy 30 = .ok (.if_icmp .ge 31, 3) := dk_162 0 31 (dk_at dksX2_copy_1 6 rfl rfl)
theorem dX2_copy_33 : decode cX2_copy 33 = .ok (.aload_n 1, 1) := dk_43 (dk_at dksX2_copy_1 9 rfl rfl)
theorem dX2_copy_34 : decode cX2_copy 34 = .ok (.getfield 12, 3) := dk_180 0 12 (dk_at dksX2_copy_1 10 rfl rfl)
theorem dX2_copy_37 : decode cX2_copy 37 = .ok (.aload_n 0, 1) := dk_42 (dk_at dksX2_copy_1 13 rfl rfl)
theorem dX2_copy_38 : decode cX2_copy 38 = .ok (.getfield 12, 3) := dk_180 0 12 (dk_at dksX2_copy_1 14 rfl rfl)
theorem dX2_copy_41 : decode cX2_copy 41 = .ok (.iload_n 2, 1) := dk_28 (dk_at dksX2_copy_1 17 rfl rfl)
theorem dX2_copy_42 : decode cX2_copy 42 = .ok (.invokevirtual 42, 3) := dk_182 0 42 (dk_at dksX2_copy_1 18 rfl rfl)
theorem dX2_copy_45 : decode cX2_copy 45 = .ok (.checkcast 46, 3) := dk_192 0 46 (dk_at dksX2_copy_1 21 rfl rfl)
theorem dX2_copy_48 : decode cX2_copy 48 = .ok (.invokevirtual 48, 3) := dk_182 0 48 (dk_at dksX2_copy_2 0 rfl rfl)
theorem dX2_copy_51 : decode cX2_copy 51 = .ok (.invokevirtual 52, 3) := dk_182 0 52 (dk_at dksX2_copy_2 3 rfl rfl)
theorem dX2_copy_54 : decode cX2_copy 54 = .ok (.pop, 1) := dk_87 (dk_at dksX2_copy_2 6 rfl rfl)
theorem dX2_copy_55 : decode cX2_copy 55 = .ok (.iinc 2 1, 3) := dk_132 2 1 (dk_at dksX2_copy_2 7 rfl rfl)
theorem dX2_copy_58 : decode cX2_copy 58 = .ok (.goto (-36), 3) := dk_167 255 220 (dk_at dksX2_copy_2 10 rfl rfl)
theorem dX2_copy_61 : decode cX2_copy 61 = .ok (.iconst 0, 1) := dk_3 (dk_at dksX2_copy_2 13 rfl rfl)
theorem dX2_copy_62 : decode cX2_copy 62 = .ok (.istore_n 2, 1) := dk_61 (dk_at dksX2_copy_2 14 rfl rfl)
theorem dX2_copy_63 : decode cX2_copy 63 = .ok (.iload_n 2, 1) := dk_28 (dk_at dksX2_copy_2 15 rfl rfl)
theorem dX2_copy_64 : decode cX2_copy 64 = .ok (.aload_n 0, 1) := dk_42 (dk_at dksX2_copy_2 16 rfl rfl)
theorem dX2_copy_65 : decode cX2_copy 65 = .ok (.getfield 18, 3) := dk_180 0 18 (dk_at dksX2_copy_2 17 rfl rfl)
theorem dX2_copy_68 : decode cX2_copy 68 = .ok (.invokevirtual 38, 3) := dk_182 0 38 (dk_at dksX2_copy_2 20 rfl rfl)
theorem dX2_copy_71 : decode cX2_copy 71 = .ok (.if_icmp .ge 31, 3) := dk_162 0 31 (dk_at dksX2_copy_3 0 rfl rfl)
theorem dX2_copy_74 : decode cX2_copy 74 = .ok (.aload_n 1, 1) := dk_43 (dk_at dksX2_copy_3 3 rfl rfl)
theorem dX2_copy_75 : decode cX2_copy 75 = .ok (.getfield 18, 3) := dk_180 0 18 (dk_at dksX2_copy_3 4 rfl rfl)
theorem dX2_copy_78 : decode cX2_copy 78 = .ok (.aload_n 0, 1) := dk_42 (dk_at dksX2_copy_3 7 rfl rfl)
theorem dX2_copy_79 : decode cX2_copy 79 = .ok (.getfield 18, 3) := dk_180 0 18 (dk_at dksX2_copy_3 8 rfl rfl)
theorem dX2_copy_82 : decode cX2_copy 82 = .ok (.iload_n 2, 1) := dk_28 (dk_at dksX2_copy_3 11 rfl rfl)
theorem dX2_copy_83 : decode cX2_copy 83 = .ok (.invokevirtual 42, 3) := dk_182 0 42 (dk_at dksX2_copy_3 12 rfl rfl)
theorem dX2_copy_86 : decode cX2_copy 86 = .ok (.checkcast 56, 3) := dk_192 0 56 (dk_at dksX2_copy_3 15 rfl rfl)
theorem dX2_copy_89 : decode cX2_copy 89 = .ok (.invokevirtual 58, 3) := dk_182 0 58 (dk_at dksX2_copy_3 18 rfl rfl)
theorem dX2_copy_92 : decode cX2_copy 92 = .ok (.invokevirtual 52, 3) := dk_182 0 52 (dk_at dksX2_copy_3 21 rfl rfl)
theorem dX2_copy_95 : decode cX2_copy 95 = .ok (.pop, 1) := dk_87 (dk_at dksX2_copy_4 0 rfl rfl)
theorem dX2_copy_96 : decode cX2_copy 96 = .ok (.iinc 2 1, 3) := dk_132 2 1 (dk_at dksX2_copy_4 1 rfl rfl)
theorem dX2_copy_99 : decode cX2_copy 99 = .ok (.goto (-36), 3) := dk_167 255 220 (dk_at dksX2_copy_4 4 rfl rfl)
theorem dX2_copy_102 : decode cX2_copy 102 = .ok (.aload_n 0, 1) := dk_42 (dk_at dksX2_copy_4 7 rfl rfl)
theorem dX2_copy_103 : decode cX2_copy 103 = .ok (.getfield 21, 3) := dk_180 0 21 (dk_at dksX2_copy_4 8 rfl rfl)
theorem dX2_copy_106 : decode cX2_copy 106 = .ok (.iconst 0, 1) := dk_3 (dk_at dksX2_copy_4 11 rfl rfl)
theorem dX2_copy_107 : decode cX2_copy 107 = .ok (.aload_n 1, 1) := dk_43 (dk_at dksX2_copy_4 12 rfl rfl)
theorem dX2_copy_108 : decode cX2_copy 108 = .ok (.getfield 21, 3) := dk_180 0 21 (dk_at dksX2_copy_4 13 rfl rfl)
theorem dX2_copy_111 : decode cX2_copy 111 = .ok (.iconst 0, 1) := dk_3 (dk_at dksX2_copy_4 16 rfl rfl)
theorem dX2_copy_112 : decode cX2_copy 112 = .ok (.iconst 3, 1) := dk_6 (dk_at dksX2_copy_4 17 rfl rfl)
theorem dX2_copy_113 : decode cX2_copy 113 = .ok (.invokestatic 61, 3) := dk_184 0 61 (dk_at dksX2_copy_4 18 rfl rfl)
theorem dX2_copy_116 : decode cX2_copy 116 = .ok (.aload_n 1, 1) := dk_43 (dk_at dksX2_copy_4 21 rfl rfl)
theorem dX2_copy_117 : decode cX2_copy 117 = .ok (.aload_n 0, 1) := dk_42 (dk_at dksX2_copy_4 22 rfl rfl)
theorem dX2_copy_118 : decode cX2_copy 118 = .ok (.getfield 67, 3) := dk_180 0 67 (dk_at dksX2_copy_5 0 rfl rfl)
theorem dX2_copy_121 : decode cX2_copy 121 = .ok (.putfield 67, 3) := dk_181 0 67 (dk_at dksX2_copy_5 3 rfl rfl)
theorem dX2_copy_124 : decode cX2_copy 124 = .ok (.aload_n 1, 1) := dk_43 (dk_at dksX2_copy_5 6 rfl rfl)
theorem dX2_copy_125 : decode cX2_copy 125 = .ok (.aload_n 0, 1) := dk_42 (dk_at dksX2_copy_5 7 rfl rfl)
theorem dX2_copy_126 : decode cX2_copy 126 = .ok (.getfield 71, 3) := dk_180 0 71 (dk_at dksX2_copy_5 8 rfl rfl)
theorem dX2_copy_129 : decode cX2_copy 129 = .ok (.putfield 71, 3) := dk_181 0 71 (dk_at dksX2_copy_5 11 rfl rfl)
theorem dX2_copy_132 : decode cX2_copy 132 = .ok (.aload_n 1, 1) := dk_43 (dk_at dksX2_copy_5 14 rfl rfl)
theorem dX2_copy_133 : decode cX2_copy 133 = .ok (.areturn, 1) := dk_176 (dk_at dksX2_copy_5 15 rfl rfl)
abbrev cX2_size : ByteArray := prog_2_method_3_code
def yX2_size : MethodName := ⟨RX2, "size", "()I"⟩
def dkwX2_size_0 : List UInt8 := [42, 180, 0, 25, 42, 180, 0, 29, 104, 172]
abbrev dktX2_size_0 : List UInt8 := dkwX2_size_0 ++ []
theorem dksX2_size_0 : cX2_size.data.toList.drop 0 = dktX2_size_0 := by decide +kernel
theorem dX2_size_0 : decode cX2_size 0 = .ok (.aload_n 0, 1) := dk_42 (dk_at dksX2_size_0 0 rfl rfl)
theorem dX2_size_1 : decode cX2_size 1 = .ok (.getfield 25, 3) := dk_180 0 25 (dk_at dksX2_size_0 1 rfl rfl)
theorem dX2_size_4 : decode cX2_size 4 = .ok (.aload_n 0, 1) := dk_42 (dk_at dksX2_size_0 4 rfl rfl)
theorem dX2_size_5 : decode cX2_size 5 = .ok (.getfield 29, 3) := dk_180 0 29 (dk_at dksX2_size_0 5 rfl rfl)
theorem dX2_size_8 : decode cX2_size 8 = .ok (.imul, 1) := dk_104 (dk_at dksX2_size_0 8 rfl rfl)
theorem dX2_size_9 : decode cX2_size 9 = .ok (.ireturn, 1) := dk_172 (dk_at dksX2_size_0 9 rfl rfl)
abbrev cX2_add : ByteArray := prog_2_method_13_code
def yX2_add : MethodName := ⟨RX2, "add", "(II)I"⟩
def dkwX2_add_4 : List UInt8 := [182, 0, 52, 87, 42, 180, 0, 12, 182, 0, 38, 4, 100, 172]
abbrev dktX2_add_4 : List UInt8 := dkwX2_add_4 ++ []
def dkwX2_add_3 : List UInt8 := [184, 0, 98, 42, 27, 2, 182, 0, 108, 42, 180, 0, 12, 187, 0, 46, 89, 27, 28, 183, 0, 112]
abbrev dktX2_add_3 : List UInt8 := dkwX2_add_3 ++ dktX2_add_4
def dkwX2_add_2 : List UInt8 := [4, 167, 0, 4, 3, 6, 184, 0, 105, 42, 27, 182, 0, 83, 154, 0, 7, 4, 167, 0, 4, 3, 7, 27]
abbrev dktX2_add_2 : List UInt8 := dkwX2_add_2 ++ dktX2_add_3
def dkwX2_add_1 : List UInt8 := [154, 0, 7, 4, 167, 0, 4, 3, 5, 184, 0, 105, 42, 180, 0, 12, 182, 0, 38, 16, 6, 160, 0, 7]
abbrev dktX2_add_1 : List UInt8 := dkwX2_add_1 ++ dktX2_add_2
def dkwX2_add_0 : List UInt8 := [42, 27, 182, 0, 102, 154, 0, 7, 4, 167, 0, 4, 3, 4, 184, 0, 105, 28, 3, 16, 99, 184, 0, 75]
abbrev dktX2_add_0 : List UInt8 := dkwX2_add_0 ++ dktX2_add_1
theorem dksX2_add_0 : cX2_add.data.toList.drop 0 = dktX2_add_0 := by decide +kernel
theorem dksX2_add_1 : cX2_add.data.toList.drop 24 = dktX2_add_1 := dk_seg dksX2_add_0 24 rfl rfl
theorem dksX2_add_2 : cX2_add.data.toList.drop 48 = dktX2_add_2 := dk_seg dksX2_add_1 24 rfl rfl
theorem dksX2_add_3 : cX2_add.data.toList.drop 72 = dktX2_add_3 := dk_seg dksX2_add_2 24 rfl rfl
theorem dksX2_add_4 : cX2_add.data.toList.drop 94 = dktX2_add_4 := dk_seg dksX2_add_3 22 rfl rfl
theorem dX2_add_0 : decode cX2_add 0 = .ok (.aload_n 0, 1) := dk_42 (dk_at dksX2_add_0 0 rfl rfl)
theorem dX2_add_1 : decode cX2_add 1 = .ok (.iload_n 1, 1) := dk_27 (dk_at dksX2_add_0 1 rfl rfl)
theorem dX2_add_2 : decode cX2_add 2 = .ok (.invokevirtual 102, 3) := dk_182 0 102 (dk_at dksX2_add_0 2 rfl rfl)
theorem dX2_add_5 : decode cX2_add 5 = .ok (.ifCond .ne 7, 3) := dk_154 0 7 (dk_at dksX2_add_0 5 rfl rfl)
theorem dX2_add_8 : decode cX2_add 8 = .ok (.iconst 1, 1) := dk_4 (dk_at dksX2_add_0 8 rfl rfl)
theorem dX2_add_9 : decode cX2_add 9 = .ok (.goto 4, 3) := dk_167 0 4 (dk_at dksX2_add_0 9 rfl rfl)
theorem dX2_add_12 : decode cX2_add 12 = .ok (.iconst 0, 1) := dk_3 (dk_at dksX2_add_0 12 rfl rfl)
theorem dX2_add_13 : decode cX2_add 13 = .ok (.iconst 1, 1) := dk_4 (dk_at dksX2_add_0 13 rfl rfl)
theorem dX2_add_14 : decode cX2_add 14 = .ok (.invokestatic 105, 3) := dk_184 0 105 (dk_at dksX2_add_0 14 rfl rfl)
theorem dX2_add_17 : decode cX2_add 17 = .ok (.iload_n 2, 1) := dk_28 (dk_at dksX2_add_0 17 rfl rfl)
theorem dX2_add_18 : decode cX2_add 18 = .ok (.iconst 0, 1) := dk_3 (dk_at dksX2_add_0 18 rfl rfl)
theorem dX2_add_19 : decode cX2_add 19 = .ok (.bipush 99, 2) := dk_16 99 (dk_at dksX2_add_0 19 rfl rfl)
theorem dX2_add_21 : decode cX2_add 21 = .ok (.invokestatic 75, 3) := dk_184 0 75 (dk_at dksX2_add_0 21 rfl rfl)
theorem dX2_add_24 : decode cX2_add 24 = .ok (.ifCond .ne 7, 3) := dk_154 0 7 (dk_at dksX2_add_1 0 rfl rfl)
theorem dX2_add_27 : decode cX2_add 27 = .ok (.iconst 1, 1) := dk_4 (dk_at dksX2_add_1 3 rfl rfl)
theorem dX2_add_28 : decode cX2_add 28 = .ok (.goto 4, 3) := dk_167 0 4 (dk_at dksX2_add_1 4 rfl rfl)
theorem dX2_add_31 : decode cX2_add 31 = .ok (.iconst 0, 1) := dk_3 (dk_at dksX2_add_1 7 rfl rfl)
theorem dX2_add_32 : decode cX2_add 32 = .ok (.iconst 2, 1) := dk_5 (dk_at dksX2_add_1 8 rfl rfl)
theorem dX2_add_33 : decode cX2_add 33 = .ok (.invokestatic 105, 3) := dk_184 0 105 (dk_at dksX2_add_1 9 rfl rfl)
theorem dX2_add_36 : decode cX2_add 36 = .ok (.aload_n 0, 1) := dk_42 (dk_at dksX2_add_1 12 rfl rfl)
theorem dX2_add_37 : decode cX2_add 37 = .ok (.getfield 12, 3) := dk_180 0 12 (dk_at dksX2_add_1 13 rfl rfl)
theorem dX2_add_40 : decode cX2_add 40 = .ok (.invokevirtual 38, 3) := dk_182 0 38 (dk_at dksX2_add_1 16 rfl rfl)
theorem dX2_add_43 : decode cX2_add 43 = .ok (.bipush 6, 2) := dk_16 6 (dk_at dksX2_add_1 19 rfl rfl)
theorem dX2_add_45 : decode cX2_add 45 = .ok (.if_icmp .ne 7, 3) := dk_160 0 7 (dk_at dksX2_add_1 21 rfl rfl)
theorem dX2_add_48 : decode cX2_add 48 = .ok (.iconst 1, 1) := dk_4 (dk_at dksX2_add_2 0 rfl rfl)
theorem dX2_add_49 : decode cX2_add 49 = .ok (.goto 4, 3) := dk_167 0 4 (dk_at dksX2_add_2 1 rfl rfl)
theorem dX2_add_52 : decode cX2_add 52 = .ok (.iconst 0, 1) := dk_3 (dk_at dksX2_add_2 4 rfl rfl)
theorem dX2_add_53 : decode cX2_add 53 = .ok (.iconst 3, 1) := dk_6 (dk_at dksX2_add_2 5 rfl rfl)
theorem dX2_add_54 : decode cX2_add 54 = .ok (.invokestatic 105, 3) := dk_184 0 105 (dk_at dksX2_add_2 6 rfl rfl)
theorem dX2_add_57 : decode cX2_add 57 = .ok (.aload_n 0, 1) := dk_42 (dk_at dksX2_add_2 9 rfl rfl)
theorem dX2_add_58 : decode cX2_add 58 = .ok (.iload_n 1, 1) := dk_27 (dk_at dksX2_add_2 10 rfl rfl)
theorem dX2_add_59 : decode cX2_add 59 = .ok (.invokevirtual 83, 3) := dk_182 0 83 (dk_at dksX2_add_2 11 rfl rfl)
theorem dX2_add_62 : decode cX2_add 62 = .ok (.ifCond .ne 7, 3) := dk_154 0 7 (dk_at dksX2_add_2 14 rfl rfl)
theorem dX2_add_65 : decode cX2_add 65 = .ok (.iconst 1, 1) := dk_4 (dk_at dksX2_add_2 17 rfl rfl)
theorem dX2_add_66 : decode cX2_add 66 = .ok (.goto 4, 3) := dk_167 0 4 (dk_at dksX2_add_2 18 rfl rfl)
theorem dX2_add_69 : decode cX2_add 69 = .ok (.iconst 0, 1) := dk_3 (dk_at dksX2_add_2 21 rfl rfl)
theorem dX2_add_70 : decode cX2_add 70 = .ok (.iconst 4, 1) := dk_7 (dk_at dksX2_add_2 22 rfl rfl)
theorem dX2_add_71 : decode cX2_add 71 = .ok (.iload_n 1, 1) := dk_27 (dk_at dksX2_add_2 23 rfl rfl)
theorem dX2_add_72 : decode cX2_add 72 = .ok (.invokestatic 98, 3) := dk_184 0 98 (dk_at dksX2_add_3 0 rfl rfl)
theorem dX2_add_75 : decode cX2_add 75 = .ok (.aload_n 0, 1) := dk_42 (dk_at dksX2_add_3 3 rfl rfl)
theorem dX2_add_76 : decode cX2_add 76 = .ok (.iload_n 1, 1) := dk_27 (dk_at dksX2_add_3 4 rfl rfl)
theorem dX2_add_77 : decode cX2_add 77 = .ok (.iconst (-1), 1) := dk_2 (dk_at dksX2_add_3 5 rfl rfl)
theorem dX2_add_78 : decode cX2_add 78 = .ok (.invokevirtual 108, 3) := dk_182 0 108 (dk_at dksX2_add_3 6 rfl rfl)
theorem dX2_add_81 : decode cX2_add 81 = .ok (.aload_n 0, 1) := dk_42 (dk_at dksX2_add_3 9 rfl rfl)
theorem dX2_add_82 : decode cX2_add 82 = .ok (.getfield 12, 3) := dk_180 0 12 (dk_at dksX2_add_3 10 rfl rfl)
theorem dX2_add_85 : decode cX2_add 85 = .ok (.new 46, 3) := dk_187 0 46 (dk_at dksX2_add_3 13 rfl rfl)
theorem dX2_add_88 : decode cX2_add 88 = .ok (.dup, 1) := dk_89 (dk_at dksX2_add_3 16 rfl rfl)
theorem dX2_add_89 : decode cX2_add 89 = .ok (.iload_n 1, 1) := dk_27 (dk_at dksX2_add_3 17 rfl rfl)
theorem dX2_add_90 : decode cX2_add 90 = .ok (.iload_n 2, 1) := dk_28 (dk_at dksX2_add_3 18 rfl rfl)
theorem dX2_add_91 : decode cX2_add 91 = .ok (.invokespecial 112, 3) := dk_183 0 112 (dk_at dksX2_add_3 19 rfl rfl)
theorem dX2_add_94 : decode cX2_add 94 = .ok (.invokevirtual 52, 3) := dk_182 0 52 (dk_at dksX2_add_4 0 rfl rfl)
theorem dX2_add_97 : decode cX2_add 97 = .ok (.pop, 1) := dk_87 (dk_at dksX2_add_4 3 rfl rfl)
theorem dX2_add_98 : decode cX2_add 98 = .ok (.aload_n 0, 1) := dk_42 (dk_at dksX2_add_4 4 rfl rfl)
theorem dX2_add_99 : decode cX2_add 99 = .ok (.getfield 12, 3) := dk_180 0 12 (dk_at dksX2_add_4 5 rfl rfl)
theorem dX2_add_102 : decode cX2_add 102 = .ok (.invokevirtual 38, 3) := dk_182 0 38 (dk_at dksX2_add_4 8 rfl rfl)
theorem dX2_add_105 : decode cX2_add 105 = .ok (.iconst 1, 1) := dk_4 (dk_at dksX2_add_4 11 rfl rfl)
theorem dX2_add_106 : decode cX2_add 106 = .ok (.isub, 1) := dk_100 (dk_at dksX2_add_4 12 rfl rfl)
theorem dX2_add_107 : decode cX2_add 107 = .ok (.ireturn, 1) := dk_172 (dk_at dksX2_add_4 13 rfl rfl)
abbrev cX2_hasCell : ByteArray := prog_2_method_4_code
def yX2_hasCell : MethodName := ⟨RX2, "hasCell", "(I)Z"⟩
def dkwX2_hasCell_0 : List UInt8 := [27, 3, 42, 182, 0, 74, 4, 100, 184, 0, 75, 172]
abbrev dktX2_hasCell_0 : List UInt8 := dkwX2_hasCell_0 ++ []
theorem dksX2_hasCell_0 : cX2_hasCell.data.toList.drop 0 = dktX2_hasCell_0 := by decide +kernel
theorem dX2_hasCell_0 : decode cX2_hasCell 0 = .ok (.iload_n 1, 1) := dk_27 (dk_at dksX2_hasCell_0 0 rfl rfl)
theorem dX2_hasCell_1 : decode cX2_hasCell 1 = .ok (.iconst 0, 1) := dk_3 (dk_at dksX2_hasCell_0 1 rfl rfl)
theorem dX2_hasCell_2 : decode cX2_hasCell 2 = .ok (.aload_n 0, 1) := dk_42 (dk_at dksX2_hasCell_0 2 rfl rfl)
theorem dX2_hasCell_3 : decode cX2_hasCell 3 = .ok (.invokevirtual 74, 3) := dk_182 0 74 (dk_at dksX2_hasCell_0 3 rfl rfl)
theorem dX2_hasCell_6 : decode cX2_hasCell 6 = .ok (.iconst 1, 1) := dk_4 (dk_at dksX2_hasCell_0 6 rfl rfl)
theorem dX2_hasCell_7 : decode cX2_hasCell 7 = .ok (.isub, 1) := dk_100 (dk_at dksX2_hasCell_0 7 rfl rfl)
theorem dX2_hasCell_8 : decode cX2_hasCell 8 = .ok (.invokestatic 75, 3) := dk_184 0 75 (dk_at dksX2_hasCell_0 8 rfl rfl)
theorem dX2_hasCell_11 : decode cX2_hasCell 11 = .ok (.ireturn, 1) := dk_172 (dk_at dksX2_hasCell_0 11 rfl rfl)
abbrev cX2_isFree : ByteArray := prog_2_method_8_code
def yX2_isFree : MethodName := ⟨RX2, "isFree", "(I)Z"⟩
def dkwX2_isFree_0 : List UInt8 := [42, 180, 0, 32, 27, 46, 4, 159, 0, 15, 42, 27, 182, 0, 79, 154, 0, 7, 4, 167, 0, 4, 3, 172]
abbrev dktX2_isFree_0 : List UInt8 := dkwX2_isFree_0 ++ []
theorem dksX2_isFree_0 : cX2_isFree.data.toList.drop 0 = dktX2_isFree_0 := by decide +kernel
theorem dX2_isFree_0 : decode cX2_isFree 0 = .ok (.aload_n 0, 1) := dk_42 (dk_at dksX2_isFree_0 0 rfl rfl)
theorem dX2_isFree_1 : decode cX2_isFree 1 = .ok (.getfield 32, 3) := dk_180 0 32 (dk_at dksX2_isFree_0 1 rfl rfl)
theorem dX2_isFree_4 : decode cX2_isFree 4 = .ok (.iload_n 1, 1) := dk_27 (dk_at dksX2_isFree_0 4 rfl rfl)
theorem dX2_isFree_5 : decode cX2_isFree 5 = .ok (.iaload, 1) := dk_46 (dk_at dksX2_isFree_0 5 rfl rfl)
theorem dX2_isFree_6 : decode cX2_isFree 6 = .ok (.iconst 1, 1) := dk_4 (dk_at dksX2_isFree_0 6 rfl rfl)
theorem dX2_isFree_7 : decode cX2_isFree 7 = .ok (.if_icmp .eq 15, 3) := dk_159 0 15 (dk_at dksX2_isFree_0 7 rfl rfl)
theorem dX2_isFree_10 : decode cX2_isFree 10 = .ok (.aload_n 0, 1) := dk_42 (dk_at dksX2_isFree_0 10 rfl rfl)
theorem dX2_isFree_11 : decode cX2_isFree 11 = .ok (.iload_n 1, 1) := dk_27 (dk_at dksX2_isFree_0 11 rfl rfl)
theorem dX2_isFree_12 : decode cX2_isFree 12 = .ok (.invokevirtual 79, 3) := dk_182 0 79 (dk_at dksX2_isFree_0 12 rfl rfl)
theorem dX2_isFree_15 : decode cX2_isFree 15 = .ok (.ifCond .ne 7, 3) := dk_154 0 7 (dk_at dksX2_isFree_0 15 rfl rfl)
theorem dX2_isFree_18 : decode cX2_isFree 18 = .ok (.iconst 1, 1) := dk_4 (dk_at dksX2_isFree_0 18 rfl rfl)
theorem dX2_isFree_19 : decode cX2_isFree 19 = .ok (.goto 4, 3) := dk_167 0 4 (dk_at dksX2_isFree_0 19 rfl rfl)
theorem dX2_isFree_22 : decode cX2_isFree 22 = .ok (.iconst 0, 1) := dk_3 (dk_at dksX2_isFree_0 22 rfl rfl)
theorem dX2_isFree_23 : decode cX2_isFree 23 = .ok (.ireturn, 1) := dk_172 (dk_at dksX2_isFree_0 23 rfl rfl)
abbrev cX2_isClosed : ByteArray := prog_2_method_7_code
def yX2_isClosed : MethodName := ⟨RX2, "isClosed", "(I)Z"⟩
def dkwX2_isClosed_0 : List UInt8 := [42, 180, 0, 67, 27, 123, 10, 127, 10, 148, 154, 0, 7, 4, 167, 0, 4, 3, 172]
abbrev dktX2_isClosed_0 : List UInt8 := dkwX2_isClosed_0 ++ []
theorem dksX2_isClosed_0 : cX2_isClosed.data.toList.drop 0 = dktX2_isClosed_0 := by decide +kernel
theorem dX2_isClosed_0 : decode cX2_isClosed 0 = .ok (.aload_n 0, 1) := dk_42 (dk_at dksX2_isClosed_0 0 rfl rfl)
theorem dX2_isClosed_1 : decode cX2_isClosed 1 = .ok (.getfield 67, 3) := dk_180 0 67 (dk_at dksX2_isClosed_0 1 rfl rfl)
theorem dX2_isClosed_4 : decode cX2_isClosed 4 = .ok (.iload_n 1, 1) := dk_27 (dk_at dksX2_isClosed_0 4 rfl rfl)
theorem dX2_isClosed_5 : decode cX2_isClosed 5 = .ok (.lshr, 1) := dk_123 (dk_at dksX2_isClosed_0 5 rfl rfl)
theorem dX2_isClosed_6 : decode cX2_isClosed 6 = .ok (.lconst 1, 1) := dk_10 (dk_at dksX2_isClosed_0 6 rfl rfl)
theorem dX2_isClosed_7 : decode cX2_isClosed 7 = .ok (.land, 1) := dk_127 (dk_at dksX2_isClosed_0 7 rfl rfl)
theorem dX2_isClosed_8 : decode cX2_isClosed 8 = .ok (.lconst 1, 1) := dk_10 (dk_at dksX2_isClosed_0 8 rfl rfl)
theorem dX2_isClosed_9 : decode cX2_isClosed 9 = .ok (.lcmp, 1) := dk_148 (dk_at dksX2_isClosed_0 9 rfl rfl)
theorem dX2_isClosed_10 : decode cX2_isClosed 10 = .ok (.ifCond .ne 7, 3) := dk_154 0 7 (dk_at dksX2_isClosed_0 10 rfl rfl)
theorem dX2_isClosed_13 : decode cX2_isClosed 13 = .ok (.iconst 1, 1) := dk_4 (dk_at dksX2_isClosed_0 13 rfl rfl)
theorem dX2_isClosed_14 : decode cX2_isClosed 14 = .ok (.goto 4, 3) := dk_167 0 4 (dk_at dksX2_isClosed_0 14 rfl rfl)
theorem dX2_isClosed_17 : decode cX2_isClosed 17 = .ok (.iconst 0, 1) := dk_3 (dk_at dksX2_isClosed_0 17 rfl rfl)
theorem dX2_isClosed_18 : decode cX2_isClosed 18 = .ok (.ireturn, 1) := dk_172 (dk_at dksX2_isClosed_0 18 rfl rfl)
abbrev cX2_refuseOccupied : ByteArray := prog_2_method_12_code
def yX2_refuseOccupied : MethodName := ⟨RX2, "refuseOccupied", "(II)V"⟩
def dkwX2_refuseOccupied_0 : List UInt8 := [42, 27, 28, 182, 0, 94, 62, 29, 2, 159, 0, 7, 4, 167, 0, 4, 3, 8, 29, 184, 0, 98, 177]
abbrev dktX2_refuseOccupied_0 : List UInt8 := dkwX2_refuseOccupied_0 ++ []
theorem dksX2_refuseOccupied_0 : cX2_refuseOccupied.data.toList.drop 0 = dktX2_refuseOccupied_0 := by decide +kernel
theorem dX2_refuseOccupied_0 : decode cX2_refuseOccupied 0 = .ok (.aload_n 0, 1) := dk_42 (dk_at dksX2_refuseOccupied_0 0 rfl rfl)
theorem dX2_refuseOccupied_1 : decode cX2_refuseOccupied 1 = .ok (.iload_n 1, 1) := dk_27 (dk_at dksX2_refuseOccupied_0 1 rfl rfl)
theorem dX2_refuseOccupied_2 : decode cX2_refuseOccupied 2 = .ok (.iload_n 2, 1) := dk_28 (dk_at dksX2_refuseOccupied_0 2 rfl rfl)
theorem dX2_refuseOccupied_3 : decode cX2_refuseOccupied 3 = .ok (.invokevirtual 94, 3) := dk_182 0 94 (dk_at dksX2_refuseOccupied_0 3 rfl rfl)
theorem dX2_refuseOccupied_6 : decode cX2_refuseOccupied 6 = .ok (.istore_n 3, 1) := dk_62 (dk_at dksX2_refuseOccupied_0 6 rfl rfl)
theorem dX2_refuseOccupied_7 : decode cX2_refuseOccupied 7 = .ok (.iload_n 3, 1) := dk_29 (dk_at dksX2_refuseOccupied_0 7 rfl rfl)
theorem dX2_refuseOccupied_8 : decode cX2_refuseOccupied 8 = .ok (.iconst (-1), 1) := dk_2 (dk_at dksX2_refuseOccupied_0 8 rfl rfl)
theorem dX2_refuseOccupied_9 : decode cX2_refuseOccupied 9 = .ok (.if_icmp .eq 7, 3) := dk_159 0 7 (dk_at dksX2_refuseOccupied_0 9 rfl rfl)
theorem dX2_refuseOccupied_12 : decode cX2_refuseOccupied 12 = .ok (.iconst 1, 1) := dk_4 (dk_at dksX2_refuseOccupied_0 12 rfl rfl)
theorem dX2_refuseOccupied_13 : decode cX2_refuseOccupied 13 = .ok (.goto 4, 3) := dk_167 0 4 (dk_at dksX2_refuseOccupied_0 13 rfl rfl)
theorem dX2_refuseOccupied_16 : decode cX2_refuseOccupied 16 = .ok (.iconst 0, 1) := dk_3 (dk_at dksX2_refuseOccupied_0 16 rfl rfl)
theorem dX2_refuseOccupied_17 : decode cX2_refuseOccupied 17 = .ok (.iconst 5, 1) := dk_8 (dk_at dksX2_refuseOccupied_0 17 rfl rfl)
theorem dX2_refuseOccupied_18 : decode cX2_refuseOccupied 18 = .ok (.iload_n 3, 1) := dk_29 (dk_at dksX2_refuseOccupied_0 18 rfl rfl)
theorem dX2_refuseOccupied_19 : decode cX2_refuseOccupied 19 = .ok (.invokestatic 98, 3) := dk_184 0 98 (dk_at dksX2_refuseOccupied_0 19 rfl rfl)
theorem dX2_refuseOccupied_22 : decode cX2_refuseOccupied 22 = .ok (.return_, 1) := dk_177 (dk_at dksX2_refuseOccupied_0 22 rfl rfl)
abbrev cX2_robotEver : ByteArray := prog_2_method_11_code
def yX2_robotEver : MethodName := ⟨RX2, "robotEver", "(II)I"⟩
def dkwX2_robotEver_2 : List UInt8 := [167, 255, 214, 29, 172]
abbrev dktX2_robotEver_2 : List UInt8 := dkwX2_robotEver_2 ++ []
def dkwX2_robotEver_1 : List UInt8 := [159, 0, 19, 29, 2, 159, 0, 9, 21, 5, 29, 162, 0, 8, 21, 5, 167, 0, 4, 29, 62, 132, 4, 255]
abbrev dktX2_robotEver_1 : List UInt8 := dkwX2_robotEver_1 ++ dktX2_robotEver_2
def dkwX2_robotEver_0 : List UInt8 := [2, 62, 16, 30, 54, 4, 21, 4, 155, 0, 43, 42, 27, 21, 4, 28, 182, 0, 90, 54, 5, 21, 5, 2]
abbrev dktX2_robotEver_0 : List UInt8 := dkwX2_robotEver_0 ++ dktX2_robotEver_1
theorem dksX2_robotEver_0 : cX2_robotEver.data.toList.drop 0 = dktX2_robotEver_0 := by decide +kernel
theorem dksX2_robotEver_1 : cX2_robotEver.data.toList.drop 24 = dktX2_robotEver_1 := dk_seg dksX2_robotEver_0 24 rfl rfl
theorem dksX2_robotEver_2 : cX2_robotEver.data.toList.drop 48 = dktX2_robotEver_2 := dk_seg dksX2_robotEver_1 24 rfl rfl
theorem dX2_robotEver_0 : decode cX2_robotEver 0 = .ok (.iconst (-1), 1) := dk_2 (dk_at dksX2_robotEver_0 0 rfl rfl)
theorem dX2_robotEver_1 : decode cX2_robotEver 1 = .ok (.istore_n 3, 1) := dk_62 (dk_at dksX2_robotEver_0 1 rfl rfl)
theorem dX2_robotEver_2 : decode cX2_robotEver 2 = .ok (.bipush 30, 2) := dk_16 30 (dk_at dksX2_robotEver_0 2 rfl rfl)
theorem dX2_robotEver_4 : decode cX2_robotEver 4 = .ok (.istore 4, 2) := dk_54 4 (dk_at dksX2_robotEver_0 4 rfl rfl)
theorem dX2_robotEver_6 : decode cX2_robotEver 6 = .ok (.iload 4, 2) := dk_21 4 (dk_at dksX2_robotEver_0 6 rfl rfl)
theorem dX2_robotEver_8 : decode cX2_robotEver 8 = .ok (.ifCond .lt 43, 3) := dk_155 0 43 (dk_at dksX2_robotEver_0 8 rfl rfl)
theorem dX2_robotEver_11 : decode cX2_robotEver 11 = .ok (.aload_n 0, 1) := dk_42 (dk_at dksX2_robotEver_0 11 rfl rfl)
theorem dX2_robotEver_12 : decode cX2_robotEver 12 = .ok (.iload_n 1, 1) := dk_27 (dk_at dksX2_robotEver_0 12 rfl rfl)
theorem dX2_robotEver_13 : decode cX2_robotEver 13 = .ok (.iload 4, 2) := dk_21 4 (dk_at dksX2_robotEver_0 13 rfl rfl)
theorem dX2_robotEver_15 : decode cX2_robotEver 15 = .ok (.iload_n 2, 1) := dk_28 (dk_at dksX2_robotEver_0 15 rfl rfl)
theorem dX2_robotEver_16 : decode cX2_robotEver 16 = .ok (.invokevirtual 90, 3) := dk_182 0 90 (dk_at dksX2_robotEver_0 16 rfl rfl)
theorem dX2_robotEver_19 : decode cX2_robotEver 19 = .ok (.istore 5, 2) := dk_54 5 (dk_at dksX2_robotEver_0 19 rfl rfl)
theorem dX2_robotEver_21 : decode cX2_robotEver 21 = .ok (.iload 5, 2) := dk_21 5 (dk_at dksX2_robotEver_0 21 rfl rfl)
theorem dX2_robotEver_23 : decode cX2_robotEver 23 = .ok (.iconst (-1), 1) := dk_2 (dk_at dksX2_robotEver_0 23 rfl rfl)
theorem dX2_robotEver_24 : decode cX2_robotEver 24 = .ok (.if_icmp .eq 19, 3) := dk_159 0 19 (dk_at dksX2_robotEver_1 0 rfl rfl)
theorem dX2_robotEver_27 : decode cX2_robotEver 27 = .ok (.iload_n 3, 1) := dk_29 (dk_at dksX2_robotEver_1 3 rfl rfl)
theorem dX2_robotEver_28 : decode cX2_robotEver 28 = .ok (.iconst (-1), 1) := dk_2 (dk_at dksX2_robotEver_1 4 rfl rfl)
theorem dX2_robotEver_29 : decode cX2_robotEver 29 = .ok (.if_icmp .eq 9, 3) := dk_159 0 9 (dk_at dksX2_robotEver_1 5 rfl rfl)
theorem dX2_robotEver_32 : decode cX2_robotEver 32 = .ok (.iload 5, 2) := dk_21 5 (dk_at dksX2_robotEver_1 8 rfl rfl)
theorem dX2_robotEver_34 : decode cX2_robotEver 34 = .ok (.iload_n 3, 1) := dk_29 (dk_at dksX2_robotEver_1 10 rfl rfl)
theorem dX2_robotEver_35 : decode cX2_robotEver 35 = .ok (.if_icmp .ge 8, 3) := dk_162 0 8 (dk_at dksX2_robotEver_1 11 rfl rfl)
theorem dX2_robotEver_38 : decode cX2_robotEver 38 = .ok (.iload 5, 2) := dk_21 5 (dk_at dksX2_robotEver_1 14 rfl rfl)
theorem dX2_robotEver_40 : decode cX2_robotEver 40 = .ok (.goto 4, 3) := dk_167 0 4 (dk_at dksX2_robotEver_1 16 rfl rfl)
theorem dX2_robotEver_43 : decode cX2_robotEver 43 = .ok (.iload_n 3, 1) := dk_29 (dk_at dksX2_robotEver_1 19 rfl rfl)
theorem dX2_robotEver_44 : decode cX2_robotEver 44 = .ok (.istore_n 3, 1) := dk_62 (dk_at dksX2_robotEver_1 20 rfl rfl)
theorem dX2_robotEver_45 : decode cX2_robotEver 45 = .ok (.iinc 4 (-1), 3) := dk_132 4 255 (dk_at dksX2_robotEver_1 21 rfl rfl)
theorem dX2_robotEver_48 : decode cX2_robotEver 48 = .ok (.goto (-42), 3) := dk_167 255 214 (dk_at dksX2_robotEver_2 0 rfl rfl)
theorem dX2_robotEver_51 : decode cX2_robotEver 51 = .ok (.iload_n 3, 1) := dk_29 (dk_at dksX2_robotEver_2 3 rfl rfl)
theorem dX2_robotEver_52 : decode cX2_robotEver 52 = .ok (.ireturn, 1) := dk_172 (dk_at dksX2_robotEver_2 4 rfl rfl)
abbrev cX2_robotAt : ByteArray := prog_2_method_10_code
def yX2_robotAt : MethodName := ⟨RX2, "robotAt", "(III)I"⟩
def dkwX2_robotAt_2 : List UInt8 := [132, 4, 1, 167, 255, 212, 2, 172]
abbrev dktX2_robotAt_2 : List UInt8 := dkwX2_robotAt_2 ++ []
def dkwX2_robotAt_1 : List UInt8 := [180, 0, 12, 21, 4, 182, 0, 42, 192, 0, 46, 28, 182, 0, 86, 27, 160, 0, 6, 21, 4, 172]
abbrev dktX2_robotAt_1 : List UInt8 := dkwX2_robotAt_1 ++ dktX2_robotAt_2
def dkwX2_robotAt_0 : List UInt8 := [3, 54, 4, 21, 4, 42, 180, 0, 12, 182, 0, 38, 162, 0, 38, 21, 4, 29, 159, 0, 26, 42]
abbrev dktX2_robotAt_0 : List UInt8 := dkwX2_robotAt_0 ++ dktX2_robotAt_1
theorem dksX2_robotAt_0 : cX2_robotAt.data.toList.drop 0 = dktX2_robotAt_0 := by decide +kernel
theorem dksX2_robotAt_1 : cX2_robotAt.data.toList.drop 22 = dktX2_robotAt_1 := dk_seg dksX2_robotAt_0 22 rfl rfl
theorem dksX2_robotAt_2 : cX2_robotAt.data.toList.drop 44 = dktX2_robotAt_2 := dk_seg dksX2_robotAt_1 22 rfl rfl
theorem dX2_robotAt_0 : decode cX2_robotAt 0 = .ok (.iconst 0, 1) := dk_3 (dk_at dksX2_robotAt_0 0 rfl rfl)
theorem dX2_robotAt_1 : decode cX2_robotAt 1 = .ok (.istore 4, 2) := dk_54 4 (dk_at dksX2_robotAt_0 1 rfl rfl)
theorem dX2_robotAt_3 : decode cX2_robotAt 3 = .ok (.iload 4, 2) := dk_21 4 (dk_at dksX2_robotAt_0 3 rfl rfl)
theorem dX2_robotAt_5 : decode cX2_robotAt 5 = .ok (.aload_n 0, 1) := dk_42 (dk_at dksX2_robotAt_0 5 rfl rfl)
theorem dX2_robotAt_6 : decode cX2_robotAt 6 = .ok (.getfield 12, 3) := dk_180 0 12 (dk_at dksX2_robotAt_0 6 rfl rfl)
theorem dX2_robotAt_9 : decode cX2_robotAt 9 = .ok (.invokevirtual 38, 3) := dk_182 0 38 (dk_at dksX2_robotAt_0 9 rfl rfl)
theorem dX2_robotAt_12 : decode cX2_robotAt 12 = .ok (.if_icmp .ge 38, 3) := dk_162 0 38 (dk_at dksX2_robotAt_0 12 rfl rfl)
theorem dX2_robotAt_15 : decode cX2_robotAt 15 = .ok (.iload 4, 2) := dk_21 4 (dk_at dksX2_robotAt_0 15 rfl rfl)
theorem dX2_robotAt_17 : decode cX2_robotAt 17 = .ok (.iload_n 3, 1) := dk_29 (dk_at dksX2_robotAt_0 17 rfl rfl)
theorem dX2_robotAt_18 : decode cX2_robotAt 18 = .ok (.if_icmp .eq 26, 3) := dk_159 0 26 (dk_at dksX2_robotAt_0 18 rfl rfl)
theorem dX2_robotAt_21 : decode cX2_robotAt 21 = .ok (.aload_n 0, 1) := dk_42 (dk_at dksX2_robotAt_0 21 rfl rfl)
theorem dX2_robotAt_22 : decode cX2_robotAt 22 = .ok (.getfield 12, 3) := dk_180 0 12 (dk_at dksX2_robotAt_1 0 rfl rfl)
theorem dX2_robotAt_25 : decode cX2_robotAt 25 = .ok (.iload 4, 2) := dk_21 4 (dk_at dksX2_robotAt_1 3 rfl rfl)
theorem dX2_robotAt_27 : decode cX2_robotAt 27 = .ok (.invokevirtual 42, 3) := dk_182 0 42 (dk_at dksX2_robotAt_1 5 rfl rfl)
theorem dX2_robotAt_30 : decode cX2_robotAt 30 = .ok (.checkcast 46, 3) := dk_192 0 46 (dk_at dksX2_robotAt_1 8 rfl rfl)
theorem dX2_robotAt_33 : decode cX2_robotAt 33 = .ok (.iload_n 2, 1) := dk_28 (dk_at dksX2_robotAt_1 11 rfl rfl)
theorem dX2_robotAt_34 : decode cX2_robotAt 34 = .ok (.invokevirtual 86, 3) := dk_182 0 86 (dk_at dksX2_robotAt_1 12 rfl rfl)
theorem dX2_robotAt_37 : decode cX2_robotAt 37 = .ok (.iload_n 1, 1) := dk_27 (dk_at dksX2_robotAt_1 15 rfl rfl)
theorem dX2_robotAt_38 : decode cX2_robotAt 38 = .ok (.if_icmp .ne 6, 3) := dk_160 0 6 (dk_at dksX2_robotAt_1 16 rfl rfl)
theorem dX2_robotAt_41 : decode cX2_robotAt 41 = .ok (.iload 4, 2) := dk_21 4 (dk_at dksX2_robotAt_1 19 rfl rfl)
theorem dX2_robotAt_43 : decode cX2_robotAt 43 = .ok (.ireturn, 1) := dk_172 (dk_at dksX2_robotAt_1 21 rfl rfl)
theorem dX2_robotAt_44 : decode cX2_robotAt 44 = .ok (.iinc 4 1, 3) := dk_132 4 1 (dk_at dksX2_robotAt_2 0 rfl rfl)
theorem dX2_robotAt_47 : decode cX2_robotAt 47 = .ok (.goto (-44), 3) := dk_167 255 212 (dk_at dksX2_robotAt_2 3 rfl rfl)
theorem dX2_robotAt_50 : decode cX2_robotAt 50 = .ok (.iconst (-1), 1) := dk_2 (dk_at dksX2_robotAt_2 6 rfl rfl)
theorem dX2_robotAt_51 : decode cX2_robotAt 51 = .ok (.ireturn, 1) := dk_172 (dk_at dksX2_robotAt_2 7 rfl rfl)
abbrev cX2_takeOff : ByteArray := prog_2_method_14_code
def yX2_takeOff : MethodName := ⟨RX2, "takeOff", "(I)I"⟩
def dkwX2_takeOff_3 : List UInt8 := [180, 0, 12, 182, 0, 38, 172]
abbrev dktX2_takeOff_3 : List UInt8 := dkwX2_takeOff_3 ++ []
def dkwX2_takeOff_2 : List UInt8 := [27, 182, 0, 42, 192, 0, 46, 180, 0, 117, 184, 0, 98, 42, 180, 0, 12, 27, 182, 0, 120, 87, 42]
abbrev dktX2_takeOff_2 : List UInt8 := dkwX2_takeOff_2 ++ dktX2_takeOff_3
def dkwX2_takeOff_1 : List UInt8 := [182, 0, 42, 192, 0, 46, 180, 0, 117, 2, 159, 0, 7, 4, 167, 0, 4, 3, 16, 7, 42, 180, 0, 12]
abbrev dktX2_takeOff_1 : List UInt8 := dkwX2_takeOff_1 ++ dktX2_takeOff_2
def dkwX2_takeOff_0 : List UInt8 := [42, 27, 182, 0, 114, 154, 0, 7, 4, 167, 0, 4, 3, 4, 184, 0, 105, 42, 180, 0, 12, 27]
abbrev dktX2_takeOff_0 : List UInt8 := dkwX2_takeOff_0 ++ dktX2_takeOff_1
theorem dksX2_takeOff_0 : cX2_takeOff.data.toList.drop 0 = dktX2_takeOff_0 := by decide +kernel
theorem dksX2_takeOff_1 : cX2_takeOff.data.toList.drop 22 = dktX2_takeOff_1 := dk_seg dksX2_takeOff_0 22 rfl rfl
theorem dksX2_takeOff_2 : cX2_takeOff.data.toList.drop 46 = dktX2_takeOff_2 := dk_seg dksX2_takeOff_1 24 rfl rfl
theorem dksX2_takeOff_3 : cX2_takeOff.data.toList.drop 69 = dktX2_takeOff_3 := dk_seg dksX2_takeOff_2 23 rfl rfl
theorem dX2_takeOff_0 : decode cX2_takeOff 0 = .ok (.aload_n 0, 1) := dk_42 (dk_at dksX2_takeOff_0 0 rfl rfl)
theorem dX2_takeOff_1 : decode cX2_takeOff 1 = .ok (.iload_n 1, 1) := dk_27 (dk_at dksX2_takeOff_0 1 rfl rfl)
theorem dX2_takeOff_2 : decode cX2_takeOff 2 = .ok (.invokevirtual 114, 3) := dk_182 0 114 (dk_at dksX2_takeOff_0 2 rfl rfl)
theorem dX2_takeOff_5 : decode cX2_takeOff 5 = .ok (.ifCond .ne 7, 3) := dk_154 0 7 (dk_at dksX2_takeOff_0 5 rfl rfl)
theorem dX2_takeOff_8 : decode cX2_takeOff 8 = .ok (.iconst 1, 1) := dk_4 (dk_at dksX2_takeOff_0 8 rfl rfl)
theorem dX2_takeOff_9 : decode cX2_takeOff 9 = .ok (.goto 4, 3) := dk_167 0 4 (dk_at dksX2_takeOff_0 9 rfl rfl)
theorem dX2_takeOff_12 : decode cX2_takeOff 12 = .ok (.iconst 0, 1) := dk_3 (dk_at dksX2_takeOff_0 12 rfl rfl)
theorem dX2_takeOff_13 : decode cX2_takeOff 13 = .ok (.iconst 1, 1) := dk_4 (dk_at dksX2_takeOff_0 13 rfl rfl)
theorem dX2_takeOff_14 : decode cX2_takeOff 14 = .ok (.invokestatic 105, 3) := dk_184 0 105 (dk_at dksX2_takeOff_0 14 rfl rfl)
theorem dX2_takeOff_17 : decode cX2_takeOff 17 = .ok (.aload_n 0, 1) := dk_42 (dk_at dksX2_takeOff_0 17 rfl rfl)
theorem dX2_takeOff_18 : decode cX2_takeOff 18 = .ok (.getfield 12, 3) := dk_180 0 12 (dk_at dksX2_takeOff_0 18 rfl rfl)
theorem dX2_takeOff_21 : decode cX2_takeOff 21 = .ok (.iload_n 1, 1) := dk_27 (dk_at dksX2_takeOff_0 21 rfl rfl)
theorem dX2_takeOff_22 : decode cX2_takeOff 22 = .ok (.invokevirtual 42, 3) := dk_182 0 42 (dk_at dksX2_takeOff_1 0 rfl rfl)
theorem dX2_takeOff_25 : decode cX2_takeOff 25 = .ok (.checkcast 46, 3) := dk_192 0 46 (dk_at dksX2_takeOff_1 3 rfl rfl)
theorem dX2_takeOff_28 : decode cX2_takeOff 28 = .ok (.getfield 117, 3) := dk_180 0 117 (dk_at dksX2_takeOff_1 6 rfl rfl)
theorem dX2_takeOff_31 : decode cX2_takeOff 31 = .ok (.iconst (-1), 1) := dk_2 (dk_at dksX2_takeOff_1 9 rfl rfl)
theorem dX2_takeOff_32 : decode cX2_takeOff 32 = .ok (.if_icmp .eq 7, 3) := dk_159 0 7 (dk_at dksX2_takeOff_1 10 rfl rfl)
theorem dX2_takeOff_35 : decode cX2_takeOff 35 = .ok (.iconst 1, 1) := dk_4 (dk_at dksX2_takeOff_1 13 rfl rfl)
theorem dX2_takeOff_36 : decode cX2_takeOff 36 = .ok (.goto 4, 3) := dk_167 0 4 (dk_at dksX2_takeOff_1 14 rfl rfl)
theorem dX2_takeOff_39 : decode cX2_takeOff 39 = .ok (.iconst 0, 1) := dk_3 (dk_at dksX2_takeOff_1 17 rfl rfl)
theorem dX2_takeOff_40 : decode cX2_takeOff 40 = .ok (.bipush 7, 2) := dk_16 7 (dk_at dksX2_takeOff_1 18 rfl rfl)
theorem dX2_takeOff_42 : decode cX2_takeOff 42 = .ok (.aload_n 0, 1) := dk_42 (dk_at dksX2_takeOff_1 20 rfl rfl)
theorem dX2_takeOff_43 : decode cX2_takeOff 43 = .ok (.getfield 12, 3) := dk_180 0 12 (dk_at dksX2_takeOff_1 21 rfl rfl)
theorem dX2_takeOff_46 : decode cX2_takeOff 46 = .ok (.iload_n 1, 1) := dk_27 (dk_at dksX2_takeOff_2 0 rfl rfl)
theorem dX2_takeOff_47 : decode cX2_takeOff 47 = .ok (.invokevirtual 42, 3) := dk_182 0 42 (dk_at dksX2_takeOff_2 1 rfl rfl)
theorem dX2_takeOff_50 : decode cX2_takeOff 50 = .ok (.checkcast 46, 3) := dk_192 0 46 (dk_at dksX2_takeOff_2 4 rfl rfl)
theorem dX2_takeOff_53 : decode cX2_takeOff 53 = .ok (.getfield 117, 3) := dk_180 0 117 (dk_at dksX2_takeOff_2 7 rfl rfl)
theorem dX2_takeOff_56 : decode cX2_takeOff 56 = .ok (.invokestatic 98, 3) := dk_184 0 98 (dk_at dksX2_takeOff_2 10 rfl rfl)
theorem dX2_takeOff_59 : decode cX2_takeOff 59 = .ok (.aload_n 0, 1) := dk_42 (dk_at dksX2_takeOff_2 13 rfl rfl)
theorem dX2_takeOff_60 : decode cX2_takeOff 60 = .ok (.getfield 12, 3) := dk_180 0 12 (dk_at dksX2_takeOff_2 14 rfl rfl)
theorem dX2_takeOff_63 : decode cX2_takeOff 63 = .ok (.iload_n 1, 1) := dk_27 (dk_at dksX2_takeOff_2 17 rfl rfl)
theorem dX2_takeOff_64 : decode cX2_takeOff 64 = .ok (.invokevirtual 120, 3) := dk_182 0 120 (dk_at dksX2_takeOff_2 18 rfl rfl)
theorem dX2_takeOff_67 : decode cX2_takeOff 67 = .ok (.pop, 1) := dk_87 (dk_at dksX2_takeOff_2 21 rfl rfl)
theorem dX2_takeOff_68 : decode cX2_takeOff 68 = .ok (.aload_n 0, 1) := dk_42 (dk_at dksX2_takeOff_2 22 rfl rfl)
theorem dX2_takeOff_69 : decode cX2_takeOff 69 = .ok (.getfield 12, 3) := dk_180 0 12 (dk_at dksX2_takeOff_3 0 rfl rfl)
theorem dX2_takeOff_72 : decode cX2_takeOff 72 = .ok (.invokevirtual 38, 3) := dk_182 0 38 (dk_at dksX2_takeOff_3 3 rfl rfl)
theorem dX2_takeOff_75 : decode cX2_takeOff 75 = .ok (.ireturn, 1) := dk_172 (dk_at dksX2_takeOff_3 6 rfl rfl)
abbrev cX2_hasRobot : ByteArray := prog_2_method_5_code
def yX2_hasRobot : MethodName := ⟨RX2, "hasRobot", "(I)Z"⟩
def dkwX2_hasRobot_0 : List UInt8 := [27, 3, 42, 180, 0, 12, 182, 0, 38, 4, 100, 184, 0, 75, 172]
abbrev dktX2_hasRobot_0 : List UInt8 := dkwX2_hasRobot_0 ++ []
theorem dksX2_hasRobot_0 : cX2_hasRobot.data.toList.drop 0 = dktX2_hasRobot_0 := by decide +kernel
theorem dX2_hasRobot_0 : decode cX2_hasRobot 0 = .ok (.iload_n 1, 1) := dk_27 (dk_at dksX2_hasRobot_0 0 rfl rfl)
theorem dX2_hasRobot_1 : decode cX2_hasRobot 1 = .ok (.iconst 0, 1) := dk_3 (dk_at dksX2_hasRobot_0 1 rfl rfl)
theorem dX2_hasRobot_2 : decode cX2_hasRobot 2 = .ok (.aload_n 0, 1) := dk_42 (dk_at dksX2_hasRobot_0 2 rfl rfl)
theorem dX2_hasRobot_3 : decode cX2_hasRobot 3 = .ok (.getfield 12, 3) := dk_180 0 12 (dk_at dksX2_hasRobot_0 3 rfl rfl)
theorem dX2_hasRobot_6 : decode cX2_hasRobot 6 = .ok (.invokevirtual 38, 3) := dk_182 0 38 (dk_at dksX2_hasRobot_0 6 rfl rfl)
theorem dX2_hasRobot_9 : decode cX2_hasRobot 9 = .ok (.iconst 1, 1) := dk_4 (dk_at dksX2_hasRobot_0 9 rfl rfl)
theorem dX2_hasRobot_10 : decode cX2_hasRobot 10 = .ok (.isub, 1) := dk_100 (dk_at dksX2_hasRobot_0 10 rfl rfl)
theorem dX2_hasRobot_11 : decode cX2_hasRobot 11 = .ok (.invokestatic 75, 3) := dk_184 0 75 (dk_at dksX2_hasRobot_0 11 rfl rfl)
theorem dX2_hasRobot_14 : decode cX2_hasRobot 14 = .ok (.ireturn, 1) := dk_172 (dk_at dksX2_hasRobot_0 14 rfl rfl)
abbrev cX2_order : ByteArray := prog_2_method_15_code
def yX2_order : MethodName := ⟨RX2, "order", "(I[I)I"⟩
def dkwX2_order_6 : List UInt8 := [182, 0, 38, 4, 100, 172]
abbrev dktX2_order_6 : List UInt8 := dkwX2_order_6 ++ []
def dkwX2_order_5 : List UInt8 := [187, 0, 56, 89, 42, 180, 0, 18, 182, 0, 38, 27, 44, 183, 0, 123, 182, 0, 52, 87, 42, 180, 0, 18]
abbrev dktX2_order_5 : List UInt8 := dkwX2_order_5 ++ dktX2_order_6
def dkwX2_order_4 : List UInt8 := [167, 0, 4, 3, 16, 12, 44, 29, 46, 184, 0, 98, 132, 3, 1, 167, 255, 223, 42, 180, 0, 18]
abbrev dktX2_order_4 : List UInt8 := dkwX2_order_4 ++ dktX2_order_5
def dkwX2_order_3 : List UInt8 := [184, 0, 105, 3, 62, 29, 44, 190, 162, 0, 33, 42, 180, 0, 32, 44, 29, 46, 46, 153, 0, 7, 4]
abbrev dktX2_order_3 : List UInt8 := dkwX2_order_3 ++ dktX2_order_4
def dkwX2_order_2 : List UInt8 := [3, 5, 184, 0, 105, 42, 180, 0, 18, 182, 0, 38, 16, 10, 160, 0, 7, 4, 167, 0, 4, 3, 6]
abbrev dktX2_order_2 : List UInt8 := dkwX2_order_2 ++ dktX2_order_3
def dkwX2_order_1 : List UInt8 := [184, 0, 105, 132, 3, 1, 167, 255, 228, 27, 3, 17, 3, 231, 184, 0, 75, 154, 0, 7, 4, 167, 0, 4]
abbrev dktX2_order_1 : List UInt8 := dkwX2_order_1 ++ dktX2_order_2
def dkwX2_order_0 : List UInt8 := [3, 62, 29, 44, 190, 162, 0, 28, 42, 44, 29, 46, 182, 0, 102, 154, 0, 7, 4, 167, 0, 4, 3, 4]
abbrev dktX2_order_0 : List UInt8 := dkwX2_order_0 ++ dktX2_order_1
theorem dksX2_order_0 : cX2_order.data.toList.drop 0 = dktX2_order_0 := by decide +kernel
theorem dksX2_order_1 : cX2_order.data.toList.drop 24 = dktX2_order_1 := dk_seg dksX2_order_0 24 rfl rfl
theorem dksX2_order_2 : cX2_order.data.toList.drop 48 = dktX2_order_2 := dk_seg dksX2_order_1 24 rfl rfl
theorem dksX2_order_3 : cX2_order.data.toList.drop 71 = dktX2_order_3 := dk_seg dksX2_order_2 23 rfl rfl
theorem dksX2_order_4 : cX2_order.data.toList.drop 94 = dktX2_order_4 := dk_seg dksX2_order_3 23 rfl rfl
theorem dksX2_order_5 : cX2_order.data.toList.drop 116 = dktX2_order_5 := dk_seg dksX2_order_4 22 rfl rfl
theorem dksX2_order_6 : cX2_order.data.toList.drop 140 = dktX2_order_6 := dk_seg dksX2_order_5 24 rfl rfl
theorem dX2_order_0 : decode cX2_order 0 = .ok (.iconst 0, 1) := dk_3 (dk_at dksX2_order_0 0 rfl rfl)
theorem dX2_order_1 : decode cX2_order 1 = .ok (.istore_n 3, 1) := dk_62 (dk_at dksX2_order_0 1 rfl rfl)
theorem dX2_order_2 : decode cX2_order 2 = .ok (.iload_n 3, 1) := dk_29 (dk_at dksX2_order_0 2 rfl rfl)
theorem dX2_order_3 : decode cX2_order 3 = .ok (.aload_n 2, 1) := dk_44 (dk_at dksX2_order_0 3 rfl rfl)
theorem dX2_order_4 : decode cX2_order 4 = .ok (.arraylength, 1) := dk_190 (dk_at dksX2_order_0 4 rfl rfl)
theorem dX2_order_5 : decode cX2_order 5 = .ok (.if_icmp .ge 28, 3) := dk_162 0 28 (dk_at dksX2_order_0 5 rfl rfl)
theorem dX2_order_8 : decode cX2_order 8 = .ok (.aload_n 0, 1) := dk_42 (dk_at dksX2_order_0 8 rfl rfl)
theorem dX2_order_9 : decode cX2_order 9 = .ok (.aload_n 2, 1) := dk_44 (dk_at dksX2_order_0 9 rfl rfl)
theorem dX2_order_10 : decode cX2_order 10 = .ok (.iload_n 3, 1) := dk_29 (dk_at dksX2_order_0 10 rfl rfl)
theorem dX2_order_11 : decode cX2_order 11 = .ok (.iaload, 1) := dk_46 (dk_at dksX2_order_0 11 rfl rfl)
theorem dX2_order_12 : decode cX2_order 12 = .ok (.invokevirtual 102, 3) := dk_182 0 102 (dk_at dksX2_order_0 12 rfl rfl)
theorem dX2_order_15 : decode cX2_order 15 = .ok (.ifCond .ne 7, 3) := dk_154 0 7 (dk_at dksX2_order_0 15 rfl rfl)
theorem dX2_order_18 : decode cX2_order 18 = .ok (.iconst 1, 1) := dk_4 (dk_at dksX2_order_0 18 rfl rfl)
theorem dX2_order_19 : decode cX2_order 19 = .ok (.goto 4, 3) := dk_167 0 4 (dk_at dksX2_order_0 19 rfl rfl)
theorem dX2_order_22 : decode cX2_order 22 = .ok (.iconst 0, 1) := dk_3 (dk_at dksX2_order_0 22 rfl rfl)
theorem dX2_order_23 : decode cX2_order 23 = .ok (.iconst 1, 1) := dk_4 (dk_at dksX2_order_0 23 rfl rfl)
theorem dX2_order_24 : decode cX2_order 24 = .ok (.invokestatic 105, 3) := dk_184 0 105 (dk_at dksX2_order_1 0 rfl rfl)
theorem dX2_order_27 : decode cX2_order 27 = .ok (.iinc 3 1, 3) := dk_132 3 1 (dk_at dksX2_order_1 3 rfl rfl)
theorem dX2_order_30 : decode cX2_order 30 = .ok (.goto (-28), 3) := dk_167 255 228 (dk_at dksX2_order_1 6 rfl rfl)
theorem dX2_order_33 : decode cX2_order 33 = .ok (.iload_n 1, 1) := dk_27 (dk_at dksX2_order_1 9 rfl rfl)
theorem dX2_order_34 : decode cX2_order 34 = .ok (.iconst 0, 1) := dk_3 (dk_at dksX2_order_1 10 rfl rfl)
theorem dX2_order_35 : decode cX2_order 35 = .ok (.sipush 999, 3) := dk_17 3 231 (dk_at dksX2_order_1 11 rfl rfl)
theorem dX2_order_38 : decode cX2_order 38 = .ok (.invokestatic 75, 3) := dk_184 0 75 (dk_at dksX2_order_1 14 rfl rfl)
theorem dX2_order_41 : decode cX2_order 41 = .ok (.ifCond .ne 7, 3) := dk_154 0 7 (dk_at dksX2_order_1 17 rfl rfl)
theorem dX2_order_44 : decode cX2_order 44 = .ok (.iconst 1, 1) := dk_4 (dk_at dksX2_order_1 20 rfl rfl)
theorem dX2_order_45 : decode cX2_order 45 = .ok (.goto 4, 3) := dk_167 0 4 (dk_at dksX2_order_1 21 rfl rfl)
theorem dX2_order_48 : decode cX2_order 48 = .ok (.iconst 0, 1) := dk_3 (dk_at dksX2_order_2 0 rfl rfl)
theorem dX2_order_49 : decode cX2_order 49 = .ok (.iconst 2, 1) := dk_5 (dk_at dksX2_order_2 1 rfl rfl)
theorem dX2_order_50 : decode cX2_order 50 = .ok (.invokestatic 105, 3) := dk_184 0 105 (dk_at dksX2_order_2 2 rfl rfl)
theorem dX2_order_53 : decode cX2_order 53 = .ok (.aload_n 0, 1) := dk_42 (dk_at dksX2_order_2 5 rfl rfl)
theorem dX2_order_54 : decode cX2_order 54 = .ok (.getfield 18, 3) := dk_180 0 18 (dk_at dksX2_order_2 6 rfl rfl)
theorem dX2_order_57 : decode cX2_order 57 = .ok (.invokevirtual 38, 3) := dk_182 0 38 (dk_at dksX2_order_2 9 rfl rfl)
theorem dX2_order_60 : decode cX2_order 60 = .ok (.bipush 10, 2) := dk_16 10 (dk_at dksX2_order_2 12 rfl rfl)
theorem dX2_order_62 : decode cX2_order 62 = .ok (.if_icmp .ne 7, 3) := dk_160 0 7 (dk_at dksX2_order_2 14 rfl rfl)
theorem dX2_order_65 : decode cX2_order 65 = .ok (.iconst 1, 1) := dk_4 (dk_at dksX2_order_2 17 rfl rfl)
theorem dX2_order_66 : decode cX2_order 66 = .ok (.goto 4, 3) := dk_167 0 4 (dk_at dksX2_order_2 18 rfl rfl)
theorem dX2_order_69 : decode cX2_order 69 = .ok (.iconst 0, 1) := dk_3 (dk_at dksX2_order_2 21 rfl rfl)
theorem dX2_order_70 : decode cX2_order 70 = .ok (.iconst 3, 1) := dk_6 (dk_at dksX2_order_2 22 rfl rfl)
theorem dX2_order_71 : decode cX2_order 71 = .ok (.invokestatic 105, 3) := dk_184 0 105 (dk_at dksX2_order_3 0 rfl rfl)
theorem dX2_order_74 : decode cX2_order 74 = .ok (.iconst 0, 1) := dk_3 (dk_at dksX2_order_3 3 rfl rfl)
theorem dX2_order_75 : decode cX2_order 75 = .ok (.istore_n 3, 1) := dk_62 (dk_at dksX2_order_3 4 rfl rfl)
theorem dX2_order_76 : decode cX2_order 76 = .ok (.iload_n 3, 1) := dk_29 (dk_at dksX2_order_3 5 rfl rfl)
theorem dX2_order_77 : decode cX2_order 77 = .ok (.aload_n 2, 1) := dk_44 (dk_at dksX2_order_3 6 rfl rfl)
theorem dX2_order_78 : decode cX2_order 78 = .ok (.arraylength, 1) := dk_190 (dk_at dksX2_order_3 7 rfl rfl)
theorem dX2_order_79 : decode cX2_order 79 = .ok (.if_icmp .ge 33, 3) := dk_162 0 33 (dk_at dksX2_order_3 8 rfl rfl)
theorem dX2_order_82 : decode cX2_order 82 = .ok (.aload_n 0, 1) := dk_42 (dk_at dksX2_order_3 11 rfl rfl)
theorem dX2_order_83 : decode cX2_order 83 = .ok (.getfield 32, 3) := dk_180 0 32 (dk_at dksX2_order_3 12 rfl rfl)
theorem dX2_order_86 : decode cX2_order 86 = .ok (.aload_n 2, 1) := dk_44 (dk_at dksX2_order_3 15 rfl rfl)
theorem dX2_order_87 : decode cX2_order 87 = .ok (.iload_n 3, 1) := dk_29 (dk_at dksX2_order_3 16 rfl rfl)
theorem dX2_order_88 : decode cX2_order 88 = .ok (.iaload, 1) := dk_46 (dk_at dksX2_order_3 17 rfl rfl)
theorem dX2_order_89 : decode cX2_order 89 = .ok (.iaload, 1) := dk_46 (dk_at dksX2_order_3 18 rfl rfl)
theorem dX2_order_90 : decode cX2_order 90 = .ok (.ifCond .eq 7, 3) := dk_153 0 7 (dk_at dksX2_order_3 19 rfl rfl)
theorem dX2_order_93 : decode cX2_order 93 = .ok (.iconst 1, 1) := dk_4 (dk_at dksX2_order_3 22 rfl rfl)
theorem dX2_order_94 : decode cX2_order 94 = .ok (.goto 4, 3) := dk_167 0 4 (dk_at dksX2_order_4 0 rfl rfl)
theorem dX2_order_97 : decode cX2_order 97 = .ok (.iconst 0, 1) := dk_3 (dk_at dksX2_order_4 3 rfl rfl)
theorem dX2_order_98 : decode cX2_order 98 = .ok (.bipush 12, 2) := dk_16 12 (dk_at dksX2_order_4 4 rfl rfl)
theorem dX2_order_100 : decode cX2_order 100 = .ok (.aload_n 2, 1) := dk_44 (dk_at dksX2_order_4 6 rfl rfl)
theorem dX2_order_101 : decode cX2_order 101 = .ok (.iload_n 3, 1) := dk_29 (dk_at dksX2_order_4 7 rfl rfl)
theorem dX2_order_102 : decode cX2_order 102 = .ok (.iaload, 1) := dk_46 (dk_at dksX2_order_4 8 rfl rfl)
theorem dX2_order_103 : decode cX2_order 103 = .ok (.invokestatic 98, 3) := dk_184 0 98 (dk_at dksX2_order_4 9 rfl rfl)
theorem dX2_order_106 : decode cX2_order 106 = .ok (.iinc 3 1, 3) := dk_132 3 1 (dk_at dksX2_order_4 12 rfl rfl)
theorem dX2_order_109 : decode cX2_order 109 = .ok (.goto (-33), 3) := dk_167 255 223 (dk_at dksX2_order_4 15 rfl rfl)
theorem dX2_order_112 : decode cX2_order 112 = .ok (.aload_n 0, 1) := dk_42 (dk_at dksX2_order_4 18 rfl rfl)
theorem dX2_order_113 : decode cX2_order 113 = .ok (.getfield 18, 3) := dk_180 0 18 (dk_at dksX2_order_4 19 rfl rfl)
theorem dX2_order_116 : decode cX2_order 116 = .ok (.new 56, 3) := dk_187 0 56 (dk_at dksX2_order_5 0 rfl rfl)
theorem dX2_order_119 : decode cX2_order 119 = .ok (.dup, 1) := dk_89 (dk_at dksX2_order_5 3 rfl rfl)
theorem dX2_order_120 : decode cX2_order 120 = .ok (.aload_n 0, 1) := dk_42 (dk_at dksX2_order_5 4 rfl rfl)
theorem dX2_order_121 : decode cX2_order 121 = .ok (.getfield 18, 3) := dk_180 0 18 (dk_at dksX2_order_5 5 rfl rfl)
theorem dX2_order_124 : decode cX2_order 124 = .ok (.invokevirtual 38, 3) := dk_182 0 38 (dk_at dksX2_order_5 8 rfl rfl)
theorem dX2_order_127 : decode cX2_order 127 = .ok (.iload_n 1, 1) := dk_27 (dk_at dksX2_order_5 11 rfl rfl)
theorem dX2_order_128 : decode cX2_order 128 = .ok (.aload_n 2, 1) := dk_44 (dk_at dksX2_order_5 12 rfl rfl)
theorem dX2_order_129 : decode cX2_order 129 = .ok (.invokespecial 123, 3) := dk_183 0 123 (dk_at dksX2_order_5 13 rfl rfl)
theorem dX2_order_132 : decode cX2_order 132 = .ok (.invokevirtual 52, 3) := dk_182 0 52 (dk_at dksX2_order_5 16 rfl rfl)
theorem dX2_order_135 : decode cX2_order 135 = .ok (.pop, 1) := dk_87 (dk_at dksX2_order_5 19 rfl rfl)
theorem dX2_order_136 : decode cX2_order 136 = .ok (.aload_n 0, 1) := dk_42 (dk_at dksX2_order_5 20 rfl rfl)
theorem dX2_order_137 : decode cX2_order 137 = .ok (.getfield 18, 3) := dk_180 0 18 (dk_at dksX2_order_5 21 rfl rfl)
theorem dX2_order_140 : decode cX2_order 140 = .ok (.invokevirtual 38, 3) := dk_182 0 38 (dk_at dksX2_order_6 0 rfl rfl)
theorem dX2_order_143 : decode cX2_order 143 = .ok (.iconst 1, 1) := dk_4 (dk_at dksX2_order_6 3 rfl rfl)
theorem dX2_order_144 : decode cX2_order 144 = .ok (.isub, 1) := dk_100 (dk_at dksX2_order_6 4 rfl rfl)
theorem dX2_order_145 : decode cX2_order 145 = .ok (.ireturn, 1) := dk_172 (dk_at dksX2_order_6 5 rfl rfl)
abbrev cX2_assign : ByteArray := prog_2_method_16_code
def yX2_assign : MethodName := ⟨RX2, "assign", "(II)I"⟩
def dkwX2_assign_5 : List UInt8 := [45, 4, 181, 0, 127, 45, 182, 0, 130, 172]
abbrev dktX2_assign_5 : List UInt8 := dkwX2_assign_5 ++ []
def dkwX2_assign_4 : List UInt8 := [16, 8, 45, 180, 0, 127, 184, 0, 98, 42, 180, 0, 12, 27, 182, 0, 42, 192, 0, 46, 28, 181, 0, 117]
abbrev dktX2_assign_4 : List UInt8 := dkwX2_assign_4 ++ dktX2_assign_5
def dkwX2_assign_3 : List UInt8 := [180, 0, 18, 28, 182, 0, 42, 192, 0, 56, 78, 45, 180, 0, 127, 153, 0, 7, 4, 167, 0, 4, 3]
abbrev dktX2_assign_3 : List UInt8 := dkwX2_assign_3 ++ dktX2_assign_4
def dkwX2_assign_2 : List UInt8 := [167, 0, 4, 3, 16, 7, 42, 180, 0, 12, 27, 182, 0, 42, 192, 0, 46, 180, 0, 117, 184, 0, 98, 42]
abbrev dktX2_assign_2 : List UInt8 := dkwX2_assign_2 ++ dktX2_assign_3
def dkwX2_assign_1 : List UInt8 := [184, 0, 105, 42, 180, 0, 12, 27, 182, 0, 42, 192, 0, 46, 180, 0, 117, 2, 159, 0, 7, 4]
abbrev dktX2_assign_1 : List UInt8 := dkwX2_assign_1 ++ dktX2_assign_2
def dkwX2_assign_0 : List UInt8 := [42, 27, 182, 0, 114, 153, 0, 11, 42, 28, 182, 0, 124, 154, 0, 7, 4, 167, 0, 4, 3, 4]
abbrev dktX2_assign_0 : List UInt8 := dkwX2_assign_0 ++ dktX2_assign_1
theorem dksX2_assign_0 : cX2_assign.data.toList.drop 0 = dktX2_assign_0 := by decide +kernel
theorem dksX2_assign_1 : cX2_assign.data.toList.drop 22 = dktX2_assign_1 := dk_seg dksX2_assign_0 22 rfl rfl
theorem dksX2_assign_2 : cX2_assign.data.toList.drop 44 = dktX2_assign_2 := dk_seg dksX2_assign_1 22 rfl rfl
theorem dksX2_assign_3 : cX2_assign.data.toList.drop 68 = dktX2_assign_3 := dk_seg dksX2_assign_2 24 rfl rfl
theorem dksX2_assign_4 : cX2_assign.data.toList.drop 91 = dktX2_assign_4 := dk_seg dksX2_assign_3 23 rfl rfl
theorem dksX2_assign_5 : cX2_assign.data.toList.drop 115 = dktX2_assign_5 := dk_seg dksX2_assign_4 24 rfl rfl
theorem dX2_assign_0 : decode cX2_assign 0 = .ok (.aload_n 0, 1) := dk_42 (dk_at dksX2_assign_0 0 rfl rfl)
theorem dX2_assign_1 : decode cX2_assign 1 = .ok (.iload_n 1, 1) := dk_27 (dk_at dksX2_assign_0 1 rfl rfl)
theorem dX2_assign_2 : decode cX2_assign 2 = .ok (.invokevirtual 114, 3) := dk_182 0 114 (dk_at dksX2_assign_0 2 rfl rfl)
theorem dX2_assign_5 : decode cX2_assign 5 = .ok (.ifCond .eq 11, 3) := dk_153 0 11 (dk_at dksX2_assign_0 5 rfl rfl)
theorem dX2_assign_8 : decode cX2_assign 8 = .ok (.aload_n 0, 1) := dk_42 (dk_at dksX2_assign_0 8 rfl rfl)
theorem dX2_assign_9 : decode cX2_assign 9 = .ok (.iload_n 2, 1) := dk_28 (dk_at dksX2_assign_0 9 rfl rfl)
theorem dX2_assign_10 : decode cX2_assign 10 = .ok (.invokevirtual 124, 3) := dk_182 0 124 (dk_at dksX2_assign_0 10 rfl rfl)
theorem dX2_assign_13 : decode cX2_assign 13 = .ok (.ifCond .ne 7, 3) := dk_154 0 7 (dk_at dksX2_assign_0 13 rfl rfl)
theorem dX2_assign_16 : decode cX2_assign 16 = .ok (.iconst 1, 1) := dk_4 (dk_at dksX2_assign_0 16 rfl rfl)
theorem dX2_assign_17 : decode cX2_assign 17 = .ok (.goto 4, 3) := dk_167 0 4 (dk_at dksX2_assign_0 17 rfl rfl)
theorem dX2_assign_20 : decode cX2_assign 20 = .ok (.iconst 0, 1) := dk_3 (dk_at dksX2_assign_0 20 rfl rfl)
theorem dX2_assign_21 : decode cX2_assign 21 = .ok (.iconst 1, 1) := dk_4 (dk_at dksX2_assign_0 21 rfl rfl)
theorem dX2_assign_22 : decode cX2_assign 22 = .ok (.invokestatic 105, 3) := dk_184 0 105 (dk_at dksX2_assign_1 0 rfl rfl)
theorem dX2_assign_25 : decode cX2_assign 25 = .ok (.aload_n 0, 1) := dk_42 (dk_at dksX2_assign_1 3 rfl rfl)
theorem dX2_assign_26 : decode cX2_assign 26 = .ok (.getfield 12, 3) := dk_180 0 12 (dk_at dksX2_assign_1 4 rfl rfl)
theorem dX2_assign_29 : decode cX2_assign 29 = .ok (.iload_n 1, 1) := dk_27 (dk_at dksX2_assign_1 7 rfl rfl)
theorem dX2_assign_30 : decode cX2_assign 30 = .ok (.invokevirtual 42, 3) := dk_182 0 42 (dk_at dksX2_assign_1 8 rfl rfl)
theorem dX2_assign_33 : decode cX2_assign 33 = .ok (.checkcast 46, 3) := dk_192 0 46 (dk_at dksX2_assign_1 11 rfl rfl)
theorem dX2_assign_36 : decode cX2_assign 36 = .ok (.getfield 117, 3) := dk_180 0 117 (dk_at dksX2_assign_1 14 rfl rfl)
theorem dX2_assign_39 : decode cX2_assign 39 = .ok (.iconst (-1), 1) := dk_2 (dk_at dksX2_assign_1 17 rfl rfl)
theorem dX2_assign_40 : decode cX2_assign 40 = .ok (.if_icmp .eq 7, 3) := dk_159 0 7 (dk_at dksX2_assign_1 18 rfl rfl)
theorem dX2_assign_43 : decode cX2_assign 43 = .ok (.iconst 1, 1) := dk_4 (dk_at dksX2_assign_1 21 rfl rfl)
theorem dX2_assign_44 : decode cX2_assign 44 = .ok (.goto 4, 3) := dk_167 0 4 (dk_at dksX2_assign_2 0 rfl rfl)
theorem dX2_assign_47 : decode cX2_assign 47 = .ok (.iconst 0, 1) := dk_3 (dk_at dksX2_assign_2 3 rfl rfl)
theorem dX2_assign_48 : decode cX2_assign 48 = .ok (.bipush 7, 2) := dk_16 7 (dk_at dksX2_assign_2 4 rfl rfl)
theorem dX2_assign_50 : decode cX2_assign 50 = .ok (.aload_n 0, 1) := dk_42 (dk_at dksX2_assign_2 6 rfl rfl)
theorem dX2_assign_51 : decode cX2_assign 51 = .ok (.getfield 12, 3) := dk_180 0 12 (dk_at dksX2_assign_2 7 rfl rfl)
theorem dX2_assign_54 : decode cX2_assign 54 = .ok (.iload_n 1, 1) := dk_27 (dk_at dksX2_assign_2 10 rfl rfl)
theorem dX2_assign_55 : decode cX2_assign 55 = .ok (.invokevirtual 42, 3) := dk_182 0 42 (dk_at dksX2_assign_2 11 rfl rfl)
theorem dX2_assign_58 : decode cX2_assign 58 = .ok (.checkcast 46, 3) := dk_192 0 46 (dk_at dksX2_assign_2 14 rfl rfl)
theorem dX2_assign_61 : decode cX2_assign 61 = .ok (.getfield 117, 3) := dk_180 0 117 (dk_at dksX2_assign_2 17 rfl rfl)
theorem dX2_assign_64 : decode cX2_assign 64 = .ok (.invokestatic 98, 3) := dk_184 0 98 (dk_at dksX2_assign_2 20 rfl rfl)
theorem dX2_assign_67 : decode cX2_assign 67 = .ok (.aload_n 0, 1) := dk_42 (dk_at dksX2_assign_2 23 rfl rfl)
theorem dX2_assign_68 : decode cX2_assign 68 = .ok (.getfield 18, 3) := dk_180 0 18 (dk_at dksX2_assign_3 0 rfl rfl)
theorem dX2_assign_71 : decode cX2_assign 71 = .ok (.iload_n 2, 1) := dk_28 (dk_at dksX2_assign_3 3 rfl rfl)
theorem dX2_assign_72 : decode cX2_assign 72 = .ok (.invokevirtual 42, 3) := dk_182 0 42 (dk_at dksX2_assign_3 4 rfl rfl)
theorem dX2_assign_75 : decode cX2_assign 75 = .ok (.checkcast 56, 3) := dk_192 0 56 (dk_at dksX2_assign_3 7 rfl rfl)
theorem dX2_assign_78 : decode cX2_assign 78 = .ok (.astore_n 3, 1) := dk_78 (dk_at dksX2_assign_3 10 rfl rfl)
theorem dX2_assign_79 : decode cX2_assign 79 = .ok (.aload_n 3, 1) := dk_45 (dk_at dksX2_assign_3 11 rfl rfl)
theorem dX2_assign_80 : decode cX2_assign 80 = .ok (.getfield 127, 3) := dk_180 0 127 (dk_at dksX2_assign_3 12 rfl rfl)
theorem dX2_assign_83 : decode cX2_assign 83 = .ok (.ifCond .eq 7, 3) := dk_153 0 7 (dk_at dksX2_assign_3 15 rfl rfl)
theorem dX2_assign_86 : decode cX2_assign 86 = .ok (.iconst 1, 1) := dk_4 (dk_at dksX2_assign_3 18 rfl rfl)
theorem dX2_assign_87 : decode cX2_assign 87 = .ok (.goto 4, 3) := dk_167 0 4 (dk_at dksX2_assign_3 19 rfl rfl)
theorem dX2_assign_90 : decode cX2_assign 90 = .ok (.iconst 0, 1) := dk_3 (dk_at dksX2_assign_3 22 rfl rfl)
theorem dX2_assign_91 : decode cX2_assign 91 = .ok (.bipush 8, 2) := dk_16 8 (dk_at dksX2_assign_4 0 rfl rfl)
theorem dX2_assign_93 : decode cX2_assign 93 = .ok (.aload_n 3, 1) := dk_45 (dk_at dksX2_assign_4 2 rfl rfl)
theorem dX2_assign_94 : decode cX2_assign 94 = .ok (.getfield 127, 3) := dk_180 0 127 (dk_at dksX2_assign_4 3 rfl rfl)
theorem dX2_assign_97 : decode cX2_assign 97 = .ok (.invokestatic 98, 3) := dk_184 0 98 (dk_at dksX2_assign_4 6 rfl rfl)
theorem dX2_assign_100 : decode cX2_assign 100 = .ok (.aload_n 0, 1) := dk_42 (dk_at dksX2_assign_4 9 rfl rfl)
theorem dX2_assign_101 : decode cX2_assign 101 = .ok (.getfield 12, 3) := dk_180 0 12 (dk_at dksX2_assign_4 10 rfl rfl)
theorem dX2_assign_104 : decode cX2_assign 104 = .ok (.iload_n 1, 1) := dk_27 (dk_at dksX2_assign_4 13 rfl rfl)
theorem dX2_assign_105 : decode cX2_assign 105 = .ok (.invokevirtual 42, 3) := dk_182 0 42 (dk_at dksX2_assign_4 14 rfl rfl)
theorem dX2_assign_108 : decode cX2_assign 108 = .ok (.checkcast 46, 3) := dk_192 0 46 (dk_at dksX2_assign_4 17 rfl rfl)
theorem dX2_assign_111 : decode cX2_assign 111 = .ok (.iload_n 2, 1) := dk_28 (dk_at dksX2_assign_4 20 rfl rfl)
theorem dX2_assign_112 : decode cX2_assign 112 = .ok (.putfield 117, 3) := dk_181 0 117 (dk_at dksX2_assign_4 21 rfl rfl)
theorem dX2_assign_115 : decode cX2_assign 115 = .ok (.aload_n 3, 1) := dk_45 (dk_at dksX2_assign_5 0 rfl rfl)
theorem dX2_assign_116 : decode cX2_assign 116 = .ok (.iconst 1, 1) := dk_4 (dk_at dksX2_assign_5 1 rfl rfl)
theorem dX2_assign_117 : decode cX2_assign 117 = .ok (.putfield 127, 3) := dk_181 0 127 (dk_at dksX2_assign_5 2 rfl rfl)
theorem dX2_assign_120 : decode cX2_assign 120 = .ok (.aload_n 3, 1) := dk_45 (dk_at dksX2_assign_5 5 rfl rfl)
theorem dX2_assign_121 : decode cX2_assign 121 = .ok (.invokevirtual 130, 3) := dk_182 0 130 (dk_at dksX2_assign_5 6 rfl rfl)
theorem dX2_assign_124 : decode cX2_assign 124 = .ok (.ireturn, 1) := dk_172 (dk_at dksX2_assign_5 9 rfl rfl)
abbrev cX2_hasOrder : ByteArray := prog_2_method_6_code
def yX2_hasOrder : MethodName := ⟨RX2, "hasOrder", "(I)Z"⟩
def dkwX2_hasOrder_0 : List UInt8 := [27, 3, 42, 180, 0, 18, 182, 0, 38, 4, 100, 184, 0, 75, 172]
abbrev dktX2_hasOrder_0 : List UInt8 := dkwX2_hasOrder_0 ++ []
theorem dksX2_hasOrder_0 : cX2_hasOrder.data.toList.drop 0 = dktX2_hasOrder_0 := by decide +kernel
theorem dX2_hasOrder_0 : decode cX2_hasOrder 0 = .ok (.iload_n 1, 1) := dk_27 (dk_at dksX2_hasOrder_0 0 rfl rfl)
theorem dX2_hasOrder_1 : decode cX2_hasOrder 1 = .ok (.iconst 0, 1) := dk_3 (dk_at dksX2_hasOrder_0 1 rfl rfl)
theorem dX2_hasOrder_2 : decode cX2_hasOrder 2 = .ok (.aload_n 0, 1) := dk_42 (dk_at dksX2_hasOrder_0 2 rfl rfl)
theorem dX2_hasOrder_3 : decode cX2_hasOrder 3 = .ok (.getfield 18, 3) := dk_180 0 18 (dk_at dksX2_hasOrder_0 3 rfl rfl)
theorem dX2_hasOrder_6 : decode cX2_hasOrder 6 = .ok (.invokevirtual 38, 3) := dk_182 0 38 (dk_at dksX2_hasOrder_0 6 rfl rfl)
theorem dX2_hasOrder_9 : decode cX2_hasOrder 9 = .ok (.iconst 1, 1) := dk_4 (dk_at dksX2_hasOrder_0 9 rfl rfl)
theorem dX2_hasOrder_10 : decode cX2_hasOrder 10 = .ok (.isub, 1) := dk_100 (dk_at dksX2_hasOrder_0 10 rfl rfl)
theorem dX2_hasOrder_11 : decode cX2_hasOrder 11 = .ok (.invokestatic 75, 3) := dk_184 0 75 (dk_at dksX2_hasOrder_0 11 rfl rfl)
theorem dX2_hasOrder_14 : decode cX2_hasOrder 14 = .ok (.ireturn, 1) := dk_172 (dk_at dksX2_hasOrder_0 14 rfl rfl)
abbrev cX2_release : ByteArray := prog_2_method_17_code
def yX2_release : MethodName := ⟨RX2, "release", "(I)I"⟩
def dkwX2_release_4 : List UInt8 := [181, 0, 133, 28, 172]
abbrev dktX2_release_4 : List UInt8 := dkwX2_release_4 ++ []
def dkwX2_release_3 : List UInt8 := [182, 0, 42, 192, 0, 56, 3, 181, 0, 127, 42, 180, 0, 18, 28, 182, 0, 42, 192, 0, 56, 3]
abbrev dktX2_release_3 : List UInt8 := dkwX2_release_3 ++ dktX2_release_4
def dkwX2_release_2 : List UInt8 := [184, 0, 98, 42, 180, 0, 12, 27, 182, 0, 42, 192, 0, 46, 2, 181, 0, 117, 42, 180, 0, 18, 28]
abbrev dktX2_release_2 : List UInt8 := dkwX2_release_2 ++ dktX2_release_3
def dkwX2_release_1 : List UInt8 := [182, 0, 42, 192, 0, 46, 180, 0, 117, 61, 28, 2, 160, 0, 7, 4, 167, 0, 4, 3, 16, 7, 2]
abbrev dktX2_release_1 : List UInt8 := dkwX2_release_1 ++ dktX2_release_2
def dkwX2_release_0 : List UInt8 := [42, 27, 182, 0, 114, 154, 0, 7, 4, 167, 0, 4, 3, 4, 184, 0, 105, 42, 180, 0, 12, 27]
abbrev dktX2_release_0 : List UInt8 := dkwX2_release_0 ++ dktX2_release_1
theorem dksX2_release_0 : cX2_release.data.toList.drop 0 = dktX2_release_0 := by decide +kernel
theorem dksX2_release_1 : cX2_release.data.toList.drop 22 = dktX2_release_1 := dk_seg dksX2_release_0 22 rfl rfl
theorem dksX2_release_2 : cX2_release.data.toList.drop 45 = dktX2_release_2 := dk_seg dksX2_release_1 23 rfl rfl
theorem dksX2_release_3 : cX2_release.data.toList.drop 68 = dktX2_release_3 := dk_seg dksX2_release_2 23 rfl rfl
theorem dksX2_release_4 : cX2_release.data.toList.drop 90 = dktX2_release_4 := dk_seg dksX2_release_3 22 rfl rfl
theorem dX2_release_0 : decode cX2_release 0 = .ok (.aload_n 0, 1) := dk_42 (dk_at dksX2_release_0 0 rfl rfl)
theorem dX2_release_1 : decode cX2_release 1 = .ok (.iload_n 1, 1) := dk_27 (dk_at dksX2_release_0 1 rfl rfl)
theorem dX2_release_2 : decode cX2_release 2 = .ok (.invokevirtual 114, 3) := dk_182 0 114 (dk_at dksX2_release_0 2 rfl rfl)
theorem dX2_release_5 : decode cX2_release 5 = .ok (.ifCond .ne 7, 3) := dk_154 0 7 (dk_at dksX2_release_0 5 rfl rfl)
theorem dX2_release_8 : decode cX2_release 8 = .ok (.iconst 1, 1) := dk_4 (dk_at dksX2_release_0 8 rfl rfl)
theorem dX2_release_9 : decode cX2_release 9 = .ok (.goto 4, 3) := dk_167 0 4 (dk_at dksX2_release_0 9 rfl rfl)
theorem dX2_release_12 : decode cX2_release 12 = .ok (.iconst 0, 1) := dk_3 (dk_at dksX2_release_0 12 rfl rfl)
theorem dX2_release_13 : decode cX2_release 13 = .ok (.iconst 1, 1) := dk_4 (dk_at dksX2_release_0 13 rfl rfl)
theorem dX2_release_14 : decode cX2_release 14 = .ok (.invokestatic 105, 3) := dk_184 0 105 (dk_at dksX2_release_0 14 rfl rfl)
theorem dX2_release_17 : decode cX2_release 17 = .ok (.aload_n 0, 1) := dk_42 (dk_at dksX2_release_0 17 rfl rfl)
theorem dX2_release_18 : decode cX2_release 18 = .ok (.getfield 12, 3) := dk_180 0 12 (dk_at dksX2_release_0 18 rfl rfl)
theorem dX2_release_21 : decode cX2_release 21 = .ok (.iload_n 1, 1) := dk_27 (dk_at dksX2_release_0 21 rfl rfl)
theorem dX2_release_22 : decode cX2_release 22 = .ok (.invokevirtual 42, 3) := dk_182 0 42 (dk_at dksX2_release_1 0 rfl rfl)
theorem dX2_release_25 : decode cX2_release 25 = .ok (.checkcast 46, 3) := dk_192 0 46 (dk_at dksX2_release_1 3 rfl rfl)
theorem dX2_release_28 : decode cX2_release 28 = .ok (.getfield 117, 3) := dk_180 0 117 (dk_at dksX2_release_1 6 rfl rfl)
theorem dX2_release_31 : decode cX2_release 31 = .ok (.istore_n 2, 1) := dk_61 (dk_at dksX2_release_1 9 rfl rfl)
theorem dX2_release_32 : decode cX2_release 32 = .ok (.iload_n 2, 1) := dk_28 (dk_at dksX2_release_1 10 rfl rfl)
theorem dX2_release_33 : decode cX2_release 33 = .ok (.iconst (-1), 1) := dk_2 (dk_at dksX2_release_1 11 rfl rfl)
theorem dX2_release_34 : decode cX2_release 34 = .ok (.if_icmp .ne 7, 3) := dk_160 0 7 (dk_at dksX2_release_1 12 rfl rfl)
theorem dX2_release_37 : decode cX2_release 37 = .ok (.iconst 1, 1) := dk_4 (dk_at dksX2_release_1 15 rfl rfl)
theorem dX2_release_38 : decode cX2_release 38 = .ok (.goto 4, 3) := dk_167 0 4 (dk_at dksX2_release_1 16 rfl rfl)
theorem dX2_release_41 : decode cX2_release 41 = .ok (.iconst 0, 1) := dk_3 (dk_at dksX2_release_1 19 rfl rfl)
theorem dX2_release_42 : decode cX2_release 42 = .ok (.bipush 7, 2) := dk_16 7 (dk_at dksX2_release_1 20 rfl rfl)
theorem dX2_release_44 : decode cX2_release 44 = .ok (.iconst (-1), 1) := dk_2 (dk_at dksX2_release_1 22 rfl rfl)
theorem dX2_release_45 : decode cX2_release 45 = .ok (.invokestatic 98, 3) := dk_184 0 98 (dk_at dksX2_release_2 0 rfl rfl)
theorem dX2_release_48 : decode cX2_release 48 = .ok (.aload_n 0, 1) := dk_42 (dk_at dksX2_release_2 3 rfl rfl)
theorem dX2_release_49 : decode cX2_release 49 = .ok (.getfield 12, 3) := dk_180 0 12 (dk_at dksX2_release_2 4 rfl rfl)
theorem dX2_release_52 : decode cX2_release 52 = .ok (.iload_n 1, 1) := dk_27 (dk_at dksX2_release_2 7 rfl rfl)
theorem dX2_release_53 : decode cX2_release 53 = .ok (.invokevirtual 42, 3) := dk_182 0 42 (dk_at dksX2_release_2 8 rfl rfl)
theorem dX2_release_56 : decode cX2_release 56 = .ok (.checkcast 46, 3) := dk_192 0 46 (dk_at dksX2_release_2 11 rfl rfl)
theorem dX2_release_59 : decode cX2_release 59 = .ok (.iconst (-1), 1) := dk_2 (dk_at dksX2_release_2 14 rfl rfl)
theorem dX2_release_60 : decode cX2_release 60 = .ok (.putfield 117, 3) := dk_181 0 117 (dk_at dksX2_release_2 15 rfl rfl)
theorem dX2_release_63 : decode cX2_release 63 = .ok (.aload_n 0, 1) := dk_42 (dk_at dksX2_release_2 18 rfl rfl)
theorem dX2_release_64 : decode cX2_release 64 = .ok (.getfield 18, 3) := dk_180 0 18 (dk_at dksX2_release_2 19 rfl rfl)
theorem dX2_release_67 : decode cX2_release 67 = .ok (.iload_n 2, 1) := dk_28 (dk_at dksX2_release_2 22 rfl rfl)
theorem dX2_release_68 : decode cX2_release 68 = .ok (.invokevirtual 42, 3) := dk_182 0 42 (dk_at dksX2_release_3 0 rfl rfl)
theorem dX2_release_71 : decode cX2_release 71 = .ok (.checkcast 56, 3) := dk_192 0 56 (dk_at dksX2_release_3 3 rfl rfl)
theorem dX2_release_74 : decode cX2_release 74 = .ok (.iconst 0, 1) := dk_3 (dk_at dksX2_release_3 6 rfl rfl)
theorem dX2_release_75 : decode cX2_release 75 = .ok (.putfield 127, 3) := dk_181 0 127 (dk_at dksX2_release_3 7 rfl rfl)
theorem dX2_release_78 : decode cX2_release 78 = .ok (.aload_n 0, 1) := dk_42 (dk_at dksX2_release_3 10 rfl rfl)
theorem dX2_release_79 : decode cX2_release 79 = .ok (.getfield 18, 3) := dk_180 0 18 (dk_at dksX2_release_3 11 rfl rfl)
theorem dX2_release_82 : decode cX2_release 82 = .ok (.iload_n 2, 1) := dk_28 (dk_at dksX2_release_3 14 rfl rfl)
theorem dX2_release_83 : decode cX2_release 83 = .ok (.invokevirtual 42, 3) := dk_182 0 42 (dk_at dksX2_release_3 15 rfl rfl)
theorem dX2_release_86 : decode cX2_release 86 = .ok (.checkcast 56, 3) := dk_192 0 56 (dk_at dksX2_release_3 18 rfl rfl)
theorem dX2_release_89 : decode cX2_release 89 = .ok (.iconst 0, 1) := dk_3 (dk_at dksX2_release_3 21 rfl rfl)
theorem dX2_release_90 : decode cX2_release 90 = .ok (.putfield 133, 3) := dk_181 0 133 (dk_at dksX2_release_4 0 rfl rfl)
theorem dX2_release_93 : decode cX2_release 93 = .ok (.iload_n 2, 1) := dk_28 (dk_at dksX2_release_4 3 rfl rfl)
theorem dX2_release_94 : decode cX2_release 94 = .ok (.ireturn, 1) := dk_172 (dk_at dksX2_release_4 4 rfl rfl)
abbrev cX2_close : ByteArray := prog_2_method_19_code
def yX2_close : MethodName := ⟨RX2, "close", "(I)I"⟩
def dkwX2_close_3 : List UInt8 := [172]
abbrev dktX2_close_3 : List UInt8 := dkwX2_close_3 ++ []
def dkwX2_close_2 : List UInt8 := [27, 2, 182, 0, 108, 42, 89, 180, 0, 67, 10, 27, 121, 129, 181, 0, 67, 42, 180, 0, 67, 184, 0, 136]
abbrev dktX2_close_2 : List UInt8 := dkwX2_close_2 ++ dktX2_close_3
def dkwX2_close_1 : List UInt8 := [184, 0, 105, 42, 180, 0, 32, 27, 46, 4, 160, 0, 7, 4, 167, 0, 4, 3, 7, 27, 184, 0, 98, 42]
abbrev dktX2_close_1 : List UInt8 := dkwX2_close_1 ++ dktX2_close_2
def dkwX2_close_0 : List UInt8 := [42, 27, 182, 0, 102, 154, 0, 7, 4, 167, 0, 4, 3, 4, 184, 0, 105, 42, 27, 182, 0, 79, 16, 13]
abbrev dktX2_close_0 : List UInt8 := dkwX2_close_0 ++ dktX2_close_1
theorem dksX2_close_0 : cX2_close.data.toList.drop 0 = dktX2_close_0 := by decide +kernel
theorem dksX2_close_1 : cX2_close.data.toList.drop 24 = dktX2_close_1 := dk_seg dksX2_close_0 24 rfl rfl
theorem dksX2_close_2 : cX2_close.data.toList.drop 48 = dktX2_close_2 := dk_seg dksX2_close_1 24 rfl rfl
theorem dksX2_close_3 : cX2_close.data.toList.drop 72 = dktX2_close_3 := dk_seg dksX2_close_2 24 rfl rfl
theorem dX2_close_0 : decode cX2_close 0 = .ok (.aload_n 0, 1) := dk_42 (dk_at dksX2_close_0 0 rfl rfl)
theorem dX2_close_1 : decode cX2_close 1 = .ok (.iload_n 1, 1) := dk_27 (dk_at dksX2_close_0 1 rfl rfl)
theorem dX2_close_2 : decode cX2_close 2 = .ok (.invokevirtual 102, 3) := dk_182 0 102 (dk_at dksX2_close_0 2 rfl rfl)
theorem dX2_close_5 : decode cX2_close 5 = .ok (.ifCond .ne 7, 3) := dk_154 0 7 (dk_at dksX2_close_0 5 rfl rfl)
theorem dX2_close_8 : decode cX2_close 8 = .ok (.iconst 1, 1) := dk_4 (dk_at dksX2_close_0 8 rfl rfl)
theorem dX2_close_9 : decode cX2_close 9 = .ok (.goto 4, 3) := dk_167 0 4 (dk_at dksX2_close_0 9 rfl rfl)
theorem dX2_close_12 : decode cX2_close 12 = .ok (.iconst 0, 1) := dk_3 (dk_at dksX2_close_0 12 rfl rfl)
theorem dX2_close_13 : decode cX2_close 13 = .ok (.iconst 1, 1) := dk_4 (dk_at dksX2_close_0 13 rfl rfl)
theorem dX2_close_14 : decode cX2_close 14 = .ok (.invokestatic 105, 3) := dk_184 0 105 (dk_at dksX2_close_0 14 rfl rfl)
theorem dX2_close_17 : decode cX2_close 17 = .ok (.aload_n 0, 1) := dk_42 (dk_at dksX2_close_0 17 rfl rfl)
theorem dX2_close_18 : decode cX2_close 18 = .ok (.iload_n 1, 1) := dk_27 (dk_at dksX2_close_0 18 rfl rfl)
theorem dX2_close_19 : decode cX2_close 19 = .ok (.invokevirtual 79, 3) := dk_182 0 79 (dk_at dksX2_close_0 19 rfl rfl)
theorem dX2_close_22 : decode cX2_close 22 = .ok (.bipush 13, 2) := dk_16 13 (dk_at dksX2_close_0 22 rfl rfl)
theorem dX2_close_24 : decode cX2_close 24 = .ok (.invokestatic 105, 3) := dk_184 0 105 (dk_at dksX2_close_1 0 rfl rfl)
theorem dX2_close_27 : decode cX2_close 27 = .ok (.aload_n 0, 1) := dk_42 (dk_at dksX2_close_1 3 rfl rfl)
theorem dX2_close_28 : decode cX2_close 28 = .ok (.getfield 32, 3) := dk_180 0 32 (dk_at dksX2_close_1 4 rfl rfl)
theorem dX2_close_31 : decode cX2_close 31 = .ok (.iload_n 1, 1) := dk_27 (dk_at dksX2_close_1 7 rfl rfl)
theorem dX2_close_32 : decode cX2_close 32 = .ok (.iaload, 1) := dk_46 (dk_at dksX2_close_1 8 rfl rfl)
theorem dX2_close_33 : decode cX2_close 33 = .ok (.iconst 1, 1) := dk_4 (dk_at dksX2_close_1 9 rfl rfl)
theorem dX2_close_34 : decode cX2_close 34 = .ok (.if_icmp .ne 7, 3) := dk_160 0 7 (dk_at dksX2_close_1 10 rfl rfl)
theorem dX2_close_37 : decode cX2_close 37 = .ok (.iconst 1, 1) := dk_4 (dk_at dksX2_close_1 13 rfl rfl)
theorem dX2_close_38 : decode cX2_close 38 = .ok (.goto 4, 3) := dk_167 0 4 (dk_at dksX2_close_1 14 rfl rfl)
theorem dX2_close_41 : decode cX2_close 41 = .ok (.iconst 0, 1) := dk_3 (dk_at dksX2_close_1 17 rfl rfl)
theorem dX2_close_42 : decode cX2_close 42 = .ok (.iconst 4, 1) := dk_7 (dk_at dksX2_close_1 18 rfl rfl)
theorem dX2_close_43 : decode cX2_close 43 = .ok (.iload_n 1, 1) := dk_27 (dk_at dksX2_close_1 19 rfl rfl)
theorem dX2_close_44 : decode cX2_close 44 = .ok (.invokestatic 98, 3) := dk_184 0 98 (dk_at dksX2_close_1 20 rfl rfl)
theorem dX2_close_47 : decode cX2_close 47 = .ok (.aload_n 0, 1) := dk_42 (dk_at dksX2_close_1 23 rfl rfl)
theorem dX2_close_48 : decode cX2_close 48 = .ok (.iload_n 1, 1) := dk_27 (dk_at dksX2_close_2 0 rfl rfl)
theorem dX2_close_49 : decode cX2_close 49 = .ok (.iconst (-1), 1) := dk_2 (dk_at dksX2_close_2 1 rfl rfl)
theorem dX2_close_50 : decode cX2_close 50 = .ok (.invokevirtual 108, 3) := dk_182 0 108 (dk_at dksX2_close_2 2 rfl rfl)
theorem dX2_close_53 : decode cX2_close 53 = .ok (.aload_n 0, 1) := dk_42 (dk_at dksX2_close_2 5 rfl rfl)
theorem dX2_close_54 : decode cX2_close 54 = .ok (.dup, 1) := dk_89 (dk_at dksX2_close_2 6 rfl rfl)
theorem dX2_close_55 : decode cX2_close 55 = .ok (.getfield 67, 3) := dk_180 0 67 (dk_at dksX2_close_2 7 rfl rfl)
theorem dX2_close_58 : decode cX2_close 58 = .ok (.lconst 1, 1) := dk_10 (dk_at dksX2_close_2 10 rfl rfl)
theorem dX2_close_59 : decode cX2_close 59 = .ok (.iload_n 1, 1) := dk_27 (dk_at dksX2_close_2 11 rfl rfl)
theorem dX2_close_60 : decode cX2_close 60 = .ok (.lshl, 1) := dk_121 (dk_at dksX2_close_2 12 rfl rfl)
theorem dX2_close_61 : decode cX2_close 61 = .ok (.lor, 1) := dk_129 (dk_at dksX2_close_2 13 rfl rfl)
theorem dX2_close_62 : decode cX2_close 62 = .ok (.putfield 67, 3) := dk_181 0 67 (dk_at dksX2_close_2 14 rfl rfl)
theorem dX2_close_65 : decode cX2_close 65 = .ok (.aload_n 0, 1) := dk_42 (dk_at dksX2_close_2 17 rfl rfl)
theorem dX2_close_66 : decode cX2_close 66 = .ok (.getfield 67, 3) := dk_180 0 67 (dk_at dksX2_close_2 18 rfl rfl)
theorem dX2_close_69 : decode cX2_close 69 = .ok (.invokestatic 136, 3) := dk_184 0 136 (dk_at dksX2_close_2 21 rfl rfl)
theorem dX2_close_72 : decode cX2_close 72 = .ok (.ireturn, 1) := dk_172 (dk_at dksX2_close_3 0 rfl rfl)
abbrev cX2_open : ByteArray := prog_2_method_20_code
def yX2_open : MethodName := ⟨RX2, "open", "(I)I"⟩
def dkwX2_open_2 : List UInt8 := [131, 127, 181, 0, 67, 42, 180, 0, 67, 184, 0, 136, 172]
abbrev dktX2_open_2 : List UInt8 := dkwX2_open_2 ++ []
def dkwX2_open_1 : List UInt8 := [154, 0, 7, 4, 167, 0, 4, 3, 16, 13, 184, 0, 105, 42, 89, 180, 0, 67, 10, 27, 121, 20, 0, 142]
abbrev dktX2_open_1 : List UInt8 := dkwX2_open_1 ++ dktX2_open_2
def dkwX2_open_0 : List UInt8 := [42, 27, 182, 0, 102, 154, 0, 7, 4, 167, 0, 4, 3, 4, 184, 0, 105, 42, 27, 182, 0, 79]
abbrev dktX2_open_0 : List UInt8 := dkwX2_open_0 ++ dktX2_open_1
theorem dksX2_open_0 : cX2_open.data.toList.drop 0 = dktX2_open_0 := by decide +kernel
theorem dksX2_open_1 : cX2_open.data.toList.drop 22 = dktX2_open_1 := dk_seg dksX2_open_0 22 rfl rfl
theorem dksX2_open_2 : cX2_open.data.toList.drop 46 = dktX2_open_2 := dk_seg dksX2_open_1 24 rfl rfl
theorem dX2_open_0 : decode cX2_open 0 = .ok (.aload_n 0, 1) := dk_42 (dk_at dksX2_open_0 0 rfl rfl)
theorem dX2_open_1 : decode cX2_open 1 = .ok (.iload_n 1, 1) := dk_27 (dk_at dksX2_open_0 1 rfl rfl)
theorem dX2_open_2 : decode cX2_open 2 = .ok (.invokevirtual 102, 3) := dk_182 0 102 (dk_at dksX2_open_0 2 rfl rfl)
theorem dX2_open_5 : decode cX2_open 5 = .ok (.ifCond .ne 7, 3) := dk_154 0 7 (dk_at dksX2_open_0 5 rfl rfl)
theorem dX2_open_8 : decode cX2_open 8 = .ok (.iconst 1, 1) := dk_4 (dk_at dksX2_open_0 8 rfl rfl)
theorem dX2_open_9 : decode cX2_open 9 = .ok (.goto 4, 3) := dk_167 0 4 (dk_at dksX2_open_0 9 rfl rfl)
theorem dX2_open_12 : decode cX2_open 12 = .ok (.iconst 0, 1) := dk_3 (dk_at dksX2_open_0 12 rfl rfl)
theorem dX2_open_13 : decode cX2_open 13 = .ok (.iconst 1, 1) := dk_4 (dk_at dksX2_open_0 13 rfl rfl)
theorem dX2_open_14 : decode cX2_open 14 = .ok (.invokestatic 105, 3) := dk_184 0 105 (dk_at dksX2_open_0 14 rfl rfl)
theorem dX2_open_17 : decode cX2_open 17 = .ok (.aload_n 0, 1) := dk_42 (dk_at dksX2_open_0 17 rfl rfl)
theorem dX2_open_18 : decode cX2_open 18 = .ok (.iload_n 1, 1) := dk_27 (dk_at dksX2_open_0 18 rfl rfl)
theorem dX2_open_19 : decode cX2_open 19 = .ok (.invokevirtual 79, 3) := dk_182 0 79 (dk_at dksX2_open_0 19 rfl rfl)
theorem dX2_open_22 : decode cX2_open 22 = .ok (.ifCond .ne 7, 3) := dk_154 0 7 (dk_at dksX2_open_1 0 rfl rfl)
theorem dX2_open_25 : decode cX2_open 25 = .ok (.iconst 1, 1) := dk_4 (dk_at dksX2_open_1 3 rfl rfl)
theorem dX2_open_26 : decode cX2_open 26 = .ok (.goto 4, 3) := dk_167 0 4 (dk_at dksX2_open_1 4 rfl rfl)
theorem dX2_open_29 : decode cX2_open 29 = .ok (.iconst 0, 1) := dk_3 (dk_at dksX2_open_1 7 rfl rfl)
theorem dX2_open_30 : decode cX2_open 30 = .ok (.bipush 13, 2) := dk_16 13 (dk_at dksX2_open_1 8 rfl rfl)
theorem dX2_open_32 : decode cX2_open 32 = .ok (.invokestatic 105, 3) := dk_184 0 105 (dk_at dksX2_open_1 10 rfl rfl)
theorem dX2_open_35 : decode cX2_open 35 = .ok (.aload_n 0, 1) := dk_42 (dk_at dksX2_open_1 13 rfl rfl)
theorem dX2_open_36 : decode cX2_open 36 = .ok (.dup, 1) := dk_89 (dk_at dksX2_open_1 14 rfl rfl)
theorem dX2_open_37 : decode cX2_open 37 = .ok (.getfield 67, 3) := dk_180 0 67 (dk_at dksX2_open_1 15 rfl rfl)
theorem dX2_open_40 : decode cX2_open 40 = .ok (.lconst 1, 1) := dk_10 (dk_at dksX2_open_1 18 rfl rfl)
theorem dX2_open_41 : decode cX2_open 41 = .ok (.iload_n 1, 1) := dk_27 (dk_at dksX2_open_1 19 rfl rfl)
theorem dX2_open_42 : decode cX2_open 42 = .ok (.lshl, 1) := dk_121 (dk_at dksX2_open_1 20 rfl rfl)
theorem dX2_open_43 : decode cX2_open 43 = .ok (.ldc2_w 142, 3) := dk_20 0 142 (dk_at dksX2_open_1 21 rfl rfl)
theorem dX2_open_46 : decode cX2_open 46 = .ok (.lxor, 1) := dk_131 (dk_at dksX2_open_2 0 rfl rfl)
theorem dX2_open_47 : decode cX2_open 47 = .ok (.land, 1) := dk_127 (dk_at dksX2_open_2 1 rfl rfl)
theorem dX2_open_48 : decode cX2_open 48 = .ok (.putfield 67, 3) := dk_181 0 67 (dk_at dksX2_open_2 2 rfl rfl)
theorem dX2_open_51 : decode cX2_open 51 = .ok (.aload_n 0, 1) := dk_42 (dk_at dksX2_open_2 5 rfl rfl)
theorem dX2_open_52 : decode cX2_open 52 = .ok (.getfield 67, 3) := dk_180 0 67 (dk_at dksX2_open_2 6 rfl rfl)
theorem dX2_open_55 : decode cX2_open 55 = .ok (.invokestatic 136, 3) := dk_184 0 136 (dk_at dksX2_open_2 9 rfl rfl)
theorem dX2_open_58 : decode cX2_open 58 = .ok (.ireturn, 1) := dk_172 (dk_at dksX2_open_2 12 rfl rfl)
abbrev cX2_set : ByteArray := prog_2_method_21_code
def yX2_set : MethodName := ⟨RX2, "set", "(II)I"⟩
def dkwX2_set_3 : List UInt8 := [54, 4, 42, 180, 0, 21, 27, 28, 79, 21, 4, 172]
abbrev dktX2_set_3 : List UInt8 := dkwX2_set_3 ++ []
def dkwX2_set_2 : List UInt8 := [167, 0, 4, 3, 62, 29, 154, 0, 7, 4, 167, 0, 4, 3, 5, 184, 0, 105, 42, 180, 0, 21, 27, 46]
abbrev dktX2_set_2 : List UInt8 := dkwX2_set_2 ++ dktX2_set_3
def dkwX2_set_1 : List UInt8 := [184, 0, 75, 167, 0, 23, 27, 5, 160, 0, 17, 28, 4, 16, 30, 184, 0, 75, 153, 0, 7, 4]
abbrev dktX2_set_1 : List UInt8 := dkwX2_set_1 ++ dktX2_set_2
def dkwX2_set_0 : List UInt8 := [27, 154, 0, 13, 28, 4, 16, 20, 184, 0, 75, 167, 0, 37, 27, 4, 160, 0, 12, 28, 4, 6]
abbrev dktX2_set_0 : List UInt8 := dkwX2_set_0 ++ dktX2_set_1
theorem dksX2_set_0 : cX2_set.data.toList.drop 0 = dktX2_set_0 := by decide +kernel
theorem dksX2_set_1 : cX2_set.data.toList.drop 22 = dktX2_set_1 := dk_seg dksX2_set_0 22 rfl rfl
theorem dksX2_set_2 : cX2_set.data.toList.drop 44 = dktX2_set_2 := dk_seg dksX2_set_1 22 rfl rfl
theorem dksX2_set_3 : cX2_set.data.toList.drop 68 = dktX2_set_3 := dk_seg dksX2_set_2 24 rfl rfl
theorem dX2_set_0 : decode cX2_set 0 = .ok (.iload_n 1, 1) := dk_27 (dk_at dksX2_set_0 0 rfl rfl)
theorem dX2_set_1 : decode cX2_set 1 = .ok (.ifCond .ne 13, 3) := dk_154 0 13 (dk_at dksX2_set_0 1 rfl rfl)
theorem dX2_set_4 : decode cX2_set 4 = .ok (.iload_n 2, 1) := dk_28 (dk_at dksX2_set_0 4 rfl rfl)
theorem dX2_set_5 : decode cX2_set 5 = .ok (.iconst 1, 1) := dk_4 (dk_at dksX2_set_0 5 rfl rfl)
theorem dX2_set_6 : decode cX2_set 6 = .ok (.bipush 20, 2) := dk_16 20 (dk_at dksX2_set_0 6 rfl rfl)
theorem dX2_set_8 : decode cX2_set 8 = .ok (.invokestatic 75, 3) := dk_184 0 75 (dk_at dksX2_set_0 8 rfl rfl)
theorem dX2_set_11 : decode cX2_set 11 = .ok (.goto 37, 3) := dk_167 0 37 (dk_at dksX2_set_0 11 rfl rfl)
theorem dX2_set_14 : decode cX2_set 14 = .ok (.iload_n 1, 1) := dk_27 (dk_at dksX2_set_0 14 rfl rfl)
theorem dX2_set_15 : decode cX2_set 15 = .ok (.iconst 1, 1) := dk_4 (dk_at dksX2_set_0 15 rfl rfl)
theorem dX2_set_16 : decode cX2_set 16 = .ok (.if_icmp .ne 12, 3) := dk_160 0 12 (dk_at dksX2_set_0 16 rfl rfl)
theorem dX2_set_19 : decode cX2_set 19 = .ok (.iload_n 2, 1) := dk_28 (dk_at dksX2_set_0 19 rfl rfl)
theorem dX2_set_20 : decode cX2_set 20 = .ok (.iconst 1, 1) := dk_4 (dk_at dksX2_set_0 20 rfl rfl)
theorem dX2_set_21 : decode cX2_set 21 = .ok (.iconst 3, 1) := dk_6 (dk_at dksX2_set_0 21 rfl rfl)
theorem dX2_set_22 : decode cX2_set 22 = .ok (.invokestatic 75, 3) := dk_184 0 75 (dk_at dksX2_set_1 0 rfl rfl)
theorem dX2_set_25 : decode cX2_set 25 = .ok (.goto 23, 3) := dk_167 0 23 (dk_at dksX2_set_1 3 rfl rfl)
theorem dX2_set_28 : decode cX2_set 28 = .ok (.iload_n 1, 1) := dk_27 (dk_at dksX2_set_1 6 rfl rfl)
theorem dX2_set_29 : decode cX2_set 29 = .ok (.iconst 2, 1) := dk_5 (dk_at dksX2_set_1 7 rfl rfl)
theorem dX2_set_30 : decode cX2_set 30 = .ok (.if_icmp .ne 17, 3) := dk_160 0 17 (dk_at dksX2_set_1 8 rfl rfl)
theorem dX2_set_33 : decode cX2_set 33 = .ok (.iload_n 2, 1) := dk_28 (dk_at dksX2_set_1 11 rfl rfl)
theorem dX2_set_34 : decode cX2_set 34 = .ok (.iconst 1, 1) := dk_4 (dk_at dksX2_set_1 12 rfl rfl)
theorem dX2_set_35 : decode cX2_set 35 = .ok (.bipush 30, 2) := dk_16 30 (dk_at dksX2_set_1 13 rfl rfl)
theorem dX2_set_37 : decode cX2_set 37 = .ok (.invokestatic 75, 3) := dk_184 0 75 (dk_at dksX2_set_1 15 rfl rfl)
theorem dX2_set_40 : decode cX2_set 40 = .ok (.ifCond .eq 7, 3) := dk_153 0 7 (dk_at dksX2_set_1 18 rfl rfl)
theorem dX2_set_43 : decode cX2_set 43 = .ok (.iconst 1, 1) := dk_4 (dk_at dksX2_set_1 21 rfl rfl)
theorem dX2_set_44 : decode cX2_set 44 = .ok (.goto 4, 3) := dk_167 0 4 (dk_at dksX2_set_2 0 rfl rfl)
theorem dX2_set_47 : decode cX2_set 47 = .ok (.iconst 0, 1) := dk_3 (dk_at dksX2_set_2 3 rfl rfl)
theorem dX2_set_48 : decode cX2_set 48 = .ok (.istore_n 3, 1) := dk_62 (dk_at dksX2_set_2 4 rfl rfl)
theorem dX2_set_49 : decode cX2_set 49 = .ok (.iload_n 3, 1) := dk_29 (dk_at dksX2_set_2 5 rfl rfl)
theorem dX2_set_50 : decode cX2_set 50 = .ok (.ifCond .ne 7, 3) := dk_154 0 7 (dk_at dksX2_set_2 6 rfl rfl)
theorem dX2_set_53 : decode cX2_set 53 = .ok (.iconst 1, 1) := dk_4 (dk_at dksX2_set_2 9 rfl rfl)
theorem dX2_set_54 : decode cX2_set 54 = .ok (.goto 4, 3) := dk_167 0 4 (dk_at dksX2_set_2 10 rfl rfl)
theorem dX2_set_57 : decode cX2_set 57 = .ok (.iconst 0, 1) := dk_3 (dk_at dksX2_set_2 13 rfl rfl)
theorem dX2_set_58 : decode cX2_set 58 = .ok (.iconst 2, 1) := dk_5 (dk_at dksX2_set_2 14 rfl rfl)
theorem dX2_set_59 : decode cX2_set 59 = .ok (.invokestatic 105, 3) := dk_184 0 105 (dk_at dksX2_set_2 15 rfl rfl)
theorem dX2_set_62 : decode cX2_set 62 = .ok (.aload_n 0, 1) := dk_42 (dk_at dksX2_set_2 18 rfl rfl)
theorem dX2_set_63 : decode cX2_set 63 = .ok (.getfield 21, 3) := dk_180 0 21 (dk_at dksX2_set_2 19 rfl rfl)
theorem dX2_set_66 : decode cX2_set 66 = .ok (.iload_n 1, 1) := dk_27 (dk_at dksX2_set_2 22 rfl rfl)
theorem dX2_set_67 : decode cX2_set 67 = .ok (.iaload, 1) := dk_46 (dk_at dksX2_set_2 23 rfl rfl)
theorem dX2_set_68 : decode cX2_set 68 = .ok (.istore 4, 2) := dk_54 4 (dk_at dksX2_set_3 0 rfl rfl)
theorem dX2_set_70 : decode cX2_set 70 = .ok (.aload_n 0, 1) := dk_42 (dk_at dksX2_set_3 2 rfl rfl)
theorem dX2_set_71 : decode cX2_set 71 = .ok (.getfield 21, 3) := dk_180 0 21 (dk_at dksX2_set_3 3 rfl rfl)
theorem dX2_set_74 : decode cX2_set 74 = .ok (.iload_n 1, 1) := dk_27 (dk_at dksX2_set_3 6 rfl rfl)
theorem dX2_set_75 : decode cX2_set 75 = .ok (.iload_n 2, 1) := dk_28 (dk_at dksX2_set_3 7 rfl rfl)
theorem dX2_set_76 : decode cX2_set 76 = .ok (.iastore, 1) := dk_79 (dk_at dksX2_set_3 8 rfl rfl)
theorem dX2_set_77 : decode cX2_set 77 = .ok (.iload 4, 2) := dk_21 4 (dk_at dksX2_set_3 9 rfl rfl)
theorem dX2_set_79 : decode cX2_set 79 = .ok (.ireturn, 1) := dk_172 (dk_at dksX2_set_3 11 rfl rfl)
abbrev cX2_plan : ByteArray := prog_2_method_22_code
def yX2_plan : MethodName := ⟨RX2, "plan", "(II)I"⟩
def dkwX2_plan_8 : List UInt8 := [181, 0, 178, 25, 4, 190, 172]
abbrev dktX2_plan_8 : List UInt8 := dkwX2_plan_8 ++ []
def dkwX2_plan_7 : List UInt8 := [3, 16, 11, 21, 6, 184, 0, 98, 45, 25, 4, 181, 0, 173, 45, 3, 181, 0, 175, 45, 21, 5]
abbrev dktX2_plan_7 : List UInt8 := dkwX2_plan_7 ++ dktX2_plan_8
def dkwX2_plan_6 : List UInt8 := [180, 0, 151, 25, 4, 184, 0, 166, 104, 54, 6, 45, 180, 0, 170, 21, 6, 162, 0, 7, 4, 167, 0, 4]
abbrev dktX2_plan_6 : List UInt8 := dkwX2_plan_6 ++ dktX2_plan_7
def dkwX2_plan_5 : List UInt8 := [42, 27, 182, 0, 163, 153, 0, 12, 42, 180, 0, 21, 4, 46, 167, 0, 4, 4, 54, 5, 21, 5, 45]
abbrev dktX2_plan_5 : List UInt8 := dkwX2_plan_5 ++ dktX2_plan_6
def dkwX2_plan_4 : List UInt8 := [28, 183, 0, 156, 182, 0, 159, 58, 4, 25, 4, 199, 0, 7, 4, 167, 0, 4, 3, 16, 10, 184, 0, 105]
abbrev dktX2_plan_4 : List UInt8 := dkwX2_plan_4 ++ dktX2_plan_5
def dkwX2_plan_3 : List UInt8 := [42, 28, 182, 0, 83, 154, 0, 7, 4, 167, 0, 4, 3, 7, 28, 184, 0, 98, 187, 0, 154, 89, 42, 27]
abbrev dktX2_plan_3 : List UInt8 := dkwX2_plan_3 ++ dktX2_plan_4
def dkwX2_plan_2 : List UInt8 := [182, 0, 148, 184, 0, 98, 45, 180, 0, 151, 28, 160, 0, 7, 4, 167, 0, 4, 3, 16, 9, 184, 0, 105]
abbrev dktX2_plan_2 : List UInt8 := dkwX2_plan_2 ++ dktX2_plan_3
def dkwX2_plan_1 : List UInt8 := [184, 0, 105, 42, 180, 0, 12, 27, 182, 0, 42, 192, 0, 46, 78, 45, 182, 0, 144, 16, 6, 45]
abbrev dktX2_plan_1 : List UInt8 := dkwX2_plan_1 ++ dktX2_plan_2
def dkwX2_plan_0 : List UInt8 := [42, 27, 182, 0, 114, 153, 0, 11, 42, 28, 182, 0, 102, 154, 0, 7, 4, 167, 0, 4, 3, 4]
abbrev dktX2_plan_0 : List UInt8 := dkwX2_plan_0 ++ dktX2_plan_1
theorem dksX2_plan_0 : cX2_plan.data.toList.drop 0 = dktX2_plan_0 := by decide +kernel
theorem dksX2_plan_1 : cX2_plan.data.toList.drop 22 = dktX2_plan_1 := dk_seg dksX2_plan_0 22 rfl rfl
theorem dksX2_plan_2 : cX2_plan.data.toList.drop 44 = dktX2_plan_2 := dk_seg dksX2_plan_1 22 rfl rfl
theorem dksX2_plan_3 : cX2_plan.data.toList.drop 68 = dktX2_plan_3 := dk_seg dksX2_plan_2 24 rfl rfl
theorem dksX2_plan_4 : cX2_plan.data.toList.drop 92 = dktX2_plan_4 := dk_seg dksX2_plan_3 24 rfl rfl
theorem dksX2_plan_5 : cX2_plan.data.toList.drop 116 = dktX2_plan_5 := dk_seg dksX2_plan_4 24 rfl rfl
theorem dksX2_plan_6 : cX2_plan.data.toList.drop 139 = dktX2_plan_6 := dk_seg dksX2_plan_5 23 rfl rfl
theorem dksX2_plan_7 : cX2_plan.data.toList.drop 163 = dktX2_plan_7 := dk_seg dksX2_plan_6 24 rfl rfl
theorem dksX2_plan_8 : cX2_plan.data.toList.drop 185 = dktX2_plan_8 := dk_seg dksX2_plan_7 22 rfl rfl
theorem dX2_plan_0 : decode cX2_plan 0 = .ok (.aload_n 0, 1) := dk_42 (dk_at dksX2_plan_0 0 rfl rfl)
theorem dX2_plan_1 : decode cX2_plan 1 = .ok (.iload_n 1, 1) := dk_27 (dk_at dksX2_plan_0 1 rfl rfl)
theorem dX2_plan_2 : decode cX2_plan 2 = .ok (.invokevirtual 114, 3) := dk_182 0 114 (dk_at dksX2_plan_0 2 rfl rfl)
theorem dX2_plan_5 : decode cX2_plan 5 = .ok (.ifCond .eq 11, 3) := dk_153 0 11 (dk_at dksX2_plan_0 5 rfl rfl)
theorem dX2_plan_8 : decode cX2_plan 8 = .ok (.aload_n 0, 1) := dk_42 (dk_at dksX2_plan_0 8 rfl rfl)
theorem dX2_plan_9 : decode cX2_plan 9 = .ok (.iload_n 2, 1) := dk_28 (dk_at dksX2_plan_0 9 rfl rfl)
theorem dX2_plan_10 : decode cX2_plan 10 = .ok (.invokevirtual 102, 3) := dk_182 0 102 (dk_at dksX2_plan_0 10 rfl rfl)
theorem dX2_plan_13 : decode cX2_plan 13 = .ok (.ifCond .ne 7, 3) := dk_154 0 7 (dk_at dksX2_plan_0 13 rfl rfl)
theorem dX2_plan_16 : decode cX2_plan 16 = .ok (.iconst 1, 1) := dk_4 (dk_at dksX2_plan_0 16 rfl rfl)
theorem dX2_plan_17 : decode cX2_plan 17 = .ok (.goto 4, 3) := dk_167 0 4 (dk_at dksX2_plan_0 17 rfl rfl)
theorem dX2_plan_20 : decode cX2_plan 20 = .ok (.iconst 0, 1) := dk_3 (dk_at dksX2_plan_0 20 rfl rfl)
theorem dX2_plan_21 : decode cX2_plan 21 = .ok (.iconst 1, 1) := dk_4 (dk_at dksX2_plan_0 21 rfl rfl)
theorem dX2_plan_22 : decode cX2_plan 22 = .ok (.invokestatic 105, 3) := dk_184 0 105 (dk_at dksX2_plan_1 0 rfl rfl)
theorem dX2_plan_25 : decode cX2_plan 25 = .ok (.aload_n 0, 1) := dk_42 (dk_at dksX2_plan_1 3 rfl rfl)
theorem dX2_plan_26 : decode cX2_plan 26 = .ok (.getfield 12, 3) := dk_180 0 12 (dk_at dksX2_plan_1 4 rfl rfl)
theorem dX2_plan_29 : decode cX2_plan 29 = .ok (.iload_n 1, 1) := dk_27 (dk_at dksX2_plan_1 7 rfl rfl)
theorem dX2_plan_30 : decode cX2_plan 30 = .ok (.invokevirtual 42, 3) := dk_182 0 42 (dk_at dksX2_plan_1 8 rfl rfl)
theorem dX2_plan_33 : decode cX2_plan 33 = .ok (.checkcast 46, 3) := dk_192 0 46 (dk_at dksX2_plan_1 11 rfl rfl)
theorem dX2_plan_36 : decode cX2_plan 36 = .ok (.astore_n 3, 1) := dk_78 (dk_at dksX2_plan_1 14 rfl rfl)
theorem dX2_plan_37 : decode cX2_plan 37 = .ok (.aload_n 3, 1) := dk_45 (dk_at dksX2_plan_1 15 rfl rfl)
theorem dX2_plan_38 : decode cX2_plan 38 = .ok (.invokevirtual 144, 3) := dk_182 0 144 (dk_at dksX2_plan_1 16 rfl rfl)
theorem dX2_plan_41 : decode cX2_plan 41 = .ok (.bipush 6, 2) := dk_16 6 (dk_at dksX2_plan_1 19 rfl rfl)
theorem dX2_plan_43 : decode cX2_plan 43 = .ok (.aload_n 3, 1) := dk_45 (dk_at dksX2_plan_1 21 rfl rfl)
theorem dX2_plan_44 : decode cX2_plan 44 = .ok (.invokevirtual 148, 3) := dk_182 0 148 (dk_at dksX2_plan_2 0 rfl rfl)
theorem dX2_plan_47 : decode cX2_plan 47 = .ok (.invokestatic 98, 3) := dk_184 0 98 (dk_at dksX2_plan_2 3 rfl rfl)
theorem dX2_plan_50 : decode cX2_plan 50 = .ok (.aload_n 3, 1) := dk_45 (dk_at dksX2_plan_2 6 rfl rfl)
theorem dX2_plan_51 : decode cX2_plan 51 = .ok (.getfield 151, 3) := dk_180 0 151 (dk_at dksX2_plan_2 7 rfl rfl)
theorem dX2_plan_54 : decode cX2_plan 54 = .ok (.iload_n 2, 1) := dk_28 (dk_at dksX2_plan_2 10 rfl rfl)
theorem dX2_plan_55 : decode cX2_plan 55 = .ok (.if_icmp .ne 7, 3) := dk_160 0 7 (dk_at dksX2_plan_2 11 rfl rfl)
theorem dX2_plan_58 : decode cX2_plan 58 = .ok (.iconst 1, 1) := dk_4 (dk_at dksX2_plan_2 14 rfl rfl)
theorem dX2_plan_59 : decode cX2_plan 59 = .ok (.goto 4, 3) := dk_167 0 4 (dk_at dksX2_plan_2 15 rfl rfl)
theorem dX2_plan_62 : decode cX2_plan 62 = .ok (.iconst 0, 1) := dk_3 (dk_at dksX2_plan_2 18 rfl rfl)
theorem dX2_plan_63 : decode cX2_plan 63 = .ok (.bipush 9, 2) := dk_16 9 (dk_at dksX2_plan_2 19 rfl rfl)
theorem dX2_plan_65 : decode cX2_plan 65 = .ok (.invokestatic 105, 3) := dk_184 0 105 (dk_at dksX2_plan_2 21 rfl rfl)
theorem dX2_plan_68 : decode cX2_plan 68 = .ok (.aload_n 0, 1) := dk_42 (dk_at dksX2_plan_3 0 rfl rfl)
theorem dX2_plan_69 : decode cX2_plan 69 = .ok (.iload_n 2, 1) := dk_28 (dk_at dksX2_plan_3 1 rfl rfl)
theorem dX2_plan_70 : decode cX2_plan 70 = .ok (.invokevirtual 83, 3) := dk_182 0 83 (dk_at dksX2_plan_3 2 rfl rfl)
theorem dX2_plan_73 : decode cX2_plan 73 = .ok (.ifCond .ne 7, 3) := dk_154 0 7 (dk_at dksX2_plan_3 5 rfl rfl)
theorem dX2_plan_76 : decode cX2_plan 76 = .ok (.iconst 1, 1) := dk_4 (dk_at dksX2_plan_3 8 rfl rfl)
theorem dX2_plan_77 : decode cX2_plan 77 = .ok (.goto 4, 3) := dk_167 0 4 (dk_at dksX2_plan_3 9 rfl rfl)
theorem dX2_plan_80 : decode cX2_plan 80 = .ok (.iconst 0, 1) := dk_3 (dk_at dksX2_plan_3 12 rfl rfl)
theorem dX2_plan_81 : decode cX2_plan 81 = .ok (.iconst 4, 1) := dk_7 (dk_at dksX2_plan_3 13 rfl rfl)
theorem dX2_plan_82 : decode cX2_plan 82 = .ok (.iload_n 2, 1) := dk_28 (dk_at dksX2_plan_3 14 rfl rfl)
theorem dX2_plan_83 : decode cX2_plan 83 = .ok (.invokestatic 98, 3) := dk_184 0 98 (dk_at dksX2_plan_3 15 rfl rfl)
theorem dX2_plan_86 : decode cX2_plan 86 = .ok (.new 154, 3) := dk_187 0 154 (dk_at dksX2_plan_3 18 rfl rfl)
theorem dX2_plan_89 : decode cX2_plan 89 = .ok (.dup, 1) := dk_89 (dk_at dksX2_plan_3 21 rfl rfl)
theorem dX2_plan_90 : decode cX2_plan 90 = .ok (.aload_n 0, 1) := dk_42 (dk_at dksX2_plan_3 22 rfl rfl)
theorem dX2_plan_91 : decode cX2_plan 91 = .ok (.iload_n 1, 1) := dk_27 (dk_at dksX2_plan_3 23 rfl rfl)
theorem dX2_plan_92 : decode cX2_plan 92 = .ok (.iload_n 2, 1) := dk_28 (dk_at dksX2_plan_4 0 rfl rfl)
theorem dX2_plan_93 : decode cX2_plan 93 = .ok (.invokespecial 156, 3) := dk_183 0 156 (dk_at dksX2_plan_4 1 rfl rfl)
theorem dX2_plan_96 : decode cX2_plan 96 = .ok (.invokevirtual 159, 3) := dk_182 0 159 (dk_at dksX2_plan_4 4 rfl rfl)
theorem dX2_plan_99 : decode cX2_plan 99 = .ok (.astore 4, 2) := dk_58 4 (dk_at dksX2_plan_4 7 rfl rfl)
theorem dX2_plan_101 : decode cX2_plan 101 = .ok (.aload 4, 2) := dk_25 4 (dk_at dksX2_plan_4 9 rfl rfl)
theorem dX2_plan_103 : decode cX2_plan 103 = .ok (.ifnonnull 7, 3) := dk_199 0 7 (dk_at dksX2_plan_4 11 rfl rfl)
theorem dX2_plan_106 : decode cX2_plan 106 = .ok (.iconst 1, 1) := dk_4 (dk_at dksX2_plan_4 14 rfl rfl)
theorem dX2_plan_107 : decode cX2_plan 107 = .ok (.goto 4, 3) := dk_167 0 4 (dk_at dksX2_plan_4 15 rfl rfl)
theorem dX2_plan_110 : decode cX2_plan 110 = .ok (.iconst 0, 1) := dk_3 (dk_at dksX2_plan_4 18 rfl rfl)
theorem dX2_plan_111 : decode cX2_plan 111 = .ok (.bipush 10, 2) := dk_16 10 (dk_at dksX2_plan_4 19 rfl rfl)
theorem dX2_plan_113 : decode cX2_plan 113 = .ok (.invokestatic 105, 3) := dk_184 0 105 (dk_at dksX2_plan_4 21 rfl rfl)
theorem dX2_plan_116 : decode cX2_plan 116 = .ok (.aload_n 0, 1) := dk_42 (dk_at dksX2_plan_5 0 rfl rfl)
theorem dX2_plan_117 : decode cX2_plan 117 = .ok (.iload_n 1, 1) := dk_27 (dk_at dksX2_plan_5 1 rfl rfl)
theorem dX2_plan_118 : decode cX2_plan 118 = .ok (.invokevirtual 163, 3) := dk_182 0 163 (dk_at dksX2_plan_5 2 rfl rfl)
theorem dX2_plan_121 : decode cX2_plan 121 = .ok (.ifCond .eq 12, 3) := dk_153 0 12 (dk_at dksX2_plan_5 5 rfl rfl)
theorem dX2_plan_124 : decode cX2_plan 124 = .ok (.aload_n 0, 1) := dk_42 (dk_at dksX2_plan_5 8 rfl rfl)
theorem dX2_plan_125 : decode cX2_plan 125 = .ok (.getfield 21, 3) := dk_180 0 21 (dk_at dksX2_plan_5 9 rfl rfl)
theorem dX2_plan_128 : decode cX2_plan 128 = .ok (.iconst 1, 1) := dk_4 (dk_at dksX2_plan_5 12 rfl rfl)
theorem dX2_plan_129 : decode cX2_plan 129 = .ok (.iaload, 1) := dk_46 (dk_at dksX2_plan_5 13 rfl rfl)
theorem dX2_plan_130 : decode cX2_plan 130 = .ok (.goto 4, 3) := dk_167 0 4 (dk_at dksX2_plan_5 14 rfl rfl)
theorem dX2_plan_133 : decode cX2_plan 133 = .ok (.iconst 1, 1) := dk_4 (dk_at dksX2_plan_5 17 rfl rfl)
theorem dX2_plan_134 : decode cX2_plan 134 = .ok (.istore 5, 2) := dk_54 5 (dk_at dksX2_plan_5 18 rfl rfl)
theorem dX2_plan_136 : decode cX2_plan 136 = .ok (.iload 5, 2) := dk_21 5 (dk_at dksX2_plan_5 20 rfl rfl)
theorem dX2_plan_138 : decode cX2_plan 138 = .ok (.aload_n 3, 1) := dk_45 (dk_at dksX2_plan_5 22 rfl rfl)
theorem dX2_plan_139 : decode cX2_plan 139 = .ok (.getfield 151, 3) := dk_180 0 151 (dk_at dksX2_plan_6 0 rfl rfl)
theorem dX2_plan_142 : decode cX2_plan 142 = .ok (.aload 4, 2) := dk_25 4 (dk_at dksX2_plan_6 3 rfl rfl)
theorem dX2_plan_144 : decode cX2_plan 144 = .ok (.invokestatic 166, 3) := dk_184 0 166 (dk_at dksX2_plan_6 5 rfl rfl)
theorem dX2_plan_147 : decode cX2_plan 147 = .ok (.imul, 1) := dk_104 (dk_at dksX2_plan_6 8 rfl rfl)
theorem dX2_plan_148 : decode cX2_plan 148 = .ok (.istore 6, 2) := dk_54 6 (dk_at dksX2_plan_6 9 rfl rfl)
theorem dX2_plan_150 : decode cX2_plan 150 = .ok (.aload_n 3, 1) := dk_45 (dk_at dksX2_plan_6 11 rfl rfl)
theorem dX2_plan_151 : decode cX2_plan 151 = .ok (.getfield 170, 3) := dk_180 0 170 (dk_at dksX2_plan_6 12 rfl rfl)
theorem dX2_plan_154 : decode cX2_plan 154 = .ok (.iload 6, 2) := dk_21 6 (dk_at dksX2_plan_6 15 rfl rfl)
theorem dX2_plan_156 : decode cX2_plan 156 = .ok (.if_icmp .ge 7, 3) := dk_162 0 7 (dk_at dksX2_plan_6 17 rfl rfl)
theorem dX2_plan_159 : decode cX2_plan 159 = .ok (.iconst 1, 1) := dk_4 (dk_at dksX2_plan_6 20 rfl rfl)
theorem dX2_plan_160 : decode cX2_plan 160 = .ok (.goto 4, 3) := dk_167 0 4 (dk_at dksX2_plan_6 21 rfl rfl)
theorem dX2_plan_163 : decode cX2_plan 163 = .ok (.iconst 0, 1) := dk_3 (dk_at dksX2_plan_7 0 rfl rfl)
theorem dX2_plan_164 : decode cX2_plan 164 = .ok (.bipush 11, 2) := dk_16 11 (dk_at dksX2_plan_7 1 rfl rfl)
theorem dX2_plan_166 : decode cX2_plan 166 = .ok (.iload 6, 2) := dk_21 6 (dk_at dksX2_plan_7 3 rfl rfl)
theorem dX2_plan_168 : decode cX2_plan 168 = .ok (.invokestatic 98, 3) := dk_184 0 98 (dk_at dksX2_plan_7 5 rfl rfl)
theorem dX2_plan_171 : decode cX2_plan 171 = .ok (.aload_n 3, 1) := dk_45 (dk_at dksX2_plan_7 8 rfl rfl)
theorem dX2_plan_172 : decode cX2_plan 172 = .ok (.aload 4, 2) := dk_25 4 (dk_at dksX2_plan_7 9 rfl rfl)
theorem dX2_plan_174 : decode cX2_plan 174 = .ok (.putfield 173, 3) := dk_181 0 173 (dk_at dksX2_plan_7 11 rfl rfl)
theorem dX2_plan_177 : decode cX2_plan 177 = .ok (.aload_n 3, 1) := dk_45 (dk_at dksX2_plan_7 14 rfl rfl)
theorem dX2_plan_178 : decode cX2_plan 178 = .ok (.iconst 0, 1) := dk_3 (dk_at dksX2_plan_7 15 rfl rfl)
theorem dX2_plan_179 : decode cX2_plan 179 = .ok (.putfield 175, 3) := dk_181 0 175 (dk_at dksX2_plan_7 16 rfl rfl)
theorem dX2_plan_182 : decode cX2_plan 182 = .ok (.aload_n 3, 1) := dk_45 (dk_at dksX2_plan_7 19 rfl rfl)
theorem dX2_plan_183 : decode cX2_plan 183 = .ok (.iload 5, 2) := dk_21 5 (dk_at dksX2_plan_7 20 rfl rfl)
theorem dX2_plan_185 : decode cX2_plan 185 = .ok (.putfield 178, 3) := dk_181 0 178 (dk_at dksX2_plan_8 0 rfl rfl)
theorem dX2_plan_188 : decode cX2_plan 188 = .ok (.aload 4, 2) := dk_25 4 (dk_at dksX2_plan_8 3 rfl rfl)
theorem dX2_plan_190 : decode cX2_plan 190 = .ok (.arraylength, 1) := dk_190 (dk_at dksX2_plan_8 5 rfl rfl)
theorem dX2_plan_191 : decode cX2_plan 191 = .ok (.ireturn, 1) := dk_172 (dk_at dksX2_plan_8 6 rfl rfl)
abbrev cX2_neighbor : ByteArray := prog_2_method_9_code
def yX2_neighbor : MethodName := ⟨RX2, "neighbor", "(II)I"⟩
def dkwX2_neighbor_5 : List UInt8 := [21, 4, 96, 167, 0, 4, 2, 172]
abbrev dktX2_neighbor_5 : List UInt8 := dkwX2_neighbor_5 ++ []
def dkwX2_neighbor_4 : List UInt8 := [182, 0, 83, 153, 0, 7, 4, 167, 0, 4, 3, 54, 5, 21, 5, 153, 0, 15, 29, 42, 180, 0, 29, 104]
abbrev dktX2_neighbor_4 : List UInt8 := dkwX2_neighbor_4 ++ dktX2_neighbor_5
def dkwX2_neighbor_3 : List UInt8 := [42, 180, 0, 29, 4, 100, 184, 0, 75, 153, 0, 23, 42, 29, 42, 180, 0, 29, 104, 21, 4, 96]
abbrev dktX2_neighbor_3 : List UInt8 := dkwX2_neighbor_3 ++ dktX2_neighbor_4
def dkwX2_neighbor_2 : List UInt8 := [167, 0, 4, 3, 96, 54, 4, 29, 3, 42, 180, 0, 25, 4, 100, 184, 0, 75, 153, 0, 38, 21, 4, 3]
abbrev dktX2_neighbor_2 : List UInt8 := dkwX2_neighbor_2 ++ dktX2_neighbor_3
def dkwX2_neighbor_1 : List UInt8 := [96, 62, 27, 42, 180, 0, 29, 112, 28, 4, 160, 0, 7, 4, 167, 0, 13, 28, 6, 160, 0, 7, 2]
abbrev dktX2_neighbor_1 : List UInt8 := dkwX2_neighbor_1 ++ dktX2_neighbor_2
def dkwX2_neighbor_0 : List UInt8 := [27, 42, 180, 0, 29, 108, 28, 154, 0, 7, 2, 167, 0, 13, 28, 5, 160, 0, 7, 4, 167, 0, 4, 3]
abbrev dktX2_neighbor_0 : List UInt8 := dkwX2_neighbor_0 ++ dktX2_neighbor_1
theorem dksX2_neighbor_0 : cX2_neighbor.data.toList.drop 0 = dktX2_neighbor_0 := by decide +kernel
theorem dksX2_neighbor_1 : cX2_neighbor.data.toList.drop 24 = dktX2_neighbor_1 := dk_seg dksX2_neighbor_0 24 rfl rfl
theorem dksX2_neighbor_2 : cX2_neighbor.data.toList.drop 47 = dktX2_neighbor_2 := dk_seg dksX2_neighbor_1 23 rfl rfl
theorem dksX2_neighbor_3 : cX2_neighbor.data.toList.drop 71 = dktX2_neighbor_3 := dk_seg dksX2_neighbor_2 24 rfl rfl
theorem dksX2_neighbor_4 : cX2_neighbor.data.toList.drop 93 = dktX2_neighbor_4 := dk_seg dksX2_neighbor_3 22 rfl rfl
theorem dksX2_neighbor_5 : cX2_neighbor.data.toList.drop 117 = dktX2_neighbor_5 := dk_seg dksX2_neighbor_4 24 rfl rfl
theorem dX2_neighbor_0 : decode cX2_neighbor 0 = .ok (.iload_n 1, 1) := dk_27 (dk_at dksX2_neighbor_0 0 rfl rfl)
theorem dX2_neighbor_1 : decode cX2_neighbor 1 = .ok (.aload_n 0, 1) := dk_42 (dk_at dksX2_neighbor_0 1 rfl rfl)
theorem dX2_neighbor_2 : decode cX2_neighbor 2 = .ok (.getfield 29, 3) := dk_180 0 29 (dk_at dksX2_neighbor_0 2 rfl rfl)
theorem dX2_neighbor_5 : decode cX2_neighbor 5 = .ok (.idiv, 1) := dk_108 (dk_at dksX2_neighbor_0 5 rfl rfl)
theorem dX2_neighbor_6 : decode cX2_neighbor 6 = .ok (.iload_n 2, 1) := dk_28 (dk_at dksX2_neighbor_0 6 rfl rfl)
theorem dX2_neighbor_7 : decode cX2_neighbor 7 = .ok (.ifCond .ne 7, 3) := dk_154 0 7 (dk_at dksX2_neighbor_0 7 rfl rfl)
theorem dX2_neighbor_10 : decode cX2_neighbor 10 = .ok (.iconst (-1), 1) := dk_2 (dk_at dksX2_neighbor_0 10 rfl rfl)
theorem dX2_neighbor_11 : decode cX2_neighbor 11 = .ok (.goto 13, 3) := dk_167 0 13 (dk_at dksX2_neighbor_0 11 rfl rfl)
theorem dX2_neighbor_14 : decode cX2_neighbor 14 = .ok (.iload_n 2, 1) := dk_28 (dk_at dksX2_neighbor_0 14 rfl rfl)
theorem dX2_neighbor_15 : decode cX2_neighbor 15 = .ok (.iconst 2, 1) := dk_5 (dk_at dksX2_neighbor_0 15 rfl rfl)
theorem dX2_neighbor_16 : decode cX2_neighbor 16 = .ok (.if_icmp .ne 7, 3) := dk_160 0 7 (dk_at dksX2_neighbor_0 16 rfl rfl)
theorem dX2_neighbor_19 : decode cX2_neighbor 19 = .ok (.iconst 1, 1) := dk_4 (dk_at dksX2_neighbor_0 19 rfl rfl)
theorem dX2_neighbor_20 : decode cX2_neighbor 20 = .ok (.goto 4, 3) := dk_167 0 4 (dk_at dksX2_neighbor_0 20 rfl rfl)
theorem dX2_neighbor_23 : decode cX2_neighbor 23 = .ok (.iconst 0, 1) := dk_3 (dk_at dksX2_neighbor_0 23 rfl rfl)
theorem dX2_neighbor_24 : decode cX2_neighbor 24 = .ok (.iadd, 1) := dk_96 (dk_at dksX2_neighbor_1 0 rfl rfl)
theorem dX2_neighbor_25 : decode cX2_neighbor 25 = .ok (.istore_n 3, 1) := dk_62 (dk_at dksX2_neighbor_1 1 rfl rfl)
theorem dX2_neighbor_26 : decode cX2_neighbor 26 = .ok (.iload_n 1, 1) := dk_27 (dk_at dksX2_neighbor_1 2 rfl rfl)
theorem dX2_neighbor_27 : decode cX2_neighbor 27 = .ok (.aload_n 0, 1) := dk_42 (dk_at dksX2_neighbor_1 3 rfl rfl)
theorem dX2_neighbor_28 : decode cX2_neighbor 28 = .ok (.getfield 29, 3) := dk_180 0 29 (dk_at dksX2_neighbor_1 4 rfl rfl)
theorem dX2_neighbor_31 : decode cX2_neighbor 31 = .ok (.irem, 1) := dk_112 (dk_at dksX2_neighbor_1 7 rfl rfl)
theorem dX2_neighbor_32 : decode cX2_neighbor 32 = .ok (.iload_n 2, 1) := dk_28 (dk_at dksX2_neighbor_1 8 rfl rfl)
theorem dX2_neighbor_33 : decode cX2_neighbor 33 = .ok (.iconst 1, 1) := dk_4 (dk_at dksX2_neighbor_1 9 rfl rfl)
theorem dX2_neighbor_34 : decode cX2_neighbor 34 = .ok (.if_icmp .ne 7, 3) := dk_160 0 7 (dk_at dksX2_neighbor_1 10 rfl rfl)
theorem dX2_neighbor_37 : decode cX2_neighbor 37 = .ok (.iconst 1, 1) := dk_4 (dk_at dksX2_neighbor_1 13 rfl rfl)
theorem dX2_neighbor_38 : decode cX2_neighbor 38 = .ok (.goto 13, 3) := dk_167 0 13 (dk_at dksX2_neighbor_1 14 rfl rfl)
theorem dX2_neighbor_41 : decode cX2_neighbor 41 = .ok (.iload_n 2, 1) := dk_28 (dk_at dksX2_neighbor_1 17 rfl rfl)
theorem dX2_neighbor_42 : decode cX2_neighbor 42 = .ok (.iconst 3, 1) := dk_6 (dk_at dksX2_neighbor_1 18 rfl rfl)
theorem dX2_neighbor_43 : decode cX2_neighbor 43 = .ok (.if_icmp .ne 7, 3) := dk_160 0 7 (dk_at dksX2_neighbor_1 19 rfl rfl)
theorem dX2_neighbor_46 : decode cX2_neighbor 46 = .ok (.iconst (-1), 1) := dk_2 (dk_at dksX2_neighbor_1 22 rfl rfl)
theorem dX2_neighbor_47 : decode cX2_neighbor 47 = .ok (.goto 4, 3) := dk_167 0 4 (dk_at dksX2_neighbor_2 0 rfl rfl)
theorem dX2_neighbor_50 : decode cX2_neighbor 50 = .ok (.iconst 0, 1) := dk_3 (dk_at dksX2_neighbor_2 3 rfl rfl)
theorem dX2_neighbor_51 : decode cX2_neighbor 51 = .ok (.iadd, 1) := dk_96 (dk_at dksX2_neighbor_2 4 rfl rfl)
theorem dX2_neighbor_52 : decode cX2_neighbor 52 = .ok (.istore 4, 2) := dk_54 4 (dk_at dksX2_neighbor_2 5 rfl rfl)
theorem dX2_neighbor_54 : decode cX2_neighbor 54 = .ok (.iload_n 3, 1) := dk_29 (dk_at dksX2_neighbor_2 7 rfl rfl)
theorem dX2_neighbor_55 : decode cX2_neighbor 55 = .ok (.iconst 0, 1) := dk_3 (dk_at dksX2_neighbor_2 8 rfl rfl)
theorem dX2_neighbor_56 : decode cX2_neighbor 56 = .ok (.aload_n 0, 1) := dk_42 (dk_at dksX2_neighbor_2 9 rfl rfl)
theorem dX2_neighbor_57 : decode cX2_neighbor 57 = .ok (.getfield 25, 3) := dk_180 0 25 (dk_at dksX2_neighbor_2 10 rfl rfl)
theorem dX2_neighbor_60 : decode cX2_neighbor 60 = .ok (.iconst 1, 1) := dk_4 (dk_at dksX2_neighbor_2 13 rfl rfl)
theorem dX2_neighbor_61 : decode cX2_neighbor 61 = .ok (.isub, 1) := dk_100 (dk_at dksX2_neighbor_2 14 rfl rfl)
theorem dX2_neighbor_62 : decode cX2_neighbor 62 = .ok (.invokestatic 75, 3) := dk_184 0 75 (dk_at dksX2_neighbor_2 15 rfl rfl)
theorem dX2_neighbor_65 : decode cX2_neighbor 65 = .ok (.ifCond .eq 38, 3) := dk_153 0 38 (dk_at dksX2_neighbor_2 18 rfl rfl)
theorem dX2_neighbor_68 : decode cX2_neighbor 68 = .ok (.iload 4, 2) := dk_21 4 (dk_at dksX2_neighbor_2 21 rfl rfl)
theorem dX2_neighbor_70 : decode cX2_neighbor 70 = .ok (.iconst 0, 1) := dk_3 (dk_at dksX2_neighbor_2 23 rfl rfl)
theorem dX2_neighbor_71 : decode cX2_neighbor 71 = .ok (.aload_n 0, 1) := dk_42 (dk_at dksX2_neighbor_3 0 rfl rfl)
theorem dX2_neighbor_72 : decode cX2_neighbor 72 = .ok (.getfield 29, 3) := dk_180 0 29 (dk_at dksX2_neighbor_3 1 rfl rfl)
theorem dX2_neighbor_75 : decode cX2_neighbor 75 = .ok (.iconst 1, 1) := dk_4 (dk_at dksX2_neighbor_3 4 rfl rfl)
theorem dX2_neighbor_76 : decode cX2_neighbor 76 = .ok (.isub, 1) := dk_100 (dk_at dksX2_neighbor_3 5 rfl rfl)
theorem dX2_neighbor_77 : decode cX2_neighbor 77 = .ok (.invokestatic 75, 3) := dk_184 0 75 (dk_at dksX2_neighbor_3 6 rfl rfl)
theorem dX2_neighbor_80 : decode cX2_neighbor 80 = .ok (.ifCond .eq 23, 3) := dk_153 0 23 (dk_at dksX2_neighbor_3 9 rfl rfl)
theorem dX2_neighbor_83 : decode cX2_neighbor 83 = .ok (.aload_n 0, 1) := dk_42 (dk_at dksX2_neighbor_3 12 rfl rfl)
theorem dX2_neighbor_84 : decode cX2_neighbor 84 = .ok (.iload_n 3, 1) := dk_29 (dk_at dksX2_neighbor_3 13 rfl rfl)
theorem dX2_neighbor_85 : decode cX2_neighbor 85 = .ok (.aload_n 0, 1) := dk_42 (dk_at dksX2_neighbor_3 14 rfl rfl)
theorem dX2_neighbor_86 : decode cX2_neighbor 86 = .ok (.getfield 29, 3) := dk_180 0 29 (dk_at dksX2_neighbor_3 15 rfl rfl)
theorem dX2_neighbor_89 : decode cX2_neighbor 89 = .ok (.imul, 1) := dk_104 (dk_at dksX2_neighbor_3 18 rfl rfl)
theorem dX2_neighbor_90 : decode cX2_neighbor 90 = .ok (.iload 4, 2) := dk_21 4 (dk_at dksX2_neighbor_3 19 rfl rfl)
theorem dX2_neighbor_92 : decode cX2_neighbor 92 = .ok (.iadd, 1) := dk_96 (dk_at dksX2_neighbor_3 21 rfl rfl)
theorem dX2_neighbor_93 : decode cX2_neighbor 93 = .ok (.invokevirtual 83, 3) := dk_182 0 83 (dk_at dksX2_neighbor_4 0 rfl rfl)
theorem dX2_neighbor_96 : decode cX2_neighbor 96 = .ok (.ifCond .eq 7, 3) := dk_153 0 7 (dk_at dksX2_neighbor_4 3 rfl rfl)
theorem dX2_neighbor_99 : decode cX2_neighbor 99 = .ok (.iconst 1, 1) := dk_4 (dk_at dksX2_neighbor_4 6 rfl rfl)
theorem dX2_neighbor_100 : decode cX2_neighbor 100 = .ok (.goto 4, 3) := dk_167 0 4 (dk_at dksX2_neighbor_4 7 rfl rfl)
theorem dX2_neighbor_103 : decode cX2_neighbor 103 = .ok (.iconst 0, 1) := dk_3 (dk_at dksX2_neighbor_4 10 rfl rfl)
theorem dX2_neighbor_104 : decode cX2_neighbor 104 = .ok (.istore 5, 2) := dk_54 5 (dk_at dksX2_neighbor_4 11 rfl rfl)
theorem dX2_neighbor_106 : decode cX2_neighbor 106 = .ok (.iload 5, 2) := dk_21 5 (dk_at dksX2_neighbor_4 13 rfl rfl)
theorem dX2_neighbor_108 : decode cX2_neighbor 108 = .ok (.ifCond .eq 15, 3) := dk_153 0 15 (dk_at dksX2_neighbor_4 15 rfl rfl)
theorem dX2_neighbor_111 : decode cX2_neighbor 111 = .ok (.iload_n 3, 1) := dk_29 (dk_at dksX2_neighbor_4 18 rfl rfl)
theorem dX2_neighbor_112 : decode cX2_neighbor 112 = .ok (.aload_n 0, 1) := dk_42 (dk_at dksX2_neighbor_4 19 rfl rfl)
theorem dX2_neighbor_113 : decode cX2_neighbor 113 = .ok (.getfield 29, 3) := dk_180 0 29 (dk_at dksX2_neighbor_4 20 rfl rfl)
theorem dX2_neighbor_116 : decode cX2_neighbor 116 = .ok (.imul, 1) := dk_104 (dk_at dksX2_neighbor_4 23 rfl rfl)
theorem dX2_neighbor_117 : decode cX2_neighbor 117 = .ok (.iload 4, 2) := dk_21 4 (dk_at dksX2_neighbor_5 0 rfl rfl)
theorem dX2_neighbor_119 : decode cX2_neighbor 119 = .ok (.iadd, 1) := dk_96 (dk_at dksX2_neighbor_5 2 rfl rfl)
theorem dX2_neighbor_120 : decode cX2_neighbor 120 = .ok (.goto 4, 3) := dk_167 0 4 (dk_at dksX2_neighbor_5 3 rfl rfl)
theorem dX2_neighbor_123 : decode cX2_neighbor 123 = .ok (.iconst (-1), 1) := dk_2 (dk_at dksX2_neighbor_5 6 rfl rfl)
theorem dX2_neighbor_124 : decode cX2_neighbor 124 = .ok (.ireturn, 1) := dk_172 (dk_at dksX2_neighbor_5 7 rfl rfl)
abbrev cX2_isLoaded : ByteArray := prog_2_method_18_code
def yX2_isLoaded : MethodName := ⟨RX2, "isLoaded", "(I)Z"⟩
def dkwX2_isLoaded_1 : List UInt8 := [28, 182, 0, 42, 192, 0, 56, 180, 0, 133, 158, 0, 7, 4, 167, 0, 4, 3, 172]
abbrev dktX2_isLoaded_1 : List UInt8 := dkwX2_isLoaded_1 ++ []
def dkwX2_isLoaded_0 : List UInt8 := [42, 180, 0, 12, 27, 182, 0, 42, 192, 0, 46, 180, 0, 117, 61, 28, 2, 159, 0, 24, 42, 180, 0, 18]
abbrev dktX2_isLoaded_0 : List UInt8 := dkwX2_isLoaded_0 ++ dktX2_isLoaded_1
theorem dksX2_isLoaded_0 : cX2_isLoaded.data.toList.drop 0 = dktX2_isLoaded_0 := by decide +kernel
theorem dksX2_isLoaded_1 : cX2_isLoaded.data.toList.drop 24 = dktX2_isLoaded_1 := dk_seg dksX2_isLoaded_0 24 rfl rfl
theorem dX2_isLoaded_0 : decode cX2_isLoaded 0 = .ok (.aload_n 0, 1) := dk_42 (dk_at dksX2_isLoaded_0 0 rfl rfl)
theorem dX2_isLoaded_1 : decode cX2_isLoaded 1 = .ok (.getfield 12, 3) := dk_180 0 12 (dk_at dksX2_isLoaded_0 1 rfl rfl)
theorem dX2_isLoaded_4 : decode cX2_isLoaded 4 = .ok (.iload_n 1, 1) := dk_27 (dk_at dksX2_isLoaded_0 4 rfl rfl)
theorem dX2_isLoaded_5 : decode cX2_isLoaded 5 = .ok (.invokevirtual 42, 3) := dk_182 0 42 (dk_at dksX2_isLoaded_0 5 rfl rfl)
theorem dX2_isLoaded_8 : decode cX2_isLoaded 8 = .ok (.checkcast 46, 3) := dk_192 0 46 (dk_at dksX2_isLoaded_0 8 rfl rfl)
theorem dX2_isLoaded_11 : decode cX2_isLoaded 11 = .ok (.getfield 117, 3) := dk_180 0 117 (dk_at dksX2_isLoaded_0 11 rfl rfl)
theorem dX2_isLoaded_14 : decode cX2_isLoaded 14 = .ok (.istore_n 2, 1) := dk_61 (dk_at dksX2_isLoaded_0 14 rfl rfl)
theorem dX2_isLoaded_15 : decode cX2_isLoaded 15 = .ok (.iload_n 2, 1) := dk_28 (dk_at dksX2_isLoaded_0 15 rfl rfl)
theorem dX2_isLoaded_16 : decode cX2_isLoaded 16 = .ok (.iconst (-1), 1) := dk_2 (dk_at dksX2_isLoaded_0 16 rfl rfl)
theorem dX2_isLoaded_17 : decode cX2_isLoaded 17 = .ok (.if_icmp .eq 24, 3) := dk_159 0 24 (dk_at dksX2_isLoaded_0 17 rfl rfl)
theorem dX2_isLoaded_20 : decode cX2_isLoaded 20 = .ok (.aload_n 0, 1) := dk_42 (dk_at dksX2_isLoaded_0 20 rfl rfl)
theorem dX2_isLoaded_21 : decode cX2_isLoaded 21 = .ok (.getfield 18, 3) := dk_180 0 18 (dk_at dksX2_isLoaded_0 21 rfl rfl)
theorem dX2_isLoaded_24 : decode cX2_isLoaded 24 = .ok (.iload_n 2, 1) := dk_28 (dk_at dksX2_isLoaded_1 0 rfl rfl)
theorem dX2_isLoaded_25 : decode cX2_isLoaded 25 = .ok (.invokevirtual 42, 3) := dk_182 0 42 (dk_at dksX2_isLoaded_1 1 rfl rfl)
theorem dX2_isLoaded_28 : decode cX2_isLoaded 28 = .ok (.checkcast 56, 3) := dk_192 0 56 (dk_at dksX2_isLoaded_1 4 rfl rfl)
theorem dX2_isLoaded_31 : decode cX2_isLoaded 31 = .ok (.getfield 133, 3) := dk_180 0 133 (dk_at dksX2_isLoaded_1 7 rfl rfl)
theorem dX2_isLoaded_34 : decode cX2_isLoaded 34 = .ok (.ifCond .le 7, 3) := dk_158 0 7 (dk_at dksX2_isLoaded_1 10 rfl rfl)
theorem dX2_isLoaded_37 : decode cX2_isLoaded 37 = .ok (.iconst 1, 1) := dk_4 (dk_at dksX2_isLoaded_1 13 rfl rfl)
theorem dX2_isLoaded_38 : decode cX2_isLoaded 38 = .ok (.goto 4, 3) := dk_167 0 4 (dk_at dksX2_isLoaded_1 14 rfl rfl)
theorem dX2_isLoaded_41 : decode cX2_isLoaded 41 = .ok (.iconst 0, 1) := dk_3 (dk_at dksX2_isLoaded_1 17 rfl rfl)
theorem dX2_isLoaded_42 : decode cX2_isLoaded 42 = .ok (.ireturn, 1) := dk_172 (dk_at dksX2_isLoaded_1 18 rfl rfl)
abbrev cX2_stepsOf : ByteArray := prog_2_method_23_code
def yX2_stepsOf : MethodName := ⟨RX2, "stepsOf", "(I[I)I"⟩
def dkwX2_stepsOf_1 : List UInt8 := [167, 0, 4, 3, 96, 61, 43, 21, 4, 46, 62, 132, 4, 1, 167, 255, 225, 28, 172]
abbrev dktX2_stepsOf_1 : List UInt8 := dkwX2_stepsOf_1 ++ []
def dkwX2_stepsOf_0 : List UInt8 := [3, 61, 26, 62, 3, 54, 4, 21, 4, 43, 190, 162, 0, 30, 28, 43, 21, 4, 46, 29, 159, 0, 7, 4]
abbrev dktX2_stepsOf_0 : List UInt8 := dkwX2_stepsOf_0 ++ dktX2_stepsOf_1
theorem dksX2_stepsOf_0 : cX2_stepsOf.data.toList.drop 0 = dktX2_stepsOf_0 := by decide +kernel
theorem dksX2_stepsOf_1 : cX2_stepsOf.data.toList.drop 24 = dktX2_stepsOf_1 := dk_seg dksX2_stepsOf_0 24 rfl rfl
theorem dX2_stepsOf_0 : decode cX2_stepsOf 0 = .ok (.iconst 0, 1) := dk_3 (dk_at dksX2_stepsOf_0 0 rfl rfl)
theorem dX2_stepsOf_1 : decode cX2_stepsOf 1 = .ok (.istore_n 2, 1) := dk_61 (dk_at dksX2_stepsOf_0 1 rfl rfl)
theorem dX2_stepsOf_2 : decode cX2_stepsOf 2 = .ok (.iload_n 0, 1) := dk_26 (dk_at dksX2_stepsOf_0 2 rfl rfl)
theorem dX2_stepsOf_3 : decode cX2_stepsOf 3 = .ok (.istore_n 3, 1) := dk_62 (dk_at dksX2_stepsOf_0 3 rfl rfl)
theorem dX2_stepsOf_4 : decode cX2_stepsOf 4 = .ok (.iconst 0, 1) := dk_3 (dk_at dksX2_stepsOf_0 4 rfl rfl)
theorem dX2_stepsOf_5 : decode cX2_stepsOf 5 = .ok (.istore 4, 2) := dk_54 4 (dk_at dksX2_stepsOf_0 5 rfl rfl)
theorem dX2_stepsOf_7 : decode cX2_stepsOf 7 = .ok (.iload 4, 2) := dk_21 4 (dk_at dksX2_stepsOf_0 7 rfl rfl)
theorem dX2_stepsOf_9 : decode cX2_stepsOf 9 = .ok (.aload_n 1, 1) := dk_43 (dk_at dksX2_stepsOf_0 9 rfl rfl)
theorem dX2_stepsOf_10 : decode cX2_stepsOf 10 = .ok (.arraylength, 1) := dk_190 (dk_at dksX2_stepsOf_0 10 rfl rfl)
theorem dX2_stepsOf_11 : decode cX2_stepsOf 11 = .ok (.if_icmp .ge 30, 3) := dk_162 0 30 (dk_at dksX2_stepsOf_0 11 rfl rfl)
theorem dX2_stepsOf_14 : decode cX2_stepsOf 14 = .ok (.iload_n 2, 1) := dk_28 (dk_at dksX2_stepsOf_0 14 rfl rfl)
theorem dX2_stepsOf_15 : decode cX2_stepsOf 15 = .ok (.aload_n 1, 1) := dk_43 (dk_at dksX2_stepsOf_0 15 rfl rfl)
theorem dX2_stepsOf_16 : decode cX2_stepsOf 16 = .ok (.iload 4, 2) := dk_21 4 (dk_at dksX2_stepsOf_0 16 rfl rfl)
theorem dX2_stepsOf_18 : decode cX2_stepsOf 18 = .ok (.iaload, 1) := dk_46 (dk_at dksX2_stepsOf_0 18 rfl rfl)
theorem dX2_stepsOf_19 : decode cX2_stepsOf 19 = .ok (.iload_n 3, 1) := dk_29 (dk_at dksX2_stepsOf_0 19 rfl rfl)
theorem dX2_stepsOf_20 : decode cX2_stepsOf 20 = .ok (.if_icmp .eq 7, 3) := dk_159 0 7 (dk_at dksX2_stepsOf_0 20 rfl rfl)
theorem dX2_stepsOf_23 : decode cX2_stepsOf 23 = .ok (.iconst 1, 1) := dk_4 (dk_at dksX2_stepsOf_0 23 rfl rfl)
theorem dX2_stepsOf_24 : decode cX2_stepsOf 24 = .ok (.goto 4, 3) := dk_167 0 4 (dk_at dksX2_stepsOf_1 0 rfl rfl)
theorem dX2_stepsOf_27 : decode cX2_stepsOf 27 = .ok (.iconst 0, 1) := dk_3 (dk_at dksX2_stepsOf_1 3 rfl rfl)
theorem dX2_stepsOf_28 : decode cX2_stepsOf 28 = .ok (.iadd, 1) := dk_96 (dk_at dksX2_stepsOf_1 4 rfl rfl)
theorem dX2_stepsOf_29 : decode cX2_stepsOf 29 = .ok (.istore_n 2, 1) := dk_61 (dk_at dksX2_stepsOf_1 5 rfl rfl)
theorem dX2_stepsOf_30 : decode cX2_stepsOf 30 = .ok (.aload_n 1, 1) := dk_43 (dk_at dksX2_stepsOf_1 6 rfl rfl)
theorem dX2_stepsOf_31 : decode cX2_stepsOf 31 = .ok (.iload 4, 2) := dk_21 4 (dk_at dksX2_stepsOf_1 7 rfl rfl)
theorem dX2_stepsOf_33 : decode cX2_stepsOf 33 = .ok (.iaload, 1) := dk_46 (dk_at dksX2_stepsOf_1 9 rfl rfl)
theorem dX2_stepsOf_34 : decode cX2_stepsOf 34 = .ok (.istore_n 3, 1) := dk_62 (dk_at dksX2_stepsOf_1 10 rfl rfl)
theorem dX2_stepsOf_35 : decode cX2_stepsOf 35 = .ok (.iinc 4 1, 3) := dk_132 4 1 (dk_at dksX2_stepsOf_1 11 rfl rfl)
theorem dX2_stepsOf_38 : decode cX2_stepsOf 38 = .ok (.goto (-31), 3) := dk_167 255 225 (dk_at dksX2_stepsOf_1 14 rfl rfl)
theorem dX2_stepsOf_41 : decode cX2_stepsOf 41 = .ok (.iload_n 2, 1) := dk_28 (dk_at dksX2_stepsOf_1 17 rfl rfl)
theorem dX2_stepsOf_42 : decode cX2_stepsOf 42 = .ok (.ireturn, 1) := dk_172 (dk_at dksX2_stepsOf_1 18 rfl rfl)
abbrev cX2_cancel : ByteArray := prog_2_method_24_code
def yX2_cancel : MethodName := ⟨RX2, "cancel", "(I)I"⟩
def dkwX2_cancel_2 : List UInt8 := [42, 44, 180, 0, 151, 27, 182, 0, 108, 44, 182, 0, 148, 62, 44, 182, 0, 181, 29, 172]
abbrev dktX2_cancel_2 : List UInt8 := dkwX2_cancel_2 ++ []
def dkwX2_cancel_1 : List UInt8 := [182, 0, 42, 192, 0, 46, 77, 44, 182, 0, 144, 154, 0, 7, 4, 167, 0, 4, 3, 16, 14, 184, 0, 105]
abbrev dktX2_cancel_1 : List UInt8 := dkwX2_cancel_1 ++ dktX2_cancel_2
def dkwX2_cancel_0 : List UInt8 := [42, 27, 182, 0, 114, 154, 0, 7, 4, 167, 0, 4, 3, 4, 184, 0, 105, 42, 180, 0, 12, 27]
abbrev dktX2_cancel_0 : List UInt8 := dkwX2_cancel_0 ++ dktX2_cancel_1
theorem dksX2_cancel_0 : cX2_cancel.data.toList.drop 0 = dktX2_cancel_0 := by decide +kernel
theorem dksX2_cancel_1 : cX2_cancel.data.toList.drop 22 = dktX2_cancel_1 := dk_seg dksX2_cancel_0 22 rfl rfl
theorem dksX2_cancel_2 : cX2_cancel.data.toList.drop 46 = dktX2_cancel_2 := dk_seg dksX2_cancel_1 24 rfl rfl
theorem dX2_cancel_0 : decode cX2_cancel 0 = .ok (.aload_n 0, 1) := dk_42 (dk_at dksX2_cancel_0 0 rfl rfl)
theorem dX2_cancel_1 : decode cX2_cancel 1 = .ok (.iload_n 1, 1) := dk_27 (dk_at dksX2_cancel_0 1 rfl rfl)
theorem dX2_cancel_2 : decode cX2_cancel 2 = .ok (.invokevirtual 114, 3) := dk_182 0 114 (dk_at dksX2_cancel_0 2 rfl rfl)
theorem dX2_cancel_5 : decode cX2_cancel 5 = .ok (.ifCond .ne 7, 3) := dk_154 0 7 (dk_at dksX2_cancel_0 5 rfl rfl)
theorem dX2_cancel_8 : decode cX2_cancel 8 = .ok (.iconst 1, 1) := dk_4 (dk_at dksX2_cancel_0 8 rfl rfl)
theorem dX2_cancel_9 : decode cX2_cancel 9 = .ok (.goto 4, 3) := dk_167 0 4 (dk_at dksX2_cancel_0 9 rfl rfl)
theorem dX2_cancel_12 : decode cX2_cancel 12 = .ok (.iconst 0, 1) := dk_3 (dk_at dksX2_cancel_0 12 rfl rfl)
theorem dX2_cancel_13 : decode cX2_cancel 13 = .ok (.iconst 1, 1) := dk_4 (dk_at dksX2_cancel_0 13 rfl rfl)
theorem dX2_cancel_14 : decode cX2_cancel 14 = .ok (.invokestatic 105, 3) := dk_184 0 105 (dk_at dksX2_cancel_0 14 rfl rfl)
theorem dX2_cancel_17 : decode cX2_cancel 17 = .ok (.aload_n 0, 1) := dk_42 (dk_at dksX2_cancel_0 17 rfl rfl)
theorem dX2_cancel_18 : decode cX2_cancel 18 = .ok (.getfield 12, 3) := dk_180 0 12 (dk_at dksX2_cancel_0 18 rfl rfl)
theorem dX2_cancel_21 : decode cX2_cancel 21 = .ok (.iload_n 1, 1) := dk_27 (dk_at dksX2_cancel_0 21 rfl rfl)
theorem dX2_cancel_22 : decode cX2_cancel 22 = .ok (.invokevirtual 42, 3) := dk_182 0 42 (dk_at dksX2_cancel_1 0 rfl rfl)
theorem dX2_cancel_25 : decode cX2_cancel 25 = .ok (.checkcast 46, 3) := dk_192 0 46 (dk_at dksX2_cancel_1 3 rfl rfl)
theorem dX2_cancel_28 : decode cX2_cancel 28 = .ok (.astore_n 2, 1) := dk_77 (dk_at dksX2_cancel_1 6 rfl rfl)
theorem dX2_cancel_29 : decode cX2_cancel 29 = .ok (.aload_n 2, 1) := dk_44 (dk_at dksX2_cancel_1 7 rfl rfl)
theorem dX2_cancel_30 : decode cX2_cancel 30 = .ok (.invokevirtual 144, 3) := dk_182 0 144 (dk_at dksX2_cancel_1 8 rfl rfl)
theorem dX2_cancel_33 : decode cX2_cancel 33 = .ok (.ifCond .ne 7, 3) := dk_154 0 7 (dk_at dksX2_cancel_1 11 rfl rfl)
theorem dX2_cancel_36 : decode cX2_cancel 36 = .ok (.iconst 1, 1) := dk_4 (dk_at dksX2_cancel_1 14 rfl rfl)
theorem dX2_cancel_37 : decode cX2_cancel 37 = .ok (.goto 4, 3) := dk_167 0 4 (dk_at dksX2_cancel_1 15 rfl rfl)
theorem dX2_cancel_40 : decode cX2_cancel 40 = .ok (.iconst 0, 1) := dk_3 (dk_at dksX2_cancel_1 18 rfl rfl)
theorem dX2_cancel_41 : decode cX2_cancel 41 = .ok (.bipush 14, 2) := dk_16 14 (dk_at dksX2_cancel_1 19 rfl rfl)
theorem dX2_cancel_43 : decode cX2_cancel 43 = .ok (.invokestatic 105, 3) := dk_184 0 105 (dk_at dksX2_cancel_1 21 rfl rfl)
theorem dX2_cancel_46 : decode cX2_cancel 46 = .ok (.aload_n 0, 1) := dk_42 (dk_at dksX2_cancel_2 0 rfl rfl)
theorem dX2_cancel_47 : decode cX2_cancel 47 = .ok (.aload_n 2, 1) := dk_44 (dk_at dksX2_cancel_2 1 rfl rfl)
theorem dX2_cancel_48 : decode cX2_cancel 48 = .ok (.getfield 151, 3) := dk_180 0 151 (dk_at dksX2_cancel_2 2 rfl rfl)
theorem dX2_cancel_51 : decode cX2_cancel 51 = .ok (.iload_n 1, 1) := dk_27 (dk_at dksX2_cancel_2 5 rfl rfl)
theorem dX2_cancel_52 : decode cX2_cancel 52 = .ok (.invokevirtual 108, 3) := dk_182 0 108 (dk_at dksX2_cancel_2 6 rfl rfl)
theorem dX2_cancel_55 : decode cX2_cancel 55 = .ok (.aload_n 2, 1) := dk_44 (dk_at dksX2_cancel_2 9 rfl rfl)
theorem dX2_cancel_56 : decode cX2_cancel 56 = .ok (.invokevirtual 148, 3) := dk_182 0 148 (dk_at dksX2_cancel_2 10 rfl rfl)
theorem dX2_cancel_59 : decode cX2_cancel 59 = .ok (.istore_n 3, 1) := dk_62 (dk_at dksX2_cancel_2 13 rfl rfl)
theorem dX2_cancel_60 : decode cX2_cancel 60 = .ok (.aload_n 2, 1) := dk_44 (dk_at dksX2_cancel_2 14 rfl rfl)
theorem dX2_cancel_61 : decode cX2_cancel 61 = .ok (.invokevirtual 181, 3) := dk_182 0 181 (dk_at dksX2_cancel_2 15 rfl rfl)
theorem dX2_cancel_64 : decode cX2_cancel 64 = .ok (.iload_n 3, 1) := dk_29 (dk_at dksX2_cancel_2 18 rfl rfl)
theorem dX2_cancel_65 : decode cX2_cancel 65 = .ok (.ireturn, 1) := dk_172 (dk_at dksX2_cancel_2 19 rfl rfl)
abbrev cX2_pass : ByteArray := prog_2_method_25_code
def yX2_pass : MethodName := ⟨RX2, "pass", "(I)I"⟩
def dkwX2_pass_1 : List UInt8 := [27, 162, 0, 16, 28, 42, 182, 0, 184, 96, 61, 132, 3, 1, 167, 255, 241, 28, 172]
abbrev dktX2_pass_1 : List UInt8 := dkwX2_pass_1 ++ []
def dkwX2_pass_0 : List UInt8 := [27, 4, 16, 99, 184, 0, 75, 154, 0, 7, 4, 167, 0, 4, 3, 5, 184, 0, 105, 3, 61, 3, 62, 29]
abbrev dktX2_pass_0 : List UInt8 := dkwX2_pass_0 ++ dktX2_pass_1
theorem dksX2_pass_0 : cX2_pass.data.toList.drop 0 = dktX2_pass_0 := by decide +kernel
theorem dksX2_pass_1 : cX2_pass.data.toList.drop 24 = dktX2_pass_1 := dk_seg dksX2_pass_0 24 rfl rfl
theorem dX2_pass_0 : decode cX2_pass 0 = .ok (.iload_n 1, 1) := dk_27 (dk_at dksX2_pass_0 0 rfl rfl)
theorem dX2_pass_1 : decode cX2_pass 1 = .ok (.iconst 1, 1) := dk_4 (dk_at dksX2_pass_0 1 rfl rfl)
theorem dX2_pass_2 : decode cX2_pass 2 = .ok (.bipush 99, 2) := dk_16 99 (dk_at dksX2_pass_0 2 rfl rfl)
theorem dX2_pass_4 : decode cX2_pass 4 = .ok (.invokestatic 75, 3) := dk_184 0 75 (dk_at dksX2_pass_0 4 rfl rfl)
theorem dX2_pass_7 : decode cX2_pass 7 = .ok (.ifCond .ne 7, 3) := dk_154 0 7 (dk_at dksX2_pass_0 7 rfl rfl)
theorem dX2_pass_10 : decode cX2_pass 10 = .ok (.iconst 1, 1) := dk_4 (dk_at dksX2_pass_0 10 rfl rfl)
theorem dX2_pass_11 : decode cX2_pass 11 = .ok (.goto 4, 3) := dk_167 0 4 (dk_at dksX2_pass_0 11 rfl rfl)
theorem dX2_pass_14 : decode cX2_pass 14 = .ok (.iconst 0, 1) := dk_3 (dk_at dksX2_pass_0 14 rfl rfl)
theorem dX2_pass_15 : decode cX2_pass 15 = .ok (.iconst 2, 1) := dk_5 (dk_at dksX2_pass_0 15 rfl rfl)
theorem dX2_pass_16 : decode cX2_pass 16 = .ok (.invokestatic 105, 3) := dk_184 0 105 (dk_at dksX2_pass_0 16 rfl rfl)
theorem dX2_pass_19 : decode cX2_pass 19 = .ok (.iconst 0, 1) := dk_3 (dk_at dksX2_pass_0 19 rfl rfl)
theorem dX2_pass_20 : decode cX2_pass 20 = .ok (.istore_n 2, 1) := dk_61 (dk_at dksX2_pass_0 20 rfl rfl)
theorem dX2_pass_21 : decode cX2_pass 21 = .ok (.iconst 0, 1) := dk_3 (dk_at dksX2_pass_0 21 rfl rfl)
theorem dX2_pass_22 : decode cX2_pass 22 = .ok (.istore_n 3, 1) := dk_62 (dk_at dksX2_pass_0 22 rfl rfl)
theorem dX2_pass_23 : decode cX2_pass 23 = .ok (.iload_n 3, 1) := dk_29 (dk_at dksX2_pass_0 23 rfl rfl)
theorem dX2_pass_24 : decode cX2_pass 24 = .ok (.iload_n 1, 1) := dk_27 (dk_at dksX2_pass_1 0 rfl rfl)
theorem dX2_pass_25 : decode cX2_pass 25 = .ok (.if_icmp .ge 16, 3) := dk_162 0 16 (dk_at dksX2_pass_1 1 rfl rfl)
theorem dX2_pass_28 : decode cX2_pass 28 = .ok (.iload_n 2, 1) := dk_28 (dk_at dksX2_pass_1 4 rfl rfl)
theorem dX2_pass_29 : decode cX2_pass 29 = .ok (.aload_n 0, 1) := dk_42 (dk_at dksX2_pass_1 5 rfl rfl)
theorem dX2_pass_30 : decode cX2_pass 30 = .ok (.invokevirtual 184, 3) := dk_182 0 184 (dk_at dksX2_pass_1 6 rfl rfl)
theorem dX2_pass_33 : decode cX2_pass 33 = .ok (.iadd, 1) := dk_96 (dk_at dksX2_pass_1 9 rfl rfl)
theorem dX2_pass_34 : decode cX2_pass 34 = .ok (.istore_n 2, 1) := dk_61 (dk_at dksX2_pass_1 10 rfl rfl)
theorem dX2_pass_35 : decode cX2_pass 35 = .ok (.iinc 3 1, 3) := dk_132 3 1 (dk_at dksX2_pass_1 11 rfl rfl)
theorem dX2_pass_38 : decode cX2_pass 38 = .ok (.goto (-15), 3) := dk_167 255 241 (dk_at dksX2_pass_1 14 rfl rfl)
theorem dX2_pass_41 : decode cX2_pass 41 = .ok (.iload_n 2, 1) := dk_28 (dk_at dksX2_pass_1 17 rfl rfl)
theorem dX2_pass_42 : decode cX2_pass 42 = .ok (.ireturn, 1) := dk_172 (dk_at dksX2_pass_1 18 rfl rfl)
abbrev cX2_tick : ByteArray := prog_2_method_26_code
def yX2_tick : MethodName := ⟨RX2, "tick", "()I"⟩
def dkwX2_tick_6 : List UInt8 := [182, 0, 42, 192, 0, 46, 182, 0, 198, 96, 60, 132, 2, 1, 167, 255, 193, 27, 172]
abbrev dktX2_tick_6 : List UInt8 := dkwX2_tick_6 ++ []
def dkwX2_tick_5 : List UInt8 := [153, 0, 35, 42, 180, 0, 12, 28, 182, 0, 42, 192, 0, 46, 182, 0, 181, 27, 42, 42, 180, 0, 12, 28]
abbrev dktX2_tick_5 : List UInt8 := dkwX2_tick_5 ++ dktX2_tick_6
def dkwX2_tick_4 : List UInt8 := [180, 0, 12, 182, 0, 38, 162, 0, 58, 42, 180, 0, 12, 28, 182, 0, 42, 192, 0, 46, 182, 0, 195]
abbrev dktX2_tick_4 : List UInt8 := dkwX2_tick_4 ++ dktX2_tick_5
def dkwX2_tick_3 : List UInt8 := [180, 0, 21, 3, 46, 96, 184, 0, 190, 181, 0, 170, 132, 1, 1, 167, 255, 183, 3, 60, 3, 61, 28, 42]
abbrev dktX2_tick_3 : List UInt8 := dkwX2_tick_3 ++ dktX2_tick_4
def dkwX2_tick_2 : List UInt8 := [167, 0, 36, 42, 180, 0, 32, 44, 180, 0, 151, 46, 5, 160, 0, 23, 44, 16, 99, 44, 180, 0, 170, 42]
abbrev dktX2_tick_2 : List UInt8 := dkwX2_tick_2 ++ dktX2_tick_3
def dkwX2_tick_1 : List UInt8 := [180, 0, 12, 27, 182, 0, 42, 192, 0, 46, 77, 44, 182, 0, 144, 153, 0, 10, 44, 182, 0, 187]
abbrev dktX2_tick_1 : List UInt8 := dkwX2_tick_1 ++ dktX2_tick_2
def dkwX2_tick_0 : List UInt8 := [42, 89, 180, 0, 71, 4, 96, 181, 0, 71, 3, 60, 27, 42, 180, 0, 12, 182, 0, 38, 162, 0, 68, 42]
abbrev dktX2_tick_0 : List UInt8 := dkwX2_tick_0 ++ dktX2_tick_1
theorem dksX2_tick_0 : cX2_tick.data.toList.drop 0 = dktX2_tick_0 := by decide +kernel
theorem dksX2_tick_1 : cX2_tick.data.toList.drop 24 = dktX2_tick_1 := dk_seg dksX2_tick_0 24 rfl rfl
theorem dksX2_tick_2 : cX2_tick.data.toList.drop 46 = dktX2_tick_2 := dk_seg dksX2_tick_1 22 rfl rfl
theorem dksX2_tick_3 : cX2_tick.data.toList.drop 70 = dktX2_tick_3 := dk_seg dksX2_tick_2 24 rfl rfl
theorem dksX2_tick_4 : cX2_tick.data.toList.drop 94 = dktX2_tick_4 := dk_seg dksX2_tick_3 24 rfl rfl
theorem dksX2_tick_5 : cX2_tick.data.toList.drop 117 = dktX2_tick_5 := dk_seg dksX2_tick_4 23 rfl rfl
theorem dksX2_tick_6 : cX2_tick.data.toList.drop 141 = dktX2_tick_6 := dk_seg dksX2_tick_5 24 rfl rfl
theorem dX2_tick_0 : decode cX2_tick 0 = .ok (.aload_n 0, 1) := dk_42 (dk_at dksX2_tick_0 0 rfl rfl)
theorem dX2_tick_1 : decode cX2_tick 1 = .ok (.dup, 1) := dk_89 (dk_at dksX2_tick_0 1 rfl rfl)
theorem dX2_tick_2 : decode cX2_tick 2 = .ok (.getfield 71, 3) := dk_180 0 71 (dk_at dksX2_tick_0 2 rfl rfl)
theorem dX2_tick_5 : decode cX2_tick 5 = .ok (.iconst 1, 1) := dk_4 (dk_at dksX2_tick_0 5 rfl rfl)
theorem dX2_tick_6 : decode cX2_tick 6 = .ok (.iadd, 1) := dk_96 (dk_at dksX2_tick_0 6 rfl rfl)
theorem dX2_tick_7 : decode cX2_tick 7 = .ok (.putfield 71, 3) := dk_181 0 71 (dk_at dksX2_tick_0 7 rfl rfl)
theorem dX2_tick_10 : decode cX2_tick 10 = .ok (.iconst 0, 1) := dk_3 (dk_at dksX2_tick_0 10 rfl rfl)
theorem dX2_tick_11 : decode cX2_tick 11 = .ok (.istore_n 1, 1) := dk_60 (dk_at dksX2_tick_0 11 rfl rfl)
theorem dX2_tick_12 : decode cX2_tick 12 = .ok (.iload_n 1, 1) := dk_27 (dk_at dksX2_tick_0 12 rfl rfl)
theorem dX2_tick_13 : decode cX2_tick 13 = .ok (.aload_n 0, 1) := dk_42 (dk_at dksX2_tick_0 13 rfl rfl)
theorem dX2_tick_14 : decode cX2_tick 14 = .ok (.getfield 12, 3) := dk_180 0 12 (dk_at dksX2_tick_0 14 rfl rfl)
theorem dX2_tick_17 : decode cX2_tick 17 = .ok (.invokevirtual 38, 3) := dk_182 0 38 (dk_at dksX2_tick_0 17 rfl rfl)
theorem dX2_tick_20 : decode cX2_tick 20 = .ok (.if_icmp .ge 68, 3) := dk_162 0 68 (dk_at dksX2_tick_0 20 rfl rfl)
theorem dX2_tick_23 : decode cX2_tick 23 = .ok (.aload_n 0, 1) := dk_42 (dk_at dksX2_tick_0 23 rfl rfl)
theorem dX2_tick_24 : decode cX2_tick 24 = .ok (.getfield 12, 3) := dk_180 0 12 (dk_at dksX2_tick_1 0 rfl rfl)
theorem dX2_tick_27 : decode cX2_tick 27 = .ok (.iload_n 1, 1) := dk_27 (dk_at dksX2_tick_1 3 rfl rfl)
theorem dX2_tick_28 : decode cX2_tick 28 = .ok (.invokevirtual 42, 3) := dk_182 0 42 (dk_at dksX2_tick_1 4 rfl rfl)
theorem dX2_tick_31 : decode cX2_tick 31 = .ok (.checkcast 46, 3) := dk_192 0 46 (dk_at dksX2_tick_1 7 rfl rfl)
theorem dX2_tick_34 : decode cX2_tick 34 = .ok (.astore_n 2, 1) := dk_77 (dk_at dksX2_tick_1 10 rfl rfl)
theorem dX2_tick_35 : decode cX2_tick 35 = .ok (.aload_n 2, 1) := dk_44 (dk_at dksX2_tick_1 11 rfl rfl)
theorem dX2_tick_36 : decode cX2_tick 36 = .ok (.invokevirtual 144, 3) := dk_182 0 144 (dk_at dksX2_tick_1 12 rfl rfl)
theorem dX2_tick_39 : decode cX2_tick 39 = .ok (.ifCond .eq 10, 3) := dk_153 0 10 (dk_at dksX2_tick_1 15 rfl rfl)
theorem dX2_tick_42 : decode cX2_tick 42 = .ok (.aload_n 2, 1) := dk_44 (dk_at dksX2_tick_1 18 rfl rfl)
theorem dX2_tick_43 : decode cX2_tick 43 = .ok (.invokevirtual 187, 3) := dk_182 0 187 (dk_at dksX2_tick_1 19 rfl rfl)
theorem dX2_tick_46 : decode cX2_tick 46 = .ok (.goto 36, 3) := dk_167 0 36 (dk_at dksX2_tick_2 0 rfl rfl)
theorem dX2_tick_49 : decode cX2_tick 49 = .ok (.aload_n 0, 1) := dk_42 (dk_at dksX2_tick_2 3 rfl rfl)
theorem dX2_tick_50 : decode cX2_tick 50 = .ok (.getfield 32, 3) := dk_180 0 32 (dk_at dksX2_tick_2 4 rfl rfl)
theorem dX2_tick_53 : decode cX2_tick 53 = .ok (.aload_n 2, 1) := dk_44 (dk_at dksX2_tick_2 7 rfl rfl)
theorem dX2_tick_54 : decode cX2_tick 54 = .ok (.getfield 151, 3) := dk_180 0 151 (dk_at dksX2_tick_2 8 rfl rfl)
theorem dX2_tick_57 : decode cX2_tick 57 = .ok (.iaload, 1) := dk_46 (dk_at dksX2_tick_2 11 rfl rfl)
theorem dX2_tick_58 : decode cX2_tick 58 = .ok (.iconst 2, 1) := dk_5 (dk_at dksX2_tick_2 12 rfl rfl)
theorem dX2_tick_59 : decode cX2_tick 59 = .ok (.if_icmp .ne 23, 3) := dk_160 0 23 (dk_at dksX2_tick_2 13 rfl rfl)
theorem dX2_tick_62 : decode cX2_tick 62 = .ok (.aload_n 2, 1) := dk_44 (dk_at dksX2_tick_2 16 rfl rfl)
theorem dX2_tick_63 : decode cX2_tick 63 = .ok (.bipush 99, 2) := dk_16 99 (dk_at dksX2_tick_2 17 rfl rfl)
theorem dX2_tick_65 : decode cX2_tick 65 = .ok (.aload_n 2, 1) := dk_44 (dk_at dksX2_tick_2 19 rfl rfl)
theorem dX2_tick_66 : decode cX2_tick 66 = .ok (.getfield 170, 3) := dk_180 0 170 (dk_at dksX2_tick_2 20 rfl rfl)
theorem dX2_tick_69 : decode cX2_tick 69 = .ok (.aload_n 0, 1) := dk_42 (dk_at dksX2_tick_2 23 rfl rfl)
theorem dX2_tick_70 : decode cX2_tick 70 = .ok (.getfield 21, 3) := dk_180 0 21 (dk_at dksX2_tick_3 0 rfl rfl)
theorem dX2_tick_73 : decode cX2_tick 73 = .ok (.iconst 0, 1) := dk_3 (dk_at dksX2_tick_3 3 rfl rfl)
theorem dX2_tick_74 : decode cX2_tick 74 = .ok (.iaload, 1) := dk_46 (dk_at dksX2_tick_3 4 rfl rfl)
theorem dX2_tick_75 : decode cX2_tick 75 = .ok (.iadd, 1) := dk_96 (dk_at dksX2_tick_3 5 rfl rfl)
theorem dX2_tick_76 : decode cX2_tick 76 = .ok (.invokestatic 190, 3) := dk_184 0 190 (dk_at dksX2_tick_3 6 rfl rfl)
theorem dX2_tick_79 : decode cX2_tick 79 = .ok (.putfield 170, 3) := dk_181 0 170 (dk_at dksX2_tick_3 9 rfl rfl)
theorem dX2_tick_82 : decode cX2_tick 82 = .ok (.iinc 1 1, 3) := dk_132 1 1 (dk_at dksX2_tick_3 12 rfl rfl)
theorem dX2_tick_85 : decode cX2_tick 85 = .ok (.goto (-73), 3) := dk_167 255 183 (dk_at dksX2_tick_3 15 rfl rfl)
theorem dX2_tick_88 : decode cX2_tick 88 = .ok (.iconst 0, 1) := dk_3 (dk_at dksX2_tick_3 18 rfl rfl)
theorem dX2_tick_89 : decode cX2_tick 89 = .ok (.istore_n 1, 1) := dk_60 (dk_at dksX2_tick_3 19 rfl rfl)
theorem dX2_tick_90 : decode cX2_tick 90 = .ok (.iconst 0, 1) := dk_3 (dk_at dksX2_tick_3 20 rfl rfl)
theorem dX2_tick_91 : decode cX2_tick 91 = .ok (.istore_n 2, 1) := dk_61 (dk_at dksX2_tick_3 21 rfl rfl)
theorem dX2_tick_92 : decode cX2_tick 92 = .ok (.iload_n 2, 1) := dk_28 (dk_at dksX2_tick_3 22 rfl rfl)
theorem dX2_tick_93 : decode cX2_tick 93 = .ok (.aload_n 0, 1) := dk_42 (dk_at dksX2_tick_3 23 rfl rfl)
theorem dX2_tick_94 : decode cX2_tick 94 = .ok (.getfield 12, 3) := dk_180 0 12 (dk_at dksX2_tick_4 0 rfl rfl)
theorem dX2_tick_97 : decode cX2_tick 97 = .ok (.invokevirtual 38, 3) := dk_182 0 38 (dk_at dksX2_tick_4 3 rfl rfl)
theorem dX2_tick_100 : decode cX2_tick 100 = .ok (.if_icmp .ge 58, 3) := dk_162 0 58 (dk_at dksX2_tick_4 6 rfl rfl)
theorem dX2_tick_103 : decode cX2_tick 103 = .ok (.aload_n 0, 1) := dk_42 (dk_at dksX2_tick_4 9 rfl rfl)
theorem dX2_tick_104 : decode cX2_tick 104 = .ok (.getfield 12, 3) := dk_180 0 12 (dk_at dksX2_tick_4 10 rfl rfl)
theorem dX2_tick_107 : decode cX2_tick 107 = .ok (.iload_n 2, 1) := dk_28 (dk_at dksX2_tick_4 13 rfl rfl)
theorem dX2_tick_108 : decode cX2_tick 108 = .ok (.invokevirtual 42, 3) := dk_182 0 42 (dk_at dksX2_tick_4 14 rfl rfl)
theorem dX2_tick_111 : decode cX2_tick 111 = .ok (.checkcast 46, 3) := dk_192 0 46 (dk_at dksX2_tick_4 17 rfl rfl)
theorem dX2_tick_114 : decode cX2_tick 114 = .ok (.invokevirtual 195, 3) := dk_182 0 195 (dk_at dksX2_tick_4 20 rfl rfl)
theorem dX2_tick_117 : decode cX2_tick 117 = .ok (.ifCond .eq 35, 3) := dk_153 0 35 (dk_at dksX2_tick_5 0 rfl rfl)
theorem dX2_tick_120 : decode cX2_tick 120 = .ok (.aload_n 0, 1) := dk_42 (dk_at dksX2_tick_5 3 rfl rfl)
theorem dX2_tick_121 : decode cX2_tick 121 = .ok (.getfield 12, 3) := dk_180 0 12 (dk_at dksX2_tick_5 4 rfl rfl)
theorem dX2_tick_124 : decode cX2_tick 124 = .ok (.iload_n 2, 1) := dk_28 (dk_at dksX2_tick_5 7 rfl rfl)
theorem dX2_tick_125 : decode cX2_tick 125 = .ok (.invokevirtual 42, 3) := dk_182 0 42 (dk_at dksX2_tick_5 8 rfl rfl)
theorem dX2_tick_128 : decode cX2_tick 128 = .ok (.checkcast 46, 3) := dk_192 0 46 (dk_at dksX2_tick_5 11 rfl rfl)
theorem dX2_tick_131 : decode cX2_tick 131 = .ok (.invokevirtual 181, 3) := dk_182 0 181 (dk_at dksX2_tick_5 14 rfl rfl)
theorem dX2_tick_134 : decode cX2_tick 134 = .ok (.iload_n 1, 1) := dk_27 (dk_at dksX2_tick_5 17 rfl rfl)
theorem dX2_tick_135 : decode cX2_tick 135 = .ok (.aload_n 0, 1) := dk_42 (dk_at dksX2_tick_5 18 rfl rfl)
theorem dX2_tick_136 : decode cX2_tick 136 = .ok (.aload_n 0, 1) := dk_42 (dk_at dksX2_tick_5 19 rfl rfl)
theorem dX2_tick_137 : decode cX2_tick 137 = .ok (.getfield 12, 3) := dk_180 0 12 (dk_at dksX2_tick_5 20 rfl rfl)
theorem dX2_tick_140 : decode cX2_tick 140 = .ok (.iload_n 2, 1) := dk_28 (dk_at dksX2_tick_5 23 rfl rfl)
theorem dX2_tick_141 : decode cX2_tick 141 = .ok (.invokevirtual 42, 3) := dk_182 0 42 (dk_at dksX2_tick_6 0 rfl rfl)
theorem dX2_tick_144 : decode cX2_tick 144 = .ok (.checkcast 46, 3) := dk_192 0 46 (dk_at dksX2_tick_6 3 rfl rfl)
theorem dX2_tick_147 : decode cX2_tick 147 = .ok (.invokevirtual 198, 3) := dk_182 0 198 (dk_at dksX2_tick_6 6 rfl rfl)
theorem dX2_tick_150 : decode cX2_tick 150 = .ok (.iadd, 1) := dk_96 (dk_at dksX2_tick_6 9 rfl rfl)
theorem dX2_tick_151 : decode cX2_tick 151 = .ok (.istore_n 1, 1) := dk_60 (dk_at dksX2_tick_6 10 rfl rfl)
theorem dX2_tick_152 : decode cX2_tick 152 = .ok (.iinc 2 1, 3) := dk_132 2 1 (dk_at dksX2_tick_6 11 rfl rfl)
theorem dX2_tick_155 : decode cX2_tick 155 = .ok (.goto (-63), 3) := dk_167 255 193 (dk_at dksX2_tick_6 14 rfl rfl)
theorem dX2_tick_158 : decode cX2_tick 158 = .ok (.iload_n 1, 1) := dk_27 (dk_at dksX2_tick_6 17 rfl rfl)
theorem dX2_tick_159 : decode cX2_tick 159 = .ok (.ireturn, 1) := dk_172 (dk_at dksX2_tick_6 18 rfl rfl)
abbrev cX2_arrive : ByteArray := prog_2_method_27_code
def yX2_arrive : MethodName := ⟨RX2, "arrive", "(LRobotAisles$Robot;)I"⟩
def dkwX2_arrive_4 : List UInt8 := [2, 181, 0, 117, 4, 172]
abbrev dktX2_arrive_4 : List UInt8 := dkwX2_arrive_4 ++ []
def dkwX2_arrive_3 : List UInt8 := [180, 0, 151, 46, 6, 159, 0, 5, 3, 172, 44, 5, 181, 0, 127, 44, 42, 180, 0, 71, 181, 0, 205, 43]
abbrev dktX2_arrive_3 : List UInt8 := dkwX2_arrive_3 ++ dktX2_arrive_4
def dkwX2_arrive_2 : List UInt8 := [180, 0, 151, 160, 0, 7, 4, 167, 0, 4, 3, 96, 181, 0, 133, 3, 172, 42, 180, 0, 32, 43]
abbrev dktX2_arrive_2 : List UInt8 := dkwX2_arrive_2 ++ dktX2_arrive_3
def dkwX2_arrive_1 : List UInt8 := [77, 44, 182, 0, 130, 158, 0, 35, 44, 89, 180, 0, 133, 44, 180, 0, 202, 44, 180, 0, 133, 46, 43]
abbrev dktX2_arrive_1 : List UInt8 := dkwX2_arrive_1 ++ dktX2_arrive_2
def dkwX2_arrive_0 : List UInt8 := [43, 180, 0, 117, 2, 160, 0, 5, 3, 172, 42, 180, 0, 18, 43, 180, 0, 117, 182, 0, 42, 192, 0, 56]
abbrev dktX2_arrive_0 : List UInt8 := dkwX2_arrive_0 ++ dktX2_arrive_1
theorem dksX2_arrive_0 : cX2_arrive.data.toList.drop 0 = dktX2_arrive_0 := by decide +kernel
theorem dksX2_arrive_1 : cX2_arrive.data.toList.drop 24 = dktX2_arrive_1 := dk_seg dksX2_arrive_0 24 rfl rfl
theorem dksX2_arrive_2 : cX2_arrive.data.toList.drop 47 = dktX2_arrive_2 := dk_seg dksX2_arrive_1 23 rfl rfl
theorem dksX2_arrive_3 : cX2_arrive.data.toList.drop 69 = dktX2_arrive_3 := dk_seg dksX2_arrive_2 22 rfl rfl
theorem dksX2_arrive_4 : cX2_arrive.data.toList.drop 93 = dktX2_arrive_4 := dk_seg dksX2_arrive_3 24 rfl rfl
theorem dX2_arrive_0 : decode cX2_arrive 0 = .ok (.aload_n 1, 1) := dk_43 (dk_at dksX2_arrive_0 0 rfl rfl)
theorem dX2_arrive_1 : decode cX2_arrive 1 = .ok (.getfield 117, 3) := dk_180 0 117 (dk_at dksX2_arrive_0 1 rfl rfl)
theorem dX2_arrive_4 : decode cX2_arrive 4 = .ok (.iconst (-1), 1) := dk_2 (dk_at dksX2_arrive_0 4 rfl rfl)
theorem dX2_arrive_5 : decode cX2_arrive 5 = .ok (.if_icmp .ne 5, 3) := dk_160 0 5 (dk_at dksX2_arrive_0 5 rfl rfl)
theorem dX2_arrive_8 : decode cX2_arrive 8 = .ok (.iconst 0, 1) := dk_3 (dk_at dksX2_arrive_0 8 rfl rfl)
theorem dX2_arrive_9 : decode cX2_arrive 9 = .ok (.ireturn, 1) := dk_172 (dk_at dksX2_arrive_0 9 rfl rfl)
theorem dX2_arrive_10 : decode cX2_arrive 10 = .ok (.aload_n 0, 1) := dk_42 (dk_at dksX2_arrive_0 10 rfl rfl)
theorem dX2_arrive_11 : decode cX2_arrive 11 = .ok (.getfield 18, 3) := dk_180 0 18 (dk_at dksX2_arrive_0 11 rfl rfl)
theorem dX2_arrive_14 : decode cX2_arrive 14 = .ok (.aload_n 1, 1) := dk_43 (dk_at dksX2_arrive_0 14 rfl rfl)
theorem dX2_arrive_15 : decode cX2_arrive 15 = .ok (.getfield 117, 3) := dk_180 0 117 (dk_at dksX2_arrive_0 15 rfl rfl)
theorem dX2_arrive_18 : decode cX2_arrive 18 = .ok (.invokevirtual 42, 3) := dk_182 0 42 (dk_at dksX2_arrive_0 18 rfl rfl)
theorem dX2_arrive_21 : decode cX2_arrive 21 = .ok (.checkcast 56, 3) := dk_192 0 56 (dk_at dksX2_arrive_0 21 rfl rfl)
theorem dX2_arrive_24 : decode cX2_arrive 24 = .ok (.astore_n 2, 1) := dk_77 (dk_at dksX2_arrive_1 0 rfl rfl)
theorem dX2_arrive_25 : decode cX2_arrive 25 = .ok (.aload_n 2, 1) := dk_44 (dk_at dksX2_arrive_1 1 rfl rfl)
theorem dX2_arrive_26 : decode cX2_arrive 26 = .ok (.invokevirtual 130, 3) := dk_182 0 130 (dk_at dksX2_arrive_1 2 rfl rfl)
theorem dX2_arrive_29 : decode cX2_arrive 29 = .ok (.ifCond .le 35, 3) := dk_158 0 35 (dk_at dksX2_arrive_1 5 rfl rfl)
theorem dX2_arrive_32 : decode cX2_arrive 32 = .ok (.aload_n 2, 1) := dk_44 (dk_at dksX2_arrive_1 8 rfl rfl)
theorem dX2_arrive_33 : decode cX2_arrive 33 = .ok (.dup, 1) := dk_89 (dk_at dksX2_arrive_1 9 rfl rfl)
theorem dX2_arrive_34 : decode cX2_arrive 34 = .ok (.getfield 133, 3) := dk_180 0 133 (dk_at dksX2_arrive_1 10 rfl rfl)
theorem dX2_arrive_37 : decode cX2_arrive 37 = .ok (.aload_n 2, 1) := dk_44 (dk_at dksX2_arrive_1 13 rfl rfl)
theorem dX2_arrive_38 : decode cX2_arrive 38 = .ok (.getfield 202, 3) := dk_180 0 202 (dk_at dksX2_arrive_1 14 rfl rfl)
theorem dX2_arrive_41 : decode cX2_arrive 41 = .ok (.aload_n 2, 1) := dk_44 (dk_at dksX2_arrive_1 17 rfl rfl)
theorem dX2_arrive_42 : decode cX2_arrive 42 = .ok (.getfield 133, 3) := dk_180 0 133 (dk_at dksX2_arrive_1 18 rfl rfl)
theorem dX2_arrive_45 : decode cX2_arrive 45 = .ok (.iaload, 1) := dk_46 (dk_at dksX2_arrive_1 21 rfl rfl)
theorem dX2_arrive_46 : decode cX2_arrive 46 = .ok (.aload_n 1, 1) := dk_43 (dk_at dksX2_arrive_1 22 rfl rfl)
theorem dX2_arrive_47 : decode cX2_arrive 47 = .ok (.getfield 151, 3) := dk_180 0 151 (dk_at dksX2_arrive_2 0 rfl rfl)
theorem dX2_arrive_50 : decode cX2_arrive 50 = .ok (.if_icmp .ne 7, 3) := dk_160 0 7 (dk_at dksX2_arrive_2 3 rfl rfl)
theorem dX2_arrive_53 : decode cX2_arrive 53 = .ok (.iconst 1, 1) := dk_4 (dk_at dksX2_arrive_2 6 rfl rfl)
theorem dX2_arrive_54 : decode cX2_arrive 54 = .ok (.goto 4, 3) := dk_167 0 4 (dk_at dksX2_arrive_2 7 rfl rfl)
theorem dX2_arrive_57 : decode cX2_arrive 57 = .ok (.iconst 0, 1) := dk_3 (dk_at dksX2_arrive_2 10 rfl rfl)
theorem dX2_arrive_58 : decode cX2_arrive 58 = .ok (.iadd, 1) := dk_96 (dk_at dksX2_arrive_2 11 rfl rfl)
theorem dX2_arrive_59 : decode cX2_arrive 59 = .ok (.putfield 133, 3) := dk_181 0 133 (dk_at dksX2_arrive_2 12 rfl rfl)
theorem dX2_arrive_62 : decode cX2_arrive 62 = .ok (.iconst 0, 1) := dk_3 (dk_at dksX2_arrive_2 15 rfl rfl)
theorem dX2_arrive_63 : decode cX2_arrive 63 = .ok (.ireturn, 1) := dk_172 (dk_at dksX2_arrive_2 16 rfl rfl)
theorem dX2_arrive_64 : decode cX2_arrive 64 = .ok (.aload_n 0, 1) := dk_42 (dk_at dksX2_arrive_2 17 rfl rfl)
theorem dX2_arrive_65 : decode cX2_arrive 65 = .ok (.getfield 32, 3) := dk_180 0 32 (dk_at dksX2_arrive_2 18 rfl rfl)
theorem dX2_arrive_68 : decode cX2_arrive 68 = .ok (.aload_n 1, 1) := dk_43 (dk_at dksX2_arrive_2 21 rfl rfl)
theorem dX2_arrive_69 : decode cX2_arrive 69 = .ok (.getfield 151, 3) := dk_180 0 151 (dk_at dksX2_arrive_3 0 rfl rfl)
theorem dX2_arrive_72 : decode cX2_arrive 72 = .ok (.iaload, 1) := dk_46 (dk_at dksX2_arrive_3 3 rfl rfl)
theorem dX2_arrive_73 : decode cX2_arrive 73 = .ok (.iconst 3, 1) := dk_6 (dk_at dksX2_arrive_3 4 rfl rfl)
theorem dX2_arrive_74 : decode cX2_arrive 74 = .ok (.if_icmp .eq 5, 3) := dk_159 0 5 (dk_at dksX2_arrive_3 5 rfl rfl)
theorem dX2_arrive_77 : decode cX2_arrive 77 = .ok (.iconst 0, 1) := dk_3 (dk_at dksX2_arrive_3 8 rfl rfl)
theorem dX2_arrive_78 : decode cX2_arrive 78 = .ok (.ireturn, 1) := dk_172 (dk_at dksX2_arrive_3 9 rfl rfl)
theorem dX2_arrive_79 : decode cX2_arrive 79 = .ok (.aload_n 2, 1) := dk_44 (dk_at dksX2_arrive_3 10 rfl rfl)
theorem dX2_arrive_80 : decode cX2_arrive 80 = .ok (.iconst 2, 1) := dk_5 (dk_at dksX2_arrive_3 11 rfl rfl)
theorem dX2_arrive_81 : decode cX2_arrive 81 = .ok (.putfield 127, 3) := dk_181 0 127 (dk_at dksX2_arrive_3 12 rfl rfl)
theorem dX2_arrive_84 : decode cX2_arrive 84 = .ok (.aload_n 2, 1) := dk_44 (dk_at dksX2_arrive_3 15 rfl rfl)
theorem dX2_arrive_85 : decode cX2_arrive 85 = .ok (.aload_n 0, 1) := dk_42 (dk_at dksX2_arrive_3 16 rfl rfl)
theorem dX2_arrive_86 : decode cX2_arrive 86 = .ok (.getfield 71, 3) := dk_180 0 71 (dk_at dksX2_arrive_3 17 rfl rfl)
theorem dX2_arrive_89 : decode cX2_arrive 89 = .ok (.putfield 205, 3) := dk_181 0 205 (dk_at dksX2_arrive_3 20 rfl rfl)
theorem dX2_arrive_92 : decode cX2_arrive 92 = .ok (.aload_n 1, 1) := dk_43 (dk_at dksX2_arrive_3 23 rfl rfl)
theorem dX2_arrive_93 : decode cX2_arrive 93 = .ok (.iconst (-1), 1) := dk_2 (dk_at dksX2_arrive_4 0 rfl rfl)
theorem dX2_arrive_94 : decode cX2_arrive 94 = .ok (.putfield 117, 3) := dk_181 0 117 (dk_at dksX2_arrive_4 1 rfl rfl)
theorem dX2_arrive_97 : decode cX2_arrive 97 = .ok (.iconst 1, 1) := dk_4 (dk_at dksX2_arrive_4 4 rfl rfl)
theorem dX2_arrive_98 : decode cX2_arrive 98 = .ok (.ireturn, 1) := dk_172 (dk_at dksX2_arrive_4 5 rfl rfl)
theorem q72 : (Jvm.Cond.initialized "RobotAisles$Core") ∈ lw_all := lw_g (lw_at lw_m1 2 rfl) rfl
theorem q129 : (Jvm.Cond.instantiable "RobotAisles$Core" (8 : Nat)) ∈ lw_all := lw_g (lw_at lw_m1 59 rfl) rfl
theorem q131 : (Jvm.Cond.instanceMethod ({ cls := "RobotAisles$Core", name := "<init>", desc := "(II[I)V" } : Jvm.MethodName)) ∈ lw_all := lw_g (lw_at lw_m1 61 rfl) rfl
theorem q132 : (Jvm.Cond.code ({ cls := "RobotAisles$Core", name := "<init>", desc := "(II[I)V" } : Jvm.MethodName) prog_2_method_1_code (4 : Nat) (Option.none : Option Jvm.ClassFile.FieldType)) ∈ lw_all := lw_g (lw_at lw_m1 62 rfl) rfl
theorem q133 : (Jvm.Cond.methodLink "RobotAisles$Core" (3 : Nat) ({ cls := "java/lang/Object", name := "<init>", desc := "()V" } : Jvm.MethodName)) ∈ lw_all := lw_g (lw_at lw_m1 63 rfl) rfl
theorem q134 : (Jvm.Cond.classLink "RobotAisles$Core" (9 : Nat) "java/util/ArrayList") ∈ lw_all := lw_g (lw_at lw_m1 64 rfl) rfl
theorem q136 : (Jvm.Cond.methodLink "RobotAisles$Core" (11 : Nat) ({ cls := "java/util/ArrayList", name := "<init>", desc := "()V" } : Jvm.MethodName)) ∈ lw_all := lw_g (lw_at lw_m1 66 rfl) rfl
theorem q161 : (Jvm.Cond.fieldLink "RobotAisles$Core" (25 : Nat) "RobotAisles$Core" "rows" "I") ∈ lw_all := lw_g (lw_at lw_m1 91 rfl) rfl
theorem q163 : (Jvm.Cond.fieldLink "RobotAisles$Core" (29 : Nat) "RobotAisles$Core" "columns" "I") ∈ lw_all := lw_g (lw_at lw_m1 93 rfl) rfl
theorem q165 : (Jvm.Cond.fieldLink "RobotAisles$Core" (32 : Nat) "RobotAisles$Core" "kinds" "[I") ∈ lw_all := lw_g (lw_at lw_m1 95 rfl) rfl
theorem q167 : (Jvm.Cond.fieldLink "RobotAisles$Core" (12 : Nat) "RobotAisles$Core" "robots" "Ljava/util/ArrayList;") ∈ lw_all := lw_g (lw_at lw_m1 97 rfl) rfl
theorem q170 : (Jvm.Cond.fieldLink "RobotAisles$Core" (18 : Nat) "RobotAisles$Core" "orders" "Ljava/util/ArrayList;") ∈ lw_all := lw_g (lw_at lw_m1 100 rfl) rfl
theorem q172 : (Jvm.Cond.fieldLink "RobotAisles$Core" (21 : Nat) "RobotAisles$Core" "settings" "[I") ∈ lw_all := lw_g (lw_at lw_m1 102 rfl) rfl
theorem q175 : (Jvm.Cond.fieldLink "RobotAisles$Core" (67 : Nat) "RobotAisles$Core" "closed" "J") ∈ lw_all := lw_g (lw_at lw_m1 105 rfl) rfl
theorem q177 : (Jvm.Cond.fieldLink "RobotAisles$Core" (71 : Nat) "RobotAisles$Core" "now" "I") ∈ lw_all := lw_g (lw_at lw_m1 107 rfl) rfl
theorem q179 : (Jvm.Cond.laysFinal "RobotAisles$Core" "RobotAisles$Core" "rows" "I") ∈ lw_all := lw_g (lw_at lw_m1 109 rfl) rfl
theorem q180 : (Jvm.Cond.soleField "RobotAisles$Core" "rows") ∈ lw_all := lw_g (lw_at lw_m1 110 rfl) rfl
theorem q181 : (Jvm.Cond.laysFinal "RobotAisles$Core" "RobotAisles$Core" "columns" "I") ∈ lw_all := lw_g (lw_at lw_m1 111 rfl) rfl
theorem q182 : (Jvm.Cond.soleField "RobotAisles$Core" "columns") ∈ lw_all := lw_g (lw_at lw_m1 112 rfl) rfl
theorem q183 : (Jvm.Cond.laysFinal "RobotAisles$Core" "RobotAisles$Core" "kinds" "[I") ∈ lw_all := lw_g (lw_at lw_m1 113 rfl) rfl
theorem q184 : (Jvm.Cond.soleField "RobotAisles$Core" "kinds") ∈ lw_all := lw_g (lw_at lw_m1 114 rfl) rfl
theorem q185 : (Jvm.Cond.laysFinal "RobotAisles$Core" "RobotAisles$Core" "robots" "Ljava/util/ArrayList;") ∈ lw_all := lw_g (lw_at lw_m1 115 rfl) rfl
theorem q186 : (Jvm.Cond.soleField "RobotAisles$Core" "robots") ∈ lw_all := lw_g (lw_at lw_m1 116 rfl) rfl
theorem q187 : (Jvm.Cond.laysFinal "RobotAisles$Core" "RobotAisles$Core" "orders" "Ljava/util/ArrayList;") ∈ lw_all := lw_g (lw_at lw_m1 117 rfl) rfl
theorem q188 : (Jvm.Cond.soleField "RobotAisles$Core" "orders") ∈ lw_all := lw_g (lw_at lw_m1 118 rfl) rfl
theorem q189 : (Jvm.Cond.laysFinal "RobotAisles$Core" "RobotAisles$Core" "settings" "[I") ∈ lw_all := lw_g (lw_at lw_m1 119 rfl) rfl
theorem q190 : (Jvm.Cond.soleField "RobotAisles$Core" "settings") ∈ lw_all := lw_g (lw_at lw_m1 120 rfl) rfl
theorem q191 : (Jvm.Cond.lays "RobotAisles$Core" "RobotAisles$Core" "closed" "J") ∈ lw_all := lw_g (lw_at lw_m1 121 rfl) rfl
theorem q192 : (Jvm.Cond.soleField "RobotAisles$Core" "closed") ∈ lw_all := lw_g (lw_at lw_m1 122 rfl) rfl
theorem q193 : (Jvm.Cond.lays "RobotAisles$Core" "RobotAisles$Core" "now" "I") ∈ lw_all := lw_g (lw_at lw_m1 123 rfl) rfl
theorem q194 : (Jvm.Cond.soleField "RobotAisles$Core" "now") ∈ lw_all := lw_g (lw_at lw_m1 124 rfl) rfl
theorem q195 : (Jvm.Cond.superclass "RobotAisles$Core" "java/lang/Object") ∈ lw_all := lw_g (lw_at lw_m1 125 rfl) rfl
theorem q236 : (Jvm.Cond.instanceMethod ({ cls := "RobotAisles$Core", name := "copy", desc := "()LRobotAisles$Core;" } : Jvm.MethodName)) ∈ lw_all := lw_g (lw_at lw_m1 166 rfl) rfl
theorem q237 : (Jvm.Cond.selects "RobotAisles$Core" ({ cls := "RobotAisles$Core", name := "copy", desc := "()LRobotAisles$Core;" } : Jvm.MethodName) ({ cls := "RobotAisles$Core", name := "copy", desc := "()LRobotAisles$Core;" } : Jvm.MethodName)) ∈ lw_all := lw_g (lw_at lw_m1 167 rfl) rfl
theorem q238 : (Jvm.Cond.code ({ cls := "RobotAisles$Core", name := "copy", desc := "()LRobotAisles$Core;" } : Jvm.MethodName) prog_2_method_2_code (3 : Nat) (Option.some (Jvm.ClassFile.FieldType.object "RobotAisles$Core"))) ∈ lw_all := lw_g (lw_at lw_m1 168 rfl) rfl
theorem q239 : (Jvm.Cond.classLink "RobotAisles$Core" (13 : Nat) "RobotAisles$Core") ∈ lw_all := lw_g (lw_at lw_m1 169 rfl) rfl
theorem q240 : (Jvm.Cond.methodLink "RobotAisles$Core" (35 : Nat) ({ cls := "RobotAisles$Core", name := "<init>", desc := "(II[I)V" } : Jvm.MethodName)) ∈ lw_all := lw_g (lw_at lw_m1 170 rfl) rfl
theorem q241 : (Jvm.Cond.methodLink "RobotAisles$Core" (38 : Nat) ({ cls := "java/util/ArrayList", name := "size", desc := "()I" } : Jvm.MethodName)) ∈ lw_all := lw_g (lw_at lw_m1 171 rfl) rfl
theorem q245 : (Jvm.Cond.methodLink "RobotAisles$Core" (42 : Nat) ({ cls := "java/util/ArrayList", name := "get", desc := "(I)Ljava/lang/Object;" } : Jvm.MethodName)) ∈ lw_all := lw_g (lw_at lw_m1 175 rfl) rfl
theorem q259 : (Jvm.Cond.classLink "RobotAisles$Core" (46 : Nat) "RobotAisles$Robot") ∈ lw_all := lw_g (lw_at lw_m1 189 rfl) rfl
theorem q260 : (Jvm.Cond.methodLink "RobotAisles$Core" (48 : Nat) ({ cls := "RobotAisles$Robot", name := "copy", desc := "()LRobotAisles$Robot;" } : Jvm.MethodName)) ∈ lw_all := lw_g (lw_at lw_m1 190 rfl) rfl
theorem q272 : (Jvm.Cond.fieldLinkNest "RobotAisles$Core" (151 : Nat) "RobotAisles$Robot" "cell" "I" "RobotAisles") ∈ lw_tbl := lw_at lw_m1 202 rfl
theorem q275 : (Jvm.Cond.fieldLinkNest "RobotAisles$Core" (170 : Nat) "RobotAisles$Robot" "battery" "I" "RobotAisles") ∈ lw_tbl := lw_at lw_m1 205 rfl
theorem q278 : (Jvm.Cond.fieldLinkNest "RobotAisles$Core" (117 : Nat) "RobotAisles$Robot" "order" "I" "RobotAisles") ∈ lw_tbl := lw_at lw_m1 208 rfl
theorem q283 : (Jvm.Cond.fieldLinkNest "RobotAisles$Core" (173 : Nat) "RobotAisles$Robot" "path" "[I" "RobotAisles") ∈ lw_tbl := lw_at lw_m1 213 rfl
theorem q286 : (Jvm.Cond.fieldLinkNest "RobotAisles$Core" (175 : Nat) "RobotAisles$Robot" "done" "I" "RobotAisles") ∈ lw_tbl := lw_at lw_m1 216 rfl
theorem q288 : (Jvm.Cond.fieldLinkNest "RobotAisles$Core" (178 : Nat) "RobotAisles$Robot" "stepCost" "I" "RobotAisles") ∈ lw_tbl := lw_at lw_m1 218 rfl
theorem q304 : (Jvm.Cond.methodLink "RobotAisles$Core" (52 : Nat) ({ cls := "java/util/ArrayList", name := "add", desc := "(Ljava/lang/Object;)Z" } : Jvm.MethodName)) ∈ lw_all := lw_g (lw_at lw_m1 234 rfl) rfl
theorem q337 : (Jvm.Cond.selects "RobotAisles$Core" ({ cls := "java/lang/Object", name := "getClass", desc := "()Ljava/lang/Class;" } : Jvm.MethodName) ({ cls := "java/lang/Object", name := "getClass", desc := "()Ljava/lang/Class;" } : Jvm.MethodName)) ∈ lw_all := lw_g (lw_at lw_m2 27 rfl) rfl
theorem q377 : (Jvm.Cond.classLink "RobotAisles$Core" (56 : Nat) "RobotAisles$Order") ∈ lw_all := lw_g (lw_at lw_m2 67 rfl) rfl
theorem q378 : (Jvm.Cond.methodLink "RobotAisles$Core" (58 : Nat) ({ cls := "RobotAisles$Order", name := "copy", desc := "()LRobotAisles$Order;" } : Jvm.MethodName)) ∈ lw_all := lw_g (lw_at lw_m2 68 rfl) rfl
theorem q393 : (Jvm.Cond.fieldLinkNest "RobotAisles$Core" (202 : Nat) "RobotAisles$Order" "lines" "[I" "RobotAisles") ∈ lw_tbl := lw_at lw_m2 83 rfl
theorem q396 : (Jvm.Cond.fieldLinkNest "RobotAisles$Core" (133 : Nat) "RobotAisles$Order" "picked" "I" "RobotAisles") ∈ lw_tbl := lw_at lw_m2 86 rfl
theorem q399 : (Jvm.Cond.fieldLinkNest "RobotAisles$Core" (127 : Nat) "RobotAisles$Order" "state" "I" "RobotAisles") ∈ lw_tbl := lw_at lw_m2 89 rfl
theorem q402 : (Jvm.Cond.fieldLinkNest "RobotAisles$Core" (205 : Nat) "RobotAisles$Order" "deliveredAt" "I" "RobotAisles") ∈ lw_tbl := lw_at lw_m2 92 rfl
theorem q417 : (Jvm.Cond.methodLink "RobotAisles$Core" (61 : Nat) ({ cls := "java/lang/System", name := "arraycopy", desc := "(Ljava/lang/Object;ILjava/lang/Object;II)V" } : Jvm.MethodName)) ∈ lw_all := lw_g (lw_at lw_m2 107 rfl) rfl
theorem q657 : (Jvm.Cond.instanceMethod ({ cls := "RobotAisles$Core", name := "size", desc := "()I" } : Jvm.MethodName)) ∈ lw_all := lw_g (lw_at lw_m3 107 rfl) rfl
theorem q658 : (Jvm.Cond.selects "RobotAisles$Core" ({ cls := "RobotAisles$Core", name := "size", desc := "()I" } : Jvm.MethodName) ({ cls := "RobotAisles$Core", name := "size", desc := "()I" } : Jvm.MethodName)) ∈ lw_all := lw_g (lw_at lw_m3 108 rfl) rfl
theorem q659 : (Jvm.Cond.code ({ cls := "RobotAisles$Core", name := "size", desc := "()I" } : Jvm.MethodName) prog_2_method_3_code (1 : Nat) (Option.some Jvm.ClassFile.FieldType.int)) ∈ lw_all := lw_g (lw_at lw_m3 109 rfl) rfl
theorem q699 : (Jvm.Cond.instanceMethod ({ cls := "RobotAisles$Core", name := "add", desc := "(II)I" } : Jvm.MethodName)) ∈ lw_all := lw_g (lw_at lw_m3 149 rfl) rfl
theorem q700 : (Jvm.Cond.selects "RobotAisles$Core" ({ cls := "RobotAisles$Core", name := "add", desc := "(II)I" } : Jvm.MethodName) ({ cls := "RobotAisles$Core", name := "add", desc := "(II)I" } : Jvm.MethodName)) ∈ lw_all := lw_g (lw_at lw_m3 150 rfl) rfl
theorem q701 : (Jvm.Cond.code ({ cls := "RobotAisles$Core", name := "add", desc := "(II)I" } : Jvm.MethodName) prog_2_method_13_code (3 : Nat) (Option.some Jvm.ClassFile.FieldType.int)) ∈ lw_all := lw_g (lw_at lw_m3 151 rfl) rfl
theorem q702 : (Jvm.Cond.methodLink "RobotAisles$Core" (102 : Nat) ({ cls := "RobotAisles$Core", name := "hasCell", desc := "(I)Z" } : Jvm.MethodName)) ∈ lw_all := lw_g (lw_at lw_m3 152 rfl) rfl
theorem q703 : (Jvm.Cond.instanceMethod ({ cls := "RobotAisles$Core", name := "hasCell", desc := "(I)Z" } : Jvm.MethodName)) ∈ lw_all := lw_g (lw_at lw_m3 153 rfl) rfl
theorem q704 : (Jvm.Cond.selects "RobotAisles$Core" ({ cls := "RobotAisles$Core", name := "hasCell", desc := "(I)Z" } : Jvm.MethodName) ({ cls := "RobotAisles$Core", name := "hasCell", desc := "(I)Z" } : Jvm.MethodName)) ∈ lw_all := lw_g (lw_at lw_m3 154 rfl) rfl
theorem q705 : (Jvm.Cond.code ({ cls := "RobotAisles$Core", name := "hasCell", desc := "(I)Z" } : Jvm.MethodName) prog_2_method_4_code (2 : Nat) (Option.some Jvm.ClassFile.FieldType.boolean)) ∈ lw_all := lw_g (lw_at lw_m3 155 rfl) rfl
theorem q706 : (Jvm.Cond.methodLink "RobotAisles$Core" (74 : Nat) ({ cls := "RobotAisles$Core", name := "size", desc := "()I" } : Jvm.MethodName)) ∈ lw_all := lw_g (lw_at lw_m3 156 rfl) rfl
theorem q707 : (Jvm.Cond.methodLinkNest "RobotAisles$Core" (75 : Nat) ({ cls := "RobotAisles", name := "isBetween", desc := "(III)Z" } : Jvm.MethodName) "RobotAisles") ∈ lw_tbl := lw_at lw_m3 157 rfl
theorem q710 : (Jvm.Cond.methodLinkNest "RobotAisles$Core" (105 : Nat) ({ cls := "RobotAisles", name := "refuse", desc := "(ZI)V" } : Jvm.MethodName) "RobotAisles") ∈ lw_tbl := lw_at lw_m3 160 rfl
theorem q738 : (Jvm.Cond.methodLink "RobotAisles$Core" (83 : Nat) ({ cls := "RobotAisles$Core", name := "isFree", desc := "(I)Z" } : Jvm.MethodName)) ∈ lw_all := lw_g (lw_at lw_m3 188 rfl) rfl
theorem q739 : (Jvm.Cond.instanceMethod ({ cls := "RobotAisles$Core", name := "isFree", desc := "(I)Z" } : Jvm.MethodName)) ∈ lw_all := lw_g (lw_at lw_m3 189 rfl) rfl
theorem q740 : (Jvm.Cond.selects "RobotAisles$Core" ({ cls := "RobotAisles$Core", name := "isFree", desc := "(I)Z" } : Jvm.MethodName) ({ cls := "RobotAisles$Core", name := "isFree", desc := "(I)Z" } : Jvm.MethodName)) ∈ lw_all := lw_g (lw_at lw_m3 190 rfl) rfl
theorem q741 : (Jvm.Cond.code ({ cls := "RobotAisles$Core", name := "isFree", desc := "(I)Z" } : Jvm.MethodName) prog_2_method_8_code (2 : Nat) (Option.some Jvm.ClassFile.FieldType.boolean)) ∈ lw_all := lw_g (lw_at lw_m3 191 rfl) rfl
theorem q742 : (Jvm.Cond.methodLink "RobotAisles$Core" (79 : Nat) ({ cls := "RobotAisles$Core", name := "isClosed", desc := "(I)Z" } : Jvm.MethodName)) ∈ lw_all := lw_g (lw_at lw_m3 192 rfl) rfl
theorem q743 : (Jvm.Cond.instanceMethod ({ cls := "RobotAisles$Core", name := "isClosed", desc := "(I)Z" } : Jvm.MethodName)) ∈ lw_all := lw_g (lw_at lw_m3 193 rfl) rfl
theorem q744 : (Jvm.Cond.selects "RobotAisles$Core" ({ cls := "RobotAisles$Core", name := "isClosed", desc := "(I)Z" } : Jvm.MethodName) ({ cls := "RobotAisles$Core", name := "isClosed", desc := "(I)Z" } : Jvm.MethodName)) ∈ lw_all := lw_g (lw_at lw_m3 194 rfl) rfl
theorem q745 : (Jvm.Cond.code ({ cls := "RobotAisles$Core", name := "isClosed", desc := "(I)Z" } : Jvm.MethodName) prog_2_method_7_code (2 : Nat) (Option.some Jvm.ClassFile.FieldType.boolean)) ∈ lw_all := lw_g (lw_at lw_m3 195 rfl) rfl
theorem q746 : (Jvm.Cond.methodLinkNest "RobotAisles$Core" (98 : Nat) ({ cls := "RobotAisles", name := "refuse", desc := "(ZII)V" } : Jvm.MethodName) "RobotAisles") ∈ lw_tbl := lw_at lw_m3 196 rfl
theorem q747 : (Jvm.Cond.methodLink "RobotAisles$Core" (108 : Nat) ({ cls := "RobotAisles$Core", name := "refuseOccupied", desc := "(II)V" } : Jvm.MethodName)) ∈ lw_all := lw_g (lw_at lw_m3 197 rfl) rfl
theorem q748 : (Jvm.Cond.privateMethod ({ cls := "RobotAisles$Core", name := "refuseOccupied", desc := "(II)V" } : Jvm.MethodName)) ∈ lw_tbl := lw_at lw_m3 198 rfl
theorem q749 : (Jvm.Cond.instanceMethod ({ cls := "RobotAisles$Core", name := "refuseOccupied", desc := "(II)V" } : Jvm.MethodName)) ∈ lw_all := lw_g (lw_at lw_m3 199 rfl) rfl
theorem q750 : (Jvm.Cond.code ({ cls := "RobotAisles$Core", name := "refuseOccupied", desc := "(II)V" } : Jvm.MethodName) prog_2_method_12_code (4 : Nat) (Option.none : Option Jvm.ClassFile.FieldType)) ∈ lw_all := lw_g (lw_at lw_m3 200 rfl) rfl
theorem q751 : (Jvm.Cond.methodLink "RobotAisles$Core" (94 : Nat) ({ cls := "RobotAisles$Core", name := "robotEver", desc := "(II)I" } : Jvm.MethodName)) ∈ lw_all := lw_g (lw_at lw_m3 201 rfl) rfl
theorem q752 : (Jvm.Cond.instanceMethod ({ cls := "RobotAisles$Core", name := "robotEver", desc := "(II)I" } : Jvm.MethodName)) ∈ lw_all := lw_g (lw_at lw_m3 202 rfl) rfl
theorem q753 : (Jvm.Cond.selects "RobotAisles$Core" ({ cls := "RobotAisles$Core", name := "robotEver", desc := "(II)I" } : Jvm.MethodName) ({ cls := "RobotAisles$Core", name := "robotEver", desc := "(II)I" } : Jvm.MethodName)) ∈ lw_all := lw_g (lw_at lw_m3 203 rfl) rfl
theorem q754 : (Jvm.Cond.code ({ cls := "RobotAisles$Core", name := "robotEver", desc := "(II)I" } : Jvm.MethodName) prog_2_method_11_code (6 : Nat) (Option.some Jvm.ClassFile.FieldType.int)) ∈ lw_all := lw_g (lw_at lw_m3 204 rfl) rfl
theorem q755 : (Jvm.Cond.methodLink "RobotAisles$Core" (90 : Nat) ({ cls := "RobotAisles$Core", name := "robotAt", desc := "(III)I" } : Jvm.MethodName)) ∈ lw_all := lw_g (lw_at lw_m3 205 rfl) rfl
theorem q756 : (Jvm.Cond.instanceMethod ({ cls := "RobotAisles$Core", name := "robotAt", desc := "(III)I" } : Jvm.MethodName)) ∈ lw_all := lw_g (lw_at lw_m3 206 rfl) rfl
theorem q757 : (Jvm.Cond.selects "RobotAisles$Core" ({ cls := "RobotAisles$Core", name := "robotAt", desc := "(III)I" } : Jvm.MethodName) ({ cls := "RobotAisles$Core", name := "robotAt", desc := "(III)I" } : Jvm.MethodName)) ∈ lw_all := lw_g (lw_at lw_m3 207 rfl) rfl
theorem q758 : (Jvm.Cond.code ({ cls := "RobotAisles$Core", name := "robotAt", desc := "(III)I" } : Jvm.MethodName) prog_2_method_10_code (5 : Nat) (Option.some Jvm.ClassFile.FieldType.int)) ∈ lw_all := lw_g (lw_at lw_m3 208 rfl) rfl
theorem q759 : (Jvm.Cond.methodLink "RobotAisles$Core" (86 : Nat) ({ cls := "RobotAisles$Robot", name := "cellAhead", desc := "(I)I" } : Jvm.MethodName)) ∈ lw_all := lw_g (lw_at lw_m3 209 rfl) rfl
theorem q764 : (Jvm.Cond.methodLink "RobotAisles$Core" (112 : Nat) ({ cls := "RobotAisles$Robot", name := "<init>", desc := "(II)V" } : Jvm.MethodName)) ∈ lw_all := lw_g (lw_at lw_m3 214 rfl) rfl
theorem q792 : (Jvm.Cond.instanceMethod ({ cls := "RobotAisles$Core", name := "takeOff", desc := "(I)I" } : Jvm.MethodName)) ∈ lw_all := lw_g (lw_at lw_m4 2 rfl) rfl
theorem q793 : (Jvm.Cond.selects "RobotAisles$Core" ({ cls := "RobotAisles$Core", name := "takeOff", desc := "(I)I" } : Jvm.MethodName) ({ cls := "RobotAisles$Core", name := "takeOff", desc := "(I)I" } : Jvm.MethodName)) ∈ lw_all := lw_g (lw_at lw_m4 3 rfl) rfl
theorem q794 : (Jvm.Cond.code ({ cls := "RobotAisles$Core", name := "takeOff", desc := "(I)I" } : Jvm.MethodName) prog_2_method_14_code (2 : Nat) (Option.some Jvm.ClassFile.FieldType.int)) ∈ lw_all := lw_g (lw_at lw_m4 4 rfl) rfl
theorem q795 : (Jvm.Cond.methodLink "RobotAisles$Core" (114 : Nat) ({ cls := "RobotAisles$Core", name := "hasRobot", desc := "(I)Z" } : Jvm.MethodName)) ∈ lw_all := lw_g (lw_at lw_m4 5 rfl) rfl
theorem q796 : (Jvm.Cond.instanceMethod ({ cls := "RobotAisles$Core", name := "hasRobot", desc := "(I)Z" } : Jvm.MethodName)) ∈ lw_all := lw_g (lw_at lw_m4 6 rfl) rfl
theorem q797 : (Jvm.Cond.selects "RobotAisles$Core" ({ cls := "RobotAisles$Core", name := "hasRobot", desc := "(I)Z" } : Jvm.MethodName) ({ cls := "RobotAisles$Core", name := "hasRobot", desc := "(I)Z" } : Jvm.MethodName)) ∈ lw_all := lw_g (lw_at lw_m4 7 rfl) rfl
theorem q798 : (Jvm.Cond.code ({ cls := "RobotAisles$Core", name := "hasRobot", desc := "(I)Z" } : Jvm.MethodName) prog_2_method_5_code (2 : Nat) (Option.some Jvm.ClassFile.FieldType.boolean)) ∈ lw_all := lw_g (lw_at lw_m4 8 rfl) rfl
theorem q799 : (Jvm.Cond.methodLink "RobotAisles$Core" (120 : Nat) ({ cls := "java/util/ArrayList", name := "remove", desc := "(I)Ljava/lang/Object;" } : Jvm.MethodName)) ∈ lw_all := lw_g (lw_at lw_m4 9 rfl) rfl
theorem q813 : (Jvm.Cond.instanceMethod ({ cls := "RobotAisles$Core", name := "order", desc := "(I[I)I" } : Jvm.MethodName)) ∈ lw_all := lw_g (lw_at lw_m4 23 rfl) rfl
theorem q814 : (Jvm.Cond.selects "RobotAisles$Core" ({ cls := "RobotAisles$Core", name := "order", desc := "(I[I)I" } : Jvm.MethodName) ({ cls := "RobotAisles$Core", name := "order", desc := "(I[I)I" } : Jvm.MethodName)) ∈ lw_all := lw_g (lw_at lw_m4 24 rfl) rfl
theorem q815 : (Jvm.Cond.code ({ cls := "RobotAisles$Core", name := "order", desc := "(I[I)I" } : Jvm.MethodName) prog_2_method_15_code (4 : Nat) (Option.some Jvm.ClassFile.FieldType.int)) ∈ lw_all := lw_g (lw_at lw_m4 25 rfl) rfl
theorem q816 : (Jvm.Cond.methodLink "RobotAisles$Core" (123 : Nat) ({ cls := "RobotAisles$Order", name := "<init>", desc := "(II[I)V" } : Jvm.MethodName)) ∈ lw_all := lw_g (lw_at lw_m4 26 rfl) rfl
theorem q825 : (Jvm.Cond.instanceMethod ({ cls := "RobotAisles$Core", name := "assign", desc := "(II)I" } : Jvm.MethodName)) ∈ lw_all := lw_g (lw_at lw_m4 35 rfl) rfl
theorem q826 : (Jvm.Cond.selects "RobotAisles$Core" ({ cls := "RobotAisles$Core", name := "assign", desc := "(II)I" } : Jvm.MethodName) ({ cls := "RobotAisles$Core", name := "assign", desc := "(II)I" } : Jvm.MethodName)) ∈ lw_all := lw_g (lw_at lw_m4 36 rfl) rfl
theorem q827 : (Jvm.Cond.code ({ cls := "RobotAisles$Core", name := "assign", desc := "(II)I" } : Jvm.MethodName) prog_2_method_16_code (4 : Nat) (Option.some Jvm.ClassFile.FieldType.int)) ∈ lw_all := lw_g (lw_at lw_m4 37 rfl) rfl
theorem q828 : (Jvm.Cond.methodLink "RobotAisles$Core" (124 : Nat) ({ cls := "RobotAisles$Core", name := "hasOrder", desc := "(I)Z" } : Jvm.MethodName)) ∈ lw_all := lw_g (lw_at lw_m4 38 rfl) rfl
theorem q829 : (Jvm.Cond.instanceMethod ({ cls := "RobotAisles$Core", name := "hasOrder", desc := "(I)Z" } : Jvm.MethodName)) ∈ lw_all := lw_g (lw_at lw_m4 39 rfl) rfl
theorem q830 : (Jvm.Cond.selects "RobotAisles$Core" ({ cls := "RobotAisles$Core", name := "hasOrder", desc := "(I)Z" } : Jvm.MethodName) ({ cls := "RobotAisles$Core", name := "hasOrder", desc := "(I)Z" } : Jvm.MethodName)) ∈ lw_all := lw_g (lw_at lw_m4 40 rfl) rfl
theorem q831 : (Jvm.Cond.code ({ cls := "RobotAisles$Core", name := "hasOrder", desc := "(I)Z" } : Jvm.MethodName) prog_2_method_6_code (2 : Nat) (Option.some Jvm.ClassFile.FieldType.boolean)) ∈ lw_all := lw_g (lw_at lw_m4 41 rfl) rfl
theorem q832 : (Jvm.Cond.methodLink "RobotAisles$Core" (130 : Nat) ({ cls := "RobotAisles$Order", name := "left", desc := "()I" } : Jvm.MethodName)) ∈ lw_all := lw_g (lw_at lw_m4 42 rfl) rfl
theorem q844 : (Jvm.Cond.instanceMethod ({ cls := "RobotAisles$Core", name := "release", desc := "(I)I" } : Jvm.MethodName)) ∈ lw_all := lw_g (lw_at lw_m4 54 rfl) rfl
theorem q845 : (Jvm.Cond.selects "RobotAisles$Core" ({ cls := "RobotAisles$Core", name := "release", desc := "(I)I" } : Jvm.MethodName) ({ cls := "RobotAisles$Core", name := "release", desc := "(I)I" } : Jvm.MethodName)) ∈ lw_all := lw_g (lw_at lw_m4 55 rfl) rfl
theorem q846 : (Jvm.Cond.code ({ cls := "RobotAisles$Core", name := "release", desc := "(I)I" } : Jvm.MethodName) prog_2_method_17_code (3 : Nat) (Option.some Jvm.ClassFile.FieldType.int)) ∈ lw_all := lw_g (lw_at lw_m4 56 rfl) rfl
theorem q855 : (Jvm.Cond.instanceMethod ({ cls := "RobotAisles$Core", name := "close", desc := "(I)I" } : Jvm.MethodName)) ∈ lw_all := lw_g (lw_at lw_m4 65 rfl) rfl
theorem q856 : (Jvm.Cond.selects "RobotAisles$Core" ({ cls := "RobotAisles$Core", name := "close", desc := "(I)I" } : Jvm.MethodName) ({ cls := "RobotAisles$Core", name := "close", desc := "(I)I" } : Jvm.MethodName)) ∈ lw_all := lw_g (lw_at lw_m4 66 rfl) rfl
theorem q857 : (Jvm.Cond.code ({ cls := "RobotAisles$Core", name := "close", desc := "(I)I" } : Jvm.MethodName) prog_2_method_19_code (2 : Nat) (Option.some Jvm.ClassFile.FieldType.int)) ∈ lw_all := lw_g (lw_at lw_m4 67 rfl) rfl
theorem q858 : (Jvm.Cond.methodLink "RobotAisles$Core" (136 : Nat) ({ cls := "java/lang/Long", name := "bitCount", desc := "(J)I" } : Jvm.MethodName)) ∈ lw_all := lw_g (lw_at lw_m4 68 rfl) rfl
theorem q872 : (Jvm.Cond.instanceMethod ({ cls := "RobotAisles$Core", name := "open", desc := "(I)I" } : Jvm.MethodName)) ∈ lw_all := lw_g (lw_at lw_m4 82 rfl) rfl
theorem q873 : (Jvm.Cond.selects "RobotAisles$Core" ({ cls := "RobotAisles$Core", name := "open", desc := "(I)I" } : Jvm.MethodName) ({ cls := "RobotAisles$Core", name := "open", desc := "(I)I" } : Jvm.MethodName)) ∈ lw_all := lw_g (lw_at lw_m4 83 rfl) rfl
theorem q874 : (Jvm.Cond.code ({ cls := "RobotAisles$Core", name := "open", desc := "(I)I" } : Jvm.MethodName) prog_2_method_20_code (2 : Nat) (Option.some Jvm.ClassFile.FieldType.int)) ∈ lw_all := lw_g (lw_at lw_m4 84 rfl) rfl
theorem q875 : (Jvm.Cond.constantLong "RobotAisles$Core" (142 : Nat) (-1 : Int64)) ∈ lw_all := lw_g (lw_at lw_m4 85 rfl) rfl
theorem q884 : (Jvm.Cond.instanceMethod ({ cls := "RobotAisles$Core", name := "set", desc := "(II)I" } : Jvm.MethodName)) ∈ lw_all := lw_g (lw_at lw_m4 94 rfl) rfl
theorem q885 : (Jvm.Cond.selects "RobotAisles$Core" ({ cls := "RobotAisles$Core", name := "set", desc := "(II)I" } : Jvm.MethodName) ({ cls := "RobotAisles$Core", name := "set", desc := "(II)I" } : Jvm.MethodName)) ∈ lw_all := lw_g (lw_at lw_m4 95 rfl) rfl
theorem q886 : (Jvm.Cond.code ({ cls := "RobotAisles$Core", name := "set", desc := "(II)I" } : Jvm.MethodName) prog_2_method_21_code (5 : Nat) (Option.some Jvm.ClassFile.FieldType.int)) ∈ lw_all := lw_g (lw_at lw_m4 96 rfl) rfl
theorem q895 : (Jvm.Cond.instanceMethod ({ cls := "RobotAisles$Core", name := "plan", desc := "(II)I" } : Jvm.MethodName)) ∈ lw_all := lw_g (lw_at lw_m4 105 rfl) rfl
theorem q896 : (Jvm.Cond.selects "RobotAisles$Core" ({ cls := "RobotAisles$Core", name := "plan", desc := "(II)I" } : Jvm.MethodName) ({ cls := "RobotAisles$Core", name := "plan", desc := "(II)I" } : Jvm.MethodName)) ∈ lw_all := lw_g (lw_at lw_m4 106 rfl) rfl
theorem q897 : (Jvm.Cond.code ({ cls := "RobotAisles$Core", name := "plan", desc := "(II)I" } : Jvm.MethodName) prog_2_method_22_code (7 : Nat) (Option.some Jvm.ClassFile.FieldType.int)) ∈ lw_all := lw_g (lw_at lw_m4 107 rfl) rfl
theorem q898 : (Jvm.Cond.methodLink "RobotAisles$Core" (144 : Nat) ({ cls := "RobotAisles$Robot", name := "hasPlan", desc := "()Z" } : Jvm.MethodName)) ∈ lw_all := lw_g (lw_at lw_m4 108 rfl) rfl
theorem q902 : (Jvm.Cond.methodLink "RobotAisles$Core" (148 : Nat) ({ cls := "RobotAisles$Robot", name := "ticksLeft", desc := "()I" } : Jvm.MethodName)) ∈ lw_all := lw_g (lw_at lw_m4 112 rfl) rfl
theorem q906 : (Jvm.Cond.classLink "RobotAisles$Core" (154 : Nat) "RobotAisles$Planner") ∈ lw_all := lw_g (lw_at lw_m4 116 rfl) rfl
theorem q908 : (Jvm.Cond.methodLink "RobotAisles$Core" (156 : Nat) ({ cls := "RobotAisles$Planner", name := "<init>", desc := "(LRobotAisles$Core;II)V" } : Jvm.MethodName)) ∈ lw_all := lw_g (lw_at lw_m4 118 rfl) rfl
theorem q939 : (Jvm.Cond.methodLink "RobotAisles$Core" (159 : Nat) ({ cls := "RobotAisles$Planner", name := "path", desc := "()[I" } : Jvm.MethodName)) ∈ lw_all := lw_g (lw_at lw_m4 149 rfl) rfl
theorem q957 : (Jvm.Cond.instanceMethod ({ cls := "RobotAisles$Core", name := "neighbor", desc := "(II)I" } : Jvm.MethodName)) ∈ lw_all := lw_g (lw_at lw_m4 167 rfl) rfl
theorem q958 : (Jvm.Cond.selects "RobotAisles$Core" ({ cls := "RobotAisles$Core", name := "neighbor", desc := "(II)I" } : Jvm.MethodName) ({ cls := "RobotAisles$Core", name := "neighbor", desc := "(II)I" } : Jvm.MethodName)) ∈ lw_all := lw_g (lw_at lw_m4 168 rfl) rfl
theorem q959 : (Jvm.Cond.code ({ cls := "RobotAisles$Core", name := "neighbor", desc := "(II)I" } : Jvm.MethodName) prog_2_method_9_code (6 : Nat) (Option.some Jvm.ClassFile.FieldType.int)) ∈ lw_all := lw_g (lw_at lw_m4 169 rfl) rfl
theorem q984 : (Jvm.Cond.methodLink "RobotAisles$Core" (163 : Nat) ({ cls := "RobotAisles$Core", name := "isLoaded", desc := "(I)Z" } : Jvm.MethodName)) ∈ lw_all := lw_g (lw_at lw_m4 194 rfl) rfl
theorem q985 : (Jvm.Cond.instanceMethod ({ cls := "RobotAisles$Core", name := "isLoaded", desc := "(I)Z" } : Jvm.MethodName)) ∈ lw_all := lw_g (lw_at lw_m4 195 rfl) rfl
theorem q986 : (Jvm.Cond.selects "RobotAisles$Core" ({ cls := "RobotAisles$Core", name := "isLoaded", desc := "(I)Z" } : Jvm.MethodName) ({ cls := "RobotAisles$Core", name := "isLoaded", desc := "(I)Z" } : Jvm.MethodName)) ∈ lw_all := lw_g (lw_at lw_m4 196 rfl) rfl
theorem q987 : (Jvm.Cond.code ({ cls := "RobotAisles$Core", name := "isLoaded", desc := "(I)Z" } : Jvm.MethodName) prog_2_method_18_code (3 : Nat) (Option.some Jvm.ClassFile.FieldType.boolean)) ∈ lw_all := lw_g (lw_at lw_m4 197 rfl) rfl
theorem q988 : (Jvm.Cond.methodLink "RobotAisles$Core" (166 : Nat) ({ cls := "RobotAisles$Core", name := "stepsOf", desc := "(I[I)I" } : Jvm.MethodName)) ∈ lw_all := lw_g (lw_at lw_m4 198 rfl) rfl
theorem q989 : (Jvm.Cond.static ({ cls := "RobotAisles$Core", name := "stepsOf", desc := "(I[I)I" } : Jvm.MethodName)) ∈ lw_all := lw_g (lw_at lw_m4 199 rfl) rfl
theorem q990 : (Jvm.Cond.code ({ cls := "RobotAisles$Core", name := "stepsOf", desc := "(I[I)I" } : Jvm.MethodName) prog_2_method_23_code (5 : Nat) (Option.some Jvm.ClassFile.FieldType.int)) ∈ lw_all := lw_g (lw_at lw_m4 200 rfl) rfl
theorem q999 : (Jvm.Cond.instanceMethod ({ cls := "RobotAisles$Core", name := "cancel", desc := "(I)I" } : Jvm.MethodName)) ∈ lw_all := lw_g (lw_at lw_m4 209 rfl) rfl
theorem q1000 : (Jvm.Cond.selects "RobotAisles$Core" ({ cls := "RobotAisles$Core", name := "cancel", desc := "(I)I" } : Jvm.MethodName) ({ cls := "RobotAisles$Core", name := "cancel", desc := "(I)I" } : Jvm.MethodName)) ∈ lw_all := lw_g (lw_at lw_m4 210 rfl) rfl
theorem q1001 : (Jvm.Cond.code ({ cls := "RobotAisles$Core", name := "cancel", desc := "(I)I" } : Jvm.MethodName) prog_2_method_24_code (4 : Nat) (Option.some Jvm.ClassFile.FieldType.int)) ∈ lw_all := lw_g (lw_at lw_m4 211 rfl) rfl
theorem q1002 : (Jvm.Cond.methodLink "RobotAisles$Core" (181 : Nat) ({ cls := "RobotAisles$Robot", name := "drop", desc := "()V" } : Jvm.MethodName)) ∈ lw_all := lw_g (lw_at lw_m4 212 rfl) rfl
theorem q1014 : (Jvm.Cond.instanceMethod ({ cls := "RobotAisles$Core", name := "pass", desc := "(I)I" } : Jvm.MethodName)) ∈ lw_all := lw_g (lw_at lw_m4 224 rfl) rfl
theorem q1015 : (Jvm.Cond.selects "RobotAisles$Core" ({ cls := "RobotAisles$Core", name := "pass", desc := "(I)I" } : Jvm.MethodName) ({ cls := "RobotAisles$Core", name := "pass", desc := "(I)I" } : Jvm.MethodName)) ∈ lw_all := lw_g (lw_at lw_m4 225 rfl) rfl
theorem q1016 : (Jvm.Cond.code ({ cls := "RobotAisles$Core", name := "pass", desc := "(I)I" } : Jvm.MethodName) prog_2_method_25_code (4 : Nat) (Option.some Jvm.ClassFile.FieldType.int)) ∈ lw_all := lw_g (lw_at lw_m4 226 rfl) rfl
theorem q1017 : (Jvm.Cond.methodLink "RobotAisles$Core" (184 : Nat) ({ cls := "RobotAisles$Core", name := "tick", desc := "()I" } : Jvm.MethodName)) ∈ lw_all := lw_g (lw_at lw_m4 227 rfl) rfl
theorem q1018 : (Jvm.Cond.privateMethod ({ cls := "RobotAisles$Core", name := "tick", desc := "()I" } : Jvm.MethodName)) ∈ lw_tbl := lw_at lw_m4 228 rfl
theorem q1019 : (Jvm.Cond.instanceMethod ({ cls := "RobotAisles$Core", name := "tick", desc := "()I" } : Jvm.MethodName)) ∈ lw_all := lw_g (lw_at lw_m4 229 rfl) rfl
theorem q1020 : (Jvm.Cond.code ({ cls := "RobotAisles$Core", name := "tick", desc := "()I" } : Jvm.MethodName) prog_2_method_26_code (3 : Nat) (Option.some Jvm.ClassFile.FieldType.int)) ∈ lw_all := lw_g (lw_at lw_m4 230 rfl) rfl
theorem q1021 : (Jvm.Cond.methodLink "RobotAisles$Core" (187 : Nat) ({ cls := "RobotAisles$Robot", name := "goOn", desc := "()V" } : Jvm.MethodName)) ∈ lw_all := lw_g (lw_at lw_m4 231 rfl) rfl
theorem q1025 : (Jvm.Cond.methodLink "RobotAisles$Core" (190 : Nat) ({ cls := "java/lang/Math", name := "min", desc := "(II)I" } : Jvm.MethodName)) ∈ lw_all := lw_g (lw_at lw_m4 235 rfl) rfl
theorem q1026 : (Jvm.Cond.methodLink "RobotAisles$Core" (195 : Nat) ({ cls := "RobotAisles$Robot", name := "isAtEnd", desc := "()Z" } : Jvm.MethodName)) ∈ lw_all := lw_g (lw_at lw_m4 236 rfl) rfl
theorem q1030 : (Jvm.Cond.methodLink "RobotAisles$Core" (198 : Nat) ({ cls := "RobotAisles$Core", name := "arrive", desc := "(LRobotAisles$Robot;)I" } : Jvm.MethodName)) ∈ lw_all := lw_g (lw_at lw_m5 0 rfl) rfl
theorem q1031 : (Jvm.Cond.privateMethod ({ cls := "RobotAisles$Core", name := "arrive", desc := "(LRobotAisles$Robot;)I" } : Jvm.MethodName)) ∈ lw_tbl := lw_at lw_m5 1 rfl
theorem q1032 : (Jvm.Cond.instanceMethod ({ cls := "RobotAisles$Core", name := "arrive", desc := "(LRobotAisles$Robot;)I" } : Jvm.MethodName)) ∈ lw_all := lw_g (lw_at lw_m5 2 rfl) rfl
theorem q1033 : (Jvm.Cond.code ({ cls := "RobotAisles$Core", name := "arrive", desc := "(LRobotAisles$Robot;)I" } : Jvm.MethodName) prog_2_method_27_code (3 : Nat) (Option.some Jvm.ClassFile.FieldType.int)) ∈ lw_all := lw_g (lw_at lw_m5 3 rfl) rfl
theorem q2287 : (Jvm.Cond.castable "RobotAisles$Core" "java/lang/Object") ∈ lw_tbl := lw_at lw_m10 57 rfl
theorem in_X2 : ∀ w ∈ wsX20, w ∈ lw_all := lw_in wsX20 [179, 181, 183, 185, 187, 189, 191, 193] (by decide +kernel) (by decide +kernel)

/-! RobotAisles$Reader -/
set_option maxRecDepth 100000
def RX4 : String := "RobotAisles$Reader"
def TX4 : u_T := fun k => match k with
  | 0 => ("RobotAisles$Reader", "cells", "[I", true)
  | 1 => ("RobotAisles$Reader", "size", "I", false)
  | 2 => ("RobotAisles$Reader", "at", "I", false)
  | _ => ("RobotAisles$Reader", "this$0", "LRobotAisles;", true)
def tyX4 : Nat → FieldType := fun k => match k with
  | 0 => .array .int
  | 1 => .int
  | 2 => .int
  | _ => .object "RobotAisles"
abbrev wsX40 : List Cond := u_ws RX4 TX4 4
theorem nmX4 : ∀ a, a < 4 → ∀ b, b < 4 → a ≠ b → (TX4 a).2.1 ≠ (TX4 b).2.1 := by decide +kernel
theorem tyX4_ok : ∀ k, k < 4 → parseFieldDescriptor (TX4 k).2.2.1 = some (tyX4 k) := by decide +kernel
abbrev cX4_init : ByteArray := prog_8_method_1_code
def yX4_init : MethodName := ⟨RX4, "<init>", "(LRobotAisles;)V"⟩
def dkwX4_init_0 : List UInt8 := [42, 43, 181, 0, 3, 42, 183, 0, 9, 42, 16, 48, 188, 10, 181, 0, 15, 177]
abbrev dktX4_init_0 : List UInt8 := dkwX4_init_0 ++ []
theorem dksX4_init_0 : cX4_init.data.toList.drop 0 = dktX4_init_0 := by decide +kernel
theorem dX4_init_0 : decode cX4_init 0 = .ok (.aload_n 0, 1) := dk_42 (dk_at dksX4_init_0 0 rfl rfl)
theorem dX4_init_1 : decode cX4_init 1 = .ok (.aload_n 1, 1) := dk_43 (dk_at dksX4_init_0 1 rfl rfl)
theorem dX4_init_2 : decode cX4_init 2 = .ok (.putfield 3, 3) := dk_181 0 3 (dk_at dksX4_init_0 2 rfl rfl)
theorem dX4_init_5 : decode cX4_init 5 = .ok (.aload_n 0, 1) := dk_42 (dk_at dksX4_init_0 5 rfl rfl)
theorem dX4_init_6 : decode cX4_init 6 = .ok (.invokespecial 9, 3) := dk_183 0 9 (dk_at dksX4_init_0 6 rfl rfl)
theorem dX4_init_9 : decode cX4_init 9 = .ok (.aload_n 0, 1) := dk_42 (dk_at dksX4_init_0 9 rfl rfl)
theorem dX4_init_10 : decode cX4_init 10 = .ok (.bipush 48, 2) := dk_16 48 (dk_at dksX4_init_0 10 rfl rfl)
theorem dX4_init_12 : decode cX4_init 12 = .ok (.newarray .int, 2) := dk_188_10 (dk_at dksX4_init_0 12 rfl rfl)
theorem dX4_init_14 : decode cX4_init 14 = .ok (.putfield 15, 3) := dk_181 0 15 (dk_at dksX4_init_0 14 rfl rfl)
theorem dX4_init_17 : decode cX4_init 17 = .ok (.return_, 1) := dk_177 (dk_at dksX4_init_0 17 rfl rfl)
abbrev cX4_layout : ByteArray := prog_8_method_5_code
def yX4_layout : MethodName := ⟨RX4, "layout", "()LRobotAisles$Core;"⟩
def dkwX4_layout_5 : List UInt8 := [180, 0, 51, 184, 0, 60, 187, 0, 66, 89, 28, 27, 45, 183, 0, 68, 176]
abbrev dktX4_layout_5 : List UInt8 := dkwX4_layout_5 ++ []
def dkwX4_layout_4 : List UInt8 := [180, 0, 3, 2, 181, 0, 57, 42, 180, 0, 51, 188, 10, 78, 42, 180, 0, 15, 3, 45, 3, 42]
abbrev dktX4_layout_4 : List UInt8 := dkwX4_layout_4 ++ dktX4_layout_5
def dkwX4_layout_3 : List UInt8 := [180, 0, 19, 42, 180, 0, 3, 180, 0, 23, 160, 0, 7, 4, 167, 0, 4, 3, 182, 0, 47, 42]
abbrev dktX4_layout_3 : List UInt8 := dkwX4_layout_3 ++ dktX4_layout_4
def dkwX4_layout_2 : List UInt8 := [89, 180, 0, 19, 4, 96, 181, 0, 19, 42, 27, 182, 0, 54, 87, 132, 2, 1, 167, 255, 200, 42, 42]
abbrev dktX4_layout_2 : List UInt8 := dkwX4_layout_2 ++ dktX4_layout_3
def dkwX4_layout_1 : List UInt8 := [180, 0, 23, 162, 0, 42, 42, 180, 0, 3, 180, 0, 28, 42, 180, 0, 19, 52, 16, 47, 160, 0, 25, 42]
abbrev dktX4_layout_1 : List UInt8 := dkwX4_layout_1 ++ dktX4_layout_2
def dkwX4_layout_0 : List UInt8 := [42, 3, 182, 0, 54, 60, 4, 61, 28, 16, 6, 162, 0, 56, 42, 180, 0, 19, 42, 180, 0, 3]
abbrev dktX4_layout_0 : List UInt8 := dkwX4_layout_0 ++ dktX4_layout_1
theorem dksX4_layout_0 : cX4_layout.data.toList.drop 0 = dktX4_layout_0 := by decide +kernel
theorem dksX4_layout_1 : cX4_layout.data.toList.drop 22 = dktX4_layout_1 := dk_seg dksX4_layout_0 22 rfl rfl
theorem dksX4_layout_2 : cX4_layout.data.toList.drop 46 = dktX4_layout_2 := dk_seg dksX4_layout_1 24 rfl rfl
theorem dksX4_layout_3 : cX4_layout.data.toList.drop 69 = dktX4_layout_3 := dk_seg dksX4_layout_2 23 rfl rfl
theorem dksX4_layout_4 : cX4_layout.data.toList.drop 91 = dktX4_layout_4 := dk_seg dksX4_layout_3 22 rfl rfl
theorem dksX4_layout_5 : cX4_layout.data.toList.drop 113 = dktX4_layout_5 := dk_seg dksX4_layout_4 22 rfl rfl
theorem dX4_layout_0 : decode cX4_layout 0 = .ok (.aload_n 0, 1) := dk_42 (dk_at dksX4_layout_0 0 rfl rfl)
theorem dX4_layout_1 : decode cX4_layout 1 = .ok (.iconst 0, 1) := dk_3 (dk_at dksX4_layout_0 1 rfl rfl)
theorem dX4_layout_2 : decode cX4_layout 2 = .ok (.invokevirtual 54, 3) := dk_182 0 54 (dk_at dksX4_layout_0 2 rfl rfl)
theorem dX4_layout_5 : decode cX4_layout 5 = .ok (.istore_n 1, 1) := dk_60 (dk_at dksX4_layout_0 5 rfl rfl)
theorem dX4_layout_6 : decode cX4_layout 6 = .ok (.iconst 1, 1) := dk_4 (dk_at dksX4_layout_0 6 rfl rfl)
theorem dX4_layout_7 : decode cX4_layout 7 = .ok (.istore_n 2, 1) := dk_61 (dk_at dksX4_layout_0 7 rfl rfl)
theorem dX4_layout_8 : decode cX4_layout 8 = .ok (.iload_n 2, 1) := dk_28 (dk_at dksX4_layout_0 8 rfl rfl)
theorem dX4_layout_9 : decode cX4_layout 9 = .ok (.bipush 6, 2) := dk_16 6 (dk_at dksX4_layout_0 9 rfl rfl)
theorem dX4_layout_11 : decode cX4_layout 11 = .ok (.if_icmp .ge 56, 3) := dk_162 0 56 (dk_at dksX4_layout_0 11 rfl rfl)
theorem dX4_layout_14 : decode cX4_layout 14 = .ok (.aload_n 0, 1) := dk_42 (dk_at dksX4_layout_0 14 rfl rfl)
theorem dX4_layout_15 : decode cX4_layout 15 = .ok (.getfield 19, 3) := dk_180 0 19 (dk_at dksX4_layout_0 15 rfl rfl)
theorem dX4_layout_18 : decode cX4_layout 18 = .ok (.aload_n 0, 1) := dk_42 (dk_at dksX4_layout_0 18 rfl rfl)
theorem dX4_layout_19 : decode cX4_layout 19 = .ok (.getfield 3, 3) := dk_180 0 3 (dk_at dksX4_layout_0 19 rfl rfl)
theorem dX4_layout_22 : decode cX4_layout 22 = .ok (.getfield 23, 3) := dk_180 0 23 (dk_at dksX4_layout_1 0 rfl rfl)
theorem dX4_layout_25 : decode cX4_layout 25 = .ok (.if_icmp .ge 42, 3) := dk_162 0 42 (dk_at dksX4_layout_1 3 rfl rfl)
theorem dX4_layout_28 : decode cX4_layout 28 = .ok (.aload_n 0, 1) := dk_42 (dk_at dksX4_layout_1 6 rfl rfl)
theorem dX4_layout_29 : decode cX4_layout 29 = .ok (.getfield 3, 3) := dk_180 0 3 (dk_at dksX4_layout_1 7 rfl rfl)
theorem dX4_layout_32 : decode cX4_layout 32 = .ok (.getfield 28, 3) := dk_180 0 28 (dk_at dksX4_layout_1 10 rfl rfl)
theorem dX4_layout_35 : decode cX4_layout 35 = .ok (.aload_n 0, 1) := dk_42 (dk_at dksX4_layout_1 13 rfl rfl)
theorem dX4_layout_36 : decode cX4_layout 36 = .ok (.getfield 19, 3) := dk_180 0 19 (dk_at dksX4_layout_1 14 rfl rfl)
theorem dX4_layout_39 : decode cX4_layout 39 = .ok (.caload, 1) := dk_52 (dk_at dksX4_layout_1 17 rfl rfl)
theorem dX4_layout_40 : decode cX4_layout 40 = .ok (.bipush 47, 2) := dk_16 47 (dk_at dksX4_layout_1 18 rfl rfl)
theorem dX4_layout_42 : decode cX4_layout 42 = .ok (.if_icmp .ne 25, 3) := dk_160 0 25 (dk_at dksX4_layout_1 20 rfl rfl)
theorem dX4_layout_45 : decode cX4_layout 45 = .ok (.aload_n 0, 1) := dk_42 (dk_at dksX4_layout_1 23 rfl rfl)
theorem dX4_layout_46 : decode cX4_layout 46 = .ok (.dup, 1) := dk_89 (dk_at dksX4_layout_2 0 rfl rfl)
theorem dX4_layout_47 : decode cX4_layout 47 = .ok (.getfield 19, 3) := dk_180 0 19 (dk_at dksX4_layout_2 1 rfl rfl)
theorem dX4_layout_50 : decode cX4_layout 50 = .ok (.iconst 1, 1) := dk_4 (dk_at dksX4_layout_2 4 rfl rfl)
theorem dX4_layout_51 : decode cX4_layout 51 = .ok (.iadd, 1) := dk_96 (dk_at dksX4_layout_2 5 rfl rfl)
theorem dX4_layout_52 : decode cX4_layout 52 = .ok (.putfield 19, 3) := dk_181 0 19 (dk_at dksX4_layout_2 6 rfl rfl)
theorem dX4_layout_55 : decode cX4_layout 55 = .ok (.aload_n 0, 1) := dk_42 (dk_at dksX4_layout_2 9 rfl rfl)
theorem dX4_layout_56 : decode cX4_layout 56 = .ok (.iload_n 1, 1) := dk_27 (dk_at dksX4_layout_2 10 rfl rfl)
theorem dX4_layout_57 : decode cX4_layout 57 = .ok (.invokevirtual 54, 3) := dk_182 0 54 (dk_at dksX4_layout_2 11 rfl rfl)
theorem dX4_layout_60 : decode cX4_layout 60 = .ok (.pop, 1) := dk_87 (dk_at dksX4_layout_2 14 rfl rfl)
theorem dX4_layout_61 : decode cX4_layout 61 = .ok (.iinc 2 1, 3) := dk_132 2 1 (dk_at dksX4_layout_2 15 rfl rfl)
theorem dX4_layout_64 : decode cX4_layout 64 = .ok (.goto (-56), 3) := dk_167 255 200 (dk_at dksX4_layout_2 18 rfl rfl)
theorem dX4_layout_67 : decode cX4_layout 67 = .ok (.aload_n 0, 1) := dk_42 (dk_at dksX4_layout_2 21 rfl rfl)
theorem dX4_layout_68 : decode cX4_layout 68 = .ok (.aload_n 0, 1) := dk_42 (dk_at dksX4_layout_2 22 rfl rfl)
theorem dX4_layout_69 : decode cX4_layout 69 = .ok (.getfield 19, 3) := dk_180 0 19 (dk_at dksX4_layout_3 0 rfl rfl)
theorem dX4_layout_72 : decode cX4_layout 72 = .ok (.aload_n 0, 1) := dk_42 (dk_at dksX4_layout_3 3 rfl rfl)
theorem dX4_layout_73 : decode cX4_layout 73 = .ok (.getfield 3, 3) := dk_180 0 3 (dk_at dksX4_layout_3 4 rfl rfl)
theorem dX4_layout_76 : decode cX4_layout 76 = .ok (.getfield 23, 3) := dk_180 0 23 (dk_at dksX4_layout_3 7 rfl rfl)
theorem dX4_layout_79 : decode cX4_layout 79 = .ok (.if_icmp .ne 7, 3) := dk_160 0 7 (dk_at dksX4_layout_3 10 rfl rfl)
theorem dX4_layout_82 : decode cX4_layout 82 = .ok (.iconst 1, 1) := dk_4 (dk_at dksX4_layout_3 13 rfl rfl)
theorem dX4_layout_83 : decode cX4_layout 83 = .ok (.goto 4, 3) := dk_167 0 4 (dk_at dksX4_layout_3 14 rfl rfl)
theorem dX4_layout_86 : decode cX4_layout 86 = .ok (.iconst 0, 1) := dk_3 (dk_at dksX4_layout_3 17 rfl rfl)
theorem dX4_layout_87 : decode cX4_layout 87 = .ok (.invokevirtual 47, 3) := dk_182 0 47 (dk_at dksX4_layout_3 18 rfl rfl)
theorem dX4_layout_90 : decode cX4_layout 90 = .ok (.aload_n 0, 1) := dk_42 (dk_at dksX4_layout_3 21 rfl rfl)
theorem dX4_layout_91 : decode cX4_layout 91 = .ok (.getfield 3, 3) := dk_180 0 3 (dk_at dksX4_layout_4 0 rfl rfl)
theorem dX4_layout_94 : decode cX4_layout 94 = .ok (.iconst (-1), 1) := dk_2 (dk_at dksX4_layout_4 3 rfl rfl)
theorem dX4_layout_95 : decode cX4_layout 95 = .ok (.putfield 57, 3) := dk_181 0 57 (dk_at dksX4_layout_4 4 rfl rfl)
theorem dX4_layout_98 : decode cX4_layout 98 = .ok (.aload_n 0, 1) := dk_42 (dk_at dksX4_layout_4 7 rfl rfl)
theorem dX4_layout_99 : decode cX4_layout 99 = .ok (.getfield 51, 3) := dk_180 0 51 (dk_at dksX4_layout_4 8 rfl rfl)
theorem dX4_layout_102 : decode cX4_layout 102 = .ok (.newarray .int, 2) := dk_188_10 (dk_at dksX4_layout_4 11 rfl rfl)
theorem dX4_layout_104 : decode cX4_layout 104 = .ok (.astore_n 3, 1) := dk_78 (dk_at dksX4_layout_4 13 rfl rfl)
theorem dX4_layout_105 : decode cX4_layout 105 = .ok (.aload_n 0, 1) := dk_42 (dk_at dksX4_layout_4 14 rfl rfl)
theorem dX4_layout_106 : decode cX4_layout 106 = .ok (.getfield 15, 3) := dk_180 0 15 (dk_at dksX4_layout_4 15 rfl rfl)
theorem dX4_layout_109 : decode cX4_layout 109 = .ok (.iconst 0, 1) := dk_3 (dk_at dksX4_layout_4 18 rfl rfl)
theorem dX4_layout_110 : decode cX4_layout 110 = .ok (.aload_n 3, 1) := dk_45 (dk_at dksX4_layout_4 19 rfl rfl)
theorem dX4_layout_111 : decode cX4_layout 111 = .ok (.iconst 0, 1) := dk_3 (dk_at dksX4_layout_4 20 rfl rfl)
theorem dX4_layout_112 : decode cX4_layout 112 = .ok (.aload_n 0, 1) := dk_42 (dk_at dksX4_layout_4 21 rfl rfl)
theorem dX4_layout_113 : decode cX4_layout 113 = .ok (.getfield 51, 3) := dk_180 0 51 (dk_at dksX4_layout_5 0 rfl rfl)
theorem dX4_layout_116 : decode cX4_layout 116 = .ok (.invokestatic 60, 3) := dk_184 0 60 (dk_at dksX4_layout_5 3 rfl rfl)
theorem dX4_layout_119 : decode cX4_layout 119 = .ok (.new 66, 3) := dk_187 0 66 (dk_at dksX4_layout_5 6 rfl rfl)
theorem dX4_layout_122 : decode cX4_layout 122 = .ok (.dup, 1) := dk_89 (dk_at dksX4_layout_5 9 rfl rfl)
theorem dX4_layout_123 : decode cX4_layout 123 = .ok (.iload_n 2, 1) := dk_28 (dk_at dksX4_layout_5 10 rfl rfl)
theorem dX4_layout_124 : decode cX4_layout 124 = .ok (.iload_n 1, 1) := dk_27 (dk_at dksX4_layout_5 11 rfl rfl)
theorem dX4_layout_125 : decode cX4_layout 125 = .ok (.aload_n 3, 1) := dk_45 (dk_at dksX4_layout_5 12 rfl rfl)
theorem dX4_layout_126 : decode cX4_layout 126 = .ok (.invokespecial 68, 3) := dk_183 0 68 (dk_at dksX4_layout_5 13 rfl rfl)
theorem dX4_layout_129 : decode cX4_layout 129 = .ok (.areturn, 1) := dk_176 (dk_at dksX4_layout_5 16 rfl rfl)
abbrev cX4_row : ByteArray := prog_8_method_4_code
def yX4_row : MethodName := ⟨RX4, "row", "(I)I"⟩
def dkwX4_row_4 : List UInt8 := [181, 0, 19, 167, 255, 183, 21, 4, 172]
abbrev dktX4_row_4 : List UInt8 := dkwX4_row_4 ++ []
def dkwX4_row_3 : List UInt8 := [182, 0, 43, 79, 42, 89, 180, 0, 51, 4, 96, 181, 0, 51, 132, 4, 1, 42, 89, 180, 0, 19, 4, 96]
abbrev dktX4_row_3 : List UInt8 := dkwX4_row_3 ++ dktX4_row_4
def dkwX4_row_2 : List UInt8 := [182, 0, 43, 2, 159, 0, 7, 4, 167, 0, 4, 3, 182, 0, 47, 42, 180, 0, 15, 42, 180, 0, 51, 42]
abbrev dktX4_row_2 : List UInt8 := dkwX4_row_2 ++ dktX4_row_3
def dkwX4_row_1 : List UInt8 := [21, 4, 29, 161, 0, 17, 21, 4, 28, 162, 0, 67, 42, 182, 0, 43, 2, 159, 0, 59, 42, 42]
abbrev dktX4_row_1 : List UInt8 := dkwX4_row_1 ++ dktX4_row_2
def dkwX4_row_0 : List UInt8 := [27, 154, 0, 8, 16, 8, 167, 0, 4, 27, 61, 27, 154, 0, 7, 5, 167, 0, 4, 27, 62, 3, 54, 4]
abbrev dktX4_row_0 : List UInt8 := dkwX4_row_0 ++ dktX4_row_1
theorem dksX4_row_0 : cX4_row.data.toList.drop 0 = dktX4_row_0 := by decide +kernel
theorem dksX4_row_1 : cX4_row.data.toList.drop 24 = dktX4_row_1 := dk_seg dksX4_row_0 24 rfl rfl
theorem dksX4_row_2 : cX4_row.data.toList.drop 46 = dktX4_row_2 := dk_seg dksX4_row_1 22 rfl rfl
theorem dksX4_row_3 : cX4_row.data.toList.drop 70 = dktX4_row_3 := dk_seg dksX4_row_2 24 rfl rfl
theorem dksX4_row_4 : cX4_row.data.toList.drop 94 = dktX4_row_4 := dk_seg dksX4_row_3 24 rfl rfl
theorem dX4_row_0 : decode cX4_row 0 = .ok (.iload_n 1, 1) := dk_27 (dk_at dksX4_row_0 0 rfl rfl)
theorem dX4_row_1 : decode cX4_row 1 = .ok (.ifCond .ne 8, 3) := dk_154 0 8 (dk_at dksX4_row_0 1 rfl rfl)
theorem dX4_row_4 : decode cX4_row 4 = .ok (.bipush 8, 2) := dk_16 8 (dk_at dksX4_row_0 4 rfl rfl)
theorem dX4_row_6 : decode cX4_row 6 = .ok (.goto 4, 3) := dk_167 0 4 (dk_at dksX4_row_0 6 rfl rfl)
theorem dX4_row_9 : decode cX4_row 9 = .ok (.iload_n 1, 1) := dk_27 (dk_at dksX4_row_0 9 rfl rfl)
theorem dX4_row_10 : decode cX4_row 10 = .ok (.istore_n 2, 1) := dk_61 (dk_at dksX4_row_0 10 rfl rfl)
theorem dX4_row_11 : decode cX4_row 11 = .ok (.iload_n 1, 1) := dk_27 (dk_at dksX4_row_0 11 rfl rfl)
theorem dX4_row_12 : decode cX4_row 12 = .ok (.ifCond .ne 7, 3) := dk_154 0 7 (dk_at dksX4_row_0 12 rfl rfl)
theorem dX4_row_15 : decode cX4_row 15 = .ok (.iconst 2, 1) := dk_5 (dk_at dksX4_row_0 15 rfl rfl)
theorem dX4_row_16 : decode cX4_row 16 = .ok (.goto 4, 3) := dk_167 0 4 (dk_at dksX4_row_0 16 rfl rfl)
theorem dX4_row_19 : decode cX4_row 19 = .ok (.iload_n 1, 1) := dk_27 (dk_at dksX4_row_0 19 rfl rfl)
theorem dX4_row_20 : decode cX4_row 20 = .ok (.istore_n 3, 1) := dk_62 (dk_at dksX4_row_0 20 rfl rfl)
theorem dX4_row_21 : decode cX4_row 21 = .ok (.iconst 0, 1) := dk_3 (dk_at dksX4_row_0 21 rfl rfl)
theorem dX4_row_22 : decode cX4_row 22 = .ok (.istore 4, 2) := dk_54 4 (dk_at dksX4_row_0 22 rfl rfl)
theorem dX4_row_24 : decode cX4_row 24 = .ok (.iload 4, 2) := dk_21 4 (dk_at dksX4_row_1 0 rfl rfl)
theorem dX4_row_26 : decode cX4_row 26 = .ok (.iload_n 3, 1) := dk_29 (dk_at dksX4_row_1 2 rfl rfl)
theorem dX4_row_27 : decode cX4_row 27 = .ok (.if_icmp .lt 17, 3) := dk_161 0 17 (dk_at dksX4_row_1 3 rfl rfl)
theorem dX4_row_30 : decode cX4_row 30 = .ok (.iload 4, 2) := dk_21 4 (dk_at dksX4_row_1 6 rfl rfl)
theorem dX4_row_32 : decode cX4_row 32 = .ok (.iload_n 2, 1) := dk_28 (dk_at dksX4_row_1 8 rfl rfl)
theorem dX4_row_33 : decode cX4_row 33 = .ok (.if_icmp .ge 67, 3) := dk_162 0 67 (dk_at dksX4_row_1 9 rfl rfl)
theorem dX4_row_36 : decode cX4_row 36 = .ok (.aload_n 0, 1) := dk_42 (dk_at dksX4_row_1 12 rfl rfl)
theorem dX4_row_37 : decode cX4_row 37 = .ok (.invokevirtual 43, 3) := dk_182 0 43 (dk_at dksX4_row_1 13 rfl rfl)
theorem dX4_row_40 : decode cX4_row 40 = .ok (.iconst (-1), 1) := dk_2 (dk_at dksX4_row_1 16 rfl rfl)
theorem dX4_row_41 : decode cX4_row 41 = .ok (.if_icmp .eq 59, 3) := dk_159 0 59 (dk_at dksX4_row_1 17 rfl rfl)
theorem dX4_row_44 : decode cX4_row 44 = .ok (.aload_n 0, 1) := dk_42 (dk_at dksX4_row_1 20 rfl rfl)
theorem dX4_row_45 : decode cX4_row 45 = .ok (.aload_n 0, 1) := dk_42 (dk_at dksX4_row_1 21 rfl rfl)
theorem dX4_row_46 : decode cX4_row 46 = .ok (.invokevirtual 43, 3) := dk_182 0 43 (dk_at dksX4_row_2 0 rfl rfl)
theorem dX4_row_49 : decode cX4_row 49 = .ok (.iconst (-1), 1) := dk_2 (dk_at dksX4_row_2 3 rfl rfl)
theorem dX4_row_50 : decode cX4_row 50 = .ok (.if_icmp .eq 7, 3) := dk_159 0 7 (dk_at dksX4_row_2 4 rfl rfl)
theorem dX4_row_53 : decode cX4_row 53 = .ok (.iconst 1, 1) := dk_4 (dk_at dksX4_row_2 7 rfl rfl)
theorem dX4_row_54 : decode cX4_row 54 = .ok (.goto 4, 3) := dk_167 0 4 (dk_at dksX4_row_2 8 rfl rfl)
theorem dX4_row_57 : decode cX4_row 57 = .ok (.iconst 0, 1) := dk_3 (dk_at dksX4_row_2 11 rfl rfl)
theorem dX4_row_58 : decode cX4_row 58 = .ok (.invokevirtual 47, 3) := dk_182 0 47 (dk_at dksX4_row_2 12 rfl rfl)
theorem dX4_row_61 : decode cX4_row 61 = .ok (.aload_n 0, 1) := dk_42 (dk_at dksX4_row_2 15 rfl rfl)
theorem dX4_row_62 : decode cX4_row 62 = .ok (.getfield 15, 3) := dk_180 0 15 (dk_at dksX4_row_2 16 rfl rfl)
theorem dX4_row_65 : decode cX4_row 65 = .ok (.aload_n 0, 1) := dk_42 (dk_at dksX4_row_2 19 rfl rfl)
theorem dX4_row_66 : decode cX4_row 66 = .ok (.getfield 51, 3) := dk_180 0 51 (dk_at dksX4_row_2 20 rfl rfl)
theorem dX4_row_69 : decode cX4_row 69 = .ok (.aload_n 0, 1) := dk_42 (dk_at dksX4_row_2 23 rfl rfl)
theorem dX4_row_70 : decode cX4_row 70 = .ok (.invokevirtual 43, 3) := dk_182 0 43 (dk_at dksX4_row_3 0 rfl rfl)
theorem dX4_row_73 : decode cX4_row 73 = .ok (.iastore, 1) := dk_79 (dk_at dksX4_row_3 3 rfl rfl)
theorem dX4_row_74 : decode cX4_row 74 = .ok (.aload_n 0, 1) := dk_42 (dk_at dksX4_row_3 4 rfl rfl)
theorem dX4_row_75 : decode cX4_row 75 = .ok (.dup, 1) := dk_89 (dk_at dksX4_row_3 5 rfl rfl)
theorem dX4_row_76 : decode cX4_row 76 = .ok (.getfield 51, 3) := dk_180 0 51 (dk_at dksX4_row_3 6 rfl rfl)
theorem dX4_row_79 : decode cX4_row 79 = .ok (.iconst 1, 1) := dk_4 (dk_at dksX4_row_3 9 rfl rfl)
theorem dX4_row_80 : decode cX4_row 80 = .ok (.iadd, 1) := dk_96 (dk_at dksX4_row_3 10 rfl rfl)
theorem dX4_row_81 : decode cX4_row 81 = .ok (.putfield 51, 3) := dk_181 0 51 (dk_at dksX4_row_3 11 rfl rfl)
theorem dX4_row_84 : decode cX4_row 84 = .ok (.iinc 4 1, 3) := dk_132 4 1 (dk_at dksX4_row_3 14 rfl rfl)
theorem dX4_row_87 : decode cX4_row 87 = .ok (.aload_n 0, 1) := dk_42 (dk_at dksX4_row_3 17 rfl rfl)
theorem dX4_row_88 : decode cX4_row 88 = .ok (.dup, 1) := dk_89 (dk_at dksX4_row_3 18 rfl rfl)
theorem dX4_row_89 : decode cX4_row 89 = .ok (.getfield 19, 3) := dk_180 0 19 (dk_at dksX4_row_3 19 rfl rfl)
theorem dX4_row_92 : decode cX4_row 92 = .ok (.iconst 1, 1) := dk_4 (dk_at dksX4_row_3 22 rfl rfl)
theorem dX4_row_93 : decode cX4_row 93 = .ok (.iadd, 1) := dk_96 (dk_at dksX4_row_3 23 rfl rfl)
theorem dX4_row_94 : decode cX4_row 94 = .ok (.putfield 19, 3) := dk_181 0 19 (dk_at dksX4_row_4 0 rfl rfl)
theorem dX4_row_97 : decode cX4_row 97 = .ok (.goto (-73), 3) := dk_167 255 183 (dk_at dksX4_row_4 3 rfl rfl)
theorem dX4_row_100 : decode cX4_row 100 = .ok (.iload 4, 2) := dk_21 4 (dk_at dksX4_row_4 6 rfl rfl)
theorem dX4_row_102 : decode cX4_row 102 = .ok (.ireturn, 1) := dk_172 (dk_at dksX4_row_4 8 rfl rfl)
abbrev cX4_kindHere : ByteArray := prog_8_method_2_code
def yX4_kindHere : MethodName := ⟨RX4, "kindHere", "()I"⟩
def dkwX4_kindHere_1 : List UInt8 := [180, 0, 19, 52, 182, 0, 32, 167, 0, 4, 2, 172]
abbrev dktX4_kindHere_1 : List UInt8 := dkwX4_kindHere_1 ++ []
def dkwX4_kindHere_0 : List UInt8 := [42, 180, 0, 19, 42, 180, 0, 3, 180, 0, 23, 162, 0, 23, 18, 26, 42, 180, 0, 3, 180, 0, 28, 42]
abbrev dktX4_kindHere_0 : List UInt8 := dkwX4_kindHere_0 ++ dktX4_kindHere_1
theorem dksX4_kindHere_0 : cX4_kindHere.data.toList.drop 0 = dktX4_kindHere_0 := by decide +kernel
theorem dksX4_kindHere_1 : cX4_kindHere.data.toList.drop 24 = dktX4_kindHere_1 := dk_seg dksX4_kindHere_0 24 rfl rfl
theorem dX4_kindHere_0 : decode cX4_kindHere 0 = .ok (.aload_n 0, 1) := dk_42 (dk_at dksX4_kindHere_0 0 rfl rfl)
theorem dX4_kindHere_1 : decode cX4_kindHere 1 = .ok (.getfield 19, 3) := dk_180 0 19 (dk_at dksX4_kindHere_0 1 rfl rfl)
theorem dX4_kindHere_4 : decode cX4_kindHere 4 = .ok (.aload_n 0, 1) := dk_42 (dk_at dksX4_kindHere_0 4 rfl rfl)
theorem dX4_kindHere_5 : decode cX4_kindHere 5 = .ok (.getfield 3, 3) := dk_180 0 3 (dk_at dksX4_kindHere_0 5 rfl rfl)
theorem dX4_kindHere_8 : decode cX4_kindHere 8 = .ok (.getfield 23, 3) := dk_180 0 23 (dk_at dksX4_kindHere_0 8 rfl rfl)
theorem dX4_kindHere_11 : decode cX4_kindHere 11 = .ok (.if_icmp .ge 23, 3) := dk_162 0 23 (dk_at dksX4_kindHere_0 11 rfl rfl)
theorem dX4_kindHere_14 : decode cX4_kindHere 14 = .ok (.ldc 26, 2) := dk_18 26 (dk_at dksX4_kindHere_0 14 rfl rfl)
theorem dX4_kindHere_16 : decode cX4_kindHere 16 = .ok (.aload_n 0, 1) := dk_42 (dk_at dksX4_kindHere_0 16 rfl rfl)
theorem dX4_kindHere_17 : decode cX4_kindHere 17 = .ok (.getfield 3, 3) := dk_180 0 3 (dk_at dksX4_kindHere_0 17 rfl rfl)
theorem dX4_kindHere_20 : decode cX4_kindHere 20 = .ok (.getfield 28, 3) := dk_180 0 28 (dk_at dksX4_kindHere_0 20 rfl rfl)
theorem dX4_kindHere_23 : decode cX4_kindHere 23 = .ok (.aload_n 0, 1) := dk_42 (dk_at dksX4_kindHere_0 23 rfl rfl)
theorem dX4_kindHere_24 : decode cX4_kindHere 24 = .ok (.getfield 19, 3) := dk_180 0 19 (dk_at dksX4_kindHere_1 0 rfl rfl)
theorem dX4_kindHere_27 : decode cX4_kindHere 27 = .ok (.caload, 1) := dk_52 (dk_at dksX4_kindHere_1 3 rfl rfl)
theorem dX4_kindHere_28 : decode cX4_kindHere 28 = .ok (.invokevirtual 32, 3) := dk_182 0 32 (dk_at dksX4_kindHere_1 4 rfl rfl)
theorem dX4_kindHere_31 : decode cX4_kindHere 31 = .ok (.goto 4, 3) := dk_167 0 4 (dk_at dksX4_kindHere_1 7 rfl rfl)
theorem dX4_kindHere_34 : decode cX4_kindHere 34 = .ok (.iconst (-1), 1) := dk_2 (dk_at dksX4_kindHere_1 10 rfl rfl)
theorem dX4_kindHere_35 : decode cX4_kindHere 35 = .ok (.ireturn, 1) := dk_172 (dk_at dksX4_kindHere_1 11 rfl rfl)
abbrev cX4_must : ByteArray := prog_8_method_3_code
def yX4_must : MethodName := ⟨RX4, "must", "(Z)V"⟩
def dkwX4_must_0 : List UInt8 := [27, 154, 0, 15, 187, 0, 38, 89, 42, 180, 0, 19, 183, 0, 40, 191, 177]
abbrev dktX4_must_0 : List UInt8 := dkwX4_must_0 ++ []
theorem dksX4_must_0 : cX4_must.data.toList.drop 0 = dktX4_must_0 := by decide +kernel
theorem dX4_must_0 : decode cX4_must 0 = .ok (.iload_n 1, 1) := dk_27 (dk_at dksX4_must_0 0 rfl rfl)
theorem dX4_must_1 : decode cX4_must 1 = .ok (.ifCond .ne 15, 3) := dk_154 0 15 (dk_at dksX4_must_0 1 rfl rfl)
theorem dX4_must_4 : decode cX4_must 4 = .ok (.new 38, 3) := dk_187 0 38 (dk_at dksX4_must_0 4 rfl rfl)
theorem dX4_must_7 : decode cX4_must 7 = .ok (.dup, 1) := dk_89 (dk_at dksX4_must_0 7 rfl rfl)
theorem dX4_must_8 : decode cX4_must 8 = .ok (.aload_n 0, 1) := dk_42 (dk_at dksX4_must_0 8 rfl rfl)
theorem dX4_must_9 : decode cX4_must 9 = .ok (.getfield 19, 3) := dk_180 0 19 (dk_at dksX4_must_0 9 rfl rfl)
theorem dX4_must_12 : decode cX4_must 12 = .ok (.invokespecial 40, 3) := dk_183 0 40 (dk_at dksX4_must_0 12 rfl rfl)
theorem dX4_must_15 : decode cX4_must 15 = .ok (.athrow, 1) := dk_191 (dk_at dksX4_must_0 15 rfl rfl)
theorem dX4_must_16 : decode cX4_must 16 = .ok (.return_, 1) := dk_177 (dk_at dksX4_must_0 16 rfl rfl)
theorem q81 : (Jvm.Cond.initialized "RobotAisles$Reader") ∈ lw_all := lw_g (lw_at lw_m1 11 rfl) rfl
theorem q204 : (Jvm.Cond.fieldLinkNest "RobotAisles$Reader" (28 : Nat) "RobotAisles" "text" "[C" "RobotAisles") ∈ lw_tbl := lw_at lw_m1 134 rfl
theorem q205 : (Jvm.Cond.fieldLinkNest "RobotAisles$Reader" (23 : Nat) "RobotAisles" "textLength" "I" "RobotAisles") ∈ lw_tbl := lw_at lw_m1 135 rfl
theorem q208 : (Jvm.Cond.fieldLinkNest "RobotAisles$Reader" (57 : Nat) "RobotAisles" "fault" "I" "RobotAisles") ∈ lw_tbl := lw_at lw_m1 138 rfl
theorem q343 : (Jvm.Cond.selects "RobotAisles$Reader" ({ cls := "java/lang/Object", name := "getClass", desc := "()Ljava/lang/Class;" } : Jvm.MethodName) ({ cls := "java/lang/Object", name := "getClass", desc := "()Ljava/lang/Class;" } : Jvm.MethodName)) ∈ lw_all := lw_g (lw_at lw_m2 33 rfl) rfl
theorem q510 : (Jvm.Cond.instantiable "RobotAisles$Reader" (4 : Nat)) ∈ lw_all := lw_g (lw_at lw_m2 200 rfl) rfl
theorem q512 : (Jvm.Cond.instanceMethod ({ cls := "RobotAisles$Reader", name := "<init>", desc := "(LRobotAisles;)V" } : Jvm.MethodName)) ∈ lw_all := lw_g (lw_at lw_m2 202 rfl) rfl
theorem q513 : (Jvm.Cond.code ({ cls := "RobotAisles$Reader", name := "<init>", desc := "(LRobotAisles;)V" } : Jvm.MethodName) prog_8_method_1_code (2 : Nat) (Option.none : Option Jvm.ClassFile.FieldType)) ∈ lw_all := lw_g (lw_at lw_m2 203 rfl) rfl
theorem q514 : (Jvm.Cond.methodLink "RobotAisles$Reader" (9 : Nat) ({ cls := "java/lang/Object", name := "<init>", desc := "()V" } : Jvm.MethodName)) ∈ lw_all := lw_g (lw_at lw_m2 204 rfl) rfl
theorem q515 : (Jvm.Cond.fieldLink "RobotAisles$Reader" (15 : Nat) "RobotAisles$Reader" "cells" "[I") ∈ lw_all := lw_g (lw_at lw_m2 205 rfl) rfl
theorem q516 : (Jvm.Cond.fieldLink "RobotAisles$Reader" (51 : Nat) "RobotAisles$Reader" "size" "I") ∈ lw_all := lw_g (lw_at lw_m2 206 rfl) rfl
theorem q517 : (Jvm.Cond.fieldLink "RobotAisles$Reader" (19 : Nat) "RobotAisles$Reader" "at" "I") ∈ lw_all := lw_g (lw_at lw_m2 207 rfl) rfl
theorem q518 : (Jvm.Cond.fieldLink "RobotAisles$Reader" (3 : Nat) "RobotAisles$Reader" "this$0" "LRobotAisles;") ∈ lw_all := lw_g (lw_at lw_m2 208 rfl) rfl
theorem q519 : (Jvm.Cond.laysFinal "RobotAisles$Reader" "RobotAisles$Reader" "cells" "[I") ∈ lw_all := lw_g (lw_at lw_m2 209 rfl) rfl
theorem q520 : (Jvm.Cond.soleField "RobotAisles$Reader" "cells") ∈ lw_all := lw_g (lw_at lw_m2 210 rfl) rfl
theorem q521 : (Jvm.Cond.lays "RobotAisles$Reader" "RobotAisles$Reader" "size" "I") ∈ lw_all := lw_g (lw_at lw_m2 211 rfl) rfl
theorem q522 : (Jvm.Cond.soleField "RobotAisles$Reader" "size") ∈ lw_all := lw_g (lw_at lw_m2 212 rfl) rfl
theorem q523 : (Jvm.Cond.lays "RobotAisles$Reader" "RobotAisles$Reader" "at" "I") ∈ lw_all := lw_g (lw_at lw_m2 213 rfl) rfl
theorem q524 : (Jvm.Cond.soleField "RobotAisles$Reader" "at") ∈ lw_all := lw_g (lw_at lw_m2 214 rfl) rfl
theorem q525 : (Jvm.Cond.laysFinal "RobotAisles$Reader" "RobotAisles$Reader" "this$0" "LRobotAisles;") ∈ lw_all := lw_g (lw_at lw_m2 215 rfl) rfl
theorem q526 : (Jvm.Cond.soleField "RobotAisles$Reader" "this$0") ∈ lw_all := lw_g (lw_at lw_m2 216 rfl) rfl
theorem q527 : (Jvm.Cond.superclass "RobotAisles$Reader" "java/lang/Object") ∈ lw_all := lw_g (lw_at lw_m2 217 rfl) rfl
theorem q529 : (Jvm.Cond.instanceMethod ({ cls := "RobotAisles$Reader", name := "layout", desc := "()LRobotAisles$Core;" } : Jvm.MethodName)) ∈ lw_all := lw_g (lw_at lw_m2 219 rfl) rfl
theorem q530 : (Jvm.Cond.selects "RobotAisles$Reader" ({ cls := "RobotAisles$Reader", name := "layout", desc := "()LRobotAisles$Core;" } : Jvm.MethodName) ({ cls := "RobotAisles$Reader", name := "layout", desc := "()LRobotAisles$Core;" } : Jvm.MethodName)) ∈ lw_all := lw_g (lw_at lw_m2 220 rfl) rfl
theorem q531 : (Jvm.Cond.code ({ cls := "RobotAisles$Reader", name := "layout", desc := "()LRobotAisles$Core;" } : Jvm.MethodName) prog_8_method_5_code (4 : Nat) (Option.some (Jvm.ClassFile.FieldType.object "RobotAisles$Core"))) ∈ lw_all := lw_g (lw_at lw_m2 221 rfl) rfl
theorem q532 : (Jvm.Cond.methodLink "RobotAisles$Reader" (54 : Nat) ({ cls := "RobotAisles$Reader", name := "row", desc := "(I)I" } : Jvm.MethodName)) ∈ lw_all := lw_g (lw_at lw_m2 222 rfl) rfl
theorem q533 : (Jvm.Cond.privateMethod ({ cls := "RobotAisles$Reader", name := "row", desc := "(I)I" } : Jvm.MethodName)) ∈ lw_tbl := lw_at lw_m2 223 rfl
theorem q534 : (Jvm.Cond.instanceMethod ({ cls := "RobotAisles$Reader", name := "row", desc := "(I)I" } : Jvm.MethodName)) ∈ lw_all := lw_g (lw_at lw_m2 224 rfl) rfl
theorem q535 : (Jvm.Cond.code ({ cls := "RobotAisles$Reader", name := "row", desc := "(I)I" } : Jvm.MethodName) prog_8_method_4_code (5 : Nat) (Option.some Jvm.ClassFile.FieldType.int)) ∈ lw_all := lw_g (lw_at lw_m2 225 rfl) rfl
theorem q536 : (Jvm.Cond.methodLink "RobotAisles$Reader" (43 : Nat) ({ cls := "RobotAisles$Reader", name := "kindHere", desc := "()I" } : Jvm.MethodName)) ∈ lw_all := lw_g (lw_at lw_m2 226 rfl) rfl
theorem q537 : (Jvm.Cond.privateMethod ({ cls := "RobotAisles$Reader", name := "kindHere", desc := "()I" } : Jvm.MethodName)) ∈ lw_tbl := lw_at lw_m2 227 rfl
theorem q538 : (Jvm.Cond.instanceMethod ({ cls := "RobotAisles$Reader", name := "kindHere", desc := "()I" } : Jvm.MethodName)) ∈ lw_all := lw_g (lw_at lw_m2 228 rfl) rfl
theorem q539 : (Jvm.Cond.code ({ cls := "RobotAisles$Reader", name := "kindHere", desc := "()I" } : Jvm.MethodName) prog_8_method_2_code (1 : Nat) (Option.some Jvm.ClassFile.FieldType.int)) ∈ lw_all := lw_g (lw_at lw_m2 229 rfl) rfl
theorem q540 : (Jvm.Cond.stringRef "RobotAisles$Reader" (26 : Nat) ".#+@") ∈ lw_tbl := lw_at lw_m2 230 rfl
theorem q541 : (Jvm.Cond.methodLink "RobotAisles$Reader" (32 : Nat) ({ cls := "java/lang/String", name := "indexOf", desc := "(I)I" } : Jvm.MethodName)) ∈ lw_all := lw_g (lw_at lw_m2 231 rfl) rfl
theorem q623 : (Jvm.Cond.methodLink "RobotAisles$Reader" (47 : Nat) ({ cls := "RobotAisles$Reader", name := "must", desc := "(Z)V" } : Jvm.MethodName)) ∈ lw_all := lw_g (lw_at lw_m3 73 rfl) rfl
theorem q624 : (Jvm.Cond.privateMethod ({ cls := "RobotAisles$Reader", name := "must", desc := "(Z)V" } : Jvm.MethodName)) ∈ lw_tbl := lw_at lw_m3 74 rfl
theorem q625 : (Jvm.Cond.instanceMethod ({ cls := "RobotAisles$Reader", name := "must", desc := "(Z)V" } : Jvm.MethodName)) ∈ lw_all := lw_g (lw_at lw_m3 75 rfl) rfl
theorem q626 : (Jvm.Cond.code ({ cls := "RobotAisles$Reader", name := "must", desc := "(Z)V" } : Jvm.MethodName) prog_8_method_3_code (2 : Nat) (Option.none : Option Jvm.ClassFile.FieldType)) ∈ lw_all := lw_g (lw_at lw_m3 76 rfl) rfl
theorem q627 : (Jvm.Cond.classLink "RobotAisles$Reader" (38 : Nat) "RobotAisles$FaultException") ∈ lw_all := lw_g (lw_at lw_m3 77 rfl) rfl
theorem q636 : (Jvm.Cond.methodLink "RobotAisles$Reader" (40 : Nat) ({ cls := "RobotAisles$FaultException", name := "<init>", desc := "(I)V" } : Jvm.MethodName)) ∈ lw_all := lw_g (lw_at lw_m3 86 rfl) rfl
theorem q652 : (Jvm.Cond.methodLink "RobotAisles$Reader" (60 : Nat) ({ cls := "java/lang/System", name := "arraycopy", desc := "(Ljava/lang/Object;ILjava/lang/Object;II)V" } : Jvm.MethodName)) ∈ lw_all := lw_g (lw_at lw_m3 102 rfl) rfl
theorem q653 : (Jvm.Cond.classLink "RobotAisles$Reader" (66 : Nat) "RobotAisles$Core") ∈ lw_all := lw_g (lw_at lw_m3 103 rfl) rfl
theorem q654 : (Jvm.Cond.methodLink "RobotAisles$Reader" (68 : Nat) ({ cls := "RobotAisles$Core", name := "<init>", desc := "(II[I)V" } : Jvm.MethodName)) ∈ lw_all := lw_g (lw_at lw_m3 104 rfl) rfl
theorem q2291 : (Jvm.Cond.castable "RobotAisles$Reader" "java/lang/Object") ∈ lw_tbl := lw_at lw_m10 61 rfl
theorem in_X4 : ∀ w ∈ wsX40, w ∈ lw_all := lw_in wsX40 [519, 521, 523, 525] (by decide +kernel) (by decide +kernel)

/-! RobotAisles$FaultException -/
set_option maxRecDepth 100000
def RX5 : String := "RobotAisles$FaultException"
def TX5 : u_T := fun k => match k with
  | 0 => ("java/lang/Throwable", "cause", "Ljava/lang/Throwable;", false)
  | 1 => ("java/lang/Throwable", "stackTrace", "[Ljava/lang/StackTraceElement;", false)
  | 2 => ("java/lang/Throwable", "suppressedExceptions", "Ljava/util/List;", false)
  | 3 => ("java/lang/Throwable", "detailMessage", "Ljava/lang/String;", false)
  | 4 => ("java/lang/Throwable", "backtrace", "Ljava/lang/Object;", false)
  | 5 => ("java/lang/Throwable", "depth", "I", false)
  | _ => ("RobotAisles$FaultException", "position", "I", true)
def tyX5 : Nat → FieldType := fun k => match k with
  | 0 => .object "java/lang/Throwable"
  | 1 => .array (.object "java/lang/StackTraceElement")
  | 2 => .object "java/util/List"
  | 3 => .object "java/lang/String"
  | 4 => .object "java/lang/Object"
  | 5 => .int
  | _ => .int
abbrev wsX50 : List Cond := u_ws RX5 TX5 7
theorem nmX5 : ∀ a, a < 7 → ∀ b, b < 7 → a ≠ b → (TX5 a).2.1 ≠ (TX5 b).2.1 := by decide +kernel
theorem tyX5_ok : ∀ k, k < 7 → parseFieldDescriptor (TX5 k).2.2.1 = some (tyX5 k) := by decide +kernel
abbrev cX5_init : ByteArray := prog_4_method_1_code
def yX5_init : MethodName := ⟨RX5, "<init>", "(I)V"⟩
def dkwX5_init_0 : List UInt8 := [42, 1, 1, 3, 3, 183, 0, 1, 42, 27, 181, 0, 7, 177]
abbrev dktX5_init_0 : List UInt8 := dkwX5_init_0 ++ []
theorem dksX5_init_0 : cX5_init.data.toList.drop 0 = dktX5_init_0 := by decide +kernel
theorem dX5_init_0 : decode cX5_init 0 = .ok (.aload_n 0, 1) := dk_42 (dk_at dksX5_init_0 0 rfl rfl)
theorem dX5_init_1 : decode cX5_init 1 = .ok (.aconst_null, 1) := dk_1 (dk_at dksX5_init_0 1 rfl rfl)
theorem dX5_init_2 : decode cX5_init 2 = .ok (.aconst_null, 1) := dk_1 (dk_at dksX5_init_0 2 rfl rfl)
theorem dX5_init_3 : decode cX5_init 3 = .ok (.iconst 0, 1) := dk_3 (dk_at dksX5_init_0 3 rfl rfl)
theorem dX5_init_4 : decode cX5_init 4 = .ok (.iconst 0, 1) := dk_3 (dk_at dksX5_init_0 4 rfl rfl)
theorem dX5_init_5 : decode cX5_init 5 = .ok (.invokespecial 1, 3) := dk_183 0 1 (dk_at dksX5_init_0 5 rfl rfl)
theorem dX5_init_8 : decode cX5_init 8 = .ok (.aload_n 0, 1) := dk_42 (dk_at dksX5_init_0 8 rfl rfl)
theorem dX5_init_9 : decode cX5_init 9 = .ok (.iload_n 1, 1) := dk_27 (dk_at dksX5_init_0 9 rfl rfl)
theorem dX5_init_10 : decode cX5_init 10 = .ok (.putfield 7, 3) := dk_181 0 7 (dk_at dksX5_init_0 10 rfl rfl)
theorem dX5_init_13 : decode cX5_init 13 = .ok (.return_, 1) := dk_177 (dk_at dksX5_init_0 13 rfl rfl)
theorem q88 : (Jvm.Cond.initialized "RobotAisles$FaultException") ∈ lw_all := lw_g (lw_at lw_m1 18 rfl) rfl
theorem q339 : (Jvm.Cond.selects "RobotAisles$FaultException" ({ cls := "java/lang/Object", name := "getClass", desc := "()Ljava/lang/Class;" } : Jvm.MethodName) ({ cls := "java/lang/Object", name := "getClass", desc := "()Ljava/lang/Class;" } : Jvm.MethodName)) ∈ lw_all := lw_g (lw_at lw_m2 29 rfl) rfl
theorem q463 : (Jvm.Cond.selects "RobotAisles$FaultException" ({ cls := "java/lang/Throwable", name := "fillInStackTrace", desc := "()Ljava/lang/Throwable;" } : Jvm.MethodName) ({ cls := "java/lang/Throwable", name := "fillInStackTrace", desc := "()Ljava/lang/Throwable;" } : Jvm.MethodName)) ∈ lw_all := lw_g (lw_at lw_m2 153 rfl) rfl
theorem q628 : (Jvm.Cond.instantiable "RobotAisles$FaultException" (7 : Nat)) ∈ lw_all := lw_g (lw_at lw_m3 78 rfl) rfl
theorem q629 : (Jvm.Cond.castable "RobotAisles$FaultException" "RobotAisles$FaultException") ∈ lw_tbl := lw_at lw_m3 79 rfl
theorem q630 : (Jvm.Cond.selects "RobotAisles$FaultException" ({ cls := "java/lang/Throwable", name := "fillInStackTrace", desc := "(I)Ljava/lang/Throwable;" } : Jvm.MethodName) ({ cls := "java/lang/Throwable", name := "fillInStackTrace", desc := "(I)Ljava/lang/Throwable;" } : Jvm.MethodName)) ∈ lw_all := lw_g (lw_at lw_m3 80 rfl) rfl
theorem q631 : (Jvm.Cond.lays "RobotAisles$FaultException" "java/lang/Throwable" "cause" "Ljava/lang/Throwable;") ∈ lw_all := lw_g (lw_at lw_m3 81 rfl) rfl
theorem q632 : (Jvm.Cond.lays "RobotAisles$FaultException" "java/lang/Throwable" "stackTrace" "[Ljava/lang/StackTraceElement;") ∈ lw_all := lw_g (lw_at lw_m3 82 rfl) rfl
theorem q633 : (Jvm.Cond.lays "RobotAisles$FaultException" "java/lang/Throwable" "suppressedExceptions" "Ljava/util/List;") ∈ lw_all := lw_g (lw_at lw_m3 83 rfl) rfl
theorem q634 : (Jvm.Cond.lays "RobotAisles$FaultException" "java/lang/Throwable" "detailMessage" "Ljava/lang/String;") ∈ lw_all := lw_g (lw_at lw_m3 84 rfl) rfl
theorem q635 : (Jvm.Cond.lays "RobotAisles$FaultException" "java/lang/Throwable" "backtrace" "Ljava/lang/Object;") ∈ lw_all := lw_g (lw_at lw_m3 85 rfl) rfl
theorem q637 : (Jvm.Cond.instanceMethod ({ cls := "RobotAisles$FaultException", name := "<init>", desc := "(I)V" } : Jvm.MethodName)) ∈ lw_all := lw_g (lw_at lw_m3 87 rfl) rfl
theorem q638 : (Jvm.Cond.code ({ cls := "RobotAisles$FaultException", name := "<init>", desc := "(I)V" } : Jvm.MethodName) prog_4_method_1_code (2 : Nat) (Option.none : Option Jvm.ClassFile.FieldType)) ∈ lw_all := lw_g (lw_at lw_m3 88 rfl) rfl
theorem q639 : (Jvm.Cond.methodLink "RobotAisles$FaultException" (1 : Nat) ({ cls := "java/lang/Exception", name := "<init>", desc := "(Ljava/lang/String;Ljava/lang/Throwable;ZZ)V" } : Jvm.MethodName)) ∈ lw_all := lw_g (lw_at lw_m3 89 rfl) rfl
theorem q645 : (Jvm.Cond.fieldLink "RobotAisles$FaultException" (7 : Nat) "RobotAisles$FaultException" "position" "I") ∈ lw_all := lw_g (lw_at lw_m3 95 rfl) rfl
theorem q647 : (Jvm.Cond.laysFinal "RobotAisles$FaultException" "RobotAisles$FaultException" "position" "I") ∈ lw_all := lw_g (lw_at lw_m3 97 rfl) rfl
theorem q648 : (Jvm.Cond.soleField "RobotAisles$FaultException" "position") ∈ lw_all := lw_g (lw_at lw_m3 98 rfl) rfl
theorem q649 : (Jvm.Cond.lays "RobotAisles$FaultException" "java/lang/Throwable" "depth" "I") ∈ lw_all := lw_g (lw_at lw_m3 99 rfl) rfl
theorem q650 : (Jvm.Cond.superclass "RobotAisles$FaultException" "java/lang/Exception") ∈ lw_all := lw_g (lw_at lw_m3 100 rfl) rfl
theorem q2292 : (Jvm.Cond.castable "RobotAisles$FaultException" "java/lang/Object") ∈ lw_tbl := lw_at lw_m10 62 rfl
theorem in_X5 : ∀ w ∈ wsX50, w ∈ lw_all := lw_in wsX50 [631, 632, 633, 634, 635, 649, 647] (by decide +kernel) (by decide +kernel)

/-! RobotAisles$Robot -/
set_option maxRecDepth 100000
def RX6 : String := "RobotAisles$Robot"
def TX6 : u_T := fun k => match k with
  | 0 => ("RobotAisles$Robot", "cell", "I", false)
  | 1 => ("RobotAisles$Robot", "battery", "I", false)
  | 2 => ("RobotAisles$Robot", "order", "I", false)
  | 3 => ("RobotAisles$Robot", "steps", "I", false)
  | 4 => ("RobotAisles$Robot", "path", "[I", false)
  | 5 => ("RobotAisles$Robot", "done", "I", false)
  | _ => ("RobotAisles$Robot", "stepCost", "I", false)
def tyX6 : Nat → FieldType := fun k => match k with
  | 0 => .int
  | 1 => .int
  | 2 => .int
  | 3 => .int
  | 4 => .array .int
  | 5 => .int
  | _ => .int
abbrev wsX60 : List Cond := u_ws RX6 TX6 7
theorem nmX6 : ∀ a, a < 7 → ∀ b, b < 7 → a ≠ b → (TX6 a).2.1 ≠ (TX6 b).2.1 := by decide +kernel
theorem tyX6_ok : ∀ k, k < 7 → parseFieldDescriptor (TX6 k).2.2.1 = some (tyX6 k) := by decide +kernel
abbrev cX6_copy : ByteArray := prog_10_method_2_code
def yX6_copy : MethodName := ⟨RX6, "copy", "()LRobotAisles$Robot;"⟩
def dkwX6_copy_2 : List UInt8 := [43, 42, 180, 0, 34, 181, 0, 34, 43, 176]
abbrev dktX6_copy_2 : List UInt8 := dkwX6_copy_2 ++ []
def dkwX6_copy_1 : List UInt8 := [43, 42, 180, 0, 24, 181, 0, 24, 43, 42, 180, 0, 27, 181, 0, 27, 43, 42, 180, 0, 31, 181, 0, 31]
abbrev dktX6_copy_1 : List UInt8 := dkwX6_copy_1 ++ dktX6_copy_2
def dkwX6_copy_0 : List UInt8 := [187, 0, 10, 89, 42, 180, 0, 15, 42, 180, 0, 18, 183, 0, 21, 76, 43, 42, 180, 0, 9, 181, 0, 9]
abbrev dktX6_copy_0 : List UInt8 := dkwX6_copy_0 ++ dktX6_copy_1
theorem dksX6_copy_0 : cX6_copy.data.toList.drop 0 = dktX6_copy_0 := by decide +kernel
theorem dksX6_copy_1 : cX6_copy.data.toList.drop 24 = dktX6_copy_1 := dk_seg dksX6_copy_0 24 rfl rfl
theorem dksX6_copy_2 : cX6_copy.data.toList.drop 48 = dktX6_copy_2 := dk_seg dksX6_copy_1 24 rfl rfl
theorem dX6_copy_0 : decode cX6_copy 0 = .ok (.new 10, 3) := dk_187 0 10 (dk_at dksX6_copy_0 0 rfl rfl)
theorem dX6_copy_3 : decode cX6_copy 3 = .ok (.dup, 1) := dk_89 (dk_at dksX6_copy_0 3 rfl rfl)
theorem dX6_copy_4 : decode cX6_copy 4 = .ok (.aload_n 0, 1) := dk_42 (dk_at dksX6_copy_0 4 rfl rfl)
theorem dX6_copy_5 : decode cX6_copy 5 = .ok (.getfield 15, 3) := dk_180 0 15 (dk_at dksX6_copy_0 5 rfl rfl)
theorem dX6_copy_8 : decode cX6_copy 8 = .ok (.aload_n 0, 1) := dk_42 (dk_at dksX6_copy_0 8 rfl rfl)
theorem dX6_copy_9 : decode cX6_copy 9 = .ok (.getfield 18, 3) := dk_180 0 18 (dk_at dksX6_copy_0 9 rfl rfl)
theorem dX6_copy_12 : decode cX6_copy 12 = .ok (.invokespecial 21, 3) := dk_183 0 21 (dk_at dksX6_copy_0 12 rfl rfl)
theorem dX6_copy_15 : decode cX6_copy 15 = .ok (.astore_n 1, 1) := dk_76 (dk_at dksX6_copy_0 15 rfl rfl)
theorem dX6_copy_16 : decode cX6_copy 16 = .ok (.aload_n 1, 1) := dk_43 (dk_at dksX6_copy_0 16 rfl rfl)
theorem dX6_copy_17 : decode cX6_copy 17 = .ok (.aload_n 0, 1) := dk_42 (dk_at dksX6_copy_0 17 rfl rfl)
theorem dX6_copy_18 : decode cX6_copy 18 = .ok (.getfield 9, 3) := dk_180 0 9 (dk_at dksX6_copy_0 18 rfl rfl)
theorem dX6_copy_21 : decode cX6_copy 21 = .ok (.putfield 9, 3) := dk_181 0 9 (dk_at dksX6_copy_0 21 rfl rfl)
theorem dX6_copy_24 : decode cX6_copy 24 = .ok (.aload_n 1, 1) := dk_43 (dk_at dksX6_copy_1 0 rfl rfl)
theorem dX6_copy_25 : decode cX6_copy 25 = .ok (.aload_n 0, 1) := dk_42 (dk_at dksX6_copy_1 1 rfl rfl)
theorem dX6_copy_26 : decode cX6_copy 26 = .ok (.getfield 24, 3) := dk_180 0 24 (dk_at dksX6_copy_1 2 rfl rfl)
theorem dX6_copy_29 : decode cX6_copy 29 = .ok (.putfield 24, 3) := dk_181 0 24 (dk_at dksX6_copy_1 5 rfl rfl)
theorem dX6_copy_32 : decode cX6_copy 32 = .ok (.aload_n 1, 1) := dk_43 (dk_at dksX6_copy_1 8 rfl rfl)
theorem dX6_copy_33 : decode cX6_copy 33 = .ok (.aload_n 0, 1) := dk_42 (dk_at dksX6_copy_1 9 rfl rfl)
theorem dX6_copy_34 : decode cX6_copy 34 = .ok (.getfield 27, 3) := dk_180 0 27 (dk_at dksX6_copy_1 10 rfl rfl)
theorem dX6_copy_37 : decode cX6_copy 37 = .ok (.putfield 27, 3) := dk_181 0 27 (dk_at dksX6_copy_1 13 rfl rfl)
theorem dX6_copy_40 : decode cX6_copy 40 = .ok (.aload_n 1, 1) := dk_43 (dk_at dksX6_copy_1 16 rfl rfl)
theorem dX6_copy_41 : decode cX6_copy 41 = .ok (.aload_n 0, 1) := dk_42 (dk_at dksX6_copy_1 17 rfl rfl)
theorem dX6_copy_42 : decode cX6_copy 42 = .ok (.getfield 31, 3) := dk_180 0 31 (dk_at dksX6_copy_1 18 rfl rfl)
theorem dX6_copy_45 : decode cX6_copy 45 = .ok (.putfield 31, 3) := dk_181 0 31 (dk_at dksX6_copy_1 21 rfl rfl)
theorem dX6_copy_48 : decode cX6_copy 48 = .ok (.aload_n 1, 1) := dk_43 (dk_at dksX6_copy_2 0 rfl rfl)
theorem dX6_copy_49 : decode cX6_copy 49 = .ok (.aload_n 0, 1) := dk_42 (dk_at dksX6_copy_2 1 rfl rfl)
theorem dX6_copy_50 : decode cX6_copy 50 = .ok (.getfield 34, 3) := dk_180 0 34 (dk_at dksX6_copy_2 2 rfl rfl)
theorem dX6_copy_53 : decode cX6_copy 53 = .ok (.putfield 34, 3) := dk_181 0 34 (dk_at dksX6_copy_2 5 rfl rfl)
theorem dX6_copy_56 : decode cX6_copy 56 = .ok (.aload_n 1, 1) := dk_43 (dk_at dksX6_copy_2 8 rfl rfl)
theorem dX6_copy_57 : decode cX6_copy 57 = .ok (.areturn, 1) := dk_176 (dk_at dksX6_copy_2 9 rfl rfl)
abbrev cX6_init : ByteArray := prog_10_method_1_code
def yX6_init : MethodName := ⟨RX6, "<init>", "(II)V"⟩
def dkwX6_init_0 : List UInt8 := [42, 183, 0, 3, 42, 2, 181, 0, 9, 42, 27, 181, 0, 15, 42, 28, 181, 0, 18, 177]
abbrev dktX6_init_0 : List UInt8 := dkwX6_init_0 ++ []
theorem dksX6_init_0 : cX6_init.data.toList.drop 0 = dktX6_init_0 := by decide +kernel
theorem dX6_init_0 : decode cX6_init 0 = .ok (.aload_n 0, 1) := dk_42 (dk_at dksX6_init_0 0 rfl rfl)
theorem dX6_init_1 : decode cX6_init 1 = .ok (.invokespecial 3, 3) := dk_183 0 3 (dk_at dksX6_init_0 1 rfl rfl)
theorem dX6_init_4 : decode cX6_init 4 = .ok (.aload_n 0, 1) := dk_42 (dk_at dksX6_init_0 4 rfl rfl)
theorem dX6_init_5 : decode cX6_init 5 = .ok (.iconst (-1), 1) := dk_2 (dk_at dksX6_init_0 5 rfl rfl)
theorem dX6_init_6 : decode cX6_init 6 = .ok (.putfield 9, 3) := dk_181 0 9 (dk_at dksX6_init_0 6 rfl rfl)
theorem dX6_init_9 : decode cX6_init 9 = .ok (.aload_n 0, 1) := dk_42 (dk_at dksX6_init_0 9 rfl rfl)
theorem dX6_init_10 : decode cX6_init 10 = .ok (.iload_n 1, 1) := dk_27 (dk_at dksX6_init_0 10 rfl rfl)
theorem dX6_init_11 : decode cX6_init 11 = .ok (.putfield 15, 3) := dk_181 0 15 (dk_at dksX6_init_0 11 rfl rfl)
theorem dX6_init_14 : decode cX6_init 14 = .ok (.aload_n 0, 1) := dk_42 (dk_at dksX6_init_0 14 rfl rfl)
theorem dX6_init_15 : decode cX6_init 15 = .ok (.iload_n 2, 1) := dk_28 (dk_at dksX6_init_0 15 rfl rfl)
theorem dX6_init_16 : decode cX6_init 16 = .ok (.putfield 18, 3) := dk_181 0 18 (dk_at dksX6_init_0 16 rfl rfl)
theorem dX6_init_19 : decode cX6_init 19 = .ok (.return_, 1) := dk_177 (dk_at dksX6_init_0 19 rfl rfl)
abbrev cX6_cellAhead : ByteArray := prog_10_method_5_code
def yX6_cellAhead : MethodName := ⟨RX6, "cellAhead", "(I)I"⟩
def dkwX6_cellAhead_1 : List UInt8 := [190, 4, 100, 42, 180, 0, 31, 27, 16, 30, 184, 0, 37, 96, 4, 100, 184, 0, 37, 46, 172]
abbrev dktX6_cellAhead_1 : List UInt8 := dkwX6_cellAhead_1 ++ []
def dkwX6_cellAhead_0 : List UInt8 := [42, 180, 0, 27, 198, 0, 7, 27, 154, 0, 8, 42, 180, 0, 15, 172, 42, 180, 0, 27, 42, 180, 0, 27]
abbrev dktX6_cellAhead_0 : List UInt8 := dkwX6_cellAhead_0 ++ dktX6_cellAhead_1
theorem dksX6_cellAhead_0 : cX6_cellAhead.data.toList.drop 0 = dktX6_cellAhead_0 := by decide +kernel
theorem dksX6_cellAhead_1 : cX6_cellAhead.data.toList.drop 24 = dktX6_cellAhead_1 := dk_seg dksX6_cellAhead_0 24 rfl rfl
theorem dX6_cellAhead_0 : decode cX6_cellAhead 0 = .ok (.aload_n 0, 1) := dk_42 (dk_at dksX6_cellAhead_0 0 rfl rfl)
theorem dX6_cellAhead_1 : decode cX6_cellAhead 1 = .ok (.getfield 27, 3) := dk_180 0 27 (dk_at dksX6_cellAhead_0 1 rfl rfl)
theorem dX6_cellAhead_4 : decode cX6_cellAhead 4 = .ok (.ifnull 7, 3) := dk_198 0 7 (dk_at dksX6_cellAhead_0 4 rfl rfl)
theorem dX6_cellAhead_7 : decode cX6_cellAhead 7 = .ok (.iload_n 1, 1) := dk_27 (dk_at dksX6_cellAhead_0 7 rfl rfl)
theorem dX6_cellAhead_8 : decode cX6_cellAhead 8 = .ok (.ifCond .ne 8, 3) := dk_154 0 8 (dk_at dksX6_cellAhead_0 8 rfl rfl)
theorem dX6_cellAhead_11 : decode cX6_cellAhead 11 = .ok (.aload_n 0, 1) := dk_42 (dk_at dksX6_cellAhead_0 11 rfl rfl)
theorem dX6_cellAhead_12 : decode cX6_cellAhead 12 = .ok (.getfield 15, 3) := dk_180 0 15 (dk_at dksX6_cellAhead_0 12 rfl rfl)
theorem dX6_cellAhead_15 : decode cX6_cellAhead 15 = .ok (.ireturn, 1) := dk_172 (dk_at dksX6_cellAhead_0 15 rfl rfl)
theorem dX6_cellAhead_16 : decode cX6_cellAhead 16 = .ok (.aload_n 0, 1) := dk_42 (dk_at dksX6_cellAhead_0 16 rfl rfl)
theorem dX6_cellAhead_17 : decode cX6_cellAhead 17 = .ok (.getfield 27, 3) := dk_180 0 27 (dk_at dksX6_cellAhead_0 17 rfl rfl)
theorem dX6_cellAhead_20 : decode cX6_cellAhead 20 = .ok (.aload_n 0, 1) := dk_42 (dk_at dksX6_cellAhead_0 20 rfl rfl)
theorem dX6_cellAhead_21 : decode cX6_cellAhead 21 = .ok (.getfield 27, 3) := dk_180 0 27 (dk_at dksX6_cellAhead_0 21 rfl rfl)
theorem dX6_cellAhead_24 : decode cX6_cellAhead 24 = .ok (.arraylength, 1) := dk_190 (dk_at dksX6_cellAhead_1 0 rfl rfl)
theorem dX6_cellAhead_25 : decode cX6_cellAhead 25 = .ok (.iconst 1, 1) := dk_4 (dk_at dksX6_cellAhead_1 1 rfl rfl)
theorem dX6_cellAhead_26 : decode cX6_cellAhead 26 = .ok (.isub, 1) := dk_100 (dk_at dksX6_cellAhead_1 2 rfl rfl)
theorem dX6_cellAhead_27 : decode cX6_cellAhead 27 = .ok (.aload_n 0, 1) := dk_42 (dk_at dksX6_cellAhead_1 3 rfl rfl)
theorem dX6_cellAhead_28 : decode cX6_cellAhead 28 = .ok (.getfield 31, 3) := dk_180 0 31 (dk_at dksX6_cellAhead_1 4 rfl rfl)
theorem dX6_cellAhead_31 : decode cX6_cellAhead 31 = .ok (.iload_n 1, 1) := dk_27 (dk_at dksX6_cellAhead_1 7 rfl rfl)
theorem dX6_cellAhead_32 : decode cX6_cellAhead 32 = .ok (.bipush 30, 2) := dk_16 30 (dk_at dksX6_cellAhead_1 8 rfl rfl)
theorem dX6_cellAhead_34 : decode cX6_cellAhead 34 = .ok (.invokestatic 37, 3) := dk_184 0 37 (dk_at dksX6_cellAhead_1 10 rfl rfl)
theorem dX6_cellAhead_37 : decode cX6_cellAhead 37 = .ok (.iadd, 1) := dk_96 (dk_at dksX6_cellAhead_1 13 rfl rfl)
theorem dX6_cellAhead_38 : decode cX6_cellAhead 38 = .ok (.iconst 1, 1) := dk_4 (dk_at dksX6_cellAhead_1 14 rfl rfl)
theorem dX6_cellAhead_39 : decode cX6_cellAhead 39 = .ok (.isub, 1) := dk_100 (dk_at dksX6_cellAhead_1 15 rfl rfl)
theorem dX6_cellAhead_40 : decode cX6_cellAhead 40 = .ok (.invokestatic 37, 3) := dk_184 0 37 (dk_at dksX6_cellAhead_1 16 rfl rfl)
theorem dX6_cellAhead_43 : decode cX6_cellAhead 43 = .ok (.iaload, 1) := dk_46 (dk_at dksX6_cellAhead_1 19 rfl rfl)
theorem dX6_cellAhead_44 : decode cX6_cellAhead 44 = .ok (.ireturn, 1) := dk_172 (dk_at dksX6_cellAhead_1 20 rfl rfl)
abbrev cX6_hasPlan : ByteArray := prog_10_method_3_code
def yX6_hasPlan : MethodName := ⟨RX6, "hasPlan", "()Z"⟩
def dkwX6_hasPlan_0 : List UInt8 := [42, 180, 0, 27, 198, 0, 7, 4, 167, 0, 4, 3, 172]
abbrev dktX6_hasPlan_0 : List UInt8 := dkwX6_hasPlan_0 ++ []
theorem dksX6_hasPlan_0 : cX6_hasPlan.data.toList.drop 0 = dktX6_hasPlan_0 := by decide +kernel
theorem dX6_hasPlan_0 : decode cX6_hasPlan 0 = .ok (.aload_n 0, 1) := dk_42 (dk_at dksX6_hasPlan_0 0 rfl rfl)
theorem dX6_hasPlan_1 : decode cX6_hasPlan 1 = .ok (.getfield 27, 3) := dk_180 0 27 (dk_at dksX6_hasPlan_0 1 rfl rfl)
theorem dX6_hasPlan_4 : decode cX6_hasPlan 4 = .ok (.ifnull 7, 3) := dk_198 0 7 (dk_at dksX6_hasPlan_0 4 rfl rfl)
theorem dX6_hasPlan_7 : decode cX6_hasPlan 7 = .ok (.iconst 1, 1) := dk_4 (dk_at dksX6_hasPlan_0 7 rfl rfl)
theorem dX6_hasPlan_8 : decode cX6_hasPlan 8 = .ok (.goto 4, 3) := dk_167 0 4 (dk_at dksX6_hasPlan_0 8 rfl rfl)
theorem dX6_hasPlan_11 : decode cX6_hasPlan 11 = .ok (.iconst 0, 1) := dk_3 (dk_at dksX6_hasPlan_0 11 rfl rfl)
theorem dX6_hasPlan_12 : decode cX6_hasPlan 12 = .ok (.ireturn, 1) := dk_172 (dk_at dksX6_hasPlan_0 12 rfl rfl)
abbrev cX6_ticksLeft : ByteArray := prog_10_method_4_code
def yX6_ticksLeft : MethodName := ⟨RX6, "ticksLeft", "()I"⟩
def dkwX6_ticksLeft_0 : List UInt8 := [42, 180, 0, 27, 199, 0, 7, 3, 167, 0, 13, 42, 180, 0, 27, 190, 42, 180, 0, 31, 100, 172]
abbrev dktX6_ticksLeft_0 : List UInt8 := dkwX6_ticksLeft_0 ++ []
theorem dksX6_ticksLeft_0 : cX6_ticksLeft.data.toList.drop 0 = dktX6_ticksLeft_0 := by decide +kernel
theorem dX6_ticksLeft_0 : decode cX6_ticksLeft 0 = .ok (.aload_n 0, 1) := dk_42 (dk_at dksX6_ticksLeft_0 0 rfl rfl)
theorem dX6_ticksLeft_1 : decode cX6_ticksLeft 1 = .ok (.getfield 27, 3) := dk_180 0 27 (dk_at dksX6_ticksLeft_0 1 rfl rfl)
theorem dX6_ticksLeft_4 : decode cX6_ticksLeft 4 = .ok (.ifnonnull 7, 3) := dk_199 0 7 (dk_at dksX6_ticksLeft_0 4 rfl rfl)
theorem dX6_ticksLeft_7 : decode cX6_ticksLeft 7 = .ok (.iconst 0, 1) := dk_3 (dk_at dksX6_ticksLeft_0 7 rfl rfl)
theorem dX6_ticksLeft_8 : decode cX6_ticksLeft 8 = .ok (.goto 13, 3) := dk_167 0 13 (dk_at dksX6_ticksLeft_0 8 rfl rfl)
theorem dX6_ticksLeft_11 : decode cX6_ticksLeft 11 = .ok (.aload_n 0, 1) := dk_42 (dk_at dksX6_ticksLeft_0 11 rfl rfl)
theorem dX6_ticksLeft_12 : decode cX6_ticksLeft 12 = .ok (.getfield 27, 3) := dk_180 0 27 (dk_at dksX6_ticksLeft_0 12 rfl rfl)
theorem dX6_ticksLeft_15 : decode cX6_ticksLeft 15 = .ok (.arraylength, 1) := dk_190 (dk_at dksX6_ticksLeft_0 15 rfl rfl)
theorem dX6_ticksLeft_16 : decode cX6_ticksLeft 16 = .ok (.aload_n 0, 1) := dk_42 (dk_at dksX6_ticksLeft_0 16 rfl rfl)
theorem dX6_ticksLeft_17 : decode cX6_ticksLeft 17 = .ok (.getfield 31, 3) := dk_180 0 31 (dk_at dksX6_ticksLeft_0 17 rfl rfl)
theorem dX6_ticksLeft_20 : decode cX6_ticksLeft 20 = .ok (.isub, 1) := dk_100 (dk_at dksX6_ticksLeft_0 20 rfl rfl)
theorem dX6_ticksLeft_21 : decode cX6_ticksLeft 21 = .ok (.ireturn, 1) := dk_172 (dk_at dksX6_ticksLeft_0 21 rfl rfl)
abbrev cX6_drop : ByteArray := prog_10_method_8_code
def yX6_drop : MethodName := ⟨RX6, "drop", "()V"⟩
def dkwX6_drop_0 : List UInt8 := [42, 1, 181, 0, 27, 42, 3, 181, 0, 31, 177]
abbrev dktX6_drop_0 : List UInt8 := dkwX6_drop_0 ++ []
theorem dksX6_drop_0 : cX6_drop.data.toList.drop 0 = dktX6_drop_0 := by decide +kernel
theorem dX6_drop_0 : decode cX6_drop 0 = .ok (.aload_n 0, 1) := dk_42 (dk_at dksX6_drop_0 0 rfl rfl)
theorem dX6_drop_1 : decode cX6_drop 1 = .ok (.aconst_null, 1) := dk_1 (dk_at dksX6_drop_0 1 rfl rfl)
theorem dX6_drop_2 : decode cX6_drop 2 = .ok (.putfield 27, 3) := dk_181 0 27 (dk_at dksX6_drop_0 2 rfl rfl)
theorem dX6_drop_5 : decode cX6_drop 5 = .ok (.aload_n 0, 1) := dk_42 (dk_at dksX6_drop_0 5 rfl rfl)
theorem dX6_drop_6 : decode cX6_drop 6 = .ok (.iconst 0, 1) := dk_3 (dk_at dksX6_drop_0 6 rfl rfl)
theorem dX6_drop_7 : decode cX6_drop 7 = .ok (.putfield 31, 3) := dk_181 0 31 (dk_at dksX6_drop_0 7 rfl rfl)
theorem dX6_drop_10 : decode cX6_drop 10 = .ok (.return_, 1) := dk_177 (dk_at dksX6_drop_0 10 rfl rfl)
abbrev cX6_goOn : ByteArray := prog_10_method_6_code
def yX6_goOn : MethodName := ⟨RX6, "goOn", "()V"⟩
def dkwX6_goOn_3 : List UInt8 := [180, 0, 31, 4, 96, 181, 0, 31, 177]
abbrev dktX6_goOn_3 : List UInt8 := dkwX6_goOn_3 ++ []
def dkwX6_goOn_2 : List UInt8 := [180, 0, 24, 28, 153, 0, 7, 4, 167, 0, 4, 3, 96, 181, 0, 24, 42, 27, 181, 0, 15, 42, 89]
abbrev dktX6_goOn_2 : List UInt8 := dkwX6_goOn_2 ++ dktX6_goOn_3
def dkwX6_goOn_1 : List UInt8 := [42, 89, 180, 0, 18, 28, 153, 0, 10, 42, 180, 0, 34, 167, 0, 4, 3, 100, 181, 0, 18, 42, 89]
abbrev dktX6_goOn_1 : List UInt8 := dkwX6_goOn_1 ++ dktX6_goOn_2
def dkwX6_goOn_0 : List UInt8 := [42, 180, 0, 27, 42, 180, 0, 31, 46, 60, 27, 42, 180, 0, 15, 159, 0, 7, 4, 167, 0, 4, 3, 61]
abbrev dktX6_goOn_0 : List UInt8 := dkwX6_goOn_0 ++ dktX6_goOn_1
theorem dksX6_goOn_0 : cX6_goOn.data.toList.drop 0 = dktX6_goOn_0 := by decide +kernel
theorem dksX6_goOn_1 : cX6_goOn.data.toList.drop 24 = dktX6_goOn_1 := dk_seg dksX6_goOn_0 24 rfl rfl
theorem dksX6_goOn_2 : cX6_goOn.data.toList.drop 47 = dktX6_goOn_2 := dk_seg dksX6_goOn_1 23 rfl rfl
theorem dksX6_goOn_3 : cX6_goOn.data.toList.drop 70 = dktX6_goOn_3 := dk_seg dksX6_goOn_2 23 rfl rfl
theorem dX6_goOn_0 : decode cX6_goOn 0 = .ok (.aload_n 0, 1) := dk_42 (dk_at dksX6_goOn_0 0 rfl rfl)
theorem dX6_goOn_1 : decode cX6_goOn 1 = .ok (.getfield 27, 3) := dk_180 0 27 (dk_at dksX6_goOn_0 1 rfl rfl)
theorem dX6_goOn_4 : decode cX6_goOn 4 = .ok (.aload_n 0, 1) := dk_42 (dk_at dksX6_goOn_0 4 rfl rfl)
theorem dX6_goOn_5 : decode cX6_goOn 5 = .ok (.getfield 31, 3) := dk_180 0 31 (dk_at dksX6_goOn_0 5 rfl rfl)
theorem dX6_goOn_8 : decode cX6_goOn 8 = .ok (.iaload, 1) := dk_46 (dk_at dksX6_goOn_0 8 rfl rfl)
theorem dX6_goOn_9 : decode cX6_goOn 9 = .ok (.istore_n 1, 1) := dk_60 (dk_at dksX6_goOn_0 9 rfl rfl)
theorem dX6_goOn_10 : decode cX6_goOn 10 = .ok (.iload_n 1, 1) := dk_27 (dk_at dksX6_goOn_0 10 rfl rfl)
theorem dX6_goOn_11 : decode cX6_goOn 11 = .ok (.aload_n 0, 1) := dk_42 (dk_at dksX6_goOn_0 11 rfl rfl)
theorem dX6_goOn_12 : decode cX6_goOn 12 = .ok (.getfield 15, 3) := dk_180 0 15 (dk_at dksX6_goOn_0 12 rfl rfl)
theorem dX6_goOn_15 : decode cX6_goOn 15 = .ok (.if_icmp .eq 7, 3) := dk_159 0 7 (dk_at dksX6_goOn_0 15 rfl rfl)
theorem dX6_goOn_18 : decode cX6_goOn 18 = .ok (.iconst 1, 1) := dk_4 (dk_at dksX6_goOn_0 18 rfl rfl)
theorem dX6_goOn_19 : decode cX6_goOn 19 = .ok (.goto 4, 3) := dk_167 0 4 (dk_at dksX6_goOn_0 19 rfl rfl)
theorem dX6_goOn_22 : decode cX6_goOn 22 = .ok (.iconst 0, 1) := dk_3 (dk_at dksX6_goOn_0 22 rfl rfl)
theorem dX6_goOn_23 : decode cX6_goOn 23 = .ok (.istore_n 2, 1) := dk_61 (dk_at dksX6_goOn_0 23 rfl rfl)
theorem dX6_goOn_24 : decode cX6_goOn 24 = .ok (.aload_n 0, 1) := dk_42 (dk_at dksX6_goOn_1 0 rfl rfl)
theorem dX6_goOn_25 : decode cX6_goOn 25 = .ok (.dup, 1) := dk_89 (dk_at dksX6_goOn_1 1 rfl rfl)
theorem dX6_goOn_26 : decode cX6_goOn 26 = .ok (.getfield 18, 3) := dk_180 0 18 (dk_at dksX6_goOn_1 2 rfl rfl)
theorem dX6_goOn_29 : decode cX6_goOn 29 = .ok (.iload_n 2, 1) := dk_28 (dk_at dksX6_goOn_1 5 rfl rfl)
theorem dX6_goOn_30 : decode cX6_goOn 30 = .ok (.ifCond .eq 10, 3) := dk_153 0 10 (dk_at dksX6_goOn_1 6 rfl rfl)
theorem dX6_goOn_33 : decode cX6_goOn 33 = .ok (.aload_n 0, 1) := dk_42 (dk_at dksX6_goOn_1 9 rfl rfl)
theorem dX6_goOn_34 : decode cX6_goOn 34 = .ok (.getfield 34, 3) := dk_180 0 34 (dk_at dksX6_goOn_1 10 rfl rfl)
theorem dX6_goOn_37 : decode cX6_goOn 37 = .ok (.goto 4, 3) := dk_167 0 4 (dk_at dksX6_goOn_1 13 rfl rfl)
theorem dX6_goOn_40 : decode cX6_goOn 40 = .ok (.iconst 0, 1) := dk_3 (dk_at dksX6_goOn_1 16 rfl rfl)
theorem dX6_goOn_41 : decode cX6_goOn 41 = .ok (.isub, 1) := dk_100 (dk_at dksX6_goOn_1 17 rfl rfl)
theorem dX6_goOn_42 : decode cX6_goOn 42 = .ok (.putfield 18, 3) := dk_181 0 18 (dk_at dksX6_goOn_1 18 rfl rfl)
theorem dX6_goOn_45 : decode cX6_goOn 45 = .ok (.aload_n 0, 1) := dk_42 (dk_at dksX6_goOn_1 21 rfl rfl)
theorem dX6_goOn_46 : decode cX6_goOn 46 = .ok (.dup, 1) := dk_89 (dk_at dksX6_goOn_1 22 rfl rfl)
theorem dX6_goOn_47 : decode cX6_goOn 47 = .ok (.getfield 24, 3) := dk_180 0 24 (dk_at dksX6_goOn_2 0 rfl rfl)
theorem dX6_goOn_50 : decode cX6_goOn 50 = .ok (.iload_n 2, 1) := dk_28 (dk_at dksX6_goOn_2 3 rfl rfl)
theorem dX6_goOn_51 : decode cX6_goOn 51 = .ok (.ifCond .eq 7, 3) := dk_153 0 7 (dk_at dksX6_goOn_2 4 rfl rfl)
theorem dX6_goOn_54 : decode cX6_goOn 54 = .ok (.iconst 1, 1) := dk_4 (dk_at dksX6_goOn_2 7 rfl rfl)
theorem dX6_goOn_55 : decode cX6_goOn 55 = .ok (.goto 4, 3) := dk_167 0 4 (dk_at dksX6_goOn_2 8 rfl rfl)
theorem dX6_goOn_58 : decode cX6_goOn 58 = .ok (.iconst 0, 1) := dk_3 (dk_at dksX6_goOn_2 11 rfl rfl)
theorem dX6_goOn_59 : decode cX6_goOn 59 = .ok (.iadd, 1) := dk_96 (dk_at dksX6_goOn_2 12 rfl rfl)
theorem dX6_goOn_60 : decode cX6_goOn 60 = .ok (.putfield 24, 3) := dk_181 0 24 (dk_at dksX6_goOn_2 13 rfl rfl)
theorem dX6_goOn_63 : decode cX6_goOn 63 = .ok (.aload_n 0, 1) := dk_42 (dk_at dksX6_goOn_2 16 rfl rfl)
theorem dX6_goOn_64 : decode cX6_goOn 64 = .ok (.iload_n 1, 1) := dk_27 (dk_at dksX6_goOn_2 17 rfl rfl)
theorem dX6_goOn_65 : decode cX6_goOn 65 = .ok (.putfield 15, 3) := dk_181 0 15 (dk_at dksX6_goOn_2 18 rfl rfl)
theorem dX6_goOn_68 : decode cX6_goOn 68 = .ok (.aload_n 0, 1) := dk_42 (dk_at dksX6_goOn_2 21 rfl rfl)
theorem dX6_goOn_69 : decode cX6_goOn 69 = .ok (.dup, 1) := dk_89 (dk_at dksX6_goOn_2 22 rfl rfl)
theorem dX6_goOn_70 : decode cX6_goOn 70 = .ok (.getfield 31, 3) := dk_180 0 31 (dk_at dksX6_goOn_3 0 rfl rfl)
theorem dX6_goOn_73 : decode cX6_goOn 73 = .ok (.iconst 1, 1) := dk_4 (dk_at dksX6_goOn_3 3 rfl rfl)
theorem dX6_goOn_74 : decode cX6_goOn 74 = .ok (.iadd, 1) := dk_96 (dk_at dksX6_goOn_3 4 rfl rfl)
theorem dX6_goOn_75 : decode cX6_goOn 75 = .ok (.putfield 31, 3) := dk_181 0 31 (dk_at dksX6_goOn_3 5 rfl rfl)
theorem dX6_goOn_78 : decode cX6_goOn 78 = .ok (.return_, 1) := dk_177 (dk_at dksX6_goOn_3 8 rfl rfl)
abbrev cX6_isAtEnd : ByteArray := prog_10_method_7_code
def yX6_isAtEnd : MethodName := ⟨RX6, "isAtEnd", "()Z"⟩
def dkwX6_isAtEnd_1 : List UInt8 := [172]
abbrev dktX6_isAtEnd_1 : List UInt8 := dkwX6_isAtEnd_1 ++ []
def dkwX6_isAtEnd_0 : List UInt8 := [42, 180, 0, 27, 198, 0, 19, 42, 180, 0, 31, 42, 180, 0, 27, 190, 160, 0, 7, 4, 167, 0, 4, 3]
abbrev dktX6_isAtEnd_0 : List UInt8 := dkwX6_isAtEnd_0 ++ dktX6_isAtEnd_1
theorem dksX6_isAtEnd_0 : cX6_isAtEnd.data.toList.drop 0 = dktX6_isAtEnd_0 := by decide +kernel
theorem dksX6_isAtEnd_1 : cX6_isAtEnd.data.toList.drop 24 = dktX6_isAtEnd_1 := dk_seg dksX6_isAtEnd_0 24 rfl rfl
theorem dX6_isAtEnd_0 : decode cX6_isAtEnd 0 = .ok (.aload_n 0, 1) := dk_42 (dk_at dksX6_isAtEnd_0 0 rfl rfl)
theorem dX6_isAtEnd_1 : decode cX6_isAtEnd 1 = .ok (.getfield 27, 3) := dk_180 0 27 (dk_at dksX6_isAtEnd_0 1 rfl rfl)
theorem dX6_isAtEnd_4 : decode cX6_isAtEnd 4 = .ok (.ifnull 19, 3) := dk_198 0 19 (dk_at dksX6_isAtEnd_0 4 rfl rfl)
theorem dX6_isAtEnd_7 : decode cX6_isAtEnd 7 = .ok (.aload_n 0, 1) := dk_42 (dk_at dksX6_isAtEnd_0 7 rfl rfl)
theorem dX6_isAtEnd_8 : decode cX6_isAtEnd 8 = .ok (.getfield 31, 3) := dk_180 0 31 (dk_at dksX6_isAtEnd_0 8 rfl rfl)
theorem dX6_isAtEnd_11 : decode cX6_isAtEnd 11 = .ok (.aload_n 0, 1) := dk_42 (dk_at dksX6_isAtEnd_0 11 rfl rfl)
theorem dX6_isAtEnd_12 : decode cX6_isAtEnd 12 = .ok (.getfield 27, 3) := dk_180 0 27 (dk_at dksX6_isAtEnd_0 12 rfl rfl)
theorem dX6_isAtEnd_15 : decode cX6_isAtEnd 15 = .ok (.arraylength, 1) := dk_190 (dk_at dksX6_isAtEnd_0 15 rfl rfl)
theorem dX6_isAtEnd_16 : decode cX6_isAtEnd 16 = .ok (.if_icmp .ne 7, 3) := dk_160 0 7 (dk_at dksX6_isAtEnd_0 16 rfl rfl)
theorem dX6_isAtEnd_19 : decode cX6_isAtEnd 19 = .ok (.iconst 1, 1) := dk_4 (dk_at dksX6_isAtEnd_0 19 rfl rfl)
theorem dX6_isAtEnd_20 : decode cX6_isAtEnd 20 = .ok (.goto 4, 3) := dk_167 0 4 (dk_at dksX6_isAtEnd_0 20 rfl rfl)
theorem dX6_isAtEnd_23 : decode cX6_isAtEnd 23 = .ok (.iconst 0, 1) := dk_3 (dk_at dksX6_isAtEnd_0 23 rfl rfl)
theorem dX6_isAtEnd_24 : decode cX6_isAtEnd 24 = .ok (.ireturn, 1) := dk_172 (dk_at dksX6_isAtEnd_1 0 rfl rfl)
theorem q94 : (Jvm.Cond.initialized "RobotAisles$Robot") ∈ lw_all := lw_g (lw_at lw_m1 24 rfl) rfl
theorem q261 : (Jvm.Cond.instanceMethod ({ cls := "RobotAisles$Robot", name := "copy", desc := "()LRobotAisles$Robot;" } : Jvm.MethodName)) ∈ lw_all := lw_g (lw_at lw_m1 191 rfl) rfl
theorem q262 : (Jvm.Cond.selects "RobotAisles$Robot" ({ cls := "RobotAisles$Robot", name := "copy", desc := "()LRobotAisles$Robot;" } : Jvm.MethodName) ({ cls := "RobotAisles$Robot", name := "copy", desc := "()LRobotAisles$Robot;" } : Jvm.MethodName)) ∈ lw_all := lw_g (lw_at lw_m1 192 rfl) rfl
theorem q263 : (Jvm.Cond.code ({ cls := "RobotAisles$Robot", name := "copy", desc := "()LRobotAisles$Robot;" } : Jvm.MethodName) prog_10_method_2_code (2 : Nat) (Option.some (Jvm.ClassFile.FieldType.object "RobotAisles$Robot"))) ∈ lw_all := lw_g (lw_at lw_m1 193 rfl) rfl
theorem q264 : (Jvm.Cond.classLink "RobotAisles$Robot" (10 : Nat) "RobotAisles$Robot") ∈ lw_all := lw_g (lw_at lw_m1 194 rfl) rfl
theorem q265 : (Jvm.Cond.instantiable "RobotAisles$Robot" (7 : Nat)) ∈ lw_all := lw_g (lw_at lw_m1 195 rfl) rfl
theorem q266 : (Jvm.Cond.methodLink "RobotAisles$Robot" (21 : Nat) ({ cls := "RobotAisles$Robot", name := "<init>", desc := "(II)V" } : Jvm.MethodName)) ∈ lw_all := lw_g (lw_at lw_m1 196 rfl) rfl
theorem q267 : (Jvm.Cond.instanceMethod ({ cls := "RobotAisles$Robot", name := "<init>", desc := "(II)V" } : Jvm.MethodName)) ∈ lw_all := lw_g (lw_at lw_m1 197 rfl) rfl
theorem q268 : (Jvm.Cond.code ({ cls := "RobotAisles$Robot", name := "<init>", desc := "(II)V" } : Jvm.MethodName) prog_10_method_1_code (3 : Nat) (Option.none : Option Jvm.ClassFile.FieldType)) ∈ lw_all := lw_g (lw_at lw_m1 198 rfl) rfl
theorem q269 : (Jvm.Cond.methodLink "RobotAisles$Robot" (3 : Nat) ({ cls := "java/lang/Object", name := "<init>", desc := "()V" } : Jvm.MethodName)) ∈ lw_all := lw_g (lw_at lw_m1 199 rfl) rfl
theorem q270 : (Jvm.Cond.fieldLink "RobotAisles$Robot" (15 : Nat) "RobotAisles$Robot" "cell" "I") ∈ lw_all := lw_g (lw_at lw_m1 200 rfl) rfl
theorem q274 : (Jvm.Cond.fieldLink "RobotAisles$Robot" (18 : Nat) "RobotAisles$Robot" "battery" "I") ∈ lw_all := lw_g (lw_at lw_m1 204 rfl) rfl
theorem q277 : (Jvm.Cond.fieldLink "RobotAisles$Robot" (9 : Nat) "RobotAisles$Robot" "order" "I") ∈ lw_all := lw_g (lw_at lw_m1 207 rfl) rfl
theorem q280 : (Jvm.Cond.fieldLink "RobotAisles$Robot" (24 : Nat) "RobotAisles$Robot" "steps" "I") ∈ lw_all := lw_g (lw_at lw_m1 210 rfl) rfl
theorem q282 : (Jvm.Cond.fieldLink "RobotAisles$Robot" (27 : Nat) "RobotAisles$Robot" "path" "[I") ∈ lw_all := lw_g (lw_at lw_m1 212 rfl) rfl
theorem q285 : (Jvm.Cond.fieldLink "RobotAisles$Robot" (31 : Nat) "RobotAisles$Robot" "done" "I") ∈ lw_all := lw_g (lw_at lw_m1 215 rfl) rfl
theorem q287 : (Jvm.Cond.fieldLink "RobotAisles$Robot" (34 : Nat) "RobotAisles$Robot" "stepCost" "I") ∈ lw_all := lw_g (lw_at lw_m1 217 rfl) rfl
theorem q289 : (Jvm.Cond.lays "RobotAisles$Robot" "RobotAisles$Robot" "cell" "I") ∈ lw_all := lw_g (lw_at lw_m1 219 rfl) rfl
theorem q290 : (Jvm.Cond.soleField "RobotAisles$Robot" "cell") ∈ lw_all := lw_g (lw_at lw_m1 220 rfl) rfl
theorem q291 : (Jvm.Cond.lays "RobotAisles$Robot" "RobotAisles$Robot" "battery" "I") ∈ lw_all := lw_g (lw_at lw_m1 221 rfl) rfl
theorem q292 : (Jvm.Cond.soleField "RobotAisles$Robot" "battery") ∈ lw_all := lw_g (lw_at lw_m1 222 rfl) rfl
theorem q293 : (Jvm.Cond.lays "RobotAisles$Robot" "RobotAisles$Robot" "order" "I") ∈ lw_all := lw_g (lw_at lw_m1 223 rfl) rfl
theorem q294 : (Jvm.Cond.soleField "RobotAisles$Robot" "order") ∈ lw_all := lw_g (lw_at lw_m1 224 rfl) rfl
theorem q295 : (Jvm.Cond.lays "RobotAisles$Robot" "RobotAisles$Robot" "steps" "I") ∈ lw_all := lw_g (lw_at lw_m1 225 rfl) rfl
theorem q296 : (Jvm.Cond.soleField "RobotAisles$Robot" "steps") ∈ lw_all := lw_g (lw_at lw_m1 226 rfl) rfl
theorem q297 : (Jvm.Cond.lays "RobotAisles$Robot" "RobotAisles$Robot" "path" "[I") ∈ lw_all := lw_g (lw_at lw_m1 227 rfl) rfl
theorem q298 : (Jvm.Cond.soleField "RobotAisles$Robot" "path") ∈ lw_all := lw_g (lw_at lw_m1 228 rfl) rfl
theorem q299 : (Jvm.Cond.lays "RobotAisles$Robot" "RobotAisles$Robot" "done" "I") ∈ lw_all := lw_g (lw_at lw_m1 229 rfl) rfl
theorem q300 : (Jvm.Cond.soleField "RobotAisles$Robot" "done") ∈ lw_all := lw_g (lw_at lw_m1 230 rfl) rfl
theorem q301 : (Jvm.Cond.lays "RobotAisles$Robot" "RobotAisles$Robot" "stepCost" "I") ∈ lw_all := lw_g (lw_at lw_m1 231 rfl) rfl
theorem q302 : (Jvm.Cond.soleField "RobotAisles$Robot" "stepCost") ∈ lw_all := lw_g (lw_at lw_m1 232 rfl) rfl
theorem q303 : (Jvm.Cond.superclass "RobotAisles$Robot" "java/lang/Object") ∈ lw_all := lw_g (lw_at lw_m1 233 rfl) rfl
theorem q345 : (Jvm.Cond.selects "RobotAisles$Robot" ({ cls := "java/lang/Object", name := "getClass", desc := "()Ljava/lang/Class;" } : Jvm.MethodName) ({ cls := "java/lang/Object", name := "getClass", desc := "()Ljava/lang/Class;" } : Jvm.MethodName)) ∈ lw_all := lw_g (lw_at lw_m2 35 rfl) rfl
theorem q760 : (Jvm.Cond.instanceMethod ({ cls := "RobotAisles$Robot", name := "cellAhead", desc := "(I)I" } : Jvm.MethodName)) ∈ lw_all := lw_g (lw_at lw_m3 210 rfl) rfl
theorem q761 : (Jvm.Cond.selects "RobotAisles$Robot" ({ cls := "RobotAisles$Robot", name := "cellAhead", desc := "(I)I" } : Jvm.MethodName) ({ cls := "RobotAisles$Robot", name := "cellAhead", desc := "(I)I" } : Jvm.MethodName)) ∈ lw_all := lw_g (lw_at lw_m3 211 rfl) rfl
theorem q762 : (Jvm.Cond.code ({ cls := "RobotAisles$Robot", name := "cellAhead", desc := "(I)I" } : Jvm.MethodName) prog_10_method_5_code (2 : Nat) (Option.some Jvm.ClassFile.FieldType.int)) ∈ lw_all := lw_g (lw_at lw_m3 212 rfl) rfl
theorem q763 : (Jvm.Cond.methodLink "RobotAisles$Robot" (37 : Nat) ({ cls := "java/lang/Math", name := "min", desc := "(II)I" } : Jvm.MethodName)) ∈ lw_all := lw_g (lw_at lw_m3 213 rfl) rfl
theorem q899 : (Jvm.Cond.instanceMethod ({ cls := "RobotAisles$Robot", name := "hasPlan", desc := "()Z" } : Jvm.MethodName)) ∈ lw_all := lw_g (lw_at lw_m4 109 rfl) rfl
theorem q900 : (Jvm.Cond.selects "RobotAisles$Robot" ({ cls := "RobotAisles$Robot", name := "hasPlan", desc := "()Z" } : Jvm.MethodName) ({ cls := "RobotAisles$Robot", name := "hasPlan", desc := "()Z" } : Jvm.MethodName)) ∈ lw_all := lw_g (lw_at lw_m4 110 rfl) rfl
theorem q901 : (Jvm.Cond.code ({ cls := "RobotAisles$Robot", name := "hasPlan", desc := "()Z" } : Jvm.MethodName) prog_10_method_3_code (1 : Nat) (Option.some Jvm.ClassFile.FieldType.boolean)) ∈ lw_all := lw_g (lw_at lw_m4 111 rfl) rfl
theorem q903 : (Jvm.Cond.instanceMethod ({ cls := "RobotAisles$Robot", name := "ticksLeft", desc := "()I" } : Jvm.MethodName)) ∈ lw_all := lw_g (lw_at lw_m4 113 rfl) rfl
theorem q904 : (Jvm.Cond.selects "RobotAisles$Robot" ({ cls := "RobotAisles$Robot", name := "ticksLeft", desc := "()I" } : Jvm.MethodName) ({ cls := "RobotAisles$Robot", name := "ticksLeft", desc := "()I" } : Jvm.MethodName)) ∈ lw_all := lw_g (lw_at lw_m4 114 rfl) rfl
theorem q905 : (Jvm.Cond.code ({ cls := "RobotAisles$Robot", name := "ticksLeft", desc := "()I" } : Jvm.MethodName) prog_10_method_4_code (1 : Nat) (Option.some Jvm.ClassFile.FieldType.int)) ∈ lw_all := lw_g (lw_at lw_m4 115 rfl) rfl
theorem q1003 : (Jvm.Cond.instanceMethod ({ cls := "RobotAisles$Robot", name := "drop", desc := "()V" } : Jvm.MethodName)) ∈ lw_all := lw_g (lw_at lw_m4 213 rfl) rfl
theorem q1004 : (Jvm.Cond.selects "RobotAisles$Robot" ({ cls := "RobotAisles$Robot", name := "drop", desc := "()V" } : Jvm.MethodName) ({ cls := "RobotAisles$Robot", name := "drop", desc := "()V" } : Jvm.MethodName)) ∈ lw_all := lw_g (lw_at lw_m4 214 rfl) rfl
theorem q1005 : (Jvm.Cond.code ({ cls := "RobotAisles$Robot", name := "drop", desc := "()V" } : Jvm.MethodName) prog_10_method_8_code (1 : Nat) (Option.none : Option Jvm.ClassFile.FieldType)) ∈ lw_all := lw_g (lw_at lw_m4 215 rfl) rfl
theorem q1022 : (Jvm.Cond.instanceMethod ({ cls := "RobotAisles$Robot", name := "goOn", desc := "()V" } : Jvm.MethodName)) ∈ lw_all := lw_g (lw_at lw_m4 232 rfl) rfl
theorem q1023 : (Jvm.Cond.selects "RobotAisles$Robot" ({ cls := "RobotAisles$Robot", name := "goOn", desc := "()V" } : Jvm.MethodName) ({ cls := "RobotAisles$Robot", name := "goOn", desc := "()V" } : Jvm.MethodName)) ∈ lw_all := lw_g (lw_at lw_m4 233 rfl) rfl
theorem q1024 : (Jvm.Cond.code ({ cls := "RobotAisles$Robot", name := "goOn", desc := "()V" } : Jvm.MethodName) prog_10_method_6_code (3 : Nat) (Option.none : Option Jvm.ClassFile.FieldType)) ∈ lw_all := lw_g (lw_at lw_m4 234 rfl) rfl
theorem q1027 : (Jvm.Cond.instanceMethod ({ cls := "RobotAisles$Robot", name := "isAtEnd", desc := "()Z" } : Jvm.MethodName)) ∈ lw_all := lw_g (lw_at lw_m4 237 rfl) rfl
theorem q1028 : (Jvm.Cond.selects "RobotAisles$Robot" ({ cls := "RobotAisles$Robot", name := "isAtEnd", desc := "()Z" } : Jvm.MethodName) ({ cls := "RobotAisles$Robot", name := "isAtEnd", desc := "()Z" } : Jvm.MethodName)) ∈ lw_all := lw_g (lw_at lw_m4 238 rfl) rfl
theorem q1029 : (Jvm.Cond.code ({ cls := "RobotAisles$Robot", name := "isAtEnd", desc := "()Z" } : Jvm.MethodName) prog_10_method_7_code (1 : Nat) (Option.some Jvm.ClassFile.FieldType.boolean)) ∈ lw_all := lw_g (lw_at lw_m4 239 rfl) rfl
theorem q2294 : (Jvm.Cond.castable "RobotAisles$Robot" "java/lang/Object") ∈ lw_tbl := lw_at lw_m10 64 rfl
theorem in_X6 : ∀ w ∈ wsX60, w ∈ lw_all := lw_in wsX60 [289, 291, 293, 295, 297, 299, 301] (by decide +kernel) (by decide +kernel)

/-! RobotAisles$Order -/
set_option maxRecDepth 100000
def RX7 : String := "RobotAisles$Order"
def TX7 : u_T := fun k => match k with
  | 0 => ("RobotAisles$Order", "number", "I", true)
  | 1 => ("RobotAisles$Order", "due", "I", true)
  | 2 => ("RobotAisles$Order", "lines", "[I", true)
  | 3 => ("RobotAisles$Order", "picked", "I", false)
  | 4 => ("RobotAisles$Order", "state", "I", false)
  | _ => ("RobotAisles$Order", "deliveredAt", "I", false)
def tyX7 : Nat → FieldType := fun k => match k with
  | 0 => .int
  | 1 => .int
  | 2 => .array .int
  | 3 => .int
  | 4 => .int
  | _ => .int
abbrev wsX70 : List Cond := u_ws RX7 TX7 6
theorem nmX7 : ∀ a, a < 6 → ∀ b, b < 6 → a ≠ b → (TX7 a).2.1 ≠ (TX7 b).2.1 := by decide +kernel
theorem tyX7_ok : ∀ k, k < 6 → parseFieldDescriptor (TX7 k).2.2.1 = some (tyX7 k) := by decide +kernel
abbrev cX7_copy : ByteArray := prog_6_method_2_code
def yX7_copy : MethodName := ⟨RX7, "copy", "()LRobotAisles$Order;"⟩
def dkwX7_copy_1 : List UInt8 := [180, 0, 28, 181, 0, 28, 43, 42, 180, 0, 31, 181, 0, 31, 43, 42, 180, 0, 9, 181, 0, 9, 43, 176]
abbrev dktX7_copy_1 : List UInt8 := dkwX7_copy_1 ++ []
def dkwX7_copy_0 : List UInt8 := [187, 0, 10, 89, 42, 180, 0, 15, 42, 180, 0, 18, 42, 180, 0, 21, 183, 0, 25, 76, 43, 42]
abbrev dktX7_copy_0 : List UInt8 := dkwX7_copy_0 ++ dktX7_copy_1
theorem dksX7_copy_0 : cX7_copy.data.toList.drop 0 = dktX7_copy_0 := by decide +kernel
theorem dksX7_copy_1 : cX7_copy.data.toList.drop 22 = dktX7_copy_1 := dk_seg dksX7_copy_0 22 rfl rfl
theorem dX7_copy_0 : decode cX7_copy 0 = .ok (.new 10, 3) := dk_187 0 10 (dk_at dksX7_copy_0 0 rfl rfl)
theorem dX7_copy_3 : decode cX7_copy 3 = .ok (.dup, 1) := dk_89 (dk_at dksX7_copy_0 3 rfl rfl)
theorem dX7_copy_4 : decode cX7_copy 4 = .ok (.aload_n 0, 1) := dk_42 (dk_at dksX7_copy_0 4 rfl rfl)
theorem dX7_copy_5 : decode cX7_copy 5 = .ok (.getfield 15, 3) := dk_180 0 15 (dk_at dksX7_copy_0 5 rfl rfl)
theorem dX7_copy_8 : decode cX7_copy 8 = .ok (.aload_n 0, 1) := dk_42 (dk_at dksX7_copy_0 8 rfl rfl)
theorem dX7_copy_9 : decode cX7_copy 9 = .ok (.getfield 18, 3) := dk_180 0 18 (dk_at dksX7_copy_0 9 rfl rfl)
theorem dX7_copy_12 : decode cX7_copy 12 = .ok (.aload_n 0, 1) := dk_42 (dk_at dksX7_copy_0 12 rfl rfl)
theorem dX7_copy_13 : decode cX7_copy 13 = .ok (.getfield 21, 3) := dk_180 0 21 (dk_at dksX7_copy_0 13 rfl rfl)
theorem dX7_copy_16 : decode cX7_copy 16 = .ok (.invokespecial 25, 3) := dk_183 0 25 (dk_at dksX7_copy_0 16 rfl rfl)
theorem dX7_copy_19 : decode cX7_copy 19 = .ok (.astore_n 1, 1) := dk_76 (dk_at dksX7_copy_0 19 rfl rfl)
theorem dX7_copy_20 : decode cX7_copy 20 = .ok (.aload_n 1, 1) := dk_43 (dk_at dksX7_copy_0 20 rfl rfl)
theorem dX7_copy_21 : decode cX7_copy 21 = .ok (.aload_n 0, 1) := dk_42 (dk_at dksX7_copy_0 21 rfl rfl)
theorem dX7_copy_22 : decode cX7_copy 22 = .ok (.getfield 28, 3) := dk_180 0 28 (dk_at dksX7_copy_1 0 rfl rfl)
theorem dX7_copy_25 : decode cX7_copy 25 = .ok (.putfield 28, 3) := dk_181 0 28 (dk_at dksX7_copy_1 3 rfl rfl)
theorem dX7_copy_28 : decode cX7_copy 28 = .ok (.aload_n 1, 1) := dk_43 (dk_at dksX7_copy_1 6 rfl rfl)
theorem dX7_copy_29 : decode cX7_copy 29 = .ok (.aload_n 0, 1) := dk_42 (dk_at dksX7_copy_1 7 rfl rfl)
theorem dX7_copy_30 : decode cX7_copy 30 = .ok (.getfield 31, 3) := dk_180 0 31 (dk_at dksX7_copy_1 8 rfl rfl)
theorem dX7_copy_33 : decode cX7_copy 33 = .ok (.putfield 31, 3) := dk_181 0 31 (dk_at dksX7_copy_1 11 rfl rfl)
theorem dX7_copy_36 : decode cX7_copy 36 = .ok (.aload_n 1, 1) := dk_43 (dk_at dksX7_copy_1 14 rfl rfl)
theorem dX7_copy_37 : decode cX7_copy 37 = .ok (.aload_n 0, 1) := dk_42 (dk_at dksX7_copy_1 15 rfl rfl)
theorem dX7_copy_38 : decode cX7_copy 38 = .ok (.getfield 9, 3) := dk_180 0 9 (dk_at dksX7_copy_1 16 rfl rfl)
theorem dX7_copy_41 : decode cX7_copy 41 = .ok (.putfield 9, 3) := dk_181 0 9 (dk_at dksX7_copy_1 19 rfl rfl)
theorem dX7_copy_44 : decode cX7_copy 44 = .ok (.aload_n 1, 1) := dk_43 (dk_at dksX7_copy_1 22 rfl rfl)
theorem dX7_copy_45 : decode cX7_copy 45 = .ok (.areturn, 1) := dk_176 (dk_at dksX7_copy_1 23 rfl rfl)
abbrev cX7_init : ByteArray := prog_6_method_1_code
def yX7_init : MethodName := ⟨RX7, "<init>", "(II[I)V"⟩
def dkwX7_init_1 : List UInt8 := [177]
abbrev dktX7_init_1 : List UInt8 := dkwX7_init_1 ++ []
def dkwX7_init_0 : List UInt8 := [42, 183, 0, 3, 42, 2, 181, 0, 9, 42, 27, 181, 0, 15, 42, 28, 181, 0, 18, 42, 45, 181, 0, 21]
abbrev dktX7_init_0 : List UInt8 := dkwX7_init_0 ++ dktX7_init_1
theorem dksX7_init_0 : cX7_init.data.toList.drop 0 = dktX7_init_0 := by decide +kernel
theorem dksX7_init_1 : cX7_init.data.toList.drop 24 = dktX7_init_1 := dk_seg dksX7_init_0 24 rfl rfl
theorem dX7_init_0 : decode cX7_init 0 = .ok (.aload_n 0, 1) := dk_42 (dk_at dksX7_init_0 0 rfl rfl)
theorem dX7_init_1 : decode cX7_init 1 = .ok (.invokespecial 3, 3) := dk_183 0 3 (dk_at dksX7_init_0 1 rfl rfl)
theorem dX7_init_4 : decode cX7_init 4 = .ok (.aload_n 0, 1) := dk_42 (dk_at dksX7_init_0 4 rfl rfl)
theorem dX7_init_5 : decode cX7_init 5 = .ok (.iconst (-1), 1) := dk_2 (dk_at dksX7_init_0 5 rfl rfl)
theorem dX7_init_6 : decode cX7_init 6 = .ok (.putfield 9, 3) := dk_181 0 9 (dk_at dksX7_init_0 6 rfl rfl)
theorem dX7_init_9 : decode cX7_init 9 = .ok (.aload_n 0, 1) := dk_42 (dk_at dksX7_init_0 9 rfl rfl)
theorem dX7_init_10 : decode cX7_init 10 = .ok (.iload_n 1, 1) := dk_27 (dk_at dksX7_init_0 10 rfl rfl)
theorem dX7_init_11 : decode cX7_init 11 = .ok (.putfield 15, 3) := dk_181 0 15 (dk_at dksX7_init_0 11 rfl rfl)
theorem dX7_init_14 : decode cX7_init 14 = .ok (.aload_n 0, 1) := dk_42 (dk_at dksX7_init_0 14 rfl rfl)
theorem dX7_init_15 : decode cX7_init 15 = .ok (.iload_n 2, 1) := dk_28 (dk_at dksX7_init_0 15 rfl rfl)
theorem dX7_init_16 : decode cX7_init 16 = .ok (.putfield 18, 3) := dk_181 0 18 (dk_at dksX7_init_0 16 rfl rfl)
theorem dX7_init_19 : decode cX7_init 19 = .ok (.aload_n 0, 1) := dk_42 (dk_at dksX7_init_0 19 rfl rfl)
theorem dX7_init_20 : decode cX7_init 20 = .ok (.aload_n 3, 1) := dk_45 (dk_at dksX7_init_0 20 rfl rfl)
theorem dX7_init_21 : decode cX7_init 21 = .ok (.putfield 21, 3) := dk_181 0 21 (dk_at dksX7_init_0 21 rfl rfl)
theorem dX7_init_24 : decode cX7_init 24 = .ok (.return_, 1) := dk_177 (dk_at dksX7_init_1 0 rfl rfl)
abbrev cX7_left : ByteArray := prog_6_method_3_code
def yX7_left : MethodName := ⟨RX7, "left", "()I"⟩
def dkwX7_left_0 : List UInt8 := [42, 180, 0, 21, 190, 42, 180, 0, 28, 100, 172]
abbrev dktX7_left_0 : List UInt8 := dkwX7_left_0 ++ []
theorem dksX7_left_0 : cX7_left.data.toList.drop 0 = dktX7_left_0 := by decide +kernel
theorem dX7_left_0 : decode cX7_left 0 = .ok (.aload_n 0, 1) := dk_42 (dk_at dksX7_left_0 0 rfl rfl)
theorem dX7_left_1 : decode cX7_left 1 = .ok (.getfield 21, 3) := dk_180 0 21 (dk_at dksX7_left_0 1 rfl rfl)
theorem dX7_left_4 : decode cX7_left 4 = .ok (.arraylength, 1) := dk_190 (dk_at dksX7_left_0 4 rfl rfl)
theorem dX7_left_5 : decode cX7_left 5 = .ok (.aload_n 0, 1) := dk_42 (dk_at dksX7_left_0 5 rfl rfl)
theorem dX7_left_6 : decode cX7_left 6 = .ok (.getfield 28, 3) := dk_180 0 28 (dk_at dksX7_left_0 6 rfl rfl)
theorem dX7_left_9 : decode cX7_left 9 = .ok (.isub, 1) := dk_100 (dk_at dksX7_left_0 9 rfl rfl)
theorem dX7_left_10 : decode cX7_left 10 = .ok (.ireturn, 1) := dk_172 (dk_at dksX7_left_0 10 rfl rfl)
abbrev cX7_compareTo : ByteArray := prog_6_method_5_code
def yX7_compareTo : MethodName := ⟨RX7, "compareTo", "(Ljava/lang/Object;)I"⟩
def dkwX7_compareTo_0 : List UInt8 := [42, 43, 192, 0, 10, 182, 0, 44, 172]
abbrev dktX7_compareTo_0 : List UInt8 := dkwX7_compareTo_0 ++ []
theorem dksX7_compareTo_0 : cX7_compareTo.data.toList.drop 0 = dktX7_compareTo_0 := by decide +kernel
theorem dX7_compareTo_0 : decode cX7_compareTo 0 = .ok (.aload_n 0, 1) := dk_42 (dk_at dksX7_compareTo_0 0 rfl rfl)
theorem dX7_compareTo_1 : decode cX7_compareTo 1 = .ok (.aload_n 1, 1) := dk_43 (dk_at dksX7_compareTo_0 1 rfl rfl)
theorem dX7_compareTo_2 : decode cX7_compareTo 2 = .ok (.checkcast 10, 3) := dk_192 0 10 (dk_at dksX7_compareTo_0 2 rfl rfl)
theorem dX7_compareTo_5 : decode cX7_compareTo 5 = .ok (.invokevirtual 44, 3) := dk_182 0 44 (dk_at dksX7_compareTo_0 5 rfl rfl)
theorem dX7_compareTo_8 : decode cX7_compareTo 8 = .ok (.ireturn, 1) := dk_172 (dk_at dksX7_compareTo_0 8 rfl rfl)
abbrev cX7_compareTo_2 : ByteArray := prog_6_method_4_code
def yX7_compareTo_2 : MethodName := ⟨RX7, "compareTo", "(LRobotAisles$Order;)I"⟩
def dkwX7_compareTo_2_2 : List UInt8 := [184, 0, 34, 172]
abbrev dktX7_compareTo_2_2 : List UInt8 := dkwX7_compareTo_2_2 ++ []
def dkwX7_compareTo_2_1 : List UInt8 := [28, 153, 0, 7, 28, 167, 0, 22, 29, 153, 0, 7, 29, 167, 0, 14, 42, 180, 0, 15, 43, 180, 0, 15]
abbrev dktX7_compareTo_2_1 : List UInt8 := dkwX7_compareTo_2_1 ++ dktX7_compareTo_2_2
def dkwX7_compareTo_2_0 : List UInt8 := [42, 180, 0, 18, 43, 180, 0, 18, 184, 0, 34, 61, 43, 182, 0, 40, 42, 182, 0, 40, 184, 0, 34, 62]
abbrev dktX7_compareTo_2_0 : List UInt8 := dkwX7_compareTo_2_0 ++ dktX7_compareTo_2_1
theorem dksX7_compareTo_2_0 : cX7_compareTo_2.data.toList.drop 0 = dktX7_compareTo_2_0 := by decide +kernel
theorem dksX7_compareTo_2_1 : cX7_compareTo_2.data.toList.drop 24 = dktX7_compareTo_2_1 := dk_seg dksX7_compareTo_2_0 24 rfl rfl
theorem dksX7_compareTo_2_2 : cX7_compareTo_2.data.toList.drop 48 = dktX7_compareTo_2_2 := dk_seg dksX7_compareTo_2_1 24 rfl rfl
theorem dX7_compareTo_2_0 : decode cX7_compareTo_2 0 = .ok (.aload_n 0, 1) := dk_42 (dk_at dksX7_compareTo_2_0 0 rfl rfl)
theorem dX7_compareTo_2_1 : decode cX7_compareTo_2 1 = .ok (.getfield 18, 3) := dk_180 0 18 (dk_at dksX7_compareTo_2_0 1 rfl rfl)
theorem dX7_compareTo_2_4 : decode cX7_compareTo_2 4 = .ok (.aload_n 1, 1) := dk_43 (dk_at dksX7_compareTo_2_0 4 rfl rfl)
theorem dX7_compareTo_2_5 : decode cX7_compareTo_2 5 = .ok (.getfield 18, 3) := dk_180 0 18 (dk_at dksX7_compareTo_2_0 5 rfl rfl)
theorem dX7_compareTo_2_8 : decode cX7_compareTo_2 8 = .ok (.invokestatic 34, 3) := dk_184 0 34 (dk_at dksX7_compareTo_2_0 8 rfl rfl)
theorem dX7_compareTo_2_11 : decode cX7_compareTo_2 11 = .ok (.istore_n 2, 1) := dk_61 (dk_at dksX7_compareTo_2_0 11 rfl rfl)
theorem dX7_compareTo_2_12 : decode cX7_compareTo_2 12 = .ok (.aload_n 1, 1) := dk_43 (dk_at dksX7_compareTo_2_0 12 rfl rfl)
theorem dX7_compareTo_2_13 : decode cX7_compareTo_2 13 = .ok (.invokevirtual 40, 3) := dk_182 0 40 (dk_at dksX7_compareTo_2_0 13 rfl rfl)
theorem dX7_compareTo_2_16 : decode cX7_compareTo_2 16 = .ok (.aload_n 0, 1) := dk_42 (dk_at dksX7_compareTo_2_0 16 rfl rfl)
theorem dX7_compareTo_2_17 : decode cX7_compareTo_2 17 = .ok (.invokevirtual 40, 3) := dk_182 0 40 (dk_at dksX7_compareTo_2_0 17 rfl rfl)
theorem dX7_compareTo_2_20 : decode cX7_compareTo_2 20 = .ok (.invokestatic 34, 3) := dk_184 0 34 (dk_at dksX7_compareTo_2_0 20 rfl rfl)
theorem dX7_compareTo_2_23 : decode cX7_compareTo_2 23 = .ok (.istore_n 3, 1) := dk_62 (dk_at dksX7_compareTo_2_0 23 rfl rfl)
theorem dX7_compareTo_2_24 : decode cX7_compareTo_2 24 = .ok (.iload_n 2, 1) := dk_28 (dk_at dksX7_compareTo_2_1 0 rfl rfl)
theorem dX7_compareTo_2_25 : decode cX7_compareTo_2 25 = .ok (.ifCond .eq 7, 3) := dk_153 0 7 (dk_at dksX7_compareTo_2_1 1 rfl rfl)
theorem dX7_compareTo_2_28 : decode cX7_compareTo_2 28 = .ok (.iload_n 2, 1) := dk_28 (dk_at dksX7_compareTo_2_1 4 rfl rfl)
theorem dX7_compareTo_2_29 : decode cX7_compareTo_2 29 = .ok (.goto 22, 3) := dk_167 0 22 (dk_at dksX7_compareTo_2_1 5 rfl rfl)
theorem dX7_compareTo_2_32 : decode cX7_compareTo_2 32 = .ok (.iload_n 3, 1) := dk_29 (dk_at dksX7_compareTo_2_1 8 rfl rfl)
theorem dX7_compareTo_2_33 : decode cX7_compareTo_2 33 = .ok (.ifCond .eq 7, 3) := dk_153 0 7 (dk_at dksX7_compareTo_2_1 9 rfl rfl)
theorem dX7_compareTo_2_36 : decode cX7_compareTo_2 36 = .ok (.iload_n 3, 1) := dk_29 (dk_at dksX7_compareTo_2_1 12 rfl rfl)
theorem dX7_compareTo_2_37 : decode cX7_compareTo_2 37 = .ok (.goto 14, 3) := dk_167 0 14 (dk_at dksX7_compareTo_2_1 13 rfl rfl)
theorem dX7_compareTo_2_40 : decode cX7_compareTo_2 40 = .ok (.aload_n 0, 1) := dk_42 (dk_at dksX7_compareTo_2_1 16 rfl rfl)
theorem dX7_compareTo_2_41 : decode cX7_compareTo_2 41 = .ok (.getfield 15, 3) := dk_180 0 15 (dk_at dksX7_compareTo_2_1 17 rfl rfl)
theorem dX7_compareTo_2_44 : decode cX7_compareTo_2 44 = .ok (.aload_n 1, 1) := dk_43 (dk_at dksX7_compareTo_2_1 20 rfl rfl)
theorem dX7_compareTo_2_45 : decode cX7_compareTo_2 45 = .ok (.getfield 15, 3) := dk_180 0 15 (dk_at dksX7_compareTo_2_1 21 rfl rfl)
theorem dX7_compareTo_2_48 : decode cX7_compareTo_2 48 = .ok (.invokestatic 34, 3) := dk_184 0 34 (dk_at dksX7_compareTo_2_2 0 rfl rfl)
theorem dX7_compareTo_2_51 : decode cX7_compareTo_2 51 = .ok (.ireturn, 1) := dk_172 (dk_at dksX7_compareTo_2_2 3 rfl rfl)
theorem q95 : (Jvm.Cond.initialized "RobotAisles$Order") ∈ lw_all := lw_g (lw_at lw_m1 25 rfl) rfl
theorem q341 : (Jvm.Cond.selects "RobotAisles$Order" ({ cls := "java/lang/Object", name := "getClass", desc := "()Ljava/lang/Class;" } : Jvm.MethodName) ({ cls := "java/lang/Object", name := "getClass", desc := "()Ljava/lang/Class;" } : Jvm.MethodName)) ∈ lw_all := lw_g (lw_at lw_m2 31 rfl) rfl
theorem q379 : (Jvm.Cond.instanceMethod ({ cls := "RobotAisles$Order", name := "copy", desc := "()LRobotAisles$Order;" } : Jvm.MethodName)) ∈ lw_all := lw_g (lw_at lw_m2 69 rfl) rfl
theorem q380 : (Jvm.Cond.selects "RobotAisles$Order" ({ cls := "RobotAisles$Order", name := "copy", desc := "()LRobotAisles$Order;" } : Jvm.MethodName) ({ cls := "RobotAisles$Order", name := "copy", desc := "()LRobotAisles$Order;" } : Jvm.MethodName)) ∈ lw_all := lw_g (lw_at lw_m2 70 rfl) rfl
theorem q381 : (Jvm.Cond.code ({ cls := "RobotAisles$Order", name := "copy", desc := "()LRobotAisles$Order;" } : Jvm.MethodName) prog_6_method_2_code (2 : Nat) (Option.some (Jvm.ClassFile.FieldType.object "RobotAisles$Order"))) ∈ lw_all := lw_g (lw_at lw_m2 71 rfl) rfl
theorem q382 : (Jvm.Cond.classLink "RobotAisles$Order" (10 : Nat) "RobotAisles$Order") ∈ lw_all := lw_g (lw_at lw_m2 72 rfl) rfl
theorem q383 : (Jvm.Cond.instantiable "RobotAisles$Order" (6 : Nat)) ∈ lw_all := lw_g (lw_at lw_m2 73 rfl) rfl
theorem q384 : (Jvm.Cond.methodLink "RobotAisles$Order" (25 : Nat) ({ cls := "RobotAisles$Order", name := "<init>", desc := "(II[I)V" } : Jvm.MethodName)) ∈ lw_all := lw_g (lw_at lw_m2 74 rfl) rfl
theorem q385 : (Jvm.Cond.instanceMethod ({ cls := "RobotAisles$Order", name := "<init>", desc := "(II[I)V" } : Jvm.MethodName)) ∈ lw_all := lw_g (lw_at lw_m2 75 rfl) rfl
theorem q386 : (Jvm.Cond.code ({ cls := "RobotAisles$Order", name := "<init>", desc := "(II[I)V" } : Jvm.MethodName) prog_6_method_1_code (4 : Nat) (Option.none : Option Jvm.ClassFile.FieldType)) ∈ lw_all := lw_g (lw_at lw_m2 76 rfl) rfl
theorem q387 : (Jvm.Cond.methodLink "RobotAisles$Order" (3 : Nat) ({ cls := "java/lang/Object", name := "<init>", desc := "()V" } : Jvm.MethodName)) ∈ lw_all := lw_g (lw_at lw_m2 77 rfl) rfl
theorem q388 : (Jvm.Cond.fieldLink "RobotAisles$Order" (15 : Nat) "RobotAisles$Order" "number" "I") ∈ lw_all := lw_g (lw_at lw_m2 78 rfl) rfl
theorem q390 : (Jvm.Cond.fieldLink "RobotAisles$Order" (18 : Nat) "RobotAisles$Order" "due" "I") ∈ lw_all := lw_g (lw_at lw_m2 80 rfl) rfl
theorem q392 : (Jvm.Cond.fieldLink "RobotAisles$Order" (21 : Nat) "RobotAisles$Order" "lines" "[I") ∈ lw_all := lw_g (lw_at lw_m2 82 rfl) rfl
theorem q395 : (Jvm.Cond.fieldLink "RobotAisles$Order" (28 : Nat) "RobotAisles$Order" "picked" "I") ∈ lw_all := lw_g (lw_at lw_m2 85 rfl) rfl
theorem q398 : (Jvm.Cond.fieldLink "RobotAisles$Order" (31 : Nat) "RobotAisles$Order" "state" "I") ∈ lw_all := lw_g (lw_at lw_m2 88 rfl) rfl
theorem q401 : (Jvm.Cond.fieldLink "RobotAisles$Order" (9 : Nat) "RobotAisles$Order" "deliveredAt" "I") ∈ lw_all := lw_g (lw_at lw_m2 91 rfl) rfl
theorem q404 : (Jvm.Cond.laysFinal "RobotAisles$Order" "RobotAisles$Order" "number" "I") ∈ lw_all := lw_g (lw_at lw_m2 94 rfl) rfl
theorem q405 : (Jvm.Cond.soleField "RobotAisles$Order" "number") ∈ lw_all := lw_g (lw_at lw_m2 95 rfl) rfl
theorem q406 : (Jvm.Cond.laysFinal "RobotAisles$Order" "RobotAisles$Order" "due" "I") ∈ lw_all := lw_g (lw_at lw_m2 96 rfl) rfl
theorem q407 : (Jvm.Cond.soleField "RobotAisles$Order" "due") ∈ lw_all := lw_g (lw_at lw_m2 97 rfl) rfl
theorem q408 : (Jvm.Cond.laysFinal "RobotAisles$Order" "RobotAisles$Order" "lines" "[I") ∈ lw_all := lw_g (lw_at lw_m2 98 rfl) rfl
theorem q409 : (Jvm.Cond.soleField "RobotAisles$Order" "lines") ∈ lw_all := lw_g (lw_at lw_m2 99 rfl) rfl
theorem q410 : (Jvm.Cond.lays "RobotAisles$Order" "RobotAisles$Order" "picked" "I") ∈ lw_all := lw_g (lw_at lw_m2 100 rfl) rfl
theorem q411 : (Jvm.Cond.soleField "RobotAisles$Order" "picked") ∈ lw_all := lw_g (lw_at lw_m2 101 rfl) rfl
theorem q412 : (Jvm.Cond.lays "RobotAisles$Order" "RobotAisles$Order" "state" "I") ∈ lw_all := lw_g (lw_at lw_m2 102 rfl) rfl
theorem q413 : (Jvm.Cond.soleField "RobotAisles$Order" "state") ∈ lw_all := lw_g (lw_at lw_m2 103 rfl) rfl
theorem q414 : (Jvm.Cond.lays "RobotAisles$Order" "RobotAisles$Order" "deliveredAt" "I") ∈ lw_all := lw_g (lw_at lw_m2 104 rfl) rfl
theorem q415 : (Jvm.Cond.soleField "RobotAisles$Order" "deliveredAt") ∈ lw_all := lw_g (lw_at lw_m2 105 rfl) rfl
theorem q416 : (Jvm.Cond.superclass "RobotAisles$Order" "java/lang/Object") ∈ lw_all := lw_g (lw_at lw_m2 106 rfl) rfl
theorem q833 : (Jvm.Cond.instanceMethod ({ cls := "RobotAisles$Order", name := "left", desc := "()I" } : Jvm.MethodName)) ∈ lw_all := lw_g (lw_at lw_m4 43 rfl) rfl
theorem q834 : (Jvm.Cond.selects "RobotAisles$Order" ({ cls := "RobotAisles$Order", name := "left", desc := "()I" } : Jvm.MethodName) ({ cls := "RobotAisles$Order", name := "left", desc := "()I" } : Jvm.MethodName)) ∈ lw_all := lw_g (lw_at lw_m4 44 rfl) rfl
theorem q835 : (Jvm.Cond.code ({ cls := "RobotAisles$Order", name := "left", desc := "()I" } : Jvm.MethodName) prog_6_method_3_code (1 : Nat) (Option.some Jvm.ClassFile.FieldType.int)) ∈ lw_all := lw_g (lw_at lw_m4 45 rfl) rfl
theorem q1333 : (Jvm.Cond.castable "RobotAisles$Order" "java/lang/Comparable") ∈ lw_tbl := lw_at lw_m6 63 rfl
theorem q1334 : (Jvm.Cond.selects "RobotAisles$Order" ({ cls := "java/lang/Comparable", name := "compareTo", desc := "(Ljava/lang/Object;)I" } : Jvm.MethodName) ({ cls := "RobotAisles$Order", name := "compareTo", desc := "(Ljava/lang/Object;)I" } : Jvm.MethodName)) ∈ lw_all := lw_g (lw_at lw_m6 64 rfl) rfl
theorem q1335 : (Jvm.Cond.unhidden "RobotAisles$Order" "compareTo" "(Ljava/lang/Object;)I") ∈ lw_tbl := lw_at lw_m6 65 rfl
theorem q1336 : (Jvm.Cond.instanceMethod ({ cls := "RobotAisles$Order", name := "compareTo", desc := "(Ljava/lang/Object;)I" } : Jvm.MethodName)) ∈ lw_all := lw_g (lw_at lw_m6 66 rfl) rfl
theorem q1337 : (Jvm.Cond.publicMethod ({ cls := "RobotAisles$Order", name := "compareTo", desc := "(Ljava/lang/Object;)I" } : Jvm.MethodName)) ∈ lw_tbl := lw_at lw_m6 67 rfl
theorem q1338 : (Jvm.Cond.code ({ cls := "RobotAisles$Order", name := "compareTo", desc := "(Ljava/lang/Object;)I" } : Jvm.MethodName) prog_6_method_5_code (2 : Nat) (Option.some Jvm.ClassFile.FieldType.int)) ∈ lw_all := lw_g (lw_at lw_m6 68 rfl) rfl
theorem q1339 : (Jvm.Cond.methodLink "RobotAisles$Order" (44 : Nat) ({ cls := "RobotAisles$Order", name := "compareTo", desc := "(LRobotAisles$Order;)I" } : Jvm.MethodName)) ∈ lw_all := lw_g (lw_at lw_m6 69 rfl) rfl
theorem q1340 : (Jvm.Cond.instanceMethod ({ cls := "RobotAisles$Order", name := "compareTo", desc := "(LRobotAisles$Order;)I" } : Jvm.MethodName)) ∈ lw_all := lw_g (lw_at lw_m6 70 rfl) rfl
theorem q1341 : (Jvm.Cond.selects "RobotAisles$Order" ({ cls := "RobotAisles$Order", name := "compareTo", desc := "(LRobotAisles$Order;)I" } : Jvm.MethodName) ({ cls := "RobotAisles$Order", name := "compareTo", desc := "(LRobotAisles$Order;)I" } : Jvm.MethodName)) ∈ lw_all := lw_g (lw_at lw_m6 71 rfl) rfl
theorem q1342 : (Jvm.Cond.code ({ cls := "RobotAisles$Order", name := "compareTo", desc := "(LRobotAisles$Order;)I" } : Jvm.MethodName) prog_6_method_4_code (4 : Nat) (Option.some Jvm.ClassFile.FieldType.int)) ∈ lw_all := lw_g (lw_at lw_m6 72 rfl) rfl
theorem q1343 : (Jvm.Cond.methodLink "RobotAisles$Order" (34 : Nat) ({ cls := "java/lang/Integer", name := "compare", desc := "(II)I" } : Jvm.MethodName)) ∈ lw_all := lw_g (lw_at lw_m6 73 rfl) rfl
theorem q1344 : (Jvm.Cond.methodLink "RobotAisles$Order" (40 : Nat) ({ cls := "RobotAisles$Order", name := "left", desc := "()I" } : Jvm.MethodName)) ∈ lw_all := lw_g (lw_at lw_m6 74 rfl) rfl
theorem q2295 : (Jvm.Cond.castable "RobotAisles$Order" "java/lang/Object") ∈ lw_tbl := lw_at lw_m10 65 rfl
theorem in_X7 : ∀ w ∈ wsX70, w ∈ lw_all := lw_in wsX70 [404, 406, 408, 410, 412, 414] (by decide +kernel) (by decide +kernel)

/-! RobotAisles$RefusedException -/
set_option maxRecDepth 100000
def RX8 : String := "RobotAisles$RefusedException"
def TX8 : u_T := fun k => match k with
  | 0 => ("java/lang/Throwable", "cause", "Ljava/lang/Throwable;", false)
  | 1 => ("java/lang/Throwable", "stackTrace", "[Ljava/lang/StackTraceElement;", false)
  | 2 => ("java/lang/Throwable", "suppressedExceptions", "Ljava/util/List;", false)
  | 3 => ("java/lang/Throwable", "detailMessage", "Ljava/lang/String;", false)
  | 4 => ("java/lang/Throwable", "backtrace", "Ljava/lang/Object;", false)
  | 5 => ("java/lang/Throwable", "depth", "I", false)
  | 6 => ("RobotAisles$RefusedException", "reason", "I", true)
  | _ => ("RobotAisles$RefusedException", "detail", "I", true)
def tyX8 : Nat → FieldType := fun k => match k with
  | 0 => .object "java/lang/Throwable"
  | 1 => .array (.object "java/lang/StackTraceElement")
  | 2 => .object "java/util/List"
  | 3 => .object "java/lang/String"
  | 4 => .object "java/lang/Object"
  | 5 => .int
  | 6 => .int
  | _ => .int
abbrev wsX80 : List Cond := u_ws RX8 TX8 8
theorem nmX8 : ∀ a, a < 8 → ∀ b, b < 8 → a ≠ b → (TX8 a).2.1 ≠ (TX8 b).2.1 := by decide +kernel
theorem tyX8_ok : ∀ k, k < 8 → parseFieldDescriptor (TX8 k).2.2.1 = some (tyX8 k) := by decide +kernel
abbrev cX8_init : ByteArray := prog_9_method_1_code
def yX8_init : MethodName := ⟨RX8, "<init>", "(II)V"⟩
def dkwX8_init_0 : List UInt8 := [42, 1, 1, 3, 3, 183, 0, 1, 42, 27, 181, 0, 7, 42, 28, 181, 0, 13, 177]
abbrev dktX8_init_0 : List UInt8 := dkwX8_init_0 ++ []
theorem dksX8_init_0 : cX8_init.data.toList.drop 0 = dktX8_init_0 := by decide +kernel
theorem dX8_init_0 : decode cX8_init 0 = .ok (.aload_n 0, 1) := dk_42 (dk_at dksX8_init_0 0 rfl rfl)
theorem dX8_init_1 : decode cX8_init 1 = .ok (.aconst_null, 1) := dk_1 (dk_at dksX8_init_0 1 rfl rfl)
theorem dX8_init_2 : decode cX8_init 2 = .ok (.aconst_null, 1) := dk_1 (dk_at dksX8_init_0 2 rfl rfl)
theorem dX8_init_3 : decode cX8_init 3 = .ok (.iconst 0, 1) := dk_3 (dk_at dksX8_init_0 3 rfl rfl)
theorem dX8_init_4 : decode cX8_init 4 = .ok (.iconst 0, 1) := dk_3 (dk_at dksX8_init_0 4 rfl rfl)
theorem dX8_init_5 : decode cX8_init 5 = .ok (.invokespecial 1, 3) := dk_183 0 1 (dk_at dksX8_init_0 5 rfl rfl)
theorem dX8_init_8 : decode cX8_init 8 = .ok (.aload_n 0, 1) := dk_42 (dk_at dksX8_init_0 8 rfl rfl)
theorem dX8_init_9 : decode cX8_init 9 = .ok (.iload_n 1, 1) := dk_27 (dk_at dksX8_init_0 9 rfl rfl)
theorem dX8_init_10 : decode cX8_init 10 = .ok (.putfield 7, 3) := dk_181 0 7 (dk_at dksX8_init_0 10 rfl rfl)
theorem dX8_init_13 : decode cX8_init 13 = .ok (.aload_n 0, 1) := dk_42 (dk_at dksX8_init_0 13 rfl rfl)
theorem dX8_init_14 : decode cX8_init 14 = .ok (.iload_n 2, 1) := dk_28 (dk_at dksX8_init_0 14 rfl rfl)
theorem dX8_init_15 : decode cX8_init 15 = .ok (.putfield 13, 3) := dk_181 0 13 (dk_at dksX8_init_0 15 rfl rfl)
theorem dX8_init_18 : decode cX8_init 18 = .ok (.return_, 1) := dk_177 (dk_at dksX8_init_0 18 rfl rfl)
theorem q96 : (Jvm.Cond.initialized "RobotAisles$RefusedException") ∈ lw_all := lw_g (lw_at lw_m1 26 rfl) rfl
theorem q344 : (Jvm.Cond.selects "RobotAisles$RefusedException" ({ cls := "java/lang/Object", name := "getClass", desc := "()Ljava/lang/Class;" } : Jvm.MethodName) ({ cls := "java/lang/Object", name := "getClass", desc := "()Ljava/lang/Class;" } : Jvm.MethodName)) ∈ lw_all := lw_g (lw_at lw_m2 34 rfl) rfl
theorem q464 : (Jvm.Cond.selects "RobotAisles$RefusedException" ({ cls := "java/lang/Throwable", name := "fillInStackTrace", desc := "()Ljava/lang/Throwable;" } : Jvm.MethodName) ({ cls := "java/lang/Throwable", name := "fillInStackTrace", desc := "()Ljava/lang/Throwable;" } : Jvm.MethodName)) ∈ lw_all := lw_g (lw_at lw_m2 154 rfl) rfl
theorem q716 : (Jvm.Cond.instantiable "RobotAisles$RefusedException" (8 : Nat)) ∈ lw_all := lw_g (lw_at lw_m3 166 rfl) rfl
theorem q717 : (Jvm.Cond.castable "RobotAisles$RefusedException" "RobotAisles$RefusedException") ∈ lw_tbl := lw_at lw_m3 167 rfl
theorem q718 : (Jvm.Cond.selects "RobotAisles$RefusedException" ({ cls := "java/lang/Throwable", name := "fillInStackTrace", desc := "(I)Ljava/lang/Throwable;" } : Jvm.MethodName) ({ cls := "java/lang/Throwable", name := "fillInStackTrace", desc := "(I)Ljava/lang/Throwable;" } : Jvm.MethodName)) ∈ lw_all := lw_g (lw_at lw_m3 168 rfl) rfl
theorem q719 : (Jvm.Cond.lays "RobotAisles$RefusedException" "java/lang/Throwable" "cause" "Ljava/lang/Throwable;") ∈ lw_all := lw_g (lw_at lw_m3 169 rfl) rfl
theorem q720 : (Jvm.Cond.lays "RobotAisles$RefusedException" "java/lang/Throwable" "stackTrace" "[Ljava/lang/StackTraceElement;") ∈ lw_all := lw_g (lw_at lw_m3 170 rfl) rfl
theorem q721 : (Jvm.Cond.lays "RobotAisles$RefusedException" "java/lang/Throwable" "suppressedExceptions" "Ljava/util/List;") ∈ lw_all := lw_g (lw_at lw_m3 171 rfl) rfl
theorem q722 : (Jvm.Cond.lays "RobotAisles$RefusedException" "java/lang/Throwable" "detailMessage" "Ljava/lang/String;") ∈ lw_all := lw_g (lw_at lw_m3 172 rfl) rfl
theorem q723 : (Jvm.Cond.lays "RobotAisles$RefusedException" "java/lang/Throwable" "backtrace" "Ljava/lang/Object;") ∈ lw_all := lw_g (lw_at lw_m3 173 rfl) rfl
theorem q725 : (Jvm.Cond.instanceMethod ({ cls := "RobotAisles$RefusedException", name := "<init>", desc := "(II)V" } : Jvm.MethodName)) ∈ lw_all := lw_g (lw_at lw_m3 175 rfl) rfl
theorem q726 : (Jvm.Cond.code ({ cls := "RobotAisles$RefusedException", name := "<init>", desc := "(II)V" } : Jvm.MethodName) prog_9_method_1_code (3 : Nat) (Option.none : Option Jvm.ClassFile.FieldType)) ∈ lw_all := lw_g (lw_at lw_m3 176 rfl) rfl
theorem q727 : (Jvm.Cond.methodLink "RobotAisles$RefusedException" (1 : Nat) ({ cls := "java/lang/Exception", name := "<init>", desc := "(Ljava/lang/String;Ljava/lang/Throwable;ZZ)V" } : Jvm.MethodName)) ∈ lw_all := lw_g (lw_at lw_m3 177 rfl) rfl
theorem q728 : (Jvm.Cond.fieldLink "RobotAisles$RefusedException" (7 : Nat) "RobotAisles$RefusedException" "reason" "I") ∈ lw_all := lw_g (lw_at lw_m3 178 rfl) rfl
theorem q730 : (Jvm.Cond.fieldLink "RobotAisles$RefusedException" (13 : Nat) "RobotAisles$RefusedException" "detail" "I") ∈ lw_all := lw_g (lw_at lw_m3 180 rfl) rfl
theorem q732 : (Jvm.Cond.laysFinal "RobotAisles$RefusedException" "RobotAisles$RefusedException" "reason" "I") ∈ lw_all := lw_g (lw_at lw_m3 182 rfl) rfl
theorem q733 : (Jvm.Cond.soleField "RobotAisles$RefusedException" "reason") ∈ lw_all := lw_g (lw_at lw_m3 183 rfl) rfl
theorem q734 : (Jvm.Cond.laysFinal "RobotAisles$RefusedException" "RobotAisles$RefusedException" "detail" "I") ∈ lw_all := lw_g (lw_at lw_m3 184 rfl) rfl
theorem q735 : (Jvm.Cond.soleField "RobotAisles$RefusedException" "detail") ∈ lw_all := lw_g (lw_at lw_m3 185 rfl) rfl
theorem q736 : (Jvm.Cond.lays "RobotAisles$RefusedException" "java/lang/Throwable" "depth" "I") ∈ lw_all := lw_g (lw_at lw_m3 186 rfl) rfl
theorem q737 : (Jvm.Cond.superclass "RobotAisles$RefusedException" "java/lang/Exception") ∈ lw_all := lw_g (lw_at lw_m3 187 rfl) rfl
theorem q2296 : (Jvm.Cond.castable "RobotAisles$RefusedException" "java/lang/Object") ∈ lw_tbl := lw_at lw_m10 66 rfl
theorem in_X8 : ∀ w ∈ wsX80, w ∈ lw_all := lw_in wsX80 [719, 720, 721, 722, 723, 736, 732, 734] (by decide +kernel) (by decide +kernel)

/-! RobotAisles$Planner -/
set_option maxRecDepth 100000
def RX9 : String := "RobotAisles$Planner"
def TX9 : u_T := fun k => match k with
  | 0 => ("RobotAisles$Planner", "core", "LRobotAisles$Core;", true)
  | 1 => ("RobotAisles$Planner", "robot", "I", true)
  | 2 => ("RobotAisles$Planner", "start", "I", true)
  | 3 => ("RobotAisles$Planner", "goal", "I", true)
  | 4 => ("RobotAisles$Planner", "horizon", "I", true)
  | 5 => ("RobotAisles$Planner", "reserved", "[I", true)
  | _ => ("RobotAisles$Planner", "reached", "[J", true)
def tyX9 : Nat → FieldType := fun k => match k with
  | 0 => .object "RobotAisles$Core"
  | 1 => .int
  | 2 => .int
  | 3 => .int
  | 4 => .int
  | 5 => .array .int
  | _ => .array .long
abbrev wsX90 : List Cond := u_ws RX9 TX9 7
theorem nmX9 : ∀ a, a < 7 → ∀ b, b < 7 → a ≠ b → (TX9 a).2.1 ≠ (TX9 b).2.1 := by decide +kernel
theorem tyX9_ok : ∀ k, k < 7 → parseFieldDescriptor (TX9 k).2.2.1 = some (tyX9 k) := by decide +kernel
abbrev cX9_init : ByteArray := prog_7_method_1_code
def yX9_init : MethodName := ⟨RX9, "<init>", "(LRobotAisles$Core;II)V"⟩
def dkwX9_init_5 : List UInt8 := [21, 5, 182, 0, 60, 96, 21, 4, 4, 96, 79, 132, 5, 1, 167, 255, 208, 132, 4, 1, 167, 255, 187, 177]
abbrev dktX9_init_5 : List UInt8 := dkwX9_init_5 ++ []
def dkwX9_init_4 : List UInt8 := [159, 0, 41, 42, 180, 0, 9, 16, 64, 21, 5, 104, 43, 180, 0, 30, 21, 4, 182, 0, 36, 192, 0, 42]
abbrev dktX9_init_4 : List UInt8 := dkwX9_init_4 ++ dktX9_init_5
def dkwX9_init_3 : List UInt8 := [43, 180, 0, 30, 182, 0, 56, 162, 0, 63, 3, 54, 5, 21, 5, 16, 30, 163, 0, 47, 21, 4, 28]
abbrev dktX9_init_3 : List UInt8 := dkwX9_init_3 ++ dktX9_init_4
def dkwX9_init_2 : List UInt8 := [192, 0, 42, 180, 0, 44, 181, 0, 47, 42, 43, 180, 0, 50, 5, 46, 181, 0, 53, 3, 54, 4, 21, 4]
abbrev dktX9_init_2 : List UInt8 := dkwX9_init_2 ++ dktX9_init_3
def dkwX9_init_1 : List UInt8 := [181, 0, 19, 42, 28, 181, 0, 23, 42, 29, 181, 0, 27, 42, 43, 180, 0, 30, 28, 182, 0, 36]
abbrev dktX9_init_1 : List UInt8 := dkwX9_init_1 ++ dktX9_init_2
def dkwX9_init_0 : List UInt8 := [42, 183, 0, 3, 42, 17, 7, 192, 188, 10, 181, 0, 9, 42, 16, 31, 188, 11, 181, 0, 15, 42, 43]
abbrev dktX9_init_0 : List UInt8 := dkwX9_init_0 ++ dktX9_init_1
theorem dksX9_init_0 : cX9_init.data.toList.drop 0 = dktX9_init_0 := by decide +kernel
theorem dksX9_init_1 : cX9_init.data.toList.drop 23 = dktX9_init_1 := dk_seg dksX9_init_0 23 rfl rfl
theorem dksX9_init_2 : cX9_init.data.toList.drop 45 = dktX9_init_2 := dk_seg dksX9_init_1 22 rfl rfl
theorem dksX9_init_3 : cX9_init.data.toList.drop 69 = dktX9_init_3 := dk_seg dksX9_init_2 24 rfl rfl
theorem dksX9_init_4 : cX9_init.data.toList.drop 92 = dktX9_init_4 := dk_seg dksX9_init_3 23 rfl rfl
theorem dksX9_init_5 : cX9_init.data.toList.drop 116 = dktX9_init_5 := dk_seg dksX9_init_4 24 rfl rfl
theorem dX9_init_0 : decode cX9_init 0 = .ok (.aload_n 0, 1) := dk_42 (dk_at dksX9_init_0 0 rfl rfl)
theorem dX9_init_1 : decode cX9_init 1 = .ok (.invokespecial 3, 3) := dk_183 0 3 (dk_at dksX9_init_0 1 rfl rfl)
theorem dX9_init_4 : decode cX9_init 4 = .ok (.aload_n 0, 1) := dk_42 (dk_at dksX9_init_0 4 rfl rfl)
theorem dX9_init_5 : decode cX9_init 5 = .ok (.sipush 1984, 3) := dk_17 7 192 (dk_at dksX9_init_0 5 rfl rfl)
theorem dX9_init_8 : decode cX9_init 8 = .ok (.newarray .int, 2) := dk_188_10 (dk_at dksX9_init_0 8 rfl rfl)
theorem dX9_init_10 : decode cX9_init 10 = .ok (.putfield 9, 3) := dk_181 0 9 (dk_at dksX9_init_0 10 rfl rfl)
theorem dX9_init_13 : decode cX9_init 13 = .ok (.aload_n 0, 1) := dk_42 (dk_at dksX9_init_0 13 rfl rfl)
theorem dX9_init_14 : decode cX9_init 14 = .ok (.bipush 31, 2) := dk_16 31 (dk_at dksX9_init_0 14 rfl rfl)
theorem dX9_init_16 : decode cX9_init 16 = .ok (.newarray .long, 2) := dk_188_11 (dk_at dksX9_init_0 16 rfl rfl)
theorem dX9_init_18 : decode cX9_init 18 = .ok (.putfield 15, 3) := dk_181 0 15 (dk_at dksX9_init_0 18 rfl rfl)
theorem dX9_init_21 : decode cX9_init 21 = .ok (.aload_n 0, 1) := dk_42 (dk_at dksX9_init_0 21 rfl rfl)
theorem dX9_init_22 : decode cX9_init 22 = .ok (.aload_n 1, 1) := dk_43 (dk_at dksX9_init_0 22 rfl rfl)
theorem dX9_init_23 : decode cX9_init 23 = .ok (.putfield 19, 3) := dk_181 0 19 (dk_at dksX9_init_1 0 rfl rfl)
theorem dX9_init_26 : decode cX9_init 26 = .ok (.aload_n 0, 1) := dk_42 (dk_at dksX9_init_1 3 rfl rfl)
theorem dX9_init_27 : decode cX9_init 27 = .ok (.iload_n 2, 1) := dk_28 (dk_at dksX9_init_1 4 rfl rfl)
theorem dX9_init_28 : decode cX9_init 28 = .ok (.putfield 23, 3) := dk_181 0 23 (dk_at dksX9_init_1 5 rfl rfl)
theorem dX9_init_31 : decode cX9_init 31 = .ok (.aload_n 0, 1) := dk_42 (dk_at dksX9_init_1 8 rfl rfl)
theorem dX9_init_32 : decode cX9_init 32 = .ok (.iload_n 3, 1) := dk_29 (dk_at dksX9_init_1 9 rfl rfl)
theorem dX9_init_33 : decode cX9_init 33 = .ok (.putfield 27, 3) := dk_181 0 27 (dk_at dksX9_init_1 10 rfl rfl)
theorem dX9_init_36 : decode cX9_init 36 = .ok (.aload_n 0, 1) := dk_42 (dk_at dksX9_init_1 13 rfl rfl)
theorem dX9_init_37 : decode cX9_init 37 = .ok (.aload_n 1, 1) := dk_43 (dk_at dksX9_init_1 14 rfl rfl)
theorem dX9_init_38 : decode cX9_init 38 = .ok (.getfield 30, 3) := dk_180 0 30 (dk_at dksX9_init_1 15 rfl rfl)
theorem dX9_init_41 : decode cX9_init 41 = .ok (.iload_n 2, 1) := dk_28 (dk_at dksX9_init_1 18 rfl rfl)
theorem dX9_init_42 : decode cX9_init 42 = .ok (.invokevirtual 36, 3) := dk_182 0 36 (dk_at dksX9_init_1 19 rfl rfl)
theorem dX9_init_45 : decode cX9_init 45 = .ok (.checkcast 42, 3) := dk_192 0 42 (dk_at dksX9_init_2 0 rfl rfl)
theorem dX9_init_48 : decode cX9_init 48 = .ok (.getfield 44, 3) := dk_180 0 44 (dk_at dksX9_init_2 3 rfl rfl)
theorem dX9_init_51 : decode cX9_init 51 = .ok (.putfield 47, 3) := dk_181 0 47 (dk_at dksX9_init_2 6 rfl rfl)
theorem dX9_init_54 : decode cX9_init 54 = .ok (.aload_n 0, 1) := dk_42 (dk_at dksX9_init_2 9 rfl rfl)
theorem dX9_init_55 : decode cX9_init 55 = .ok (.aload_n 1, 1) := dk_43 (dk_at dksX9_init_2 10 rfl rfl)
theorem dX9_init_56 : decode cX9_init 56 = .ok (.getfield 50, 3) := dk_180 0 50 (dk_at dksX9_init_2 11 rfl rfl)
theorem dX9_init_59 : decode cX9_init 59 = .ok (.iconst 2, 1) := dk_5 (dk_at dksX9_init_2 14 rfl rfl)
theorem dX9_init_60 : decode cX9_init 60 = .ok (.iaload, 1) := dk_46 (dk_at dksX9_init_2 15 rfl rfl)
theorem dX9_init_61 : decode cX9_init 61 = .ok (.putfield 53, 3) := dk_181 0 53 (dk_at dksX9_init_2 16 rfl rfl)
theorem dX9_init_64 : decode cX9_init 64 = .ok (.iconst 0, 1) := dk_3 (dk_at dksX9_init_2 19 rfl rfl)
theorem dX9_init_65 : decode cX9_init 65 = .ok (.istore 4, 2) := dk_54 4 (dk_at dksX9_init_2 20 rfl rfl)
theorem dX9_init_67 : decode cX9_init 67 = .ok (.iload 4, 2) := dk_21 4 (dk_at dksX9_init_2 22 rfl rfl)
theorem dX9_init_69 : decode cX9_init 69 = .ok (.aload_n 1, 1) := dk_43 (dk_at dksX9_init_3 0 rfl rfl)
theorem dX9_init_70 : decode cX9_init 70 = .ok (.getfield 30, 3) := dk_180 0 30 (dk_at dksX9_init_3 1 rfl rfl)
theorem dX9_init_73 : decode cX9_init 73 = .ok (.invokevirtual 56, 3) := dk_182 0 56 (dk_at dksX9_init_3 4 rfl rfl)
theorem dX9_init_76 : decode cX9_init 76 = .ok (.if_icmp .ge 63, 3) := dk_162 0 63 (dk_at dksX9_init_3 7 rfl rfl)
theorem dX9_init_79 : decode cX9_init 79 = .ok (.iconst 0, 1) := dk_3 (dk_at dksX9_init_3 10 rfl rfl)
theorem dX9_init_80 : decode cX9_init 80 = .ok (.istore 5, 2) := dk_54 5 (dk_at dksX9_init_3 11 rfl rfl)
theorem dX9_init_82 : decode cX9_init 82 = .ok (.iload 5, 2) := dk_21 5 (dk_at dksX9_init_3 13 rfl rfl)
theorem dX9_init_84 : decode cX9_init 84 = .ok (.bipush 30, 2) := dk_16 30 (dk_at dksX9_init_3 15 rfl rfl)
theorem dX9_init_86 : decode cX9_init 86 = .ok (.if_icmp .gt 47, 3) := dk_163 0 47 (dk_at dksX9_init_3 17 rfl rfl)
theorem dX9_init_89 : decode cX9_init 89 = .ok (.iload 4, 2) := dk_21 4 (dk_at dksX9_init_3 20 rfl rfl)
theorem dX9_init_91 : decode cX9_init 91 = .ok (.iload_n 2, 1) := dk_28 (dk_at dksX9_init_3 22 rfl rfl)
theorem dX9_init_92 : decode cX9_init 92 = .ok (.if_icmp .eq 41, 3) := dk_159 0 41 (dk_at dksX9_init_4 0 rfl rfl)
theorem dX9_init_95 : decode cX9_init 95 = .ok (.aload_n 0, 1) := dk_42 (dk_at dksX9_init_4 3 rfl rfl)
theorem dX9_init_96 : decode cX9_init 96 = .ok (.getfield 9, 3) := dk_180 0 9 (dk_at dksX9_init_4 4 rfl rfl)
theorem dX9_init_99 : decode cX9_init 99 = .ok (.bipush 64, 2) := dk_16 64 (dk_at dksX9_init_4 7 rfl rfl)
theorem dX9_init_101 : decode cX9_init 101 = .ok (.iload 5, 2) := dk_21 5 (dk_at dksX9_init_4 9 rfl rfl)
theorem dX9_init_103 : decode cX9_init 103 = .ok (.imul, 1) := dk_104 (dk_at dksX9_init_4 11 rfl rfl)
theorem dX9_init_104 : decode cX9_init 104 = .ok (.aload_n 1, 1) := dk_43 (dk_at dksX9_init_4 12 rfl rfl)
theorem dX9_init_105 : decode cX9_init 105 = .ok (.getfield 30, 3) := dk_180 0 30 (dk_at dksX9_init_4 13 rfl rfl)
theorem dX9_init_108 : decode cX9_init 108 = .ok (.iload 4, 2) := dk_21 4 (dk_at dksX9_init_4 16 rfl rfl)
theorem dX9_init_110 : decode cX9_init 110 = .ok (.invokevirtual 36, 3) := dk_182 0 36 (dk_at dksX9_init_4 18 rfl rfl)
theorem dX9_init_113 : decode cX9_init 113 = .ok (.checkcast 42, 3) := dk_192 0 42 (dk_at dksX9_init_4 21 rfl rfl)
theorem dX9_init_116 : decode cX9_init 116 = .ok (.iload 5, 2) := dk_21 5 (dk_at dksX9_init_5 0 rfl rfl)
theorem dX9_init_118 : decode cX9_init 118 = .ok (.invokevirtual 60, 3) := dk_182 0 60 (dk_at dksX9_init_5 2 rfl rfl)
theorem dX9_init_121 : decode cX9_init 121 = .ok (.iadd, 1) := dk_96 (dk_at dksX9_init_5 5 rfl rfl)
theorem dX9_init_122 : decode cX9_init 122 = .ok (.iload 4, 2) := dk_21 4 (dk_at dksX9_init_5 6 rfl rfl)
theorem dX9_init_124 : decode cX9_init 124 = .ok (.iconst 1, 1) := dk_4 (dk_at dksX9_init_5 8 rfl rfl)
theorem dX9_init_125 : decode cX9_init 125 = .ok (.iadd, 1) := dk_96 (dk_at dksX9_init_5 9 rfl rfl)
theorem dX9_init_126 : decode cX9_init 126 = .ok (.iastore, 1) := dk_79 (dk_at dksX9_init_5 10 rfl rfl)
theorem dX9_init_127 : decode cX9_init 127 = .ok (.iinc 5 1, 3) := dk_132 5 1 (dk_at dksX9_init_5 11 rfl rfl)
theorem dX9_init_130 : decode cX9_init 130 = .ok (.goto (-48), 3) := dk_167 255 208 (dk_at dksX9_init_5 14 rfl rfl)
theorem dX9_init_133 : decode cX9_init 133 = .ok (.iinc 4 1, 3) := dk_132 4 1 (dk_at dksX9_init_5 17 rfl rfl)
theorem dX9_init_136 : decode cX9_init 136 = .ok (.goto (-69), 3) := dk_167 255 187 (dk_at dksX9_init_5 20 rfl rfl)
theorem dX9_init_139 : decode cX9_init 139 = .ok (.return_, 1) := dk_177 (dk_at dksX9_init_5 23 rfl rfl)
abbrev cX9_path : ByteArray := prog_7_method_11_code
def yX9_path : MethodName := ⟨RX9, "path", "()[I"⟩
def dkwX9_path_9 : List UInt8 := [45, 21, 5, 21, 4, 79, 132, 5, 1, 167, 255, 225, 45, 176]
abbrev dktX9_path_9 : List UInt8 := dkwX9_path_9 ++ []
def dkwX9_path_8 : List UInt8 := [54, 5, 21, 5, 27, 162, 0, 31, 42, 21, 5, 21, 4, 44, 21, 5, 4, 96, 47, 182, 0, 125, 54, 4]
abbrev dktX9_path_8 : List UInt8 := dkwX9_path_8 ++ dktX9_path_9
def dkwX9_path_7 : List UInt8 := [132, 4, 1, 167, 255, 201, 132, 3, 255, 167, 255, 188, 27, 188, 10, 78, 42, 180, 0, 47, 54, 4, 3]
abbrev dktX9_path_7 : List UInt8 := dkwX9_path_7 ++ dktX9_path_8
def dkwX9_path_6 : List UInt8 := [44, 29, 4, 96, 47, 182, 0, 125, 2, 159, 0, 10, 10, 21, 4, 121, 167, 0, 4, 9, 129, 80]
abbrev dktX9_path_6 : List UInt8 := dkwX9_path_6 ++ dktX9_path_7
def dkwX9_path_5 : List UInt8 := [182, 0, 79, 162, 0, 49, 44, 29, 92, 47, 42, 29, 21, 4, 182, 0, 80, 153, 0, 26, 42, 29, 21, 4]
abbrev dktX9_path_5 : List UInt8 := dkwX9_path_5 ++ dktX9_path_6
def dkwX9_path_4 : List UInt8 := [180, 0, 27, 121, 80, 27, 5, 100, 62, 29, 155, 0, 70, 3, 54, 4, 21, 4, 42, 180, 0, 19]
abbrev dktX9_path_4 : List UInt8 := dkwX9_path_4 ++ dktX9_path_5
def dkwX9_path_3 : List UInt8 := [153, 0, 9, 10, 29, 121, 167, 0, 4, 9, 129, 80, 132, 3, 1, 167, 255, 193, 44, 27, 10, 42]
abbrev dktX9_path_3 : List UInt8 := dkwX9_path_3 ++ dktX9_path_4
def dkwX9_path_2 : List UInt8 := [153, 0, 32, 42, 29, 42, 180, 0, 27, 182, 0, 122, 153, 0, 20, 42, 27, 4, 100, 29, 182, 0, 87]
abbrev dktX9_path_2 : List UInt8 := dkwX9_path_2 ++ dktX9_path_3
def dkwX9_path_1 : List UInt8 := [180, 0, 19, 182, 0, 79, 162, 0, 58, 44, 27, 4, 100, 92, 47, 42, 27, 4, 100, 29, 182, 0, 80]
abbrev dktX9_path_1 : List UInt8 := dkwX9_path_1 ++ dktX9_path_2
def dkwX9_path_0 : List UInt8 := [42, 182, 0, 119, 60, 27, 2, 160, 0, 5, 1, 176, 27, 4, 96, 188, 11, 77, 3, 62, 29, 42]
abbrev dktX9_path_0 : List UInt8 := dkwX9_path_0 ++ dktX9_path_1
theorem dksX9_path_0 : cX9_path.data.toList.drop 0 = dktX9_path_0 := by decide +kernel
theorem dksX9_path_1 : cX9_path.data.toList.drop 22 = dktX9_path_1 := dk_seg dksX9_path_0 22 rfl rfl
theorem dksX9_path_2 : cX9_path.data.toList.drop 45 = dktX9_path_2 := dk_seg dksX9_path_1 23 rfl rfl
theorem dksX9_path_3 : cX9_path.data.toList.drop 68 = dktX9_path_3 := dk_seg dksX9_path_2 23 rfl rfl
theorem dksX9_path_4 : cX9_path.data.toList.drop 90 = dktX9_path_4 := dk_seg dksX9_path_3 22 rfl rfl
theorem dksX9_path_5 : cX9_path.data.toList.drop 112 = dktX9_path_5 := dk_seg dksX9_path_4 22 rfl rfl
theorem dksX9_path_6 : cX9_path.data.toList.drop 136 = dktX9_path_6 := dk_seg dksX9_path_5 24 rfl rfl
theorem dksX9_path_7 : cX9_path.data.toList.drop 158 = dktX9_path_7 := dk_seg dksX9_path_6 22 rfl rfl
theorem dksX9_path_8 : cX9_path.data.toList.drop 181 = dktX9_path_8 := dk_seg dksX9_path_7 23 rfl rfl
theorem dksX9_path_9 : cX9_path.data.toList.drop 205 = dktX9_path_9 := dk_seg dksX9_path_8 24 rfl rfl
theorem dX9_path_0 : decode cX9_path 0 = .ok (.aload_n 0, 1) := dk_42 (dk_at dksX9_path_0 0 rfl rfl)
theorem dX9_path_1 : decode cX9_path 1 = .ok (.invokevirtual 119, 3) := dk_182 0 119 (dk_at dksX9_path_0 1 rfl rfl)
theorem dX9_path_4 : decode cX9_path 4 = .ok (.istore_n 1, 1) := dk_60 (dk_at dksX9_path_0 4 rfl rfl)
theorem dX9_path_5 : decode cX9_path 5 = .ok (.iload_n 1, 1) := dk_27 (dk_at dksX9_path_0 5 rfl rfl)
theorem dX9_path_6 : decode cX9_path 6 = .ok (.iconst (-1), 1) := dk_2 (dk_at dksX9_path_0 6 rfl rfl)
theorem dX9_path_7 : decode cX9_path 7 = .ok (.if_icmp .ne 5, 3) := dk_160 0 5 (dk_at dksX9_path_0 7 rfl rfl)
theorem dX9_path_10 : decode cX9_path 10 = .ok (.aconst_null, 1) := dk_1 (dk_at dksX9_path_0 10 rfl rfl)
theorem dX9_path_11 : decode cX9_path 11 = .ok (.areturn, 1) := dk_176 (dk_at dksX9_path_0 11 rfl rfl)
theorem dX9_path_12 : decode cX9_path 12 = .ok (.iload_n 1, 1) := dk_27 (dk_at dksX9_path_0 12 rfl rfl)
theorem dX9_path_13 : decode cX9_path 13 = .ok (.iconst 1, 1) := dk_4 (dk_at dksX9_path_0 13 rfl rfl)
theorem dX9_path_14 : decode cX9_path 14 = .ok (.iadd, 1) := dk_96 (dk_at dksX9_path_0 14 rfl rfl)
theorem dX9_path_15 : decode cX9_path 15 = .ok (.newarray .long, 2) := dk_188_11 (dk_at dksX9_path_0 15 rfl rfl)
theorem dX9_path_17 : decode cX9_path 17 = .ok (.astore_n 2, 1) := dk_77 (dk_at dksX9_path_0 17 rfl rfl)
theorem dX9_path_18 : decode cX9_path 18 = .ok (.iconst 0, 1) := dk_3 (dk_at dksX9_path_0 18 rfl rfl)
theorem dX9_path_19 : decode cX9_path 19 = .ok (.istore_n 3, 1) := dk_62 (dk_at dksX9_path_0 19 rfl rfl)
theorem dX9_path_20 : decode cX9_path 20 = .ok (.iload_n 3, 1) := dk_29 (dk_at dksX9_path_0 20 rfl rfl)
theorem dX9_path_21 : decode cX9_path 21 = .ok (.aload_n 0, 1) := dk_42 (dk_at dksX9_path_0 21 rfl rfl)
theorem dX9_path_22 : decode cX9_path 22 = .ok (.getfield 19, 3) := dk_180 0 19 (dk_at dksX9_path_1 0 rfl rfl)
theorem dX9_path_25 : decode cX9_path 25 = .ok (.invokevirtual 79, 3) := dk_182 0 79 (dk_at dksX9_path_1 3 rfl rfl)
theorem dX9_path_28 : decode cX9_path 28 = .ok (.if_icmp .ge 58, 3) := dk_162 0 58 (dk_at dksX9_path_1 6 rfl rfl)
theorem dX9_path_31 : decode cX9_path 31 = .ok (.aload_n 2, 1) := dk_44 (dk_at dksX9_path_1 9 rfl rfl)
theorem dX9_path_32 : decode cX9_path 32 = .ok (.iload_n 1, 1) := dk_27 (dk_at dksX9_path_1 10 rfl rfl)
theorem dX9_path_33 : decode cX9_path 33 = .ok (.iconst 1, 1) := dk_4 (dk_at dksX9_path_1 11 rfl rfl)
theorem dX9_path_34 : decode cX9_path 34 = .ok (.isub, 1) := dk_100 (dk_at dksX9_path_1 12 rfl rfl)
theorem dX9_path_35 : decode cX9_path 35 = .ok (.dup2, 1) := dk_92 (dk_at dksX9_path_1 13 rfl rfl)
theorem dX9_path_36 : decode cX9_path 36 = .ok (.laload, 1) := dk_47 (dk_at dksX9_path_1 14 rfl rfl)
theorem dX9_path_37 : decode cX9_path 37 = .ok (.aload_n 0, 1) := dk_42 (dk_at dksX9_path_1 15 rfl rfl)
theorem dX9_path_38 : decode cX9_path 38 = .ok (.iload_n 1, 1) := dk_27 (dk_at dksX9_path_1 16 rfl rfl)
theorem dX9_path_39 : decode cX9_path 39 = .ok (.iconst 1, 1) := dk_4 (dk_at dksX9_path_1 17 rfl rfl)
theorem dX9_path_40 : decode cX9_path 40 = .ok (.isub, 1) := dk_100 (dk_at dksX9_path_1 18 rfl rfl)
theorem dX9_path_41 : decode cX9_path 41 = .ok (.iload_n 3, 1) := dk_29 (dk_at dksX9_path_1 19 rfl rfl)
theorem dX9_path_42 : decode cX9_path 42 = .ok (.invokevirtual 80, 3) := dk_182 0 80 (dk_at dksX9_path_1 20 rfl rfl)
theorem dX9_path_45 : decode cX9_path 45 = .ok (.ifCond .eq 32, 3) := dk_153 0 32 (dk_at dksX9_path_2 0 rfl rfl)
theorem dX9_path_48 : decode cX9_path 48 = .ok (.aload_n 0, 1) := dk_42 (dk_at dksX9_path_2 3 rfl rfl)
theorem dX9_path_49 : decode cX9_path 49 = .ok (.iload_n 3, 1) := dk_29 (dk_at dksX9_path_2 4 rfl rfl)
theorem dX9_path_50 : decode cX9_path 50 = .ok (.aload_n 0, 1) := dk_42 (dk_at dksX9_path_2 5 rfl rfl)
theorem dX9_path_51 : decode cX9_path 51 = .ok (.getfield 27, 3) := dk_180 0 27 (dk_at dksX9_path_2 6 rfl rfl)
theorem dX9_path_54 : decode cX9_path 54 = .ok (.invokevirtual 122, 3) := dk_182 0 122 (dk_at dksX9_path_2 9 rfl rfl)
theorem dX9_path_57 : decode cX9_path 57 = .ok (.ifCond .eq 20, 3) := dk_153 0 20 (dk_at dksX9_path_2 12 rfl rfl)
theorem dX9_path_60 : decode cX9_path 60 = .ok (.aload_n 0, 1) := dk_42 (dk_at dksX9_path_2 15 rfl rfl)
theorem dX9_path_61 : decode cX9_path 61 = .ok (.iload_n 1, 1) := dk_27 (dk_at dksX9_path_2 16 rfl rfl)
theorem dX9_path_62 : decode cX9_path 62 = .ok (.iconst 1, 1) := dk_4 (dk_at dksX9_path_2 17 rfl rfl)
theorem dX9_path_63 : decode cX9_path 63 = .ok (.isub, 1) := dk_100 (dk_at dksX9_path_2 18 rfl rfl)
theorem dX9_path_64 : decode cX9_path 64 = .ok (.iload_n 3, 1) := dk_29 (dk_at dksX9_path_2 19 rfl rfl)
theorem dX9_path_65 : decode cX9_path 65 = .ok (.invokevirtual 87, 3) := dk_182 0 87 (dk_at dksX9_path_2 20 rfl rfl)
theorem dX9_path_68 : decode cX9_path 68 = .ok (.ifCond .eq 9, 3) := dk_153 0 9 (dk_at dksX9_path_3 0 rfl rfl)
theorem dX9_path_71 : decode cX9_path 71 = .ok (.lconst 1, 1) := dk_10 (dk_at dksX9_path_3 3 rfl rfl)
theorem dX9_path_72 : decode cX9_path 72 = .ok (.iload_n 3, 1) := dk_29 (dk_at dksX9_path_3 4 rfl rfl)
theorem dX9_path_73 : decode cX9_path 73 = .ok (.lshl, 1) := dk_121 (dk_at dksX9_path_3 5 rfl rfl)
theorem dX9_path_74 : decode cX9_path 74 = .ok (.goto 4, 3) := dk_167 0 4 (dk_at dksX9_path_3 6 rfl rfl)
theorem dX9_path_77 : decode cX9_path 77 = .ok (.lconst 0, 1) := dk_9 (dk_at dksX9_path_3 9 rfl rfl)
theorem dX9_path_78 : decode cX9_path 78 = .ok (.lor, 1) := dk_129 (dk_at dksX9_path_3 10 rfl rfl)
theorem dX9_path_79 : decode cX9_path 79 = .ok (.lastore, 1) := dk_80 (dk_at dksX9_path_3 11 rfl rfl)
theorem dX9_path_80 : decode cX9_path 80 = .ok (.iinc 3 1, 3) := dk_132 3 1 (dk_at dksX9_path_3 12 rfl rfl)
theorem dX9_path_83 : decode cX9_path 83 = .ok (.goto (-63), 3) := dk_167 255 193 (dk_at dksX9_path_3 15 rfl rfl)
theorem dX9_path_86 : decode cX9_path 86 = .ok (.aload_n 2, 1) := dk_44 (dk_at dksX9_path_3 18 rfl rfl)
theorem dX9_path_87 : decode cX9_path 87 = .ok (.iload_n 1, 1) := dk_27 (dk_at dksX9_path_3 19 rfl rfl)
theorem dX9_path_88 : decode cX9_path 88 = .ok (.lconst 1, 1) := dk_10 (dk_at dksX9_path_3 20 rfl rfl)
theorem dX9_path_89 : decode cX9_path 89 = .ok (.aload_n 0, 1) := dk_42 (dk_at dksX9_path_3 21 rfl rfl)
theorem dX9_path_90 : decode cX9_path 90 = .ok (.getfield 27, 3) := dk_180 0 27 (dk_at dksX9_path_4 0 rfl rfl)
theorem dX9_path_93 : decode cX9_path 93 = .ok (.lshl, 1) := dk_121 (dk_at dksX9_path_4 3 rfl rfl)
theorem dX9_path_94 : decode cX9_path 94 = .ok (.lastore, 1) := dk_80 (dk_at dksX9_path_4 4 rfl rfl)
theorem dX9_path_95 : decode cX9_path 95 = .ok (.iload_n 1, 1) := dk_27 (dk_at dksX9_path_4 5 rfl rfl)
theorem dX9_path_96 : decode cX9_path 96 = .ok (.iconst 2, 1) := dk_5 (dk_at dksX9_path_4 6 rfl rfl)
theorem dX9_path_97 : decode cX9_path 97 = .ok (.isub, 1) := dk_100 (dk_at dksX9_path_4 7 rfl rfl)
theorem dX9_path_98 : decode cX9_path 98 = .ok (.istore_n 3, 1) := dk_62 (dk_at dksX9_path_4 8 rfl rfl)
theorem dX9_path_99 : decode cX9_path 99 = .ok (.iload_n 3, 1) := dk_29 (dk_at dksX9_path_4 9 rfl rfl)
theorem dX9_path_100 : decode cX9_path 100 = .ok (.ifCond .lt 70, 3) := dk_155 0 70 (dk_at dksX9_path_4 10 rfl rfl)
theorem dX9_path_103 : decode cX9_path 103 = .ok (.iconst 0, 1) := dk_3 (dk_at dksX9_path_4 13 rfl rfl)
theorem dX9_path_104 : decode cX9_path 104 = .ok (.istore 4, 2) := dk_54 4 (dk_at dksX9_path_4 14 rfl rfl)
theorem dX9_path_106 : decode cX9_path 106 = .ok (.iload 4, 2) := dk_21 4 (dk_at dksX9_path_4 16 rfl rfl)
theorem dX9_path_108 : decode cX9_path 108 = .ok (.aload_n 0, 1) := dk_42 (dk_at dksX9_path_4 18 rfl rfl)
theorem dX9_path_109 : decode cX9_path 109 = .ok (.getfield 19, 3) := dk_180 0 19 (dk_at dksX9_path_4 19 rfl rfl)
theorem dX9_path_112 : decode cX9_path 112 = .ok (.invokevirtual 79, 3) := dk_182 0 79 (dk_at dksX9_path_5 0 rfl rfl)
theorem dX9_path_115 : decode cX9_path 115 = .ok (.if_icmp .ge 49, 3) := dk_162 0 49 (dk_at dksX9_path_5 3 rfl rfl)
theorem dX9_path_118 : decode cX9_path 118 = .ok (.aload_n 2, 1) := dk_44 (dk_at dksX9_path_5 6 rfl rfl)
theorem dX9_path_119 : decode cX9_path 119 = .ok (.iload_n 3, 1) := dk_29 (dk_at dksX9_path_5 7 rfl rfl)
theorem dX9_path_120 : decode cX9_path 120 = .ok (.dup2, 1) := dk_92 (dk_at dksX9_path_5 8 rfl rfl)
theorem dX9_path_121 : decode cX9_path 121 = .ok (.laload, 1) := dk_47 (dk_at dksX9_path_5 9 rfl rfl)
theorem dX9_path_122 : decode cX9_path 122 = .ok (.aload_n 0, 1) := dk_42 (dk_at dksX9_path_5 10 rfl rfl)
theorem dX9_path_123 : decode cX9_path 123 = .ok (.iload_n 3, 1) := dk_29 (dk_at dksX9_path_5 11 rfl rfl)
theorem dX9_path_124 : decode cX9_path 124 = .ok (.iload 4, 2) := dk_21 4 (dk_at dksX9_path_5 12 rfl rfl)
theorem dX9_path_126 : decode cX9_path 126 = .ok (.invokevirtual 80, 3) := dk_182 0 80 (dk_at dksX9_path_5 14 rfl rfl)
theorem dX9_path_129 : decode cX9_path 129 = .ok (.ifCond .eq 26, 3) := dk_153 0 26 (dk_at dksX9_path_5 17 rfl rfl)
theorem dX9_path_132 : decode cX9_path 132 = .ok (.aload_n 0, 1) := dk_42 (dk_at dksX9_path_5 20 rfl rfl)
theorem dX9_path_133 : decode cX9_path 133 = .ok (.iload_n 3, 1) := dk_29 (dk_at dksX9_path_5 21 rfl rfl)
theorem dX9_path_134 : decode cX9_path 134 = .ok (.iload 4, 2) := dk_21 4 (dk_at dksX9_path_5 22 rfl rfl)
theorem dX9_path_136 : decode cX9_path 136 = .ok (.aload_n 2, 1) := dk_44 (dk_at dksX9_path_6 0 rfl rfl)
theorem dX9_path_137 : decode cX9_path 137 = .ok (.iload_n 3, 1) := dk_29 (dk_at dksX9_path_6 1 rfl rfl)
theorem dX9_path_138 : decode cX9_path 138 = .ok (.iconst 1, 1) := dk_4 (dk_at dksX9_path_6 2 rfl rfl)
theorem dX9_path_139 : decode cX9_path 139 = .ok (.iadd, 1) := dk_96 (dk_at dksX9_path_6 3 rfl rfl)
theorem dX9_path_140 : decode cX9_path 140 = .ok (.laload, 1) := dk_47 (dk_at dksX9_path_6 4 rfl rfl)
theorem dX9_path_141 : decode cX9_path 141 = .ok (.invokevirtual 125, 3) := dk_182 0 125 (dk_at dksX9_path_6 5 rfl rfl)
theorem dX9_path_144 : decode cX9_path 144 = .ok (.iconst (-1), 1) := dk_2 (dk_at dksX9_path_6 8 rfl rfl)
theorem dX9_path_145 : decode cX9_path 145 = .ok (.if_icmp .eq 10, 3) := dk_159 0 10 (dk_at dksX9_path_6 9 rfl rfl)
theorem dX9_path_148 : decode cX9_path 148 = .ok (.lconst 1, 1) := dk_10 (dk_at dksX9_path_6 12 rfl rfl)
theorem dX9_path_149 : decode cX9_path 149 = .ok (.iload 4, 2) := dk_21 4 (dk_at dksX9_path_6 13 rfl rfl)
theorem dX9_path_151 : decode cX9_path 151 = .ok (.lshl, 1) := dk_121 (dk_at dksX9_path_6 15 rfl rfl)
theorem dX9_path_152 : decode cX9_path 152 = .ok (.goto 4, 3) := dk_167 0 4 (dk_at dksX9_path_6 16 rfl rfl)
theorem dX9_path_155 : decode cX9_path 155 = .ok (.lconst 0, 1) := dk_9 (dk_at dksX9_path_6 19 rfl rfl)
theorem dX9_path_156 : decode cX9_path 156 = .ok (.lor, 1) := dk_129 (dk_at dksX9_path_6 20 rfl rfl)
theorem dX9_path_157 : decode cX9_path 157 = .ok (.lastore, 1) := dk_80 (dk_at dksX9_path_6 21 rfl rfl)
theorem dX9_path_158 : decode cX9_path 158 = .ok (.iinc 4 1, 3) := dk_132 4 1 (dk_at dksX9_path_7 0 rfl rfl)
theorem dX9_path_161 : decode cX9_path 161 = .ok (.goto (-55), 3) := dk_167 255 201 (dk_at dksX9_path_7 3 rfl rfl)
theorem dX9_path_164 : decode cX9_path 164 = .ok (.iinc 3 (-1), 3) := dk_132 3 255 (dk_at dksX9_path_7 6 rfl rfl)
theorem dX9_path_167 : decode cX9_path 167 = .ok (.goto (-68), 3) := dk_167 255 188 (dk_at dksX9_path_7 9 rfl rfl)
theorem dX9_path_170 : decode cX9_path 170 = .ok (.iload_n 1, 1) := dk_27 (dk_at dksX9_path_7 12 rfl rfl)
theorem dX9_path_171 : decode cX9_path 171 = .ok (.newarray .int, 2) := dk_188_10 (dk_at dksX9_path_7 13 rfl rfl)
theorem dX9_path_173 : decode cX9_path 173 = .ok (.astore_n 3, 1) := dk_78 (dk_at dksX9_path_7 15 rfl rfl)
theorem dX9_path_174 : decode cX9_path 174 = .ok (.aload_n 0, 1) := dk_42 (dk_at dksX9_path_7 16 rfl rfl)
theorem dX9_path_175 : decode cX9_path 175 = .ok (.getfield 47, 3) := dk_180 0 47 (dk_at dksX9_path_7 17 rfl rfl)
theorem dX9_path_178 : decode cX9_path 178 = .ok (.istore 4, 2) := dk_54 4 (dk_at dksX9_path_7 20 rfl rfl)
theorem dX9_path_180 : decode cX9_path 180 = .ok (.iconst 0, 1) := dk_3 (dk_at dksX9_path_7 22 rfl rfl)
theorem dX9_path_181 : decode cX9_path 181 = .ok (.istore 5, 2) := dk_54 5 (dk_at dksX9_path_8 0 rfl rfl)
theorem dX9_path_183 : decode cX9_path 183 = .ok (.iload 5, 2) := dk_21 5 (dk_at dksX9_path_8 2 rfl rfl)
theorem dX9_path_185 : decode cX9_path 185 = .ok (.iload_n 1, 1) := dk_27 (dk_at dksX9_path_8 4 rfl rfl)
theorem dX9_path_186 : decode cX9_path 186 = .ok (.if_icmp .ge 31, 3) := dk_162 0 31 (dk_at dksX9_path_8 5 rfl rfl)
theorem dX9_path_189 : decode cX9_path 189 = .ok (.aload_n 0, 1) := dk_42 (dk_at dksX9_path_8 8 rfl rfl)
theorem dX9_path_190 : decode cX9_path 190 = .ok (.iload 5, 2) := dk_21 5 (dk_at dksX9_path_8 9 rfl rfl)
theorem dX9_path_192 : decode cX9_path 192 = .ok (.iload 4, 2) := dk_21 4 (dk_at dksX9_path_8 11 rfl rfl)
theorem dX9_path_194 : decode cX9_path 194 = .ok (.aload_n 2, 1) := dk_44 (dk_at dksX9_path_8 13 rfl rfl)
theorem dX9_path_195 : decode cX9_path 195 = .ok (.iload 5, 2) := dk_21 5 (dk_at dksX9_path_8 14 rfl rfl)
theorem dX9_path_197 : decode cX9_path 197 = .ok (.iconst 1, 1) := dk_4 (dk_at dksX9_path_8 16 rfl rfl)
theorem dX9_path_198 : decode cX9_path 198 = .ok (.iadd, 1) := dk_96 (dk_at dksX9_path_8 17 rfl rfl)
theorem dX9_path_199 : decode cX9_path 199 = .ok (.laload, 1) := dk_47 (dk_at dksX9_path_8 18 rfl rfl)
theorem dX9_path_200 : decode cX9_path 200 = .ok (.invokevirtual 125, 3) := dk_182 0 125 (dk_at dksX9_path_8 19 rfl rfl)
theorem dX9_path_203 : decode cX9_path 203 = .ok (.istore 4, 2) := dk_54 4 (dk_at dksX9_path_8 22 rfl rfl)
theorem dX9_path_205 : decode cX9_path 205 = .ok (.aload_n 3, 1) := dk_45 (dk_at dksX9_path_9 0 rfl rfl)
theorem dX9_path_206 : decode cX9_path 206 = .ok (.iload 5, 2) := dk_21 5 (dk_at dksX9_path_9 1 rfl rfl)
theorem dX9_path_208 : decode cX9_path 208 = .ok (.iload 4, 2) := dk_21 4 (dk_at dksX9_path_9 3 rfl rfl)
theorem dX9_path_210 : decode cX9_path 210 = .ok (.iastore, 1) := dk_79 (dk_at dksX9_path_9 5 rfl rfl)
theorem dX9_path_211 : decode cX9_path 211 = .ok (.iinc 5 1, 3) := dk_132 5 1 (dk_at dksX9_path_9 6 rfl rfl)
theorem dX9_path_214 : decode cX9_path 214 = .ok (.goto (-31), 3) := dk_167 255 225 (dk_at dksX9_path_9 9 rfl rfl)
theorem dX9_path_217 : decode cX9_path 217 = .ok (.aload_n 3, 1) := dk_45 (dk_at dksX9_path_9 12 rfl rfl)
theorem dX9_path_218 : decode cX9_path 218 = .ok (.areturn, 1) := dk_176 (dk_at dksX9_path_9 13 rfl rfl)
abbrev cX9_arrivalByLayers : ByteArray := prog_7_method_9_code
def yX9_arrivalByLayers : MethodName := ⟨RX9, "arrivalByLayers", "()I"⟩
def dkwX9_arrivalByLayers_6 : List UInt8 := [167, 255, 129, 2, 172]
abbrev dktX9_arrivalByLayers_6 : List UInt8 := dkwX9_arrivalByLayers_6 ++ []
def dkwX9_arrivalByLayers_5 : List UInt8 := [121, 167, 0, 4, 9, 129, 80, 132, 3, 1, 167, 255, 173, 132, 2, 1, 167, 255, 154, 132, 1, 1]
abbrev dktX9_arrivalByLayers_5 : List UInt8 := dkwX9_arrivalByLayers_5 ++ dktX9_arrivalByLayers_6
def dkwX9_arrivalByLayers_4 : List UInt8 := [4, 96, 92, 47, 21, 4, 2, 159, 0, 21, 42, 27, 28, 21, 4, 182, 0, 71, 153, 0, 10, 10, 21, 4]
abbrev dktX9_arrivalByLayers_4 : List UInt8 := dkwX9_arrivalByLayers_4 ++ dktX9_arrivalByLayers_5
def dkwX9_arrivalByLayers_3 : List UInt8 := [180, 0, 27, 160, 0, 16, 42, 27, 28, 182, 0, 87, 153, 0, 7, 27, 4, 96, 172, 42, 180, 0, 15, 27]
abbrev dktX9_arrivalByLayers_3 : List UInt8 := dkwX9_arrivalByLayers_3 ++ dktX9_arrivalByLayers_4
def dkwX9_arrivalByLayers_2 : List UInt8 := [7, 163, 0, 84, 42, 27, 28, 182, 0, 80, 153, 0, 75, 42, 28, 29, 182, 0, 84, 54, 4, 21, 4, 42]
abbrev dktX9_arrivalByLayers_2 : List UInt8 := dkwX9_arrivalByLayers_2 ++ dktX9_arrivalByLayers_3
def dkwX9_arrivalByLayers_1 : List UInt8 := [180, 0, 15, 27, 4, 96, 9, 80, 3, 61, 28, 42, 180, 0, 19, 182, 0, 79, 162, 0, 97, 3, 62, 29]
abbrev dktX9_arrivalByLayers_1 : List UInt8 := dkwX9_arrivalByLayers_1 ++ dktX9_arrivalByLayers_2
def dkwX9_arrivalByLayers_0 : List UInt8 := [42, 180, 0, 15, 3, 10, 42, 180, 0, 47, 121, 80, 3, 60, 27, 42, 180, 0, 53, 162, 0, 125, 42]
abbrev dktX9_arrivalByLayers_0 : List UInt8 := dkwX9_arrivalByLayers_0 ++ dktX9_arrivalByLayers_1
theorem dksX9_arrivalByLayers_0 : cX9_arrivalByLayers.data.toList.drop 0 = dktX9_arrivalByLayers_0 := by decide +kernel
theorem dksX9_arrivalByLayers_1 : cX9_arrivalByLayers.data.toList.drop 23 = dktX9_arrivalByLayers_1 := dk_seg dksX9_arrivalByLayers_0 23 rfl rfl
theorem dksX9_arrivalByLayers_2 : cX9_arrivalByLayers.data.toList.drop 47 = dktX9_arrivalByLayers_2 := dk_seg dksX9_arrivalByLayers_1 24 rfl rfl
theorem dksX9_arrivalByLayers_3 : cX9_arrivalByLayers.data.toList.drop 71 = dktX9_arrivalByLayers_3 := dk_seg dksX9_arrivalByLayers_2 24 rfl rfl
theorem dksX9_arrivalByLayers_4 : cX9_arrivalByLayers.data.toList.drop 95 = dktX9_arrivalByLayers_4 := dk_seg dksX9_arrivalByLayers_3 24 rfl rfl
theorem dksX9_arrivalByLayers_5 : cX9_arrivalByLayers.data.toList.drop 119 = dktX9_arrivalByLayers_5 := dk_seg dksX9_arrivalByLayers_4 24 rfl rfl
theorem dksX9_arrivalByLayers_6 : cX9_arrivalByLayers.data.toList.drop 141 = dktX9_arrivalByLayers_6 := dk_seg dksX9_arrivalByLayers_5 22 rfl rfl
theorem dX9_arrivalByLayers_0 : decode cX9_arrivalByLayers 0 = .ok (.aload_n 0, 1) := dk_42 (dk_at dksX9_arrivalByLayers_0 0 rfl rfl)
theorem dX9_arrivalByLayers_1 : decode cX9_arrivalByLayers 1 = .ok (.getfield 15, 3) := dk_180 0 15 (dk_at dksX9_arrivalByLayers_0 1 rfl rfl)
theorem dX9_arrivalByLayers_4 : decode cX9_arrivalByLayers 4 = .ok (.iconst 0, 1) := dk_3 (dk_at dksX9_arrivalByLayers_0 4 rfl rfl)
theorem dX9_arrivalByLayers_5 : decode cX9_arrivalByLayers 5 = .ok (.lconst 1, 1) := dk_10 (dk_at dksX9_arrivalByLayers_0 5 rfl rfl)
theorem dX9_arrivalByLayers_6 : decode cX9_arrivalByLayers 6 = .ok (.aload_n 0, 1) := dk_42 (dk_at dksX9_arrivalByLayers_0 6 rfl rfl)
theorem dX9_arrivalByLayers_7 : decode cX9_arrivalByLayers 7 = .ok (.getfield 47, 3) := dk_180 0 47 (dk_at dksX9_arrivalByLayers_0 7 rfl rfl)
theorem dX9_arrivalByLayers_10 : decode cX9_arrivalByLayers 10 = .ok (.lshl, 1) := dk_121 (dk_at dksX9_arrivalByLayers_0 10 rfl rfl)
theorem dX9_arrivalByLayers_11 : decode cX9_arrivalByLayers 11 = .ok (.lastore, 1) := dk_80 (dk_at dksX9_arrivalByLayers_0 11 rfl rfl)
theorem dX9_arrivalByLayers_12 : decode cX9_arrivalByLayers 12 = .ok (.iconst 0, 1) := dk_3 (dk_at dksX9_arrivalByLayers_0 12 rfl rfl)
theorem dX9_arrivalByLayers_13 : decode cX9_arrivalByLayers 13 = .ok (.istore_n 1, 1) := dk_60 (dk_at dksX9_arrivalByLayers_0 13 rfl rfl)
theorem dX9_arrivalByLayers_14 : decode cX9_arrivalByLayers 14 = .ok (.iload_n 1, 1) := dk_27 (dk_at dksX9_arrivalByLayers_0 14 rfl rfl)
theorem dX9_arrivalByLayers_15 : decode cX9_arrivalByLayers 15 = .ok (.aload_n 0, 1) := dk_42 (dk_at dksX9_arrivalByLayers_0 15 rfl rfl)
theorem dX9_arrivalByLayers_16 : decode cX9_arrivalByLayers 16 = .ok (.getfield 53, 3) := dk_180 0 53 (dk_at dksX9_arrivalByLayers_0 16 rfl rfl)
theorem dX9_arrivalByLayers_19 : decode cX9_arrivalByLayers 19 = .ok (.if_icmp .ge 125, 3) := dk_162 0 125 (dk_at dksX9_arrivalByLayers_0 19 rfl rfl)
theorem dX9_arrivalByLayers_22 : decode cX9_arrivalByLayers 22 = .ok (.aload_n 0, 1) := dk_42 (dk_at dksX9_arrivalByLayers_0 22 rfl rfl)
theorem dX9_arrivalByLayers_23 : decode cX9_arrivalByLayers 23 = .ok (.getfield 15, 3) := dk_180 0 15 (dk_at dksX9_arrivalByLayers_1 0 rfl rfl)
theorem dX9_arrivalByLayers_26 : decode cX9_arrivalByLayers 26 = .ok (.iload_n 1, 1) := dk_27 (dk_at dksX9_arrivalByLayers_1 3 rfl rfl)
theorem dX9_arrivalByLayers_27 : decode cX9_arrivalByLayers 27 = .ok (.iconst 1, 1) := dk_4 (dk_at dksX9_arrivalByLayers_1 4 rfl rfl)
theorem dX9_arrivalByLayers_28 : decode cX9_arrivalByLayers 28 = .ok (.iadd, 1) := dk_96 (dk_at dksX9_arrivalByLayers_1 5 rfl rfl)
theorem dX9_arrivalByLayers_29 : decode cX9_arrivalByLayers 29 = .ok (.lconst 0, 1) := dk_9 (dk_at dksX9_arrivalByLayers_1 6 rfl rfl)
theorem dX9_arrivalByLayers_30 : decode cX9_arrivalByLayers 30 = .ok (.lastore, 1) := dk_80 (dk_at dksX9_arrivalByLayers_1 7 rfl rfl)
theorem dX9_arrivalByLayers_31 : decode cX9_arrivalByLayers 31 = .ok (.iconst 0, 1) := dk_3 (dk_at dksX9_arrivalByLayers_1 8 rfl rfl)
theorem dX9_arrivalByLayers_32 : decode cX9_arrivalByLayers 32 = .ok (.istore_n 2, 1) := dk_61 (dk_at dksX9_arrivalByLayers_1 9 rfl rfl)
theorem dX9_arrivalByLayers_33 : decode cX9_arrivalByLayers 33 = .ok (.iload_n 2, 1) := dk_28 (dk_at dksX9_arrivalByLayers_1 10 rfl rfl)
theorem dX9_arrivalByLayers_34 : decode cX9_arrivalByLayers 34 = .ok (.aload_n 0, 1) := dk_42 (dk_at dksX9_arrivalByLayers_1 11 rfl rfl)
theorem dX9_arrivalByLayers_35 : decode cX9_arrivalByLayers 35 = .ok (.getfield 19, 3) := dk_180 0 19 (dk_at dksX9_arrivalByLayers_1 12 rfl rfl)
theorem dX9_arrivalByLayers_38 : decode cX9_arrivalByLayers 38 = .ok (.invokevirtual 79, 3) := dk_182 0 79 (dk_at dksX9_arrivalByLayers_1 15 rfl rfl)
theorem dX9_arrivalByLayers_41 : decode cX9_arrivalByLayers 41 = .ok (.if_icmp .ge 97, 3) := dk_162 0 97 (dk_at dksX9_arrivalByLayers_1 18 rfl rfl)
theorem dX9_arrivalByLayers_44 : decode cX9_arrivalByLayers 44 = .ok (.iconst 0, 1) := dk_3 (dk_at dksX9_arrivalByLayers_1 21 rfl rfl)
theorem dX9_arrivalByLayers_45 : decode cX9_arrivalByLayers 45 = .ok (.istore_n 3, 1) := dk_62 (dk_at dksX9_arrivalByLayers_1 22 rfl rfl)
theorem dX9_arrivalByLayers_46 : decode cX9_arrivalByLayers 46 = .ok (.iload_n 3, 1) := dk_29 (dk_at dksX9_arrivalByLayers_1 23 rfl rfl)
theorem dX9_arrivalByLayers_47 : decode cX9_arrivalByLayers 47 = .ok (.iconst 4, 1) := dk_7 (dk_at dksX9_arrivalByLayers_2 0 rfl rfl)
theorem dX9_arrivalByLayers_48 : decode cX9_arrivalByLayers 48 = .ok (.if_icmp .gt 84, 3) := dk_163 0 84 (dk_at dksX9_arrivalByLayers_2 1 rfl rfl)
theorem dX9_arrivalByLayers_51 : decode cX9_arrivalByLayers 51 = .ok (.aload_n 0, 1) := dk_42 (dk_at dksX9_arrivalByLayers_2 4 rfl rfl)
theorem dX9_arrivalByLayers_52 : decode cX9_arrivalByLayers 52 = .ok (.iload_n 1, 1) := dk_27 (dk_at dksX9_arrivalByLayers_2 5 rfl rfl)
theorem dX9_arrivalByLayers_53 : decode cX9_arrivalByLayers 53 = .ok (.iload_n 2, 1) := dk_28 (dk_at dksX9_arrivalByLayers_2 6 rfl rfl)
theorem dX9_arrivalByLayers_54 : decode cX9_arrivalByLayers 54 = .ok (.invokevirtual 80, 3) := dk_182 0 80 (dk_at dksX9_arrivalByLayers_2 7 rfl rfl)
theorem dX9_arrivalByLayers_57 : decode cX9_arrivalByLayers 57 = .ok (.ifCond .eq 75, 3) := dk_153 0 75 (dk_at dksX9_arrivalByLayers_2 10 rfl rfl)
theorem dX9_arrivalByLayers_60 : decode cX9_arrivalByLayers 60 = .ok (.aload_n 0, 1) := dk_42 (dk_at dksX9_arrivalByLayers_2 13 rfl rfl)
theorem dX9_arrivalByLayers_61 : decode cX9_arrivalByLayers 61 = .ok (.iload_n 2, 1) := dk_28 (dk_at dksX9_arrivalByLayers_2 14 rfl rfl)
theorem dX9_arrivalByLayers_62 : decode cX9_arrivalByLayers 62 = .ok (.iload_n 3, 1) := dk_29 (dk_at dksX9_arrivalByLayers_2 15 rfl rfl)
theorem dX9_arrivalByLayers_63 : decode cX9_arrivalByLayers 63 = .ok (.invokevirtual 84, 3) := dk_182 0 84 (dk_at dksX9_arrivalByLayers_2 16 rfl rfl)
theorem dX9_arrivalByLayers_66 : decode cX9_arrivalByLayers 66 = .ok (.istore 4, 2) := dk_54 4 (dk_at dksX9_arrivalByLayers_2 19 rfl rfl)
theorem dX9_arrivalByLayers_68 : decode cX9_arrivalByLayers 68 = .ok (.iload 4, 2) := dk_21 4 (dk_at dksX9_arrivalByLayers_2 21 rfl rfl)
theorem dX9_arrivalByLayers_70 : decode cX9_arrivalByLayers 70 = .ok (.aload_n 0, 1) := dk_42 (dk_at dksX9_arrivalByLayers_2 23 rfl rfl)
theorem dX9_arrivalByLayers_71 : decode cX9_arrivalByLayers 71 = .ok (.getfield 27, 3) := dk_180 0 27 (dk_at dksX9_arrivalByLayers_3 0 rfl rfl)
theorem dX9_arrivalByLayers_74 : decode cX9_arrivalByLayers 74 = .ok (.if_icmp .ne 16, 3) := dk_160 0 16 (dk_at dksX9_arrivalByLayers_3 3 rfl rfl)
theorem dX9_arrivalByLayers_77 : decode cX9_arrivalByLayers 77 = .ok (.aload_n 0, 1) := dk_42 (dk_at dksX9_arrivalByLayers_3 6 rfl rfl)
theorem dX9_arrivalByLayers_78 : decode cX9_arrivalByLayers 78 = .ok (.iload_n 1, 1) := dk_27 (dk_at dksX9_arrivalByLayers_3 7 rfl rfl)
theorem dX9_arrivalByLayers_79 : decode cX9_arrivalByLayers 79 = .ok (.iload_n 2, 1) := dk_28 (dk_at dksX9_arrivalByLayers_3 8 rfl rfl)
theorem dX9_arrivalByLayers_80 : decode cX9_arrivalByLayers 80 = .ok (.invokevirtual 87, 3) := dk_182 0 87 (dk_at dksX9_arrivalByLayers_3 9 rfl rfl)
theorem dX9_arrivalByLayers_83 : decode cX9_arrivalByLayers 83 = .ok (.ifCond .eq 7, 3) := dk_153 0 7 (dk_at dksX9_arrivalByLayers_3 12 rfl rfl)
theorem dX9_arrivalByLayers_86 : decode cX9_arrivalByLayers 86 = .ok (.iload_n 1, 1) := dk_27 (dk_at dksX9_arrivalByLayers_3 15 rfl rfl)
theorem dX9_arrivalByLayers_87 : decode cX9_arrivalByLayers 87 = .ok (.iconst 1, 1) := dk_4 (dk_at dksX9_arrivalByLayers_3 16 rfl rfl)
theorem dX9_arrivalByLayers_88 : decode cX9_arrivalByLayers 88 = .ok (.iadd, 1) := dk_96 (dk_at dksX9_arrivalByLayers_3 17 rfl rfl)
theorem dX9_arrivalByLayers_89 : decode cX9_arrivalByLayers 89 = .ok (.ireturn, 1) := dk_172 (dk_at dksX9_arrivalByLayers_3 18 rfl rfl)
theorem dX9_arrivalByLayers_90 : decode cX9_arrivalByLayers 90 = .ok (.aload_n 0, 1) := dk_42 (dk_at dksX9_arrivalByLayers_3 19 rfl rfl)
theorem dX9_arrivalByLayers_91 : decode cX9_arrivalByLayers 91 = .ok (.getfield 15, 3) := dk_180 0 15 (dk_at dksX9_arrivalByLayers_3 20 rfl rfl)
theorem dX9_arrivalByLayers_94 : decode cX9_arrivalByLayers 94 = .ok (.iload_n 1, 1) := dk_27 (dk_at dksX9_arrivalByLayers_3 23 rfl rfl)
theorem dX9_arrivalByLayers_95 : decode cX9_arrivalByLayers 95 = .ok (.iconst 1, 1) := dk_4 (dk_at dksX9_arrivalByLayers_4 0 rfl rfl)
theorem dX9_arrivalByLayers_96 : decode cX9_arrivalByLayers 96 = .ok (.iadd, 1) := dk_96 (dk_at dksX9_arrivalByLayers_4 1 rfl rfl)
theorem dX9_arrivalByLayers_97 : decode cX9_arrivalByLayers 97 = .ok (.dup2, 1) := dk_92 (dk_at dksX9_arrivalByLayers_4 2 rfl rfl)
theorem dX9_arrivalByLayers_98 : decode cX9_arrivalByLayers 98 = .ok (.laload, 1) := dk_47 (dk_at dksX9_arrivalByLayers_4 3 rfl rfl)
theorem dX9_arrivalByLayers_99 : decode cX9_arrivalByLayers 99 = .ok (.iload 4, 2) := dk_21 4 (dk_at dksX9_arrivalByLayers_4 4 rfl rfl)
theorem dX9_arrivalByLayers_101 : decode cX9_arrivalByLayers 101 = .ok (.iconst (-1), 1) := dk_2 (dk_at dksX9_arrivalByLayers_4 6 rfl rfl)
theorem dX9_arrivalByLayers_102 : decode cX9_arrivalByLayers 102 = .ok (.if_icmp .eq 21, 3) := dk_159 0 21 (dk_at dksX9_arrivalByLayers_4 7 rfl rfl)
theorem dX9_arrivalByLayers_105 : decode cX9_arrivalByLayers 105 = .ok (.aload_n 0, 1) := dk_42 (dk_at dksX9_arrivalByLayers_4 10 rfl rfl)
theorem dX9_arrivalByLayers_106 : decode cX9_arrivalByLayers 106 = .ok (.iload_n 1, 1) := dk_27 (dk_at dksX9_arrivalByLayers_4 11 rfl rfl)
theorem dX9_arrivalByLayers_107 : decode cX9_arrivalByLayers 107 = .ok (.iload_n 2, 1) := dk_28 (dk_at dksX9_arrivalByLayers_4 12 rfl rfl)
theorem dX9_arrivalByLayers_108 : decode cX9_arrivalByLayers 108 = .ok (.iload 4, 2) := dk_21 4 (dk_at dksX9_arrivalByLayers_4 13 rfl rfl)
theorem dX9_arrivalByLayers_110 : decode cX9_arrivalByLayers 110 = .ok (.invokevirtual 71, 3) := dk_182 0 71 (dk_at dksX9_arrivalByLayers_4 15 rfl rfl)
theorem dX9_arrivalByLayers_113 : decode cX9_arrivalByLayers 113 = .ok (.ifCond .eq 10, 3) := dk_153 0 10 (dk_at dksX9_arrivalByLayers_4 18 rfl rfl)
theorem dX9_arrivalByLayers_116 : decode cX9_arrivalByLayers 116 = .ok (.lconst 1, 1) := dk_10 (dk_at dksX9_arrivalByLayers_4 21 rfl rfl)
theorem dX9_arrivalByLayers_117 : decode cX9_arrivalByLayers 117 = .ok (.iload 4, 2) := dk_21 4 (dk_at dksX9_arrivalByLayers_4 22 rfl rfl)
theorem dX9_arrivalByLayers_119 : decode cX9_arrivalByLayers 119 = .ok (.lshl, 1) := dk_121 (dk_at dksX9_arrivalByLayers_5 0 rfl rfl)
theorem dX9_arrivalByLayers_120 : decode cX9_arrivalByLayers 120 = .ok (.goto 4, 3) := dk_167 0 4 (dk_at dksX9_arrivalByLayers_5 1 rfl rfl)
theorem dX9_arrivalByLayers_123 : decode cX9_arrivalByLayers 123 = .ok (.lconst 0, 1) := dk_9 (dk_at dksX9_arrivalByLayers_5 4 rfl rfl)
theorem dX9_arrivalByLayers_124 : decode cX9_arrivalByLayers 124 = .ok (.lor, 1) := dk_129 (dk_at dksX9_arrivalByLayers_5 5 rfl rfl)
theorem dX9_arrivalByLayers_125 : decode cX9_arrivalByLayers 125 = .ok (.lastore, 1) := dk_80 (dk_at dksX9_arrivalByLayers_5 6 rfl rfl)
theorem dX9_arrivalByLayers_126 : decode cX9_arrivalByLayers 126 = .ok (.iinc 3 1, 3) := dk_132 3 1 (dk_at dksX9_arrivalByLayers_5 7 rfl rfl)
theorem dX9_arrivalByLayers_129 : decode cX9_arrivalByLayers 129 = .ok (.goto (-83), 3) := dk_167 255 173 (dk_at dksX9_arrivalByLayers_5 10 rfl rfl)
theorem dX9_arrivalByLayers_132 : decode cX9_arrivalByLayers 132 = .ok (.iinc 2 1, 3) := dk_132 2 1 (dk_at dksX9_arrivalByLayers_5 13 rfl rfl)
theorem dX9_arrivalByLayers_135 : decode cX9_arrivalByLayers 135 = .ok (.goto (-102), 3) := dk_167 255 154 (dk_at dksX9_arrivalByLayers_5 16 rfl rfl)
theorem dX9_arrivalByLayers_138 : decode cX9_arrivalByLayers 138 = .ok (.iinc 1 1, 3) := dk_132 1 1 (dk_at dksX9_arrivalByLayers_5 19 rfl rfl)
theorem dX9_arrivalByLayers_141 : decode cX9_arrivalByLayers 141 = .ok (.goto (-127), 3) := dk_167 255 129 (dk_at dksX9_arrivalByLayers_6 0 rfl rfl)
theorem dX9_arrivalByLayers_144 : decode cX9_arrivalByLayers 144 = .ok (.iconst (-1), 1) := dk_2 (dk_at dksX9_arrivalByLayers_6 3 rfl rfl)
theorem dX9_arrivalByLayers_145 : decode cX9_arrivalByLayers 145 = .ok (.ireturn, 1) := dk_172 (dk_at dksX9_arrivalByLayers_6 4 rfl rfl)
abbrev cX9_isReached : ByteArray := prog_7_method_6_code
def yX9_isReached : MethodName := ⟨RX9, "isReached", "(II)Z"⟩
def dkwX9_isReached_0 : List UInt8 := [42, 180, 0, 15, 27, 47, 28, 123, 10, 127, 10, 148, 154, 0, 7, 4, 167, 0, 4, 3, 172]
abbrev dktX9_isReached_0 : List UInt8 := dkwX9_isReached_0 ++ []
theorem dksX9_isReached_0 : cX9_isReached.data.toList.drop 0 = dktX9_isReached_0 := by decide +kernel
theorem dX9_isReached_0 : decode cX9_isReached 0 = .ok (.aload_n 0, 1) := dk_42 (dk_at dksX9_isReached_0 0 rfl rfl)
theorem dX9_isReached_1 : decode cX9_isReached 1 = .ok (.getfield 15, 3) := dk_180 0 15 (dk_at dksX9_isReached_0 1 rfl rfl)
theorem dX9_isReached_4 : decode cX9_isReached 4 = .ok (.iload_n 1, 1) := dk_27 (dk_at dksX9_isReached_0 4 rfl rfl)
theorem dX9_isReached_5 : decode cX9_isReached 5 = .ok (.laload, 1) := dk_47 (dk_at dksX9_isReached_0 5 rfl rfl)
theorem dX9_isReached_6 : decode cX9_isReached 6 = .ok (.iload_n 2, 1) := dk_28 (dk_at dksX9_isReached_0 6 rfl rfl)
theorem dX9_isReached_7 : decode cX9_isReached 7 = .ok (.lshr, 1) := dk_123 (dk_at dksX9_isReached_0 7 rfl rfl)
theorem dX9_isReached_8 : decode cX9_isReached 8 = .ok (.lconst 1, 1) := dk_10 (dk_at dksX9_isReached_0 8 rfl rfl)
theorem dX9_isReached_9 : decode cX9_isReached 9 = .ok (.land, 1) := dk_127 (dk_at dksX9_isReached_0 9 rfl rfl)
theorem dX9_isReached_10 : decode cX9_isReached 10 = .ok (.lconst 1, 1) := dk_10 (dk_at dksX9_isReached_0 10 rfl rfl)
theorem dX9_isReached_11 : decode cX9_isReached 11 = .ok (.lcmp, 1) := dk_148 (dk_at dksX9_isReached_0 11 rfl rfl)
theorem dX9_isReached_12 : decode cX9_isReached 12 = .ok (.ifCond .ne 7, 3) := dk_154 0 7 (dk_at dksX9_isReached_0 12 rfl rfl)
theorem dX9_isReached_15 : decode cX9_isReached 15 = .ok (.iconst 1, 1) := dk_4 (dk_at dksX9_isReached_0 15 rfl rfl)
theorem dX9_isReached_16 : decode cX9_isReached 16 = .ok (.goto 4, 3) := dk_167 0 4 (dk_at dksX9_isReached_0 16 rfl rfl)
theorem dX9_isReached_19 : decode cX9_isReached 19 = .ok (.iconst 0, 1) := dk_3 (dk_at dksX9_isReached_0 19 rfl rfl)
theorem dX9_isReached_20 : decode cX9_isReached 20 = .ok (.ireturn, 1) := dk_172 (dk_at dksX9_isReached_0 20 rfl rfl)
abbrev cX9_cellBy : ByteArray := prog_7_method_5_code
def yX9_cellBy : MethodName := ⟨RX9, "cellBy", "(II)I"⟩
def dkwX9_cellBy_0 : List UInt8 := [28, 7, 160, 0, 7, 27, 167, 0, 12, 42, 180, 0, 19, 27, 28, 182, 0, 68, 172]
abbrev dktX9_cellBy_0 : List UInt8 := dkwX9_cellBy_0 ++ []
theorem dksX9_cellBy_0 : cX9_cellBy.data.toList.drop 0 = dktX9_cellBy_0 := by decide +kernel
theorem dX9_cellBy_0 : decode cX9_cellBy 0 = .ok (.iload_n 2, 1) := dk_28 (dk_at dksX9_cellBy_0 0 rfl rfl)
theorem dX9_cellBy_1 : decode cX9_cellBy 1 = .ok (.iconst 4, 1) := dk_7 (dk_at dksX9_cellBy_0 1 rfl rfl)
theorem dX9_cellBy_2 : decode cX9_cellBy 2 = .ok (.if_icmp .ne 7, 3) := dk_160 0 7 (dk_at dksX9_cellBy_0 2 rfl rfl)
theorem dX9_cellBy_5 : decode cX9_cellBy 5 = .ok (.iload_n 1, 1) := dk_27 (dk_at dksX9_cellBy_0 5 rfl rfl)
theorem dX9_cellBy_6 : decode cX9_cellBy 6 = .ok (.goto 12, 3) := dk_167 0 12 (dk_at dksX9_cellBy_0 6 rfl rfl)
theorem dX9_cellBy_9 : decode cX9_cellBy 9 = .ok (.aload_n 0, 1) := dk_42 (dk_at dksX9_cellBy_0 9 rfl rfl)
theorem dX9_cellBy_10 : decode cX9_cellBy 10 = .ok (.getfield 19, 3) := dk_180 0 19 (dk_at dksX9_cellBy_0 10 rfl rfl)
theorem dX9_cellBy_13 : decode cX9_cellBy 13 = .ok (.iload_n 1, 1) := dk_27 (dk_at dksX9_cellBy_0 13 rfl rfl)
theorem dX9_cellBy_14 : decode cX9_cellBy 14 = .ok (.iload_n 2, 1) := dk_28 (dk_at dksX9_cellBy_0 14 rfl rfl)
theorem dX9_cellBy_15 : decode cX9_cellBy 15 = .ok (.invokevirtual 68, 3) := dk_182 0 68 (dk_at dksX9_cellBy_0 15 rfl rfl)
theorem dX9_cellBy_18 : decode cX9_cellBy 18 = .ok (.ireturn, 1) := dk_172 (dk_at dksX9_cellBy_0 18 rfl rfl)
abbrev cX9_isEnd : ByteArray := prog_7_method_7_code
def yX9_isEnd : MethodName := ⟨RX9, "isEnd", "(II)Z"⟩
def dkwX9_isEnd_1 : List UInt8 := [96, 182, 0, 75, 153, 0, 7, 4, 167, 0, 4, 3, 172]
abbrev dktX9_isEnd_1 : List UInt8 := dkwX9_isEnd_1 ++ []
def dkwX9_isEnd_0 : List UInt8 := [28, 42, 180, 0, 27, 159, 0, 30, 42, 27, 28, 42, 180, 0, 27, 182, 0, 71, 153, 0, 17, 42, 27, 4]
abbrev dktX9_isEnd_0 : List UInt8 := dkwX9_isEnd_0 ++ dktX9_isEnd_1
theorem dksX9_isEnd_0 : cX9_isEnd.data.toList.drop 0 = dktX9_isEnd_0 := by decide +kernel
theorem dksX9_isEnd_1 : cX9_isEnd.data.toList.drop 24 = dktX9_isEnd_1 := dk_seg dksX9_isEnd_0 24 rfl rfl
theorem dX9_isEnd_0 : decode cX9_isEnd 0 = .ok (.iload_n 2, 1) := dk_28 (dk_at dksX9_isEnd_0 0 rfl rfl)
theorem dX9_isEnd_1 : decode cX9_isEnd 1 = .ok (.aload_n 0, 1) := dk_42 (dk_at dksX9_isEnd_0 1 rfl rfl)
theorem dX9_isEnd_2 : decode cX9_isEnd 2 = .ok (.getfield 27, 3) := dk_180 0 27 (dk_at dksX9_isEnd_0 2 rfl rfl)
theorem dX9_isEnd_5 : decode cX9_isEnd 5 = .ok (.if_icmp .eq 30, 3) := dk_159 0 30 (dk_at dksX9_isEnd_0 5 rfl rfl)
theorem dX9_isEnd_8 : decode cX9_isEnd 8 = .ok (.aload_n 0, 1) := dk_42 (dk_at dksX9_isEnd_0 8 rfl rfl)
theorem dX9_isEnd_9 : decode cX9_isEnd 9 = .ok (.iload_n 1, 1) := dk_27 (dk_at dksX9_isEnd_0 9 rfl rfl)
theorem dX9_isEnd_10 : decode cX9_isEnd 10 = .ok (.iload_n 2, 1) := dk_28 (dk_at dksX9_isEnd_0 10 rfl rfl)
theorem dX9_isEnd_11 : decode cX9_isEnd 11 = .ok (.aload_n 0, 1) := dk_42 (dk_at dksX9_isEnd_0 11 rfl rfl)
theorem dX9_isEnd_12 : decode cX9_isEnd 12 = .ok (.getfield 27, 3) := dk_180 0 27 (dk_at dksX9_isEnd_0 12 rfl rfl)
theorem dX9_isEnd_15 : decode cX9_isEnd 15 = .ok (.invokevirtual 71, 3) := dk_182 0 71 (dk_at dksX9_isEnd_0 15 rfl rfl)
theorem dX9_isEnd_18 : decode cX9_isEnd 18 = .ok (.ifCond .eq 17, 3) := dk_153 0 17 (dk_at dksX9_isEnd_0 18 rfl rfl)
theorem dX9_isEnd_21 : decode cX9_isEnd 21 = .ok (.aload_n 0, 1) := dk_42 (dk_at dksX9_isEnd_0 21 rfl rfl)
theorem dX9_isEnd_22 : decode cX9_isEnd 22 = .ok (.iload_n 1, 1) := dk_27 (dk_at dksX9_isEnd_0 22 rfl rfl)
theorem dX9_isEnd_23 : decode cX9_isEnd 23 = .ok (.iconst 1, 1) := dk_4 (dk_at dksX9_isEnd_0 23 rfl rfl)
theorem dX9_isEnd_24 : decode cX9_isEnd 24 = .ok (.iadd, 1) := dk_96 (dk_at dksX9_isEnd_1 0 rfl rfl)
theorem dX9_isEnd_25 : decode cX9_isEnd 25 = .ok (.invokevirtual 75, 3) := dk_182 0 75 (dk_at dksX9_isEnd_1 1 rfl rfl)
theorem dX9_isEnd_28 : decode cX9_isEnd 28 = .ok (.ifCond .eq 7, 3) := dk_153 0 7 (dk_at dksX9_isEnd_1 4 rfl rfl)
theorem dX9_isEnd_31 : decode cX9_isEnd 31 = .ok (.iconst 1, 1) := dk_4 (dk_at dksX9_isEnd_1 7 rfl rfl)
theorem dX9_isEnd_32 : decode cX9_isEnd 32 = .ok (.goto 4, 3) := dk_167 0 4 (dk_at dksX9_isEnd_1 8 rfl rfl)
theorem dX9_isEnd_35 : decode cX9_isEnd 35 = .ok (.iconst 0, 1) := dk_3 (dk_at dksX9_isEnd_1 11 rfl rfl)
theorem dX9_isEnd_36 : decode cX9_isEnd 36 = .ok (.ireturn, 1) := dk_172 (dk_at dksX9_isEnd_1 12 rfl rfl)
abbrev cX9_mayGo : ByteArray := prog_7_method_3_code
def yX9_mayGo : MethodName := ⟨RX9, "mayGo", "(III)Z"⟩
def dkwX9_mayGo_2 : List UInt8 := [167, 0, 4, 3, 172]
abbrev dktX9_mayGo_2 : List UInt8 := dkwX9_mayGo_2 ++ []
def dkwX9_mayGo_1 : List UInt8 := [2, 159, 0, 21, 28, 29, 159, 0, 16, 42, 27, 4, 96, 28, 182, 0, 64, 21, 4, 159, 0, 7, 4]
abbrev dktX9_mayGo_1 : List UInt8 := dkwX9_mayGo_1 ++ dktX9_mayGo_2
def dkwX9_mayGo_0 : List UInt8 := [42, 27, 4, 96, 29, 182, 0, 64, 2, 159, 0, 5, 3, 172, 42, 27, 29, 182, 0, 64, 54, 4, 21, 4]
abbrev dktX9_mayGo_0 : List UInt8 := dkwX9_mayGo_0 ++ dktX9_mayGo_1
theorem dksX9_mayGo_0 : cX9_mayGo.data.toList.drop 0 = dktX9_mayGo_0 := by decide +kernel
theorem dksX9_mayGo_1 : cX9_mayGo.data.toList.drop 24 = dktX9_mayGo_1 := dk_seg dksX9_mayGo_0 24 rfl rfl
theorem dksX9_mayGo_2 : cX9_mayGo.data.toList.drop 47 = dktX9_mayGo_2 := dk_seg dksX9_mayGo_1 23 rfl rfl
theorem dX9_mayGo_0 : decode cX9_mayGo 0 = .ok (.aload_n 0, 1) := dk_42 (dk_at dksX9_mayGo_0 0 rfl rfl)
theorem dX9_mayGo_1 : decode cX9_mayGo 1 = .ok (.iload_n 1, 1) := dk_27 (dk_at dksX9_mayGo_0 1 rfl rfl)
theorem dX9_mayGo_2 : decode cX9_mayGo 2 = .ok (.iconst 1, 1) := dk_4 (dk_at dksX9_mayGo_0 2 rfl rfl)
theorem dX9_mayGo_3 : decode cX9_mayGo 3 = .ok (.iadd, 1) := dk_96 (dk_at dksX9_mayGo_0 3 rfl rfl)
theorem dX9_mayGo_4 : decode cX9_mayGo 4 = .ok (.iload_n 3, 1) := dk_29 (dk_at dksX9_mayGo_0 4 rfl rfl)
theorem dX9_mayGo_5 : decode cX9_mayGo 5 = .ok (.invokevirtual 64, 3) := dk_182 0 64 (dk_at dksX9_mayGo_0 5 rfl rfl)
theorem dX9_mayGo_8 : decode cX9_mayGo 8 = .ok (.iconst (-1), 1) := dk_2 (dk_at dksX9_mayGo_0 8 rfl rfl)
theorem dX9_mayGo_9 : decode cX9_mayGo 9 = .ok (.if_icmp .eq 5, 3) := dk_159 0 5 (dk_at dksX9_mayGo_0 9 rfl rfl)
theorem dX9_mayGo_12 : decode cX9_mayGo 12 = .ok (.iconst 0, 1) := dk_3 (dk_at dksX9_mayGo_0 12 rfl rfl)
theorem dX9_mayGo_13 : decode cX9_mayGo 13 = .ok (.ireturn, 1) := dk_172 (dk_at dksX9_mayGo_0 13 rfl rfl)
theorem dX9_mayGo_14 : decode cX9_mayGo 14 = .ok (.aload_n 0, 1) := dk_42 (dk_at dksX9_mayGo_0 14 rfl rfl)
theorem dX9_mayGo_15 : decode cX9_mayGo 15 = .ok (.iload_n 1, 1) := dk_27 (dk_at dksX9_mayGo_0 15 rfl rfl)
theorem dX9_mayGo_16 : decode cX9_mayGo 16 = .ok (.iload_n 3, 1) := dk_29 (dk_at dksX9_mayGo_0 16 rfl rfl)
theorem dX9_mayGo_17 : decode cX9_mayGo 17 = .ok (.invokevirtual 64, 3) := dk_182 0 64 (dk_at dksX9_mayGo_0 17 rfl rfl)
theorem dX9_mayGo_20 : decode cX9_mayGo 20 = .ok (.istore 4, 2) := dk_54 4 (dk_at dksX9_mayGo_0 20 rfl rfl)
theorem dX9_mayGo_22 : decode cX9_mayGo 22 = .ok (.iload 4, 2) := dk_21 4 (dk_at dksX9_mayGo_0 22 rfl rfl)
theorem dX9_mayGo_24 : decode cX9_mayGo 24 = .ok (.iconst (-1), 1) := dk_2 (dk_at dksX9_mayGo_1 0 rfl rfl)
theorem dX9_mayGo_25 : decode cX9_mayGo 25 = .ok (.if_icmp .eq 21, 3) := dk_159 0 21 (dk_at dksX9_mayGo_1 1 rfl rfl)
theorem dX9_mayGo_28 : decode cX9_mayGo 28 = .ok (.iload_n 2, 1) := dk_28 (dk_at dksX9_mayGo_1 4 rfl rfl)
theorem dX9_mayGo_29 : decode cX9_mayGo 29 = .ok (.iload_n 3, 1) := dk_29 (dk_at dksX9_mayGo_1 5 rfl rfl)
theorem dX9_mayGo_30 : decode cX9_mayGo 30 = .ok (.if_icmp .eq 16, 3) := dk_159 0 16 (dk_at dksX9_mayGo_1 6 rfl rfl)
theorem dX9_mayGo_33 : decode cX9_mayGo 33 = .ok (.aload_n 0, 1) := dk_42 (dk_at dksX9_mayGo_1 9 rfl rfl)
theorem dX9_mayGo_34 : decode cX9_mayGo 34 = .ok (.iload_n 1, 1) := dk_27 (dk_at dksX9_mayGo_1 10 rfl rfl)
theorem dX9_mayGo_35 : decode cX9_mayGo 35 = .ok (.iconst 1, 1) := dk_4 (dk_at dksX9_mayGo_1 11 rfl rfl)
theorem dX9_mayGo_36 : decode cX9_mayGo 36 = .ok (.iadd, 1) := dk_96 (dk_at dksX9_mayGo_1 12 rfl rfl)
theorem dX9_mayGo_37 : decode cX9_mayGo 37 = .ok (.iload_n 2, 1) := dk_28 (dk_at dksX9_mayGo_1 13 rfl rfl)
theorem dX9_mayGo_38 : decode cX9_mayGo 38 = .ok (.invokevirtual 64, 3) := dk_182 0 64 (dk_at dksX9_mayGo_1 14 rfl rfl)
theorem dX9_mayGo_41 : decode cX9_mayGo 41 = .ok (.iload 4, 2) := dk_21 4 (dk_at dksX9_mayGo_1 17 rfl rfl)
theorem dX9_mayGo_43 : decode cX9_mayGo 43 = .ok (.if_icmp .eq 7, 3) := dk_159 0 7 (dk_at dksX9_mayGo_1 19 rfl rfl)
theorem dX9_mayGo_46 : decode cX9_mayGo 46 = .ok (.iconst 1, 1) := dk_4 (dk_at dksX9_mayGo_1 22 rfl rfl)
theorem dX9_mayGo_47 : decode cX9_mayGo 47 = .ok (.goto 4, 3) := dk_167 0 4 (dk_at dksX9_mayGo_2 0 rfl rfl)
theorem dX9_mayGo_50 : decode cX9_mayGo 50 = .ok (.iconst 0, 1) := dk_3 (dk_at dksX9_mayGo_2 3 rfl rfl)
theorem dX9_mayGo_51 : decode cX9_mayGo 51 = .ok (.ireturn, 1) := dk_172 (dk_at dksX9_mayGo_2 4 rfl rfl)
abbrev cX9_robotAt : ByteArray := prog_7_method_2_code
def yX9_robotAt : MethodName := ⟨RX9, "robotAt", "(II)I"⟩
def dkwX9_robotAt_0 : List UInt8 := [42, 180, 0, 9, 16, 64, 27, 104, 28, 96, 46, 4, 100, 172]
abbrev dktX9_robotAt_0 : List UInt8 := dkwX9_robotAt_0 ++ []
theorem dksX9_robotAt_0 : cX9_robotAt.data.toList.drop 0 = dktX9_robotAt_0 := by decide +kernel
theorem dX9_robotAt_0 : decode cX9_robotAt 0 = .ok (.aload_n 0, 1) := dk_42 (dk_at dksX9_robotAt_0 0 rfl rfl)
theorem dX9_robotAt_1 : decode cX9_robotAt 1 = .ok (.getfield 9, 3) := dk_180 0 9 (dk_at dksX9_robotAt_0 1 rfl rfl)
theorem dX9_robotAt_4 : decode cX9_robotAt 4 = .ok (.bipush 64, 2) := dk_16 64 (dk_at dksX9_robotAt_0 4 rfl rfl)
theorem dX9_robotAt_6 : decode cX9_robotAt 6 = .ok (.iload_n 1, 1) := dk_27 (dk_at dksX9_robotAt_0 6 rfl rfl)
theorem dX9_robotAt_7 : decode cX9_robotAt 7 = .ok (.imul, 1) := dk_104 (dk_at dksX9_robotAt_0 7 rfl rfl)
theorem dX9_robotAt_8 : decode cX9_robotAt 8 = .ok (.iload_n 2, 1) := dk_28 (dk_at dksX9_robotAt_0 8 rfl rfl)
theorem dX9_robotAt_9 : decode cX9_robotAt 9 = .ok (.iadd, 1) := dk_96 (dk_at dksX9_robotAt_0 9 rfl rfl)
theorem dX9_robotAt_10 : decode cX9_robotAt 10 = .ok (.iaload, 1) := dk_46 (dk_at dksX9_robotAt_0 10 rfl rfl)
theorem dX9_robotAt_11 : decode cX9_robotAt 11 = .ok (.iconst 1, 1) := dk_4 (dk_at dksX9_robotAt_0 11 rfl rfl)
theorem dX9_robotAt_12 : decode cX9_robotAt 12 = .ok (.isub, 1) := dk_100 (dk_at dksX9_robotAt_0 12 rfl rfl)
theorem dX9_robotAt_13 : decode cX9_robotAt 13 = .ok (.ireturn, 1) := dk_172 (dk_at dksX9_robotAt_0 13 rfl rfl)
abbrev cX9_mayStay : ByteArray := prog_7_method_4_code
def yX9_mayStay : MethodName := ⟨RX9, "mayStay", "(I)Z"⟩
def dkwX9_mayStay_2 : List UInt8 := [167, 0, 4, 3, 172]
abbrev dktX9_mayStay_2 : List UInt8 := dkwX9_mayStay_2 ++ []
def dkwX9_mayStay_1 : List UInt8 := [172, 132, 2, 1, 167, 255, 232, 42, 16, 30, 42, 180, 0, 27, 182, 0, 64, 2, 160, 0, 7, 4]
abbrev dktX9_mayStay_1 : List UInt8 := dkwX9_mayStay_1 ++ dktX9_mayStay_2
def dkwX9_mayStay_0 : List UInt8 := [27, 4, 96, 61, 28, 16, 30, 163, 0, 24, 42, 28, 42, 180, 0, 27, 182, 0, 64, 2, 159, 0, 5, 3]
abbrev dktX9_mayStay_0 : List UInt8 := dkwX9_mayStay_0 ++ dktX9_mayStay_1
theorem dksX9_mayStay_0 : cX9_mayStay.data.toList.drop 0 = dktX9_mayStay_0 := by decide +kernel
theorem dksX9_mayStay_1 : cX9_mayStay.data.toList.drop 24 = dktX9_mayStay_1 := dk_seg dksX9_mayStay_0 24 rfl rfl
theorem dksX9_mayStay_2 : cX9_mayStay.data.toList.drop 46 = dktX9_mayStay_2 := dk_seg dksX9_mayStay_1 22 rfl rfl
theorem dX9_mayStay_0 : decode cX9_mayStay 0 = .ok (.iload_n 1, 1) := dk_27 (dk_at dksX9_mayStay_0 0 rfl rfl)
theorem dX9_mayStay_1 : decode cX9_mayStay 1 = .ok (.iconst 1, 1) := dk_4 (dk_at dksX9_mayStay_0 1 rfl rfl)
theorem dX9_mayStay_2 : decode cX9_mayStay 2 = .ok (.iadd, 1) := dk_96 (dk_at dksX9_mayStay_0 2 rfl rfl)
theorem dX9_mayStay_3 : decode cX9_mayStay 3 = .ok (.istore_n 2, 1) := dk_61 (dk_at dksX9_mayStay_0 3 rfl rfl)
theorem dX9_mayStay_4 : decode cX9_mayStay 4 = .ok (.iload_n 2, 1) := dk_28 (dk_at dksX9_mayStay_0 4 rfl rfl)
theorem dX9_mayStay_5 : decode cX9_mayStay 5 = .ok (.bipush 30, 2) := dk_16 30 (dk_at dksX9_mayStay_0 5 rfl rfl)
theorem dX9_mayStay_7 : decode cX9_mayStay 7 = .ok (.if_icmp .gt 24, 3) := dk_163 0 24 (dk_at dksX9_mayStay_0 7 rfl rfl)
theorem dX9_mayStay_10 : decode cX9_mayStay 10 = .ok (.aload_n 0, 1) := dk_42 (dk_at dksX9_mayStay_0 10 rfl rfl)
theorem dX9_mayStay_11 : decode cX9_mayStay 11 = .ok (.iload_n 2, 1) := dk_28 (dk_at dksX9_mayStay_0 11 rfl rfl)
theorem dX9_mayStay_12 : decode cX9_mayStay 12 = .ok (.aload_n 0, 1) := dk_42 (dk_at dksX9_mayStay_0 12 rfl rfl)
theorem dX9_mayStay_13 : decode cX9_mayStay 13 = .ok (.getfield 27, 3) := dk_180 0 27 (dk_at dksX9_mayStay_0 13 rfl rfl)
theorem dX9_mayStay_16 : decode cX9_mayStay 16 = .ok (.invokevirtual 64, 3) := dk_182 0 64 (dk_at dksX9_mayStay_0 16 rfl rfl)
theorem dX9_mayStay_19 : decode cX9_mayStay 19 = .ok (.iconst (-1), 1) := dk_2 (dk_at dksX9_mayStay_0 19 rfl rfl)
theorem dX9_mayStay_20 : decode cX9_mayStay 20 = .ok (.if_icmp .eq 5, 3) := dk_159 0 5 (dk_at dksX9_mayStay_0 20 rfl rfl)
theorem dX9_mayStay_23 : decode cX9_mayStay 23 = .ok (.iconst 0, 1) := dk_3 (dk_at dksX9_mayStay_0 23 rfl rfl)
theorem dX9_mayStay_24 : decode cX9_mayStay 24 = .ok (.ireturn, 1) := dk_172 (dk_at dksX9_mayStay_1 0 rfl rfl)
theorem dX9_mayStay_25 : decode cX9_mayStay 25 = .ok (.iinc 2 1, 3) := dk_132 2 1 (dk_at dksX9_mayStay_1 1 rfl rfl)
theorem dX9_mayStay_28 : decode cX9_mayStay 28 = .ok (.goto (-24), 3) := dk_167 255 232 (dk_at dksX9_mayStay_1 4 rfl rfl)
theorem dX9_mayStay_31 : decode cX9_mayStay 31 = .ok (.aload_n 0, 1) := dk_42 (dk_at dksX9_mayStay_1 7 rfl rfl)
theorem dX9_mayStay_32 : decode cX9_mayStay 32 = .ok (.bipush 30, 2) := dk_16 30 (dk_at dksX9_mayStay_1 8 rfl rfl)
theorem dX9_mayStay_34 : decode cX9_mayStay 34 = .ok (.aload_n 0, 1) := dk_42 (dk_at dksX9_mayStay_1 10 rfl rfl)
theorem dX9_mayStay_35 : decode cX9_mayStay 35 = .ok (.getfield 27, 3) := dk_180 0 27 (dk_at dksX9_mayStay_1 11 rfl rfl)
theorem dX9_mayStay_38 : decode cX9_mayStay 38 = .ok (.invokevirtual 64, 3) := dk_182 0 64 (dk_at dksX9_mayStay_1 14 rfl rfl)
theorem dX9_mayStay_41 : decode cX9_mayStay 41 = .ok (.iconst (-1), 1) := dk_2 (dk_at dksX9_mayStay_1 17 rfl rfl)
theorem dX9_mayStay_42 : decode cX9_mayStay 42 = .ok (.if_icmp .ne 7, 3) := dk_160 0 7 (dk_at dksX9_mayStay_1 18 rfl rfl)
theorem dX9_mayStay_45 : decode cX9_mayStay 45 = .ok (.iconst 1, 1) := dk_4 (dk_at dksX9_mayStay_1 21 rfl rfl)
theorem dX9_mayStay_46 : decode cX9_mayStay 46 = .ok (.goto 4, 3) := dk_167 0 4 (dk_at dksX9_mayStay_2 0 rfl rfl)
theorem dX9_mayStay_49 : decode cX9_mayStay 49 = .ok (.iconst 0, 1) := dk_3 (dk_at dksX9_mayStay_2 3 rfl rfl)
theorem dX9_mayStay_50 : decode cX9_mayStay 50 = .ok (.ireturn, 1) := dk_172 (dk_at dksX9_mayStay_2 4 rfl rfl)
abbrev cX9_isBeside : ByteArray := prog_7_method_8_code
def yX9_isBeside : MethodName := ⟨RX9, "isBeside", "(II)Z"⟩
def dkwX9_isBeside_1 : List UInt8 := [132, 3, 1, 167, 255, 233, 3, 172]
abbrev dktX9_isBeside_1 : List UInt8 := dkwX9_isBeside_1 ++ []
def dkwX9_isBeside_0 : List UInt8 := [3, 62, 29, 7, 162, 0, 24, 42, 180, 0, 19, 27, 29, 182, 0, 68, 28, 160, 0, 5, 4, 172]
abbrev dktX9_isBeside_0 : List UInt8 := dkwX9_isBeside_0 ++ dktX9_isBeside_1
theorem dksX9_isBeside_0 : cX9_isBeside.data.toList.drop 0 = dktX9_isBeside_0 := by decide +kernel
theorem dksX9_isBeside_1 : cX9_isBeside.data.toList.drop 22 = dktX9_isBeside_1 := dk_seg dksX9_isBeside_0 22 rfl rfl
theorem dX9_isBeside_0 : decode cX9_isBeside 0 = .ok (.iconst 0, 1) := dk_3 (dk_at dksX9_isBeside_0 0 rfl rfl)
theorem dX9_isBeside_1 : decode cX9_isBeside 1 = .ok (.istore_n 3, 1) := dk_62 (dk_at dksX9_isBeside_0 1 rfl rfl)
theorem dX9_isBeside_2 : decode cX9_isBeside 2 = .ok (.iload_n 3, 1) := dk_29 (dk_at dksX9_isBeside_0 2 rfl rfl)
theorem dX9_isBeside_3 : decode cX9_isBeside 3 = .ok (.iconst 4, 1) := dk_7 (dk_at dksX9_isBeside_0 3 rfl rfl)
theorem dX9_isBeside_4 : decode cX9_isBeside 4 = .ok (.if_icmp .ge 24, 3) := dk_162 0 24 (dk_at dksX9_isBeside_0 4 rfl rfl)
theorem dX9_isBeside_7 : decode cX9_isBeside 7 = .ok (.aload_n 0, 1) := dk_42 (dk_at dksX9_isBeside_0 7 rfl rfl)
theorem dX9_isBeside_8 : decode cX9_isBeside 8 = .ok (.getfield 19, 3) := dk_180 0 19 (dk_at dksX9_isBeside_0 8 rfl rfl)
theorem dX9_isBeside_11 : decode cX9_isBeside 11 = .ok (.iload_n 1, 1) := dk_27 (dk_at dksX9_isBeside_0 11 rfl rfl)
theorem dX9_isBeside_12 : decode cX9_isBeside 12 = .ok (.iload_n 3, 1) := dk_29 (dk_at dksX9_isBeside_0 12 rfl rfl)
theorem dX9_isBeside_13 : decode cX9_isBeside 13 = .ok (.invokevirtual 68, 3) := dk_182 0 68 (dk_at dksX9_isBeside_0 13 rfl rfl)
theorem dX9_isBeside_16 : decode cX9_isBeside 16 = .ok (.iload_n 2, 1) := dk_28 (dk_at dksX9_isBeside_0 16 rfl rfl)
theorem dX9_isBeside_17 : decode cX9_isBeside 17 = .ok (.if_icmp .ne 5, 3) := dk_160 0 5 (dk_at dksX9_isBeside_0 17 rfl rfl)
theorem dX9_isBeside_20 : decode cX9_isBeside 20 = .ok (.iconst 1, 1) := dk_4 (dk_at dksX9_isBeside_0 20 rfl rfl)
theorem dX9_isBeside_21 : decode cX9_isBeside 21 = .ok (.ireturn, 1) := dk_172 (dk_at dksX9_isBeside_0 21 rfl rfl)
theorem dX9_isBeside_22 : decode cX9_isBeside 22 = .ok (.iinc 3 1, 3) := dk_132 3 1 (dk_at dksX9_isBeside_1 0 rfl rfl)
theorem dX9_isBeside_25 : decode cX9_isBeside 25 = .ok (.goto (-23), 3) := dk_167 255 233 (dk_at dksX9_isBeside_1 3 rfl rfl)
theorem dX9_isBeside_28 : decode cX9_isBeside 28 = .ok (.iconst 0, 1) := dk_3 (dk_at dksX9_isBeside_1 6 rfl rfl)
theorem dX9_isBeside_29 : decode cX9_isBeside 29 = .ok (.ireturn, 1) := dk_172 (dk_at dksX9_isBeside_1 7 rfl rfl)
abbrev cX9_nextFrom : ByteArray := prog_7_method_12_code
def yX9_nextFrom : MethodName := ⟨RX9, "nextFrom", "(IIJ)I"⟩
def dkwX9_nextFrom_2 : List UInt8 := [172, 132, 5, 1, 167, 255, 207, 2, 172]
abbrev dktX9_nextFrom_2 : List UInt8 := dkwX9_nextFrom_2 ++ []
def dkwX9_nextFrom_1 : List UInt8 := [33, 21, 6, 123, 10, 127, 10, 148, 154, 0, 17, 42, 27, 28, 21, 6, 182, 0, 71, 153, 0, 6, 21, 6]
abbrev dktX9_nextFrom_1 : List UInt8 := dkwX9_nextFrom_1 ++ dktX9_nextFrom_2
def dkwX9_nextFrom_0 : List UInt8 := [3, 54, 5, 21, 5, 7, 163, 0, 49, 42, 28, 21, 5, 182, 0, 84, 54, 6, 21, 6, 2, 159, 0, 28]
abbrev dktX9_nextFrom_0 : List UInt8 := dkwX9_nextFrom_0 ++ dktX9_nextFrom_1
theorem dksX9_nextFrom_0 : cX9_nextFrom.data.toList.drop 0 = dktX9_nextFrom_0 := by decide +kernel
theorem dksX9_nextFrom_1 : cX9_nextFrom.data.toList.drop 24 = dktX9_nextFrom_1 := dk_seg dksX9_nextFrom_0 24 rfl rfl
theorem dksX9_nextFrom_2 : cX9_nextFrom.data.toList.drop 48 = dktX9_nextFrom_2 := dk_seg dksX9_nextFrom_1 24 rfl rfl
theorem dX9_nextFrom_0 : decode cX9_nextFrom 0 = .ok (.iconst 0, 1) := dk_3 (dk_at dksX9_nextFrom_0 0 rfl rfl)
theorem dX9_nextFrom_1 : decode cX9_nextFrom 1 = .ok (.istore 5, 2) := dk_54 5 (dk_at dksX9_nextFrom_0 1 rfl rfl)
theorem dX9_nextFrom_3 : decode cX9_nextFrom 3 = .ok (.iload 5, 2) := dk_21 5 (dk_at dksX9_nextFrom_0 3 rfl rfl)
theorem dX9_nextFrom_5 : decode cX9_nextFrom 5 = .ok (.iconst 4, 1) := dk_7 (dk_at dksX9_nextFrom_0 5 rfl rfl)
theorem dX9_nextFrom_6 : decode cX9_nextFrom 6 = .ok (.if_icmp .gt 49, 3) := dk_163 0 49 (dk_at dksX9_nextFrom_0 6 rfl rfl)
theorem dX9_nextFrom_9 : decode cX9_nextFrom 9 = .ok (.aload_n 0, 1) := dk_42 (dk_at dksX9_nextFrom_0 9 rfl rfl)
theorem dX9_nextFrom_10 : decode cX9_nextFrom 10 = .ok (.iload_n 2, 1) := dk_28 (dk_at dksX9_nextFrom_0 10 rfl rfl)
theorem dX9_nextFrom_11 : decode cX9_nextFrom 11 = .ok (.iload 5, 2) := dk_21 5 (dk_at dksX9_nextFrom_0 11 rfl rfl)
theorem dX9_nextFrom_13 : decode cX9_nextFrom 13 = .ok (.invokevirtual 84, 3) := dk_182 0 84 (dk_at dksX9_nextFrom_0 13 rfl rfl)
theorem dX9_nextFrom_16 : decode cX9_nextFrom 16 = .ok (.istore 6, 2) := dk_54 6 (dk_at dksX9_nextFrom_0 16 rfl rfl)
theorem dX9_nextFrom_18 : decode cX9_nextFrom 18 = .ok (.iload 6, 2) := dk_21 6 (dk_at dksX9_nextFrom_0 18 rfl rfl)
theorem dX9_nextFrom_20 : decode cX9_nextFrom 20 = .ok (.iconst (-1), 1) := dk_2 (dk_at dksX9_nextFrom_0 20 rfl rfl)
theorem dX9_nextFrom_21 : decode cX9_nextFrom 21 = .ok (.if_icmp .eq 28, 3) := dk_159 0 28 (dk_at dksX9_nextFrom_0 21 rfl rfl)
theorem dX9_nextFrom_24 : decode cX9_nextFrom 24 = .ok (.lload_n 3, 1) := dk_33 (dk_at dksX9_nextFrom_1 0 rfl rfl)
theorem dX9_nextFrom_25 : decode cX9_nextFrom 25 = .ok (.iload 6, 2) := dk_21 6 (dk_at dksX9_nextFrom_1 1 rfl rfl)
theorem dX9_nextFrom_27 : decode cX9_nextFrom 27 = .ok (.lshr, 1) := dk_123 (dk_at dksX9_nextFrom_1 3 rfl rfl)
theorem dX9_nextFrom_28 : decode cX9_nextFrom 28 = .ok (.lconst 1, 1) := dk_10 (dk_at dksX9_nextFrom_1 4 rfl rfl)
theorem dX9_nextFrom_29 : decode cX9_nextFrom 29 = .ok (.land, 1) := dk_127 (dk_at dksX9_nextFrom_1 5 rfl rfl)
theorem dX9_nextFrom_30 : decode cX9_nextFrom 30 = .ok (.lconst 1, 1) := dk_10 (dk_at dksX9_nextFrom_1 6 rfl rfl)
theorem dX9_nextFrom_31 : decode cX9_nextFrom 31 = .ok (.lcmp, 1) := dk_148 (dk_at dksX9_nextFrom_1 7 rfl rfl)
theorem dX9_nextFrom_32 : decode cX9_nextFrom 32 = .ok (.ifCond .ne 17, 3) := dk_154 0 17 (dk_at dksX9_nextFrom_1 8 rfl rfl)
theorem dX9_nextFrom_35 : decode cX9_nextFrom 35 = .ok (.aload_n 0, 1) := dk_42 (dk_at dksX9_nextFrom_1 11 rfl rfl)
theorem dX9_nextFrom_36 : decode cX9_nextFrom 36 = .ok (.iload_n 1, 1) := dk_27 (dk_at dksX9_nextFrom_1 12 rfl rfl)
theorem dX9_nextFrom_37 : decode cX9_nextFrom 37 = .ok (.iload_n 2, 1) := dk_28 (dk_at dksX9_nextFrom_1 13 rfl rfl)
theorem dX9_nextFrom_38 : decode cX9_nextFrom 38 = .ok (.iload 6, 2) := dk_21 6 (dk_at dksX9_nextFrom_1 14 rfl rfl)
theorem dX9_nextFrom_40 : decode cX9_nextFrom 40 = .ok (.invokevirtual 71, 3) := dk_182 0 71 (dk_at dksX9_nextFrom_1 16 rfl rfl)
theorem dX9_nextFrom_43 : decode cX9_nextFrom 43 = .ok (.ifCond .eq 6, 3) := dk_153 0 6 (dk_at dksX9_nextFrom_1 19 rfl rfl)
theorem dX9_nextFrom_46 : decode cX9_nextFrom 46 = .ok (.iload 6, 2) := dk_21 6 (dk_at dksX9_nextFrom_1 22 rfl rfl)
theorem dX9_nextFrom_48 : decode cX9_nextFrom 48 = .ok (.ireturn, 1) := dk_172 (dk_at dksX9_nextFrom_2 0 rfl rfl)
theorem dX9_nextFrom_49 : decode cX9_nextFrom 49 = .ok (.iinc 5 1, 3) := dk_132 5 1 (dk_at dksX9_nextFrom_2 1 rfl rfl)
theorem dX9_nextFrom_52 : decode cX9_nextFrom 52 = .ok (.goto (-49), 3) := dk_167 255 207 (dk_at dksX9_nextFrom_2 4 rfl rfl)
theorem dX9_nextFrom_55 : decode cX9_nextFrom 55 = .ok (.iconst (-1), 1) := dk_2 (dk_at dksX9_nextFrom_2 7 rfl rfl)
theorem dX9_nextFrom_56 : decode cX9_nextFrom 56 = .ok (.ireturn, 1) := dk_172 (dk_at dksX9_nextFrom_2 8 rfl rfl)
abbrev cX9_arrival : ByteArray := prog_7_method_10_code
def yX9_arrival : MethodName := ⟨RX9, "arrival", "()I"⟩
def dkwX9_arrival_9 : List UInt8 := [172]
abbrev dktX9_arrival_9 : List UInt8 := dkwX9_arrival_9 ++ []
def dkwX9_arrival_8 : List UInt8 := [180, 0, 115, 4, 96, 21, 5, 183, 0, 100, 182, 0, 103, 87, 132, 4, 1, 167, 255, 105, 167, 255, 84, 2]
abbrev dktX9_arrival_8 : List UInt8 := dkwX9_arrival_8 ++ dktX9_arrival_9
def dkwX9_arrival_7 : List UInt8 := [153, 0, 38, 44, 45, 180, 0, 115, 4, 96, 92, 47, 10, 21, 5, 121, 129, 80, 43, 187, 0, 98, 89, 45]
abbrev dktX9_arrival_7 : List UInt8 := dkwX9_arrival_7 ++ dktX9_arrival_8
def dkwX9_arrival_6 : List UInt8 := [180, 0, 115, 45, 180, 0, 118, 21, 5, 182, 0, 71, 153, 0, 7, 4, 167, 0, 4, 3, 54, 6, 21, 6]
abbrev dktX9_arrival_6 : List UInt8 := dkwX9_arrival_6 ++ dktX9_arrival_7
def dkwX9_arrival_5 : List UInt8 := [2, 159, 0, 42, 44, 45, 180, 0, 115, 4, 96, 47, 21, 5, 123, 10, 127, 9, 148, 154, 0, 24, 42, 45]
abbrev dktX9_arrival_5 : List UInt8 := dkwX9_arrival_5 ++ dktX9_arrival_6
def dkwX9_arrival_4 : List UInt8 := [42, 45, 180, 0, 115, 45, 180, 0, 118, 182, 0, 87, 153, 0, 10, 45, 180, 0, 115, 4, 96, 172, 21, 5]
abbrev dktX9_arrival_4 : List UInt8 := dkwX9_arrival_4 ++ dktX9_arrival_5
def dkwX9_arrival_3 : List UInt8 := [162, 0, 140, 42, 45, 180, 0, 118, 21, 4, 182, 0, 84, 54, 5, 21, 5, 42, 180, 0, 27, 160, 0, 25]
abbrev dktX9_arrival_3 : List UInt8 := dkwX9_arrival_3 ++ dktX9_arrival_4
def dkwX9_arrival_2 : List UInt8 := [182, 0, 111, 192, 0, 98, 78, 3, 54, 4, 21, 4, 7, 163, 0, 151, 45, 180, 0, 115, 42, 180, 0, 53]
abbrev dktX9_arrival_2 : List UInt8 := dkwX9_arrival_2 ++ dktX9_arrival_3
def dkwX9_arrival_1 : List UInt8 := [187, 0, 98, 89, 3, 42, 180, 0, 47, 183, 0, 100, 182, 0, 103, 87, 43, 182, 0, 107, 154, 0, 171, 43]
abbrev dktX9_arrival_1 : List UInt8 := dkwX9_arrival_1 ++ dktX9_arrival_2
def dkwX9_arrival_0 : List UInt8 := [187, 0, 90, 89, 16, 11, 187, 0, 92, 89, 183, 0, 94, 183, 0, 95, 76, 16, 31, 188, 11, 77, 43]
abbrev dktX9_arrival_0 : List UInt8 := dkwX9_arrival_0 ++ dktX9_arrival_1
theorem dksX9_arrival_0 : cX9_arrival.data.toList.drop 0 = dktX9_arrival_0 := by decide +kernel
theorem dksX9_arrival_1 : cX9_arrival.data.toList.drop 23 = dktX9_arrival_1 := dk_seg dksX9_arrival_0 23 rfl rfl
theorem dksX9_arrival_2 : cX9_arrival.data.toList.drop 47 = dktX9_arrival_2 := dk_seg dksX9_arrival_1 24 rfl rfl
theorem dksX9_arrival_3 : cX9_arrival.data.toList.drop 71 = dktX9_arrival_3 := dk_seg dksX9_arrival_2 24 rfl rfl
theorem dksX9_arrival_4 : cX9_arrival.data.toList.drop 95 = dktX9_arrival_4 := dk_seg dksX9_arrival_3 24 rfl rfl
theorem dksX9_arrival_5 : cX9_arrival.data.toList.drop 119 = dktX9_arrival_5 := dk_seg dksX9_arrival_4 24 rfl rfl
theorem dksX9_arrival_6 : cX9_arrival.data.toList.drop 143 = dktX9_arrival_6 := dk_seg dksX9_arrival_5 24 rfl rfl
theorem dksX9_arrival_7 : cX9_arrival.data.toList.drop 167 = dktX9_arrival_7 := dk_seg dksX9_arrival_6 24 rfl rfl
theorem dksX9_arrival_8 : cX9_arrival.data.toList.drop 191 = dktX9_arrival_8 := dk_seg dksX9_arrival_7 24 rfl rfl
theorem dksX9_arrival_9 : cX9_arrival.data.toList.drop 215 = dktX9_arrival_9 := dk_seg dksX9_arrival_8 24 rfl rfl
theorem dX9_arrival_0 : decode cX9_arrival 0 = .ok (.new 90, 3) := dk_187 0 90 (dk_at dksX9_arrival_0 0 rfl rfl)
theorem dX9_arrival_3 : decode cX9_arrival 3 = .ok (.dup, 1) := dk_89 (dk_at dksX9_arrival_0 3 rfl rfl)
theorem dX9_arrival_4 : decode cX9_arrival 4 = .ok (.bipush 11, 2) := dk_16 11 (dk_at dksX9_arrival_0 4 rfl rfl)
theorem dX9_arrival_6 : decode cX9_arrival 6 = .ok (.new 92, 3) := dk_187 0 92 (dk_at dksX9_arrival_0 6 rfl rfl)
theorem dX9_arrival_9 : decode cX9_arrival 9 = .ok (.dup, 1) := dk_89 (dk_at dksX9_arrival_0 9 rfl rfl)
theorem dX9_arrival_10 : decode cX9_arrival 10 = .ok (.invokespecial 94, 3) := dk_183 0 94 (dk_at dksX9_arrival_0 10 rfl rfl)
theorem dX9_arrival_13 : decode cX9_arrival 13 = .ok (.invokespecial 95, 3) := dk_183 0 95 (dk_at dksX9_arrival_0 13 rfl rfl)
theorem dX9_arrival_16 : decode cX9_arrival 16 = .ok (.astore_n 1, 1) := dk_76 (dk_at dksX9_arrival_0 16 rfl rfl)
theorem dX9_arrival_17 : decode cX9_arrival 17 = .ok (.bipush 31, 2) := dk_16 31 (dk_at dksX9_arrival_0 17 rfl rfl)
theorem dX9_arrival_19 : decode cX9_arrival 19 = .ok (.newarray .long, 2) := dk_188_11 (dk_at dksX9_arrival_0 19 rfl rfl)
theorem dX9_arrival_21 : decode cX9_arrival 21 = .ok (.astore_n 2, 1) := dk_77 (dk_at dksX9_arrival_0 21 rfl rfl)
theorem dX9_arrival_22 : decode cX9_arrival 22 = .ok (.aload_n 1, 1) := dk_43 (dk_at dksX9_arrival_0 22 rfl rfl)
theorem dX9_arrival_23 : decode cX9_arrival 23 = .ok (.new 98, 3) := dk_187 0 98 (dk_at dksX9_arrival_1 0 rfl rfl)
theorem dX9_arrival_26 : decode cX9_arrival 26 = .ok (.dup, 1) := dk_89 (dk_at dksX9_arrival_1 3 rfl rfl)
theorem dX9_arrival_27 : decode cX9_arrival 27 = .ok (.iconst 0, 1) := dk_3 (dk_at dksX9_arrival_1 4 rfl rfl)
theorem dX9_arrival_28 : decode cX9_arrival 28 = .ok (.aload_n 0, 1) := dk_42 (dk_at dksX9_arrival_1 5 rfl rfl)
theorem dX9_arrival_29 : decode cX9_arrival 29 = .ok (.getfield 47, 3) := dk_180 0 47 (dk_at dksX9_arrival_1 6 rfl rfl)
theorem dX9_arrival_32 : decode cX9_arrival 32 = .ok (.invokespecial 100, 3) := dk_183 0 100 (dk_at dksX9_arrival_1 9 rfl rfl)
theorem dX9_arrival_35 : decode cX9_arrival 35 = .ok (.invokevirtual 103, 3) := dk_182 0 103 (dk_at dksX9_arrival_1 12 rfl rfl)
theorem dX9_arrival_38 : decode cX9_arrival 38 = .ok (.pop, 1) := dk_87 (dk_at dksX9_arrival_1 15 rfl rfl)
theorem dX9_arrival_39 : decode cX9_arrival 39 = .ok (.aload_n 1, 1) := dk_43 (dk_at dksX9_arrival_1 16 rfl rfl)
theorem dX9_arrival_40 : decode cX9_arrival 40 = .ok (.invokevirtual 107, 3) := dk_182 0 107 (dk_at dksX9_arrival_1 17 rfl rfl)
theorem dX9_arrival_43 : decode cX9_arrival 43 = .ok (.ifCond .ne 171, 3) := dk_154 0 171 (dk_at dksX9_arrival_1 20 rfl rfl)
theorem dX9_arrival_46 : decode cX9_arrival 46 = .ok (.aload_n 1, 1) := dk_43 (dk_at dksX9_arrival_1 23 rfl rfl)
theorem dX9_arrival_47 : decode cX9_arrival 47 = .ok (.invokevirtual 111, 3) := dk_182 0 111 (dk_at dksX9_arrival_2 0 rfl rfl)
theorem dX9_arrival_50 : decode cX9_arrival 50 = .ok (.checkcast 98, 3) := dk_192 0 98 (dk_at dksX9_arrival_2 3 rfl rfl)
theorem dX9_arrival_53 : decode cX9_arrival 53 = .ok (.astore_n 3, 1) := dk_78 (dk_at dksX9_arrival_2 6 rfl rfl)
theorem dX9_arrival_54 : decode cX9_arrival 54 = .ok (.iconst 0, 1) := dk_3 (dk_at dksX9_arrival_2 7 rfl rfl)
theorem dX9_arrival_55 : decode cX9_arrival 55 = .ok (.istore 4, 2) := dk_54 4 (dk_at dksX9_arrival_2 8 rfl rfl)
theorem dX9_arrival_57 : decode cX9_arrival 57 = .ok (.iload 4, 2) := dk_21 4 (dk_at dksX9_arrival_2 10 rfl rfl)
theorem dX9_arrival_59 : decode cX9_arrival 59 = .ok (.iconst 4, 1) := dk_7 (dk_at dksX9_arrival_2 12 rfl rfl)
theorem dX9_arrival_60 : decode cX9_arrival 60 = .ok (.if_icmp .gt 151, 3) := dk_163 0 151 (dk_at dksX9_arrival_2 13 rfl rfl)
theorem dX9_arrival_63 : decode cX9_arrival 63 = .ok (.aload_n 3, 1) := dk_45 (dk_at dksX9_arrival_2 16 rfl rfl)
theorem dX9_arrival_64 : decode cX9_arrival 64 = .ok (.getfield 115, 3) := dk_180 0 115 (dk_at dksX9_arrival_2 17 rfl rfl)
theorem dX9_arrival_67 : decode cX9_arrival 67 = .ok (.aload_n 0, 1) := dk_42 (dk_at dksX9_arrival_2 20 rfl rfl)
theorem dX9_arrival_68 : decode cX9_arrival 68 = .ok (.getfield 53, 3) := dk_180 0 53 (dk_at dksX9_arrival_2 21 rfl rfl)
theorem dX9_arrival_71 : decode cX9_arrival 71 = .ok (.if_icmp .ge 140, 3) := dk_162 0 140 (dk_at dksX9_arrival_3 0 rfl rfl)
theorem dX9_arrival_74 : decode cX9_arrival 74 = .ok (.aload_n 0, 1) := dk_42 (dk_at dksX9_arrival_3 3 rfl rfl)
theorem dX9_arrival_75 : decode cX9_arrival 75 = .ok (.aload_n 3, 1) := dk_45 (dk_at dksX9_arrival_3 4 rfl rfl)
theorem dX9_arrival_76 : decode cX9_arrival 76 = .ok (.getfield 118, 3) := dk_180 0 118 (dk_at dksX9_arrival_3 5 rfl rfl)
theorem dX9_arrival_79 : decode cX9_arrival 79 = .ok (.iload 4, 2) := dk_21 4 (dk_at dksX9_arrival_3 8 rfl rfl)
theorem dX9_arrival_81 : decode cX9_arrival 81 = .ok (.invokevirtual 84, 3) := dk_182 0 84 (dk_at dksX9_arrival_3 10 rfl rfl)
theorem dX9_arrival_84 : decode cX9_arrival 84 = .ok (.istore 5, 2) := dk_54 5 (dk_at dksX9_arrival_3 13 rfl rfl)
theorem dX9_arrival_86 : decode cX9_arrival 86 = .ok (.iload 5, 2) := dk_21 5 (dk_at dksX9_arrival_3 15 rfl rfl)
theorem dX9_arrival_88 : decode cX9_arrival 88 = .ok (.aload_n 0, 1) := dk_42 (dk_at dksX9_arrival_3 17 rfl rfl)
theorem dX9_arrival_89 : decode cX9_arrival 89 = .ok (.getfield 27, 3) := dk_180 0 27 (dk_at dksX9_arrival_3 18 rfl rfl)
theorem dX9_arrival_92 : decode cX9_arrival 92 = .ok (.if_icmp .ne 25, 3) := dk_160 0 25 (dk_at dksX9_arrival_3 21 rfl rfl)
theorem dX9_arrival_95 : decode cX9_arrival 95 = .ok (.aload_n 0, 1) := dk_42 (dk_at dksX9_arrival_4 0 rfl rfl)
theorem dX9_arrival_96 : decode cX9_arrival 96 = .ok (.aload_n 3, 1) := dk_45 (dk_at dksX9_arrival_4 1 rfl rfl)
theorem dX9_arrival_97 : decode cX9_arrival 97 = .ok (.getfield 115, 3) := dk_180 0 115 (dk_at dksX9_arrival_4 2 rfl rfl)
theorem dX9_arrival_100 : decode cX9_arrival 100 = .ok (.aload_n 3, 1) := dk_45 (dk_at dksX9_arrival_4 5 rfl rfl)
theorem dX9_arrival_101 : decode cX9_arrival 101 = .ok (.getfield 118, 3) := dk_180 0 118 (dk_at dksX9_arrival_4 6 rfl rfl)
theorem dX9_arrival_104 : decode cX9_arrival 104 = .ok (.invokevirtual 87, 3) := dk_182 0 87 (dk_at dksX9_arrival_4 9 rfl rfl)
theorem dX9_arrival_107 : decode cX9_arrival 107 = .ok (.ifCond .eq 10, 3) := dk_153 0 10 (dk_at dksX9_arrival_4 12 rfl rfl)
theorem dX9_arrival_110 : decode cX9_arrival 110 = .ok (.aload_n 3, 1) := dk_45 (dk_at dksX9_arrival_4 15 rfl rfl)
theorem dX9_arrival_111 : decode cX9_arrival 111 = .ok (.getfield 115, 3) := dk_180 0 115 (dk_at dksX9_arrival_4 16 rfl rfl)
theorem dX9_arrival_114 : decode cX9_arrival 114 = .ok (.iconst 1, 1) := dk_4 (dk_at dksX9_arrival_4 19 rfl rfl)
theorem dX9_arrival_115 : decode cX9_arrival 115 = .ok (.iadd, 1) := dk_96 (dk_at dksX9_arrival_4 20 rfl rfl)
theorem dX9_arrival_116 : decode cX9_arrival 116 = .ok (.ireturn, 1) := dk_172 (dk_at dksX9_arrival_4 21 rfl rfl)
theorem dX9_arrival_117 : decode cX9_arrival 117 = .ok (.iload 5, 2) := dk_21 5 (dk_at dksX9_arrival_4 22 rfl rfl)
theorem dX9_arrival_119 : decode cX9_arrival 119 = .ok (.iconst (-1), 1) := dk_2 (dk_at dksX9_arrival_5 0 rfl rfl)
theorem dX9_arrival_120 : decode cX9_arrival 120 = .ok (.if_icmp .eq 42, 3) := dk_159 0 42 (dk_at dksX9_arrival_5 1 rfl rfl)
theorem dX9_arrival_123 : decode cX9_arrival 123 = .ok (.aload_n 2, 1) := dk_44 (dk_at dksX9_arrival_5 4 rfl rfl)
theorem dX9_arrival_124 : decode cX9_arrival 124 = .ok (.aload_n 3, 1) := dk_45 (dk_at dksX9_arrival_5 5 rfl rfl)
theorem dX9_arrival_125 : decode cX9_arrival 125 = .ok (.getfield 115, 3) := dk_180 0 115 (dk_at dksX9_arrival_5 6 rfl rfl)
theorem dX9_arrival_128 : decode cX9_arrival 128 = .ok (.iconst 1, 1) := dk_4 (dk_at dksX9_arrival_5 9 rfl rfl)
theorem dX9_arrival_129 : decode cX9_arrival 129 = .ok (.iadd, 1) := dk_96 (dk_at dksX9_arrival_5 10 rfl rfl)
theorem dX9_arrival_130 : decode cX9_arrival 130 = .ok (.laload, 1) := dk_47 (dk_at dksX9_arrival_5 11 rfl rfl)
theorem dX9_arrival_131 : decode cX9_arrival 131 = .ok (.iload 5, 2) := dk_21 5 (dk_at dksX9_arrival_5 12 rfl rfl)
theorem dX9_arrival_133 : decode cX9_arrival 133 = .ok (.lshr, 1) := dk_123 (dk_at dksX9_arrival_5 14 rfl rfl)
theorem dX9_arrival_134 : decode cX9_arrival 134 = .ok (.lconst 1, 1) := dk_10 (dk_at dksX9_arrival_5 15 rfl rfl)
theorem dX9_arrival_135 : decode cX9_arrival 135 = .ok (.land, 1) := dk_127 (dk_at dksX9_arrival_5 16 rfl rfl)
theorem dX9_arrival_136 : decode cX9_arrival 136 = .ok (.lconst 0, 1) := dk_9 (dk_at dksX9_arrival_5 17 rfl rfl)
theorem dX9_arrival_137 : decode cX9_arrival 137 = .ok (.lcmp, 1) := dk_148 (dk_at dksX9_arrival_5 18 rfl rfl)
theorem dX9_arrival_138 : decode cX9_arrival 138 = .ok (.ifCond .ne 24, 3) := dk_154 0 24 (dk_at dksX9_arrival_5 19 rfl rfl)
theorem dX9_arrival_141 : decode cX9_arrival 141 = .ok (.aload_n 0, 1) := dk_42 (dk_at dksX9_arrival_5 22 rfl rfl)
theorem dX9_arrival_142 : decode cX9_arrival 142 = .ok (.aload_n 3, 1) := dk_45 (dk_at dksX9_arrival_5 23 rfl rfl)
theorem dX9_arrival_143 : decode cX9_arrival 143 = .ok (.getfield 115, 3) := dk_180 0 115 (dk_at dksX9_arrival_6 0 rfl rfl)
theorem dX9_arrival_146 : decode cX9_arrival 146 = .ok (.aload_n 3, 1) := dk_45 (dk_at dksX9_arrival_6 3 rfl rfl)
theorem dX9_arrival_147 : decode cX9_arrival 147 = .ok (.getfield 118, 3) := dk_180 0 118 (dk_at dksX9_arrival_6 4 rfl rfl)
theorem dX9_arrival_150 : decode cX9_arrival 150 = .ok (.iload 5, 2) := dk_21 5 (dk_at dksX9_arrival_6 7 rfl rfl)
theorem dX9_arrival_152 : decode cX9_arrival 152 = .ok (.invokevirtual 71, 3) := dk_182 0 71 (dk_at dksX9_arrival_6 9 rfl rfl)
theorem dX9_arrival_155 : decode cX9_arrival 155 = .ok (.ifCond .eq 7, 3) := dk_153 0 7 (dk_at dksX9_arrival_6 12 rfl rfl)
theorem dX9_arrival_158 : decode cX9_arrival 158 = .ok (.iconst 1, 1) := dk_4 (dk_at dksX9_arrival_6 15 rfl rfl)
theorem dX9_arrival_159 : decode cX9_arrival 159 = .ok (.goto 4, 3) := dk_167 0 4 (dk_at dksX9_arrival_6 16 rfl rfl)
theorem dX9_arrival_162 : decode cX9_arrival 162 = .ok (.iconst 0, 1) := dk_3 (dk_at dksX9_arrival_6 19 rfl rfl)
theorem dX9_arrival_163 : decode cX9_arrival 163 = .ok (.istore 6, 2) := dk_54 6 (dk_at dksX9_arrival_6 20 rfl rfl)
theorem dX9_arrival_165 : decode cX9_arrival 165 = .ok (.iload 6, 2) := dk_21 6 (dk_at dksX9_arrival_6 22 rfl rfl)
theorem dX9_arrival_167 : decode cX9_arrival 167 = .ok (.ifCond .eq 38, 3) := dk_153 0 38 (dk_at dksX9_arrival_7 0 rfl rfl)
theorem dX9_arrival_170 : decode cX9_arrival 170 = .ok (.aload_n 2, 1) := dk_44 (dk_at dksX9_arrival_7 3 rfl rfl)
theorem dX9_arrival_171 : decode cX9_arrival 171 = .ok (.aload_n 3, 1) := dk_45 (dk_at dksX9_arrival_7 4 rfl rfl)
theorem dX9_arrival_172 : decode cX9_arrival 172 = .ok (.getfield 115, 3) := dk_180 0 115 (dk_at dksX9_arrival_7 5 rfl rfl)
theorem dX9_arrival_175 : decode cX9_arrival 175 = .ok (.iconst 1, 1) := dk_4 (dk_at dksX9_arrival_7 8 rfl rfl)
theorem dX9_arrival_176 : decode cX9_arrival 176 = .ok (.iadd, 1) := dk_96 (dk_at dksX9_arrival_7 9 rfl rfl)
theorem dX9_arrival_177 : decode cX9_arrival 177 = .ok (.dup2, 1) := dk_92 (dk_at dksX9_arrival_7 10 rfl rfl)
theorem dX9_arrival_178 : decode cX9_arrival 178 = .ok (.laload, 1) := dk_47 (dk_at dksX9_arrival_7 11 rfl rfl)
theorem dX9_arrival_179 : decode cX9_arrival 179 = .ok (.lconst 1, 1) := dk_10 (dk_at dksX9_arrival_7 12 rfl rfl)
theorem dX9_arrival_180 : decode cX9_arrival 180 = .ok (.iload 5, 2) := dk_21 5 (dk_at dksX9_arrival_7 13 rfl rfl)
theorem dX9_arrival_182 : decode cX9_arrival 182 = .ok (.lshl, 1) := dk_121 (dk_at dksX9_arrival_7 15 rfl rfl)
theorem dX9_arrival_183 : decode cX9_arrival 183 = .ok (.lor, 1) := dk_129 (dk_at dksX9_arrival_7 16 rfl rfl)
theorem dX9_arrival_184 : decode cX9_arrival 184 = .ok (.lastore, 1) := dk_80 (dk_at dksX9_arrival_7 17 rfl rfl)
theorem dX9_arrival_185 : decode cX9_arrival 185 = .ok (.aload_n 1, 1) := dk_43 (dk_at dksX9_arrival_7 18 rfl rfl)
theorem dX9_arrival_186 : decode cX9_arrival 186 = .ok (.new 98, 3) := dk_187 0 98 (dk_at dksX9_arrival_7 19 rfl rfl)
theorem dX9_arrival_189 : decode cX9_arrival 189 = .ok (.dup, 1) := dk_89 (dk_at dksX9_arrival_7 22 rfl rfl)
theorem dX9_arrival_190 : decode cX9_arrival 190 = .ok (.aload_n 3, 1) := dk_45 (dk_at dksX9_arrival_7 23 rfl rfl)
theorem dX9_arrival_191 : decode cX9_arrival 191 = .ok (.getfield 115, 3) := dk_180 0 115 (dk_at dksX9_arrival_8 0 rfl rfl)
theorem dX9_arrival_194 : decode cX9_arrival 194 = .ok (.iconst 1, 1) := dk_4 (dk_at dksX9_arrival_8 3 rfl rfl)
theorem dX9_arrival_195 : decode cX9_arrival 195 = .ok (.iadd, 1) := dk_96 (dk_at dksX9_arrival_8 4 rfl rfl)
theorem dX9_arrival_196 : decode cX9_arrival 196 = .ok (.iload 5, 2) := dk_21 5 (dk_at dksX9_arrival_8 5 rfl rfl)
theorem dX9_arrival_198 : decode cX9_arrival 198 = .ok (.invokespecial 100, 3) := dk_183 0 100 (dk_at dksX9_arrival_8 7 rfl rfl)
theorem dX9_arrival_201 : decode cX9_arrival 201 = .ok (.invokevirtual 103, 3) := dk_182 0 103 (dk_at dksX9_arrival_8 10 rfl rfl)
theorem dX9_arrival_204 : decode cX9_arrival 204 = .ok (.pop, 1) := dk_87 (dk_at dksX9_arrival_8 13 rfl rfl)
theorem dX9_arrival_205 : decode cX9_arrival 205 = .ok (.iinc 4 1, 3) := dk_132 4 1 (dk_at dksX9_arrival_8 14 rfl rfl)
theorem dX9_arrival_208 : decode cX9_arrival 208 = .ok (.goto (-151), 3) := dk_167 255 105 (dk_at dksX9_arrival_8 17 rfl rfl)
theorem dX9_arrival_211 : decode cX9_arrival 211 = .ok (.goto (-172), 3) := dk_167 255 84 (dk_at dksX9_arrival_8 20 rfl rfl)
theorem dX9_arrival_214 : decode cX9_arrival 214 = .ok (.iconst (-1), 1) := dk_2 (dk_at dksX9_arrival_8 23 rfl rfl)
theorem dX9_arrival_215 : decode cX9_arrival 215 = .ok (.ireturn, 1) := dk_172 (dk_at dksX9_arrival_9 0 rfl rfl)
theorem q100 : (Jvm.Cond.initialized "RobotAisles$Planner") ∈ lw_all := lw_g (lw_at lw_m1 30 rfl) rfl
theorem q168 : (Jvm.Cond.fieldLinkNest "RobotAisles$Planner" (30 : Nat) "RobotAisles$Core" "robots" "Ljava/util/ArrayList;" "RobotAisles") ∈ lw_tbl := lw_at lw_m1 98 rfl
theorem q173 : (Jvm.Cond.fieldLinkNest "RobotAisles$Planner" (50 : Nat) "RobotAisles$Core" "settings" "[I" "RobotAisles") ∈ lw_tbl := lw_at lw_m1 103 rfl
theorem q271 : (Jvm.Cond.fieldLinkNest "RobotAisles$Planner" (44 : Nat) "RobotAisles$Robot" "cell" "I" "RobotAisles") ∈ lw_tbl := lw_at lw_m1 201 rfl
theorem q342 : (Jvm.Cond.selects "RobotAisles$Planner" ({ cls := "java/lang/Object", name := "getClass", desc := "()Ljava/lang/Class;" } : Jvm.MethodName) ({ cls := "java/lang/Object", name := "getClass", desc := "()Ljava/lang/Class;" } : Jvm.MethodName)) ∈ lw_all := lw_g (lw_at lw_m2 32 rfl) rfl
theorem q907 : (Jvm.Cond.instantiable "RobotAisles$Planner" (7 : Nat)) ∈ lw_all := lw_g (lw_at lw_m4 117 rfl) rfl
theorem q909 : (Jvm.Cond.instanceMethod ({ cls := "RobotAisles$Planner", name := "<init>", desc := "(LRobotAisles$Core;II)V" } : Jvm.MethodName)) ∈ lw_all := lw_g (lw_at lw_m4 119 rfl) rfl
theorem q910 : (Jvm.Cond.code ({ cls := "RobotAisles$Planner", name := "<init>", desc := "(LRobotAisles$Core;II)V" } : Jvm.MethodName) prog_7_method_1_code (6 : Nat) (Option.none : Option Jvm.ClassFile.FieldType)) ∈ lw_all := lw_g (lw_at lw_m4 120 rfl) rfl
theorem q911 : (Jvm.Cond.methodLink "RobotAisles$Planner" (3 : Nat) ({ cls := "java/lang/Object", name := "<init>", desc := "()V" } : Jvm.MethodName)) ∈ lw_all := lw_g (lw_at lw_m4 121 rfl) rfl
theorem q912 : (Jvm.Cond.methodLink "RobotAisles$Planner" (36 : Nat) ({ cls := "java/util/ArrayList", name := "get", desc := "(I)Ljava/lang/Object;" } : Jvm.MethodName)) ∈ lw_all := lw_g (lw_at lw_m4 122 rfl) rfl
theorem q913 : (Jvm.Cond.classLink "RobotAisles$Planner" (42 : Nat) "RobotAisles$Robot") ∈ lw_all := lw_g (lw_at lw_m4 123 rfl) rfl
theorem q914 : (Jvm.Cond.methodLink "RobotAisles$Planner" (56 : Nat) ({ cls := "java/util/ArrayList", name := "size", desc := "()I" } : Jvm.MethodName)) ∈ lw_all := lw_g (lw_at lw_m4 124 rfl) rfl
theorem q915 : (Jvm.Cond.methodLink "RobotAisles$Planner" (60 : Nat) ({ cls := "RobotAisles$Robot", name := "cellAhead", desc := "(I)I" } : Jvm.MethodName)) ∈ lw_all := lw_g (lw_at lw_m4 125 rfl) rfl
theorem q916 : (Jvm.Cond.fieldLink "RobotAisles$Planner" (19 : Nat) "RobotAisles$Planner" "core" "LRobotAisles$Core;") ∈ lw_all := lw_g (lw_at lw_m4 126 rfl) rfl
theorem q917 : (Jvm.Cond.fieldLink "RobotAisles$Planner" (23 : Nat) "RobotAisles$Planner" "robot" "I") ∈ lw_all := lw_g (lw_at lw_m4 127 rfl) rfl
theorem q918 : (Jvm.Cond.fieldLink "RobotAisles$Planner" (47 : Nat) "RobotAisles$Planner" "start" "I") ∈ lw_all := lw_g (lw_at lw_m4 128 rfl) rfl
theorem q919 : (Jvm.Cond.fieldLink "RobotAisles$Planner" (27 : Nat) "RobotAisles$Planner" "goal" "I") ∈ lw_all := lw_g (lw_at lw_m4 129 rfl) rfl
theorem q920 : (Jvm.Cond.fieldLink "RobotAisles$Planner" (53 : Nat) "RobotAisles$Planner" "horizon" "I") ∈ lw_all := lw_g (lw_at lw_m4 130 rfl) rfl
theorem q921 : (Jvm.Cond.fieldLink "RobotAisles$Planner" (9 : Nat) "RobotAisles$Planner" "reserved" "[I") ∈ lw_all := lw_g (lw_at lw_m4 131 rfl) rfl
theorem q922 : (Jvm.Cond.fieldLink "RobotAisles$Planner" (15 : Nat) "RobotAisles$Planner" "reached" "[J") ∈ lw_all := lw_g (lw_at lw_m4 132 rfl) rfl
theorem q923 : (Jvm.Cond.laysFinal "RobotAisles$Planner" "RobotAisles$Planner" "core" "LRobotAisles$Core;") ∈ lw_all := lw_g (lw_at lw_m4 133 rfl) rfl
theorem q924 : (Jvm.Cond.soleField "RobotAisles$Planner" "core") ∈ lw_all := lw_g (lw_at lw_m4 134 rfl) rfl
theorem q925 : (Jvm.Cond.laysFinal "RobotAisles$Planner" "RobotAisles$Planner" "robot" "I") ∈ lw_all := lw_g (lw_at lw_m4 135 rfl) rfl
theorem q926 : (Jvm.Cond.soleField "RobotAisles$Planner" "robot") ∈ lw_all := lw_g (lw_at lw_m4 136 rfl) rfl
theorem q927 : (Jvm.Cond.laysFinal "RobotAisles$Planner" "RobotAisles$Planner" "start" "I") ∈ lw_all := lw_g (lw_at lw_m4 137 rfl) rfl
theorem q928 : (Jvm.Cond.soleField "RobotAisles$Planner" "start") ∈ lw_all := lw_g (lw_at lw_m4 138 rfl) rfl
theorem q929 : (Jvm.Cond.laysFinal "RobotAisles$Planner" "RobotAisles$Planner" "goal" "I") ∈ lw_all := lw_g (lw_at lw_m4 139 rfl) rfl
theorem q930 : (Jvm.Cond.soleField "RobotAisles$Planner" "goal") ∈ lw_all := lw_g (lw_at lw_m4 140 rfl) rfl
theorem q931 : (Jvm.Cond.laysFinal "RobotAisles$Planner" "RobotAisles$Planner" "horizon" "I") ∈ lw_all := lw_g (lw_at lw_m4 141 rfl) rfl
theorem q932 : (Jvm.Cond.soleField "RobotAisles$Planner" "horizon") ∈ lw_all := lw_g (lw_at lw_m4 142 rfl) rfl
theorem q933 : (Jvm.Cond.laysFinal "RobotAisles$Planner" "RobotAisles$Planner" "reserved" "[I") ∈ lw_all := lw_g (lw_at lw_m4 143 rfl) rfl
theorem q934 : (Jvm.Cond.soleField "RobotAisles$Planner" "reserved") ∈ lw_all := lw_g (lw_at lw_m4 144 rfl) rfl
theorem q935 : (Jvm.Cond.laysFinal "RobotAisles$Planner" "RobotAisles$Planner" "reached" "[J") ∈ lw_all := lw_g (lw_at lw_m4 145 rfl) rfl
theorem q936 : (Jvm.Cond.soleField "RobotAisles$Planner" "reached") ∈ lw_all := lw_g (lw_at lw_m4 146 rfl) rfl
theorem q937 : (Jvm.Cond.superclass "RobotAisles$Planner" "java/lang/Object") ∈ lw_all := lw_g (lw_at lw_m4 147 rfl) rfl
theorem q940 : (Jvm.Cond.instanceMethod ({ cls := "RobotAisles$Planner", name := "path", desc := "()[I" } : Jvm.MethodName)) ∈ lw_all := lw_g (lw_at lw_m4 150 rfl) rfl
theorem q941 : (Jvm.Cond.selects "RobotAisles$Planner" ({ cls := "RobotAisles$Planner", name := "path", desc := "()[I" } : Jvm.MethodName) ({ cls := "RobotAisles$Planner", name := "path", desc := "()[I" } : Jvm.MethodName)) ∈ lw_all := lw_g (lw_at lw_m4 151 rfl) rfl
theorem q942 : (Jvm.Cond.code ({ cls := "RobotAisles$Planner", name := "path", desc := "()[I" } : Jvm.MethodName) prog_7_method_11_code (6 : Nat) (Option.some (Jvm.ClassFile.FieldType.array Jvm.ClassFile.FieldType.int))) ∈ lw_all := lw_g (lw_at lw_m4 152 rfl) rfl
theorem q943 : (Jvm.Cond.methodLink "RobotAisles$Planner" (119 : Nat) ({ cls := "RobotAisles$Planner", name := "arrivalByLayers", desc := "()I" } : Jvm.MethodName)) ∈ lw_all := lw_g (lw_at lw_m4 153 rfl) rfl
theorem q944 : (Jvm.Cond.instanceMethod ({ cls := "RobotAisles$Planner", name := "arrivalByLayers", desc := "()I" } : Jvm.MethodName)) ∈ lw_all := lw_g (lw_at lw_m4 154 rfl) rfl
theorem q945 : (Jvm.Cond.selects "RobotAisles$Planner" ({ cls := "RobotAisles$Planner", name := "arrivalByLayers", desc := "()I" } : Jvm.MethodName) ({ cls := "RobotAisles$Planner", name := "arrivalByLayers", desc := "()I" } : Jvm.MethodName)) ∈ lw_all := lw_g (lw_at lw_m4 155 rfl) rfl
theorem q946 : (Jvm.Cond.code ({ cls := "RobotAisles$Planner", name := "arrivalByLayers", desc := "()I" } : Jvm.MethodName) prog_7_method_9_code (5 : Nat) (Option.some Jvm.ClassFile.FieldType.int)) ∈ lw_all := lw_g (lw_at lw_m4 156 rfl) rfl
theorem q947 : (Jvm.Cond.methodLink "RobotAisles$Planner" (79 : Nat) ({ cls := "RobotAisles$Core", name := "size", desc := "()I" } : Jvm.MethodName)) ∈ lw_all := lw_g (lw_at lw_m4 157 rfl) rfl
theorem q948 : (Jvm.Cond.methodLink "RobotAisles$Planner" (80 : Nat) ({ cls := "RobotAisles$Planner", name := "isReached", desc := "(II)Z" } : Jvm.MethodName)) ∈ lw_all := lw_g (lw_at lw_m4 158 rfl) rfl
theorem q949 : (Jvm.Cond.privateMethod ({ cls := "RobotAisles$Planner", name := "isReached", desc := "(II)Z" } : Jvm.MethodName)) ∈ lw_tbl := lw_at lw_m4 159 rfl
theorem q950 : (Jvm.Cond.instanceMethod ({ cls := "RobotAisles$Planner", name := "isReached", desc := "(II)Z" } : Jvm.MethodName)) ∈ lw_all := lw_g (lw_at lw_m4 160 rfl) rfl
theorem q951 : (Jvm.Cond.code ({ cls := "RobotAisles$Planner", name := "isReached", desc := "(II)Z" } : Jvm.MethodName) prog_7_method_6_code (3 : Nat) (Option.some Jvm.ClassFile.FieldType.boolean)) ∈ lw_all := lw_g (lw_at lw_m4 161 rfl) rfl
theorem q952 : (Jvm.Cond.methodLink "RobotAisles$Planner" (84 : Nat) ({ cls := "RobotAisles$Planner", name := "cellBy", desc := "(II)I" } : Jvm.MethodName)) ∈ lw_all := lw_g (lw_at lw_m4 162 rfl) rfl
theorem q953 : (Jvm.Cond.privateMethod ({ cls := "RobotAisles$Planner", name := "cellBy", desc := "(II)I" } : Jvm.MethodName)) ∈ lw_tbl := lw_at lw_m4 163 rfl
theorem q954 : (Jvm.Cond.instanceMethod ({ cls := "RobotAisles$Planner", name := "cellBy", desc := "(II)I" } : Jvm.MethodName)) ∈ lw_all := lw_g (lw_at lw_m4 164 rfl) rfl
theorem q955 : (Jvm.Cond.code ({ cls := "RobotAisles$Planner", name := "cellBy", desc := "(II)I" } : Jvm.MethodName) prog_7_method_5_code (3 : Nat) (Option.some Jvm.ClassFile.FieldType.int)) ∈ lw_all := lw_g (lw_at lw_m4 165 rfl) rfl
theorem q956 : (Jvm.Cond.methodLink "RobotAisles$Planner" (68 : Nat) ({ cls := "RobotAisles$Core", name := "neighbor", desc := "(II)I" } : Jvm.MethodName)) ∈ lw_all := lw_g (lw_at lw_m4 166 rfl) rfl
theorem q960 : (Jvm.Cond.methodLink "RobotAisles$Planner" (87 : Nat) ({ cls := "RobotAisles$Planner", name := "isEnd", desc := "(II)Z" } : Jvm.MethodName)) ∈ lw_all := lw_g (lw_at lw_m4 170 rfl) rfl
theorem q961 : (Jvm.Cond.privateMethod ({ cls := "RobotAisles$Planner", name := "isEnd", desc := "(II)Z" } : Jvm.MethodName)) ∈ lw_tbl := lw_at lw_m4 171 rfl
theorem q962 : (Jvm.Cond.instanceMethod ({ cls := "RobotAisles$Planner", name := "isEnd", desc := "(II)Z" } : Jvm.MethodName)) ∈ lw_all := lw_g (lw_at lw_m4 172 rfl) rfl
theorem q963 : (Jvm.Cond.code ({ cls := "RobotAisles$Planner", name := "isEnd", desc := "(II)Z" } : Jvm.MethodName) prog_7_method_7_code (3 : Nat) (Option.some Jvm.ClassFile.FieldType.boolean)) ∈ lw_all := lw_g (lw_at lw_m4 173 rfl) rfl
theorem q964 : (Jvm.Cond.methodLink "RobotAisles$Planner" (71 : Nat) ({ cls := "RobotAisles$Planner", name := "mayGo", desc := "(III)Z" } : Jvm.MethodName)) ∈ lw_all := lw_g (lw_at lw_m4 174 rfl) rfl
theorem q965 : (Jvm.Cond.privateMethod ({ cls := "RobotAisles$Planner", name := "mayGo", desc := "(III)Z" } : Jvm.MethodName)) ∈ lw_tbl := lw_at lw_m4 175 rfl
theorem q966 : (Jvm.Cond.instanceMethod ({ cls := "RobotAisles$Planner", name := "mayGo", desc := "(III)Z" } : Jvm.MethodName)) ∈ lw_all := lw_g (lw_at lw_m4 176 rfl) rfl
theorem q967 : (Jvm.Cond.code ({ cls := "RobotAisles$Planner", name := "mayGo", desc := "(III)Z" } : Jvm.MethodName) prog_7_method_3_code (5 : Nat) (Option.some Jvm.ClassFile.FieldType.boolean)) ∈ lw_all := lw_g (lw_at lw_m4 177 rfl) rfl
theorem q968 : (Jvm.Cond.methodLink "RobotAisles$Planner" (64 : Nat) ({ cls := "RobotAisles$Planner", name := "robotAt", desc := "(II)I" } : Jvm.MethodName)) ∈ lw_all := lw_g (lw_at lw_m4 178 rfl) rfl
theorem q969 : (Jvm.Cond.privateMethod ({ cls := "RobotAisles$Planner", name := "robotAt", desc := "(II)I" } : Jvm.MethodName)) ∈ lw_tbl := lw_at lw_m4 179 rfl
theorem q970 : (Jvm.Cond.instanceMethod ({ cls := "RobotAisles$Planner", name := "robotAt", desc := "(II)I" } : Jvm.MethodName)) ∈ lw_all := lw_g (lw_at lw_m4 180 rfl) rfl
theorem q971 : (Jvm.Cond.code ({ cls := "RobotAisles$Planner", name := "robotAt", desc := "(II)I" } : Jvm.MethodName) prog_7_method_2_code (3 : Nat) (Option.some Jvm.ClassFile.FieldType.int)) ∈ lw_all := lw_g (lw_at lw_m4 181 rfl) rfl
theorem q972 : (Jvm.Cond.methodLink "RobotAisles$Planner" (75 : Nat) ({ cls := "RobotAisles$Planner", name := "mayStay", desc := "(I)Z" } : Jvm.MethodName)) ∈ lw_all := lw_g (lw_at lw_m4 182 rfl) rfl
theorem q973 : (Jvm.Cond.privateMethod ({ cls := "RobotAisles$Planner", name := "mayStay", desc := "(I)Z" } : Jvm.MethodName)) ∈ lw_tbl := lw_at lw_m4 183 rfl
theorem q974 : (Jvm.Cond.instanceMethod ({ cls := "RobotAisles$Planner", name := "mayStay", desc := "(I)Z" } : Jvm.MethodName)) ∈ lw_all := lw_g (lw_at lw_m4 184 rfl) rfl
theorem q975 : (Jvm.Cond.code ({ cls := "RobotAisles$Planner", name := "mayStay", desc := "(I)Z" } : Jvm.MethodName) prog_7_method_4_code (3 : Nat) (Option.some Jvm.ClassFile.FieldType.boolean)) ∈ lw_all := lw_g (lw_at lw_m4 185 rfl) rfl
theorem q976 : (Jvm.Cond.methodLink "RobotAisles$Planner" (122 : Nat) ({ cls := "RobotAisles$Planner", name := "isBeside", desc := "(II)Z" } : Jvm.MethodName)) ∈ lw_all := lw_g (lw_at lw_m4 186 rfl) rfl
theorem q977 : (Jvm.Cond.privateMethod ({ cls := "RobotAisles$Planner", name := "isBeside", desc := "(II)Z" } : Jvm.MethodName)) ∈ lw_tbl := lw_at lw_m4 187 rfl
theorem q978 : (Jvm.Cond.instanceMethod ({ cls := "RobotAisles$Planner", name := "isBeside", desc := "(II)Z" } : Jvm.MethodName)) ∈ lw_all := lw_g (lw_at lw_m4 188 rfl) rfl
theorem q979 : (Jvm.Cond.code ({ cls := "RobotAisles$Planner", name := "isBeside", desc := "(II)Z" } : Jvm.MethodName) prog_7_method_8_code (4 : Nat) (Option.some Jvm.ClassFile.FieldType.boolean)) ∈ lw_all := lw_g (lw_at lw_m4 189 rfl) rfl
theorem q980 : (Jvm.Cond.methodLink "RobotAisles$Planner" (125 : Nat) ({ cls := "RobotAisles$Planner", name := "nextFrom", desc := "(IIJ)I" } : Jvm.MethodName)) ∈ lw_all := lw_g (lw_at lw_m4 190 rfl) rfl
theorem q981 : (Jvm.Cond.privateMethod ({ cls := "RobotAisles$Planner", name := "nextFrom", desc := "(IIJ)I" } : Jvm.MethodName)) ∈ lw_tbl := lw_at lw_m4 191 rfl
theorem q982 : (Jvm.Cond.instanceMethod ({ cls := "RobotAisles$Planner", name := "nextFrom", desc := "(IIJ)I" } : Jvm.MethodName)) ∈ lw_all := lw_g (lw_at lw_m4 192 rfl) rfl
theorem q983 : (Jvm.Cond.code ({ cls := "RobotAisles$Planner", name := "nextFrom", desc := "(IIJ)I" } : Jvm.MethodName) prog_7_method_12_code (7 : Nat) (Option.some Jvm.ClassFile.FieldType.int)) ∈ lw_all := lw_g (lw_at lw_m4 193 rfl) rfl
theorem q1234 : (Jvm.Cond.instanceMethod ({ cls := "RobotAisles$Planner", name := "arrival", desc := "()I" } : Jvm.MethodName)) ∈ lw_all := lw_g (lw_at lw_m5 204 rfl) rfl
theorem q1235 : (Jvm.Cond.selects "RobotAisles$Planner" ({ cls := "RobotAisles$Planner", name := "arrival", desc := "()I" } : Jvm.MethodName) ({ cls := "RobotAisles$Planner", name := "arrival", desc := "()I" } : Jvm.MethodName)) ∈ lw_all := lw_g (lw_at lw_m5 205 rfl) rfl
theorem q1236 : (Jvm.Cond.code ({ cls := "RobotAisles$Planner", name := "arrival", desc := "()I" } : Jvm.MethodName) prog_7_method_10_code (7 : Nat) (Option.some Jvm.ClassFile.FieldType.int)) ∈ lw_all := lw_g (lw_at lw_m5 206 rfl) rfl
theorem q1237 : (Jvm.Cond.classLink "RobotAisles$Planner" (90 : Nat) "java/util/PriorityQueue") ∈ lw_all := lw_g (lw_at lw_m5 207 rfl) rfl
theorem q1239 : (Jvm.Cond.classLink "RobotAisles$Planner" (92 : Nat) "RobotAisles$EarlierFirst") ∈ lw_all := lw_g (lw_at lw_m5 209 rfl) rfl
theorem q1241 : (Jvm.Cond.methodLinkNest "RobotAisles$Planner" (94 : Nat) ({ cls := "RobotAisles$EarlierFirst", name := "<init>", desc := "()V" } : Jvm.MethodName) "RobotAisles") ∈ lw_tbl := lw_at lw_m5 211 rfl
theorem q1246 : (Jvm.Cond.methodLink "RobotAisles$Planner" (95 : Nat) ({ cls := "java/util/PriorityQueue", name := "<init>", desc := "(ILjava/util/Comparator;)V" } : Jvm.MethodName)) ∈ lw_all := lw_g (lw_at lw_m5 216 rfl) rfl
theorem q1269 : (Jvm.Cond.classLink "RobotAisles$Planner" (98 : Nat) "RobotAisles$Moment") ∈ lw_all := lw_g (lw_at lw_m5 239 rfl) rfl
theorem q1271 : (Jvm.Cond.methodLink "RobotAisles$Planner" (100 : Nat) ({ cls := "RobotAisles$Moment", name := "<init>", desc := "(II)V" } : Jvm.MethodName)) ∈ lw_all := lw_g (lw_at lw_m6 1 rfl) rfl
theorem q1277 : (Jvm.Cond.fieldLinkNest "RobotAisles$Planner" (115 : Nat) "RobotAisles$Moment" "tick" "I" "RobotAisles") ∈ lw_tbl := lw_at lw_m6 7 rfl
theorem q1280 : (Jvm.Cond.fieldLinkNest "RobotAisles$Planner" (118 : Nat) "RobotAisles$Moment" "cell" "I" "RobotAisles") ∈ lw_tbl := lw_at lw_m6 10 rfl
theorem q1286 : (Jvm.Cond.methodLink "RobotAisles$Planner" (103 : Nat) ({ cls := "java/util/PriorityQueue", name := "add", desc := "(Ljava/lang/Object;)Z" } : Jvm.MethodName)) ∈ lw_all := lw_g (lw_at lw_m6 16 rfl) rfl
theorem q1490 : (Jvm.Cond.methodLink "RobotAisles$Planner" (107 : Nat) ({ cls := "java/util/PriorityQueue", name := "isEmpty", desc := "()Z" } : Jvm.MethodName)) ∈ lw_all := lw_g (lw_at lw_m6 220 rfl) rfl
theorem q1519 : (Jvm.Cond.methodLink "RobotAisles$Planner" (111 : Nat) ({ cls := "java/util/PriorityQueue", name := "poll", desc := "()Ljava/lang/Object;" } : Jvm.MethodName)) ∈ lw_all := lw_g (lw_at lw_m7 9 rfl) rfl
theorem q2298 : (Jvm.Cond.castable "RobotAisles$Planner" "java/lang/Object") ∈ lw_tbl := lw_at lw_m10 68 rfl
theorem in_X9 : ∀ w ∈ wsX90, w ∈ lw_all := lw_in wsX90 [923, 925, 927, 929, 931, 933, 935] (by decide +kernel) (by decide +kernel)

/-! RobotAisles$EarlierFirst -/
set_option maxRecDepth 100000
def RX10 : String := "RobotAisles$EarlierFirst"
abbrev cX10_init : ByteArray := prog_3_method_1_code
def yX10_init : MethodName := ⟨RX10, "<init>", "()V"⟩
theorem dX10_init_0 : decode cX10_init 0 = .ok (.aload_n 0, 1) := by decide +kernel
theorem dX10_init_1 : decode cX10_init 1 = .ok (.invokespecial 1, 3) := by decide +kernel
theorem dX10_init_4 : decode cX10_init 4 = .ok (.return_, 1) := by decide +kernel
abbrev cX10_compare : ByteArray := prog_3_method_3_code
def yX10_compare : MethodName := ⟨RX10, "compare", "(Ljava/lang/Object;Ljava/lang/Object;)I"⟩
def dkwX10_compare_0 : List UInt8 := [42, 43, 192, 0, 8, 44, 192, 0, 8, 182, 0, 22, 172]
abbrev dktX10_compare_0 : List UInt8 := dkwX10_compare_0 ++ []
theorem dksX10_compare_0 : cX10_compare.data.toList.drop 0 = dktX10_compare_0 := by decide +kernel
theorem dX10_compare_0 : decode cX10_compare 0 = .ok (.aload_n 0, 1) := dk_42 (dk_at dksX10_compare_0 0 rfl rfl)
theorem dX10_compare_1 : decode cX10_compare 1 = .ok (.aload_n 1, 1) := dk_43 (dk_at dksX10_compare_0 1 rfl rfl)
theorem dX10_compare_2 : decode cX10_compare 2 = .ok (.checkcast 8, 3) := dk_192 0 8 (dk_at dksX10_compare_0 2 rfl rfl)
theorem dX10_compare_5 : decode cX10_compare 5 = .ok (.aload_n 2, 1) := dk_44 (dk_at dksX10_compare_0 5 rfl rfl)
theorem dX10_compare_6 : decode cX10_compare 6 = .ok (.checkcast 8, 3) := dk_192 0 8 (dk_at dksX10_compare_0 6 rfl rfl)
theorem dX10_compare_9 : decode cX10_compare 9 = .ok (.invokevirtual 22, 3) := dk_182 0 22 (dk_at dksX10_compare_0 9 rfl rfl)
theorem dX10_compare_12 : decode cX10_compare 12 = .ok (.ireturn, 1) := dk_172 (dk_at dksX10_compare_0 12 rfl rfl)
abbrev cX10_compare_2 : ByteArray := prog_3_method_2_code
def yX10_compare_2 : MethodName := ⟨RX10, "compare", "(LRobotAisles$Moment;LRobotAisles$Moment;)I"⟩
def dkwX10_compare_2_1 : List UInt8 := [167, 0, 14, 43, 180, 0, 19, 44, 180, 0, 19, 184, 0, 13, 172]
abbrev dktX10_compare_2_1 : List UInt8 := dkwX10_compare_2_1 ++ []
def dkwX10_compare_2_0 : List UInt8 := [43, 180, 0, 7, 44, 180, 0, 7, 159, 0, 17, 43, 180, 0, 7, 44, 180, 0, 7, 184, 0, 13]
abbrev dktX10_compare_2_0 : List UInt8 := dkwX10_compare_2_0 ++ dktX10_compare_2_1
theorem dksX10_compare_2_0 : cX10_compare_2.data.toList.drop 0 = dktX10_compare_2_0 := by decide +kernel
theorem dksX10_compare_2_1 : cX10_compare_2.data.toList.drop 22 = dktX10_compare_2_1 := dk_seg dksX10_compare_2_0 22 rfl rfl
theorem dX10_compare_2_0 : decode cX10_compare_2 0 = .ok (.aload_n 1, 1) := dk_43 (dk_at dksX10_compare_2_0 0 rfl rfl)
theorem dX10_compare_2_1 : decode cX10_compare_2 1 = .ok (.getfield 7, 3) := dk_180 0 7 (dk_at dksX10_compare_2_0 1 rfl rfl)
theorem dX10_compare_2_4 : decode cX10_compare_2 4 = .ok (.aload_n 2, 1) := dk_44 (dk_at dksX10_compare_2_0 4 rfl rfl)
theorem dX10_compare_2_5 : decode cX10_compare_2 5 = .ok (.getfield 7, 3) := dk_180 0 7 (dk_at dksX10_compare_2_0 5 rfl rfl)
theorem dX10_compare_2_8 : decode cX10_compare_2 8 = .ok (.if_icmp .eq 17, 3) := dk_159 0 17 (dk_at dksX10_compare_2_0 8 rfl rfl)
theorem dX10_compare_2_11 : decode cX10_compare_2 11 = .ok (.aload_n 1, 1) := dk_43 (dk_at dksX10_compare_2_0 11 rfl rfl)
theorem dX10_compare_2_12 : decode cX10_compare_2 12 = .ok (.getfield 7, 3) := dk_180 0 7 (dk_at dksX10_compare_2_0 12 rfl rfl)
theorem dX10_compare_2_15 : decode cX10_compare_2 15 = .ok (.aload_n 2, 1) := dk_44 (dk_at dksX10_compare_2_0 15 rfl rfl)
theorem dX10_compare_2_16 : decode cX10_compare_2 16 = .ok (.getfield 7, 3) := dk_180 0 7 (dk_at dksX10_compare_2_0 16 rfl rfl)
theorem dX10_compare_2_19 : decode cX10_compare_2 19 = .ok (.invokestatic 13, 3) := dk_184 0 13 (dk_at dksX10_compare_2_0 19 rfl rfl)
theorem dX10_compare_2_22 : decode cX10_compare_2 22 = .ok (.goto 14, 3) := dk_167 0 14 (dk_at dksX10_compare_2_1 0 rfl rfl)
theorem dX10_compare_2_25 : decode cX10_compare_2 25 = .ok (.aload_n 1, 1) := dk_43 (dk_at dksX10_compare_2_1 3 rfl rfl)
theorem dX10_compare_2_26 : decode cX10_compare_2 26 = .ok (.getfield 19, 3) := dk_180 0 19 (dk_at dksX10_compare_2_1 4 rfl rfl)
theorem dX10_compare_2_29 : decode cX10_compare_2 29 = .ok (.aload_n 2, 1) := dk_44 (dk_at dksX10_compare_2_1 7 rfl rfl)
theorem dX10_compare_2_30 : decode cX10_compare_2 30 = .ok (.getfield 19, 3) := dk_180 0 19 (dk_at dksX10_compare_2_1 8 rfl rfl)
theorem dX10_compare_2_33 : decode cX10_compare_2 33 = .ok (.invokestatic 13, 3) := dk_184 0 13 (dk_at dksX10_compare_2_1 11 rfl rfl)
theorem dX10_compare_2_36 : decode cX10_compare_2 36 = .ok (.ireturn, 1) := dk_172 (dk_at dksX10_compare_2_1 14 rfl rfl)
theorem q106 : (Jvm.Cond.initialized "RobotAisles$EarlierFirst") ∈ lw_all := lw_g (lw_at lw_m1 36 rfl) rfl
theorem q338 : (Jvm.Cond.selects "RobotAisles$EarlierFirst" ({ cls := "java/lang/Object", name := "getClass", desc := "()Ljava/lang/Class;" } : Jvm.MethodName) ({ cls := "java/lang/Object", name := "getClass", desc := "()Ljava/lang/Class;" } : Jvm.MethodName)) ∈ lw_all := lw_g (lw_at lw_m2 28 rfl) rfl
theorem q1240 : (Jvm.Cond.instantiable "RobotAisles$EarlierFirst" (0 : Nat)) ∈ lw_all := lw_g (lw_at lw_m5 210 rfl) rfl
theorem q1242 : (Jvm.Cond.instanceMethod ({ cls := "RobotAisles$EarlierFirst", name := "<init>", desc := "()V" } : Jvm.MethodName)) ∈ lw_all := lw_g (lw_at lw_m5 212 rfl) rfl
theorem q1243 : (Jvm.Cond.code ({ cls := "RobotAisles$EarlierFirst", name := "<init>", desc := "()V" } : Jvm.MethodName) prog_3_method_1_code (1 : Nat) (Option.none : Option Jvm.ClassFile.FieldType)) ∈ lw_all := lw_g (lw_at lw_m5 213 rfl) rfl
theorem q1244 : (Jvm.Cond.methodLink "RobotAisles$EarlierFirst" (1 : Nat) ({ cls := "java/lang/Object", name := "<init>", desc := "()V" } : Jvm.MethodName)) ∈ lw_all := lw_g (lw_at lw_m5 214 rfl) rfl
theorem q1245 : (Jvm.Cond.superclass "RobotAisles$EarlierFirst" "java/lang/Object") ∈ lw_all := lw_g (lw_at lw_m5 215 rfl) rfl
theorem q1276 : (Jvm.Cond.fieldLinkNest "RobotAisles$EarlierFirst" (7 : Nat) "RobotAisles$Moment" "tick" "I" "RobotAisles") ∈ lw_tbl := lw_at lw_m6 6 rfl
theorem q1279 : (Jvm.Cond.fieldLinkNest "RobotAisles$EarlierFirst" (19 : Nat) "RobotAisles$Moment" "cell" "I" "RobotAisles") ∈ lw_tbl := lw_at lw_m6 9 rfl
theorem q1311 : (Jvm.Cond.castable "RobotAisles$EarlierFirst" "java/util/Comparator") ∈ lw_tbl := lw_at lw_m6 41 rfl
theorem q1312 : (Jvm.Cond.selects "RobotAisles$EarlierFirst" ({ cls := "java/util/Comparator", name := "compare", desc := "(Ljava/lang/Object;Ljava/lang/Object;)I" } : Jvm.MethodName) ({ cls := "RobotAisles$EarlierFirst", name := "compare", desc := "(Ljava/lang/Object;Ljava/lang/Object;)I" } : Jvm.MethodName)) ∈ lw_all := lw_g (lw_at lw_m6 42 rfl) rfl
theorem q1313 : (Jvm.Cond.unhidden "RobotAisles$EarlierFirst" "compare" "(Ljava/lang/Object;Ljava/lang/Object;)I") ∈ lw_tbl := lw_at lw_m6 43 rfl
theorem q1314 : (Jvm.Cond.instanceMethod ({ cls := "RobotAisles$EarlierFirst", name := "compare", desc := "(Ljava/lang/Object;Ljava/lang/Object;)I" } : Jvm.MethodName)) ∈ lw_all := lw_g (lw_at lw_m6 44 rfl) rfl
theorem q1315 : (Jvm.Cond.publicMethod ({ cls := "RobotAisles$EarlierFirst", name := "compare", desc := "(Ljava/lang/Object;Ljava/lang/Object;)I" } : Jvm.MethodName)) ∈ lw_tbl := lw_at lw_m6 45 rfl
theorem q1316 : (Jvm.Cond.code ({ cls := "RobotAisles$EarlierFirst", name := "compare", desc := "(Ljava/lang/Object;Ljava/lang/Object;)I" } : Jvm.MethodName) prog_3_method_3_code (3 : Nat) (Option.some Jvm.ClassFile.FieldType.int)) ∈ lw_all := lw_g (lw_at lw_m6 46 rfl) rfl
theorem q1317 : (Jvm.Cond.classLink "RobotAisles$EarlierFirst" (8 : Nat) "RobotAisles$Moment") ∈ lw_all := lw_g (lw_at lw_m6 47 rfl) rfl
theorem q1318 : (Jvm.Cond.methodLink "RobotAisles$EarlierFirst" (22 : Nat) ({ cls := "RobotAisles$EarlierFirst", name := "compare", desc := "(LRobotAisles$Moment;LRobotAisles$Moment;)I" } : Jvm.MethodName)) ∈ lw_all := lw_g (lw_at lw_m6 48 rfl) rfl
theorem q1319 : (Jvm.Cond.instanceMethod ({ cls := "RobotAisles$EarlierFirst", name := "compare", desc := "(LRobotAisles$Moment;LRobotAisles$Moment;)I" } : Jvm.MethodName)) ∈ lw_all := lw_g (lw_at lw_m6 49 rfl) rfl
theorem q1320 : (Jvm.Cond.selects "RobotAisles$EarlierFirst" ({ cls := "RobotAisles$EarlierFirst", name := "compare", desc := "(LRobotAisles$Moment;LRobotAisles$Moment;)I" } : Jvm.MethodName) ({ cls := "RobotAisles$EarlierFirst", name := "compare", desc := "(LRobotAisles$Moment;LRobotAisles$Moment;)I" } : Jvm.MethodName)) ∈ lw_all := lw_g (lw_at lw_m6 50 rfl) rfl
theorem q1321 : (Jvm.Cond.code ({ cls := "RobotAisles$EarlierFirst", name := "compare", desc := "(LRobotAisles$Moment;LRobotAisles$Moment;)I" } : Jvm.MethodName) prog_3_method_2_code (3 : Nat) (Option.some Jvm.ClassFile.FieldType.int)) ∈ lw_all := lw_g (lw_at lw_m6 51 rfl) rfl
theorem q1322 : (Jvm.Cond.methodLink "RobotAisles$EarlierFirst" (13 : Nat) ({ cls := "java/lang/Integer", name := "compare", desc := "(II)I" } : Jvm.MethodName)) ∈ lw_all := lw_g (lw_at lw_m6 52 rfl) rfl
theorem q2303 : (Jvm.Cond.castable "RobotAisles$EarlierFirst" "java/lang/Object") ∈ lw_tbl := lw_at lw_m10 73 rfl

/-! RobotAisles$Moment -/
set_option maxRecDepth 100000
def RX11 : String := "RobotAisles$Moment"
def TX11 : u_T := fun k => match k with
  | 0 => ("RobotAisles$Moment", "tick", "I", true)
  | _ => ("RobotAisles$Moment", "cell", "I", true)
def tyX11 : Nat → FieldType := fun k => match k with
  | 0 => .int
  | _ => .int
abbrev wsX110 : List Cond := u_ws RX11 TX11 2
theorem nmX11 : ∀ a, a < 2 → ∀ b, b < 2 → a ≠ b → (TX11 a).2.1 ≠ (TX11 b).2.1 := by decide +kernel
theorem tyX11_ok : ∀ k, k < 2 → parseFieldDescriptor (TX11 k).2.2.1 = some (tyX11 k) := by decide +kernel
abbrev cX11_init : ByteArray := prog_5_method_1_code
def yX11_init : MethodName := ⟨RX11, "<init>", "(II)V"⟩
def dkwX11_init_0 : List UInt8 := [42, 183, 0, 1, 42, 27, 181, 0, 7, 42, 28, 181, 0, 13, 177]
abbrev dktX11_init_0 : List UInt8 := dkwX11_init_0 ++ []
theorem dksX11_init_0 : cX11_init.data.toList.drop 0 = dktX11_init_0 := by decide +kernel
theorem dX11_init_0 : decode cX11_init 0 = .ok (.aload_n 0, 1) := dk_42 (dk_at dksX11_init_0 0 rfl rfl)
theorem dX11_init_1 : decode cX11_init 1 = .ok (.invokespecial 1, 3) := dk_183 0 1 (dk_at dksX11_init_0 1 rfl rfl)
theorem dX11_init_4 : decode cX11_init 4 = .ok (.aload_n 0, 1) := dk_42 (dk_at dksX11_init_0 4 rfl rfl)
theorem dX11_init_5 : decode cX11_init 5 = .ok (.iload_n 1, 1) := dk_27 (dk_at dksX11_init_0 5 rfl rfl)
theorem dX11_init_6 : decode cX11_init 6 = .ok (.putfield 7, 3) := dk_181 0 7 (dk_at dksX11_init_0 6 rfl rfl)
theorem dX11_init_9 : decode cX11_init 9 = .ok (.aload_n 0, 1) := dk_42 (dk_at dksX11_init_0 9 rfl rfl)
theorem dX11_init_10 : decode cX11_init 10 = .ok (.iload_n 2, 1) := dk_28 (dk_at dksX11_init_0 10 rfl rfl)
theorem dX11_init_11 : decode cX11_init 11 = .ok (.putfield 13, 3) := dk_181 0 13 (dk_at dksX11_init_0 11 rfl rfl)
theorem dX11_init_14 : decode cX11_init 14 = .ok (.return_, 1) := dk_177 (dk_at dksX11_init_0 14 rfl rfl)
theorem q107 : (Jvm.Cond.initialized "RobotAisles$Moment") ∈ lw_all := lw_g (lw_at lw_m1 37 rfl) rfl
theorem q340 : (Jvm.Cond.selects "RobotAisles$Moment" ({ cls := "java/lang/Object", name := "getClass", desc := "()Ljava/lang/Class;" } : Jvm.MethodName) ({ cls := "java/lang/Object", name := "getClass", desc := "()Ljava/lang/Class;" } : Jvm.MethodName)) ∈ lw_all := lw_g (lw_at lw_m2 30 rfl) rfl
theorem q1270 : (Jvm.Cond.instantiable "RobotAisles$Moment" (2 : Nat)) ∈ lw_all := lw_g (lw_at lw_m6 0 rfl) rfl
theorem q1272 : (Jvm.Cond.instanceMethod ({ cls := "RobotAisles$Moment", name := "<init>", desc := "(II)V" } : Jvm.MethodName)) ∈ lw_all := lw_g (lw_at lw_m6 2 rfl) rfl
theorem q1273 : (Jvm.Cond.code ({ cls := "RobotAisles$Moment", name := "<init>", desc := "(II)V" } : Jvm.MethodName) prog_5_method_1_code (3 : Nat) (Option.none : Option Jvm.ClassFile.FieldType)) ∈ lw_all := lw_g (lw_at lw_m6 3 rfl) rfl
theorem q1274 : (Jvm.Cond.methodLink "RobotAisles$Moment" (1 : Nat) ({ cls := "java/lang/Object", name := "<init>", desc := "()V" } : Jvm.MethodName)) ∈ lw_all := lw_g (lw_at lw_m6 4 rfl) rfl
theorem q1275 : (Jvm.Cond.fieldLink "RobotAisles$Moment" (7 : Nat) "RobotAisles$Moment" "tick" "I") ∈ lw_all := lw_g (lw_at lw_m6 5 rfl) rfl
theorem q1278 : (Jvm.Cond.fieldLink "RobotAisles$Moment" (13 : Nat) "RobotAisles$Moment" "cell" "I") ∈ lw_all := lw_g (lw_at lw_m6 8 rfl) rfl
theorem q1281 : (Jvm.Cond.laysFinal "RobotAisles$Moment" "RobotAisles$Moment" "tick" "I") ∈ lw_all := lw_g (lw_at lw_m6 11 rfl) rfl
theorem q1282 : (Jvm.Cond.soleField "RobotAisles$Moment" "tick") ∈ lw_all := lw_g (lw_at lw_m6 12 rfl) rfl
theorem q1283 : (Jvm.Cond.laysFinal "RobotAisles$Moment" "RobotAisles$Moment" "cell" "I") ∈ lw_all := lw_g (lw_at lw_m6 13 rfl) rfl
theorem q1284 : (Jvm.Cond.soleField "RobotAisles$Moment" "cell") ∈ lw_all := lw_g (lw_at lw_m6 14 rfl) rfl
theorem q1285 : (Jvm.Cond.superclass "RobotAisles$Moment" "java/lang/Object") ∈ lw_all := lw_g (lw_at lw_m6 15 rfl) rfl
theorem q2304 : (Jvm.Cond.castable "RobotAisles$Moment" "java/lang/Object") ∈ lw_tbl := lw_at lw_m10 74 rfl
theorem in_X11 : ∀ w ∈ wsX110, w ∈ lw_all := lw_in wsX110 [1281, 1283] (by decide +kernel) (by decide +kernel)
