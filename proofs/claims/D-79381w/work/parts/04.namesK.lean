/-! jdk/internal/util/ArraysSupport -/
set_option maxRecDepth 100000
def RJ14 : String := "jdk/internal/util/ArraysSupport"
abbrev cJ14_newLength : ByteArray := prog_73_method_27_code
def yJ14_newLength : MethodName := ⟨RJ14, "newLength", "(III)I"⟩
def dkwJ14_newLength_1 : List UInt8 := [184, 0, 201, 172]
abbrev dktJ14_newLength_1 : List UInt8 := dkwJ14_newLength_1 ++ []
def dkwJ14_newLength_0 : List UInt8 := [26, 27, 28, 184, 0, 194, 96, 62, 3, 29, 162, 0, 11, 29, 18, 200, 163, 0, 5, 29, 172, 26, 27]
abbrev dktJ14_newLength_0 : List UInt8 := dkwJ14_newLength_0 ++ dktJ14_newLength_1
theorem dksJ14_newLength_0 : cJ14_newLength.data.toList.drop 0 = dktJ14_newLength_0 := by decide +kernel
theorem dksJ14_newLength_1 : cJ14_newLength.data.toList.drop 23 = dktJ14_newLength_1 := dk_seg dksJ14_newLength_0 23 rfl rfl
theorem dJ14_newLength_0 : decode cJ14_newLength 0 = .ok (.iload_n 0, 1) := dk_26 (dk_at dksJ14_newLength_0 0 rfl rfl)
theorem dJ14_newLength_1 : decode cJ14_newLength 1 = .ok (.iload_n 1, 1) := dk_27 (dk_at dksJ14_newLength_0 1 rfl rfl)
theorem dJ14_newLength_2 : decode cJ14_newLength 2 = .ok (.iload_n 2, 1) := dk_28 (dk_at dksJ14_newLength_0 2 rfl rfl)
theorem dJ14_newLength_3 : decode cJ14_newLength 3 = .ok (.invokestatic 194, 3) := dk_184 0 194 (dk_at dksJ14_newLength_0 3 rfl rfl)
theorem dJ14_newLength_6 : decode cJ14_newLength 6 = .ok (.iadd, 1) := dk_96 (dk_at dksJ14_newLength_0 6 rfl rfl)
theorem dJ14_newLength_7 : decode cJ14_newLength 7 = .ok (.istore_n 3, 1) := dk_62 (dk_at dksJ14_newLength_0 7 rfl rfl)
theorem dJ14_newLength_8 : decode cJ14_newLength 8 = .ok (.iconst 0, 1) := dk_3 (dk_at dksJ14_newLength_0 8 rfl rfl)
theorem dJ14_newLength_9 : decode cJ14_newLength 9 = .ok (.iload_n 3, 1) := dk_29 (dk_at dksJ14_newLength_0 9 rfl rfl)
theorem dJ14_newLength_10 : decode cJ14_newLength 10 = .ok (.if_icmp .ge 11, 3) := dk_162 0 11 (dk_at dksJ14_newLength_0 10 rfl rfl)
theorem dJ14_newLength_13 : decode cJ14_newLength 13 = .ok (.iload_n 3, 1) := dk_29 (dk_at dksJ14_newLength_0 13 rfl rfl)
theorem dJ14_newLength_14 : decode cJ14_newLength 14 = .ok (.ldc 200, 2) := dk_18 200 (dk_at dksJ14_newLength_0 14 rfl rfl)
theorem dJ14_newLength_16 : decode cJ14_newLength 16 = .ok (.if_icmp .gt 5, 3) := dk_163 0 5 (dk_at dksJ14_newLength_0 16 rfl rfl)
theorem dJ14_newLength_19 : decode cJ14_newLength 19 = .ok (.iload_n 3, 1) := dk_29 (dk_at dksJ14_newLength_0 19 rfl rfl)
theorem dJ14_newLength_20 : decode cJ14_newLength 20 = .ok (.ireturn, 1) := dk_172 (dk_at dksJ14_newLength_0 20 rfl rfl)
theorem dJ14_newLength_21 : decode cJ14_newLength 21 = .ok (.iload_n 0, 1) := dk_26 (dk_at dksJ14_newLength_0 21 rfl rfl)
theorem dJ14_newLength_22 : decode cJ14_newLength 22 = .ok (.iload_n 1, 1) := dk_27 (dk_at dksJ14_newLength_0 22 rfl rfl)
theorem dJ14_newLength_23 : decode cJ14_newLength 23 = .ok (.invokestatic 201, 3) := dk_184 0 201 (dk_at dksJ14_newLength_1 0 rfl rfl)
theorem dJ14_newLength_26 : decode cJ14_newLength 26 = .ok (.ireturn, 1) := dk_172 (dk_at dksJ14_newLength_1 3 rfl rfl)
abbrev cJ14_hugeLength : ByteArray := prog_73_method_28_code
def yJ14_hugeLength : MethodName := ⟨RJ14, "hugeLength", "(II)I"⟩
def dkwJ14_hugeLength_2 : List UInt8 := [191, 28, 18, 200, 163, 0, 6, 18, 200, 172, 28, 172]
abbrev dktJ14_hugeLength_2 : List UInt8 := dkwJ14_hugeLength_2 ++ []
def dkwJ14_hugeLength_1 : List UInt8 := [26, 182, 0, 98, 18, 208, 182, 0, 94, 27, 182, 0, 98, 18, 210, 182, 0, 94, 182, 0, 101, 183, 0, 212]
abbrev dktJ14_hugeLength_1 : List UInt8 := dkwJ14_hugeLength_1 ++ dktJ14_hugeLength_2
def dkwJ14_hugeLength_0 : List UInt8 := [26, 27, 96, 61, 28, 156, 0, 44, 187, 0, 204, 89, 187, 0, 89, 89, 183, 0, 91, 18, 206, 182, 0, 94]
abbrev dktJ14_hugeLength_0 : List UInt8 := dkwJ14_hugeLength_0 ++ dktJ14_hugeLength_1
theorem dksJ14_hugeLength_0 : cJ14_hugeLength.data.toList.drop 0 = dktJ14_hugeLength_0 := by decide +kernel
theorem dksJ14_hugeLength_1 : cJ14_hugeLength.data.toList.drop 24 = dktJ14_hugeLength_1 := dk_seg dksJ14_hugeLength_0 24 rfl rfl
theorem dksJ14_hugeLength_2 : cJ14_hugeLength.data.toList.drop 48 = dktJ14_hugeLength_2 := dk_seg dksJ14_hugeLength_1 24 rfl rfl
theorem dJ14_hugeLength_0 : decode cJ14_hugeLength 0 = .ok (.iload_n 0, 1) := dk_26 (dk_at dksJ14_hugeLength_0 0 rfl rfl)
theorem dJ14_hugeLength_1 : decode cJ14_hugeLength 1 = .ok (.iload_n 1, 1) := dk_27 (dk_at dksJ14_hugeLength_0 1 rfl rfl)
theorem dJ14_hugeLength_2 : decode cJ14_hugeLength 2 = .ok (.iadd, 1) := dk_96 (dk_at dksJ14_hugeLength_0 2 rfl rfl)
theorem dJ14_hugeLength_3 : decode cJ14_hugeLength 3 = .ok (.istore_n 2, 1) := dk_61 (dk_at dksJ14_hugeLength_0 3 rfl rfl)
theorem dJ14_hugeLength_4 : decode cJ14_hugeLength 4 = .ok (.iload_n 2, 1) := dk_28 (dk_at dksJ14_hugeLength_0 4 rfl rfl)
theorem dJ14_hugeLength_5 : decode cJ14_hugeLength 5 = .ok (.ifCond .ge 44, 3) := dk_156 0 44 (dk_at dksJ14_hugeLength_0 5 rfl rfl)
theorem dJ14_hugeLength_8 : decode cJ14_hugeLength 8 = .ok (.new 204, 3) := dk_187 0 204 (dk_at dksJ14_hugeLength_0 8 rfl rfl)
theorem dJ14_hugeLength_11 : decode cJ14_hugeLength 11 = .ok (.dup, 1) := dk_89 (dk_at dksJ14_hugeLength_0 11 rfl rfl)
theorem dJ14_hugeLength_12 : decode cJ14_hugeLength 12 = .ok (.new 89, 3) := dk_187 0 89 (dk_at dksJ14_hugeLength_0 12 rfl rfl)
theorem dJ14_hugeLength_15 : decode cJ14_hugeLength 15 = .ok (.dup, 1) := dk_89 (dk_at dksJ14_hugeLength_0 15 rfl rfl)
theorem dJ14_hugeLength_16 : decode cJ14_hugeLength 16 = .ok (.invokespecial 91, 3) := dk_183 0 91 (dk_at dksJ14_hugeLength_0 16 rfl rfl)
theorem dJ14_hugeLength_19 : decode cJ14_hugeLength 19 = .ok (.ldc 206, 2) := dk_18 206 (dk_at dksJ14_hugeLength_0 19 rfl rfl)
theorem dJ14_hugeLength_21 : decode cJ14_hugeLength 21 = .ok (.invokevirtual 94, 3) := dk_182 0 94 (dk_at dksJ14_hugeLength_0 21 rfl rfl)
theorem dJ14_hugeLength_24 : decode cJ14_hugeLength 24 = .ok (.iload_n 0, 1) := dk_26 (dk_at dksJ14_hugeLength_1 0 rfl rfl)
theorem dJ14_hugeLength_25 : decode cJ14_hugeLength 25 = .ok (.invokevirtual 98, 3) := dk_182 0 98 (dk_at dksJ14_hugeLength_1 1 rfl rfl)
theorem dJ14_hugeLength_28 : decode cJ14_hugeLength 28 = .ok (.ldc 208, 2) := dk_18 208 (dk_at dksJ14_hugeLength_1 4 rfl rfl)
theorem dJ14_hugeLength_30 : decode cJ14_hugeLength 30 = .ok (.invokevirtual 94, 3) := dk_182 0 94 (dk_at dksJ14_hugeLength_1 6 rfl rfl)
theorem dJ14_hugeLength_33 : decode cJ14_hugeLength 33 = .ok (.iload_n 1, 1) := dk_27 (dk_at dksJ14_hugeLength_1 9 rfl rfl)
theorem dJ14_hugeLength_34 : decode cJ14_hugeLength 34 = .ok (.invokevirtual 98, 3) := dk_182 0 98 (dk_at dksJ14_hugeLength_1 10 rfl rfl)
theorem dJ14_hugeLength_37 : decode cJ14_hugeLength 37 = .ok (.ldc 210, 2) := dk_18 210 (dk_at dksJ14_hugeLength_1 13 rfl rfl)
theorem dJ14_hugeLength_39 : decode cJ14_hugeLength 39 = .ok (.invokevirtual 94, 3) := dk_182 0 94 (dk_at dksJ14_hugeLength_1 15 rfl rfl)
theorem dJ14_hugeLength_42 : decode cJ14_hugeLength 42 = .ok (.invokevirtual 101, 3) := dk_182 0 101 (dk_at dksJ14_hugeLength_1 18 rfl rfl)
theorem dJ14_hugeLength_45 : decode cJ14_hugeLength 45 = .ok (.invokespecial 212, 3) := dk_183 0 212 (dk_at dksJ14_hugeLength_1 21 rfl rfl)
theorem dJ14_hugeLength_48 : decode cJ14_hugeLength 48 = .ok (.athrow, 1) := dk_191 (dk_at dksJ14_hugeLength_2 0 rfl rfl)
theorem dJ14_hugeLength_49 : decode cJ14_hugeLength 49 = .ok (.iload_n 2, 1) := dk_28 (dk_at dksJ14_hugeLength_2 1 rfl rfl)
theorem dJ14_hugeLength_50 : decode cJ14_hugeLength 50 = .ok (.ldc 200, 2) := dk_18 200 (dk_at dksJ14_hugeLength_2 2 rfl rfl)
theorem dJ14_hugeLength_52 : decode cJ14_hugeLength 52 = .ok (.if_icmp .gt 6, 3) := dk_163 0 6 (dk_at dksJ14_hugeLength_2 4 rfl rfl)
theorem dJ14_hugeLength_55 : decode cJ14_hugeLength 55 = .ok (.ldc 200, 2) := dk_18 200 (dk_at dksJ14_hugeLength_2 7 rfl rfl)
theorem dJ14_hugeLength_57 : decode cJ14_hugeLength 57 = .ok (.ireturn, 1) := dk_172 (dk_at dksJ14_hugeLength_2 9 rfl rfl)
theorem dJ14_hugeLength_58 : decode cJ14_hugeLength 58 = .ok (.iload_n 2, 1) := dk_28 (dk_at dksJ14_hugeLength_2 10 rfl rfl)
theorem dJ14_hugeLength_59 : decode cJ14_hugeLength 59 = .ok (.ireturn, 1) := dk_172 (dk_at dksJ14_hugeLength_2 11 rfl rfl)
abbrev cJ14_mismatch : ByteArray := prog_73_method_13_code
def yJ14_mismatch : MethodName := ⟨RJ14, "mismatch", "([B[BI)I"⟩
def dkwJ14_mismatch_3 : List UInt8 := [172]
abbrev dktJ14_mismatch_3 : List UInt8 := dkwJ14_mismatch_3 ++ []
def dkwJ14_mismatch_2 : List UInt8 := [62, 29, 28, 162, 0, 20, 42, 29, 51, 43, 29, 51, 159, 0, 5, 29, 172, 132, 3, 1, 167, 255, 237, 2]
abbrev dktJ14_mismatch_2 : List UInt8 := dkwJ14_mismatch_2 ++ dktJ14_mismatch_3
def dkwJ14_mismatch_1 : List UInt8 := [43, 178, 0, 126, 133, 28, 178, 0, 129, 184, 0, 122, 62, 29, 155, 0, 5, 29, 172, 28, 29, 2, 130, 100]
abbrev dktJ14_mismatch_1 : List UInt8 := dkwJ14_mismatch_1 ++ dktJ14_mismatch_2
def dkwJ14_mismatch_0 : List UInt8 := [3, 62, 28, 16, 7, 164, 0, 44, 42, 3, 51, 43, 3, 51, 159, 0, 5, 3, 172, 42, 178, 0, 126, 133]
abbrev dktJ14_mismatch_0 : List UInt8 := dkwJ14_mismatch_0 ++ dktJ14_mismatch_1
theorem dksJ14_mismatch_0 : cJ14_mismatch.data.toList.drop 0 = dktJ14_mismatch_0 := by decide +kernel
theorem dksJ14_mismatch_1 : cJ14_mismatch.data.toList.drop 24 = dktJ14_mismatch_1 := dk_seg dksJ14_mismatch_0 24 rfl rfl
theorem dksJ14_mismatch_2 : cJ14_mismatch.data.toList.drop 48 = dktJ14_mismatch_2 := dk_seg dksJ14_mismatch_1 24 rfl rfl
theorem dksJ14_mismatch_3 : cJ14_mismatch.data.toList.drop 72 = dktJ14_mismatch_3 := dk_seg dksJ14_mismatch_2 24 rfl rfl
theorem dJ14_mismatch_0 : decode cJ14_mismatch 0 = .ok (.iconst 0, 1) := dk_3 (dk_at dksJ14_mismatch_0 0 rfl rfl)
theorem dJ14_mismatch_1 : decode cJ14_mismatch 1 = .ok (.istore_n 3, 1) := dk_62 (dk_at dksJ14_mismatch_0 1 rfl rfl)
theorem dJ14_mismatch_2 : decode cJ14_mismatch 2 = .ok (.iload_n 2, 1) := dk_28 (dk_at dksJ14_mismatch_0 2 rfl rfl)
theorem dJ14_mismatch_3 : decode cJ14_mismatch 3 = .ok (.bipush 7, 2) := dk_16 7 (dk_at dksJ14_mismatch_0 3 rfl rfl)
theorem dJ14_mismatch_5 : decode cJ14_mismatch 5 = .ok (.if_icmp .le 44, 3) := dk_164 0 44 (dk_at dksJ14_mismatch_0 5 rfl rfl)
theorem dJ14_mismatch_8 : decode cJ14_mismatch 8 = .ok (.aload_n 0, 1) := dk_42 (dk_at dksJ14_mismatch_0 8 rfl rfl)
theorem dJ14_mismatch_9 : decode cJ14_mismatch 9 = .ok (.iconst 0, 1) := dk_3 (dk_at dksJ14_mismatch_0 9 rfl rfl)
theorem dJ14_mismatch_10 : decode cJ14_mismatch 10 = .ok (.baload, 1) := dk_51 (dk_at dksJ14_mismatch_0 10 rfl rfl)
theorem dJ14_mismatch_11 : decode cJ14_mismatch 11 = .ok (.aload_n 1, 1) := dk_43 (dk_at dksJ14_mismatch_0 11 rfl rfl)
theorem dJ14_mismatch_12 : decode cJ14_mismatch 12 = .ok (.iconst 0, 1) := dk_3 (dk_at dksJ14_mismatch_0 12 rfl rfl)
theorem dJ14_mismatch_13 : decode cJ14_mismatch 13 = .ok (.baload, 1) := dk_51 (dk_at dksJ14_mismatch_0 13 rfl rfl)
theorem dJ14_mismatch_14 : decode cJ14_mismatch 14 = .ok (.if_icmp .eq 5, 3) := dk_159 0 5 (dk_at dksJ14_mismatch_0 14 rfl rfl)
theorem dJ14_mismatch_17 : decode cJ14_mismatch 17 = .ok (.iconst 0, 1) := dk_3 (dk_at dksJ14_mismatch_0 17 rfl rfl)
theorem dJ14_mismatch_18 : decode cJ14_mismatch 18 = .ok (.ireturn, 1) := dk_172 (dk_at dksJ14_mismatch_0 18 rfl rfl)
theorem dJ14_mismatch_19 : decode cJ14_mismatch 19 = .ok (.aload_n 0, 1) := dk_42 (dk_at dksJ14_mismatch_0 19 rfl rfl)
theorem dJ14_mismatch_20 : decode cJ14_mismatch 20 = .ok (.getstatic 126, 3) := dk_178 0 126 (dk_at dksJ14_mismatch_0 20 rfl rfl)
theorem dJ14_mismatch_23 : decode cJ14_mismatch 23 = .ok (.i2l, 1) := dk_133 (dk_at dksJ14_mismatch_0 23 rfl rfl)
theorem dJ14_mismatch_24 : decode cJ14_mismatch 24 = .ok (.aload_n 1, 1) := dk_43 (dk_at dksJ14_mismatch_1 0 rfl rfl)
theorem dJ14_mismatch_25 : decode cJ14_mismatch 25 = .ok (.getstatic 126, 3) := dk_178 0 126 (dk_at dksJ14_mismatch_1 1 rfl rfl)
theorem dJ14_mismatch_28 : decode cJ14_mismatch 28 = .ok (.i2l, 1) := dk_133 (dk_at dksJ14_mismatch_1 4 rfl rfl)
theorem dJ14_mismatch_29 : decode cJ14_mismatch 29 = .ok (.iload_n 2, 1) := dk_28 (dk_at dksJ14_mismatch_1 5 rfl rfl)
theorem dJ14_mismatch_30 : decode cJ14_mismatch 30 = .ok (.getstatic 129, 3) := dk_178 0 129 (dk_at dksJ14_mismatch_1 6 rfl rfl)
theorem dJ14_mismatch_33 : decode cJ14_mismatch 33 = .ok (.invokestatic 122, 3) := dk_184 0 122 (dk_at dksJ14_mismatch_1 9 rfl rfl)
theorem dJ14_mismatch_36 : decode cJ14_mismatch 36 = .ok (.istore_n 3, 1) := dk_62 (dk_at dksJ14_mismatch_1 12 rfl rfl)
theorem dJ14_mismatch_37 : decode cJ14_mismatch 37 = .ok (.iload_n 3, 1) := dk_29 (dk_at dksJ14_mismatch_1 13 rfl rfl)
theorem dJ14_mismatch_38 : decode cJ14_mismatch 38 = .ok (.ifCond .lt 5, 3) := dk_155 0 5 (dk_at dksJ14_mismatch_1 14 rfl rfl)
theorem dJ14_mismatch_41 : decode cJ14_mismatch 41 = .ok (.iload_n 3, 1) := dk_29 (dk_at dksJ14_mismatch_1 17 rfl rfl)
theorem dJ14_mismatch_42 : decode cJ14_mismatch 42 = .ok (.ireturn, 1) := dk_172 (dk_at dksJ14_mismatch_1 18 rfl rfl)
theorem dJ14_mismatch_43 : decode cJ14_mismatch 43 = .ok (.iload_n 2, 1) := dk_28 (dk_at dksJ14_mismatch_1 19 rfl rfl)
theorem dJ14_mismatch_44 : decode cJ14_mismatch 44 = .ok (.iload_n 3, 1) := dk_29 (dk_at dksJ14_mismatch_1 20 rfl rfl)
theorem dJ14_mismatch_45 : decode cJ14_mismatch 45 = .ok (.iconst (-1), 1) := dk_2 (dk_at dksJ14_mismatch_1 21 rfl rfl)
theorem dJ14_mismatch_46 : decode cJ14_mismatch 46 = .ok (.ixor, 1) := dk_130 (dk_at dksJ14_mismatch_1 22 rfl rfl)
theorem dJ14_mismatch_47 : decode cJ14_mismatch 47 = .ok (.isub, 1) := dk_100 (dk_at dksJ14_mismatch_1 23 rfl rfl)
theorem dJ14_mismatch_48 : decode cJ14_mismatch 48 = .ok (.istore_n 3, 1) := dk_62 (dk_at dksJ14_mismatch_2 0 rfl rfl)
theorem dJ14_mismatch_49 : decode cJ14_mismatch 49 = .ok (.iload_n 3, 1) := dk_29 (dk_at dksJ14_mismatch_2 1 rfl rfl)
theorem dJ14_mismatch_50 : decode cJ14_mismatch 50 = .ok (.iload_n 2, 1) := dk_28 (dk_at dksJ14_mismatch_2 2 rfl rfl)
theorem dJ14_mismatch_51 : decode cJ14_mismatch 51 = .ok (.if_icmp .ge 20, 3) := dk_162 0 20 (dk_at dksJ14_mismatch_2 3 rfl rfl)
theorem dJ14_mismatch_54 : decode cJ14_mismatch 54 = .ok (.aload_n 0, 1) := dk_42 (dk_at dksJ14_mismatch_2 6 rfl rfl)
theorem dJ14_mismatch_55 : decode cJ14_mismatch 55 = .ok (.iload_n 3, 1) := dk_29 (dk_at dksJ14_mismatch_2 7 rfl rfl)
theorem dJ14_mismatch_56 : decode cJ14_mismatch 56 = .ok (.baload, 1) := dk_51 (dk_at dksJ14_mismatch_2 8 rfl rfl)
theorem dJ14_mismatch_57 : decode cJ14_mismatch 57 = .ok (.aload_n 1, 1) := dk_43 (dk_at dksJ14_mismatch_2 9 rfl rfl)
theorem dJ14_mismatch_58 : decode cJ14_mismatch 58 = .ok (.iload_n 3, 1) := dk_29 (dk_at dksJ14_mismatch_2 10 rfl rfl)
theorem dJ14_mismatch_59 : decode cJ14_mismatch 59 = .ok (.baload, 1) := dk_51 (dk_at dksJ14_mismatch_2 11 rfl rfl)
theorem dJ14_mismatch_60 : decode cJ14_mismatch 60 = .ok (.if_icmp .eq 5, 3) := dk_159 0 5 (dk_at dksJ14_mismatch_2 12 rfl rfl)
theorem dJ14_mismatch_63 : decode cJ14_mismatch 63 = .ok (.iload_n 3, 1) := dk_29 (dk_at dksJ14_mismatch_2 15 rfl rfl)
theorem dJ14_mismatch_64 : decode cJ14_mismatch 64 = .ok (.ireturn, 1) := dk_172 (dk_at dksJ14_mismatch_2 16 rfl rfl)
theorem dJ14_mismatch_65 : decode cJ14_mismatch 65 = .ok (.iinc 3 1, 3) := dk_132 3 1 (dk_at dksJ14_mismatch_2 17 rfl rfl)
theorem dJ14_mismatch_68 : decode cJ14_mismatch 68 = .ok (.goto (-19), 3) := dk_167 255 237 (dk_at dksJ14_mismatch_2 20 rfl rfl)
theorem dJ14_mismatch_71 : decode cJ14_mismatch 71 = .ok (.iconst (-1), 1) := dk_2 (dk_at dksJ14_mismatch_2 23 rfl rfl)
theorem dJ14_mismatch_72 : decode cJ14_mismatch 72 = .ok (.ireturn, 1) := dk_172 (dk_at dksJ14_mismatch_3 0 rfl rfl)
abbrev cJ14_vectorizedMismatch : ByteArray := prog_73_method_3_code
def yJ14_vectorizedMismatch : MethodName := ⟨RJ14, "vectorizedMismatch", "(Ljava/lang/Object;JLjava/lang/Object;JII)I"⟩
def dkwJ14_vectorizedMismatch_11 : List UInt8 := [54, 10, 21, 10, 2, 130, 172, 21, 10, 2, 130, 172]
abbrev dktJ14_vectorizedMismatch_11 : List UInt8 := dkwJ14_vectorizedMismatch_11 ++ []
def dkwJ14_vectorizedMismatch_10 : List UInt8 := [178, 0, 46, 21, 7, 96, 122, 54, 17, 21, 9, 21, 8, 120, 21, 17, 96, 172, 21, 10, 21, 11, 100]
abbrev dktJ14_vectorizedMismatch_10 : List UInt8 := dkwJ14_vectorizedMismatch_10 ++ dktJ14_vectorizedMismatch_11
def dkwJ14_vectorizedMismatch_9 : List UInt8 := [153, 0, 18, 21, 16, 184, 0, 58, 178, 0, 46, 21, 7, 96, 122, 167, 0, 15, 21, 16, 184, 0, 11]
abbrev dktJ14_vectorizedMismatch_9 : List UInt8 := dkwJ14_vectorizedMismatch_9 ++ dktJ14_vectorizedMismatch_10
def dkwJ14_vectorizedMismatch_8 : List UInt8 := [182, 0, 54, 54, 15, 21, 14, 21, 15, 159, 0, 54, 21, 14, 21, 15, 130, 54, 16, 178, 0, 36]
abbrev dktJ14_vectorizedMismatch_8 : List UInt8 := dkwJ14_vectorizedMismatch_8 ++ dktJ14_vectorizedMismatch_9
def dkwJ14_vectorizedMismatch_7 : List UInt8 := [55, 12, 178, 0, 26, 42, 31, 22, 12, 97, 182, 0, 54, 54, 14, 178, 0, 26, 45, 22, 4, 22, 12, 97]
abbrev dktJ14_vectorizedMismatch_7 : List UInt8 := dkwJ14_vectorizedMismatch_7 ++ dktJ14_vectorizedMismatch_8
def dkwJ14_vectorizedMismatch_6 : List UInt8 := [4, 178, 0, 51, 21, 7, 100, 120, 54, 11, 21, 10, 21, 11, 161, 0, 104, 21, 9, 133, 178, 0, 20, 121]
abbrev dktJ14_vectorizedMismatch_6 : List UInt8 := dkwJ14_vectorizedMismatch_6 ++ dktJ14_vectorizedMismatch_7
def dkwJ14_vectorizedMismatch_5 : List UInt8 := [132, 9, 1, 167, 255, 148, 21, 6, 21, 9, 21, 8, 120, 100, 54, 10, 21, 7, 178, 0, 51, 162, 0, 126]
abbrev dktJ14_vectorizedMismatch_5 : List UInt8 := dkwJ14_vectorizedMismatch_5 ++ dktJ14_vectorizedMismatch_6
def dkwJ14_vectorizedMismatch_4 : List UInt8 := [22, 16, 184, 0, 49, 178, 0, 46, 21, 7, 96, 122, 54, 18, 21, 9, 21, 8, 120, 21, 18, 96, 172]
abbrev dktJ14_vectorizedMismatch_4 : List UInt8 := dkwJ14_vectorizedMismatch_4 ++ dktJ14_vectorizedMismatch_5
def dkwJ14_vectorizedMismatch_3 : List UInt8 := [55, 16, 178, 0, 36, 153, 0, 18, 22, 16, 184, 0, 40, 178, 0, 46, 21, 7, 96, 122, 167, 0, 15]
abbrev dktJ14_vectorizedMismatch_3 : List UInt8 := dkwJ14_vectorizedMismatch_3 ++ dktJ14_vectorizedMismatch_4
def dkwJ14_vectorizedMismatch_2 : List UInt8 := [22, 4, 22, 10, 97, 182, 0, 30, 55, 14, 22, 12, 22, 14, 148, 153, 0, 54, 22, 12, 22, 14, 131]
abbrev dktJ14_vectorizedMismatch_2 : List UInt8 := dkwJ14_vectorizedMismatch_2 ++ dktJ14_vectorizedMismatch_3
def dkwJ14_vectorizedMismatch_1 : List UInt8 := [178, 0, 20, 121, 55, 10, 178, 0, 26, 42, 31, 22, 10, 97, 182, 0, 30, 55, 12, 178, 0, 26, 45]
abbrev dktJ14_vectorizedMismatch_1 : List UInt8 := dkwJ14_vectorizedMismatch_1 ++ dktJ14_vectorizedMismatch_2
def dkwJ14_vectorizedMismatch_0 : List UInt8 := [178, 0, 20, 21, 7, 100, 54, 8, 3, 54, 9, 21, 9, 21, 6, 21, 8, 122, 162, 0, 104, 21, 9, 133]
abbrev dktJ14_vectorizedMismatch_0 : List UInt8 := dkwJ14_vectorizedMismatch_0 ++ dktJ14_vectorizedMismatch_1
theorem dksJ14_vectorizedMismatch_0 : cJ14_vectorizedMismatch.data.toList.drop 0 = dktJ14_vectorizedMismatch_0 := by decide +kernel
theorem dksJ14_vectorizedMismatch_1 : cJ14_vectorizedMismatch.data.toList.drop 24 = dktJ14_vectorizedMismatch_1 := dk_seg dksJ14_vectorizedMismatch_0 24 rfl rfl
theorem dksJ14_vectorizedMismatch_2 : cJ14_vectorizedMismatch.data.toList.drop 47 = dktJ14_vectorizedMismatch_2 := dk_seg dksJ14_vectorizedMismatch_1 23 rfl rfl
theorem dksJ14_vectorizedMismatch_3 : cJ14_vectorizedMismatch.data.toList.drop 70 = dktJ14_vectorizedMismatch_3 := dk_seg dksJ14_vectorizedMismatch_2 23 rfl rfl
theorem dksJ14_vectorizedMismatch_4 : cJ14_vectorizedMismatch.data.toList.drop 93 = dktJ14_vectorizedMismatch_4 := dk_seg dksJ14_vectorizedMismatch_3 23 rfl rfl
theorem dksJ14_vectorizedMismatch_5 : cJ14_vectorizedMismatch.data.toList.drop 116 = dktJ14_vectorizedMismatch_5 := dk_seg dksJ14_vectorizedMismatch_4 23 rfl rfl
theorem dksJ14_vectorizedMismatch_6 : cJ14_vectorizedMismatch.data.toList.drop 140 = dktJ14_vectorizedMismatch_6 := dk_seg dksJ14_vectorizedMismatch_5 24 rfl rfl
theorem dksJ14_vectorizedMismatch_7 : cJ14_vectorizedMismatch.data.toList.drop 164 = dktJ14_vectorizedMismatch_7 := dk_seg dksJ14_vectorizedMismatch_6 24 rfl rfl
theorem dksJ14_vectorizedMismatch_8 : cJ14_vectorizedMismatch.data.toList.drop 188 = dktJ14_vectorizedMismatch_8 := dk_seg dksJ14_vectorizedMismatch_7 24 rfl rfl
theorem dksJ14_vectorizedMismatch_9 : cJ14_vectorizedMismatch.data.toList.drop 210 = dktJ14_vectorizedMismatch_9 := dk_seg dksJ14_vectorizedMismatch_8 22 rfl rfl
theorem dksJ14_vectorizedMismatch_10 : cJ14_vectorizedMismatch.data.toList.drop 233 = dktJ14_vectorizedMismatch_10 := dk_seg dksJ14_vectorizedMismatch_9 23 rfl rfl
theorem dksJ14_vectorizedMismatch_11 : cJ14_vectorizedMismatch.data.toList.drop 256 = dktJ14_vectorizedMismatch_11 := dk_seg dksJ14_vectorizedMismatch_10 23 rfl rfl
theorem dJ14_vectorizedMismatch_0 : decode cJ14_vectorizedMismatch 0 = .ok (.getstatic 20, 3) := dk_178 0 20 (dk_at dksJ14_vectorizedMismatch_0 0 rfl rfl)
theorem dJ14_vectorizedMismatch_3 : decode cJ14_vectorizedMismatch 3 = .ok (.iload 7, 2) := dk_21 7 (dk_at dksJ14_vectorizedMismatch_0 3 rfl rfl)
theorem dJ14_vectorizedMismatch_5 : decode cJ14_vectorizedMismatch 5 = .ok (.isub, 1) := dk_100 (dk_at dksJ14_vectorizedMismatch_0 5 rfl rfl)
theorem dJ14_vectorizedMismatch_6 : decode cJ14_vectorizedMismatch 6 = .ok (.istore 8, 2) := dk_54 8 (dk_at dksJ14_vectorizedMismatch_0 6 rfl rfl)
theorem dJ14_vectorizedMismatch_8 : decode cJ14_vectorizedMismatch 8 = .ok (.iconst 0, 1) := dk_3 (dk_at dksJ14_vectorizedMismatch_0 8 rfl rfl)
theorem dJ14_vectorizedMismatch_9 : decode cJ14_vectorizedMismatch 9 = .ok (.istore 9, 2) := dk_54 9 (dk_at dksJ14_vectorizedMismatch_0 9 rfl rfl)
theorem dJ14_vectorizedMismatch_11 : decode cJ14_vectorizedMismatch 11 = .ok (.iload 9, 2) := dk_21 9 (dk_at dksJ14_vectorizedMismatch_0 11 rfl rfl)
theorem dJ14_vectorizedMismatch_13 : decode cJ14_vectorizedMismatch 13 = .ok (.iload 6, 2) := dk_21 6 (dk_at dksJ14_vectorizedMismatch_0 13 rfl rfl)
theorem dJ14_vectorizedMismatch_15 : decode cJ14_vectorizedMismatch 15 = .ok (.iload 8, 2) := dk_21 8 (dk_at dksJ14_vectorizedMismatch_0 15 rfl rfl)
theorem dJ14_vectorizedMismatch_17 : decode cJ14_vectorizedMismatch 17 = .ok (.ishr, 1) := dk_122 (dk_at dksJ14_vectorizedMismatch_0 17 rfl rfl)
theorem dJ14_vectorizedMismatch_18 : decode cJ14_vectorizedMismatch 18 = .ok (.if_icmp .ge 104, 3) := dk_162 0 104 (dk_at dksJ14_vectorizedMismatch_0 18 rfl rfl)
theorem dJ14_vectorizedMismatch_21 : decode cJ14_vectorizedMismatch 21 = .ok (.iload 9, 2) := dk_21 9 (dk_at dksJ14_vectorizedMismatch_0 21 rfl rfl)
theorem dJ14_vectorizedMismatch_23 : decode cJ14_vectorizedMismatch 23 = .ok (.i2l, 1) := dk_133 (dk_at dksJ14_vectorizedMismatch_0 23 rfl rfl)
theorem dJ14_vectorizedMismatch_24 : decode cJ14_vectorizedMismatch 24 = .ok (.getstatic 20, 3) := dk_178 0 20 (dk_at dksJ14_vectorizedMismatch_1 0 rfl rfl)
theorem dJ14_vectorizedMismatch_27 : decode cJ14_vectorizedMismatch 27 = .ok (.lshl, 1) := dk_121 (dk_at dksJ14_vectorizedMismatch_1 3 rfl rfl)
theorem dJ14_vectorizedMismatch_28 : decode cJ14_vectorizedMismatch 28 = .ok (.lstore 10, 2) := dk_55 10 (dk_at dksJ14_vectorizedMismatch_1 4 rfl rfl)
theorem dJ14_vectorizedMismatch_30 : decode cJ14_vectorizedMismatch 30 = .ok (.getstatic 26, 3) := dk_178 0 26 (dk_at dksJ14_vectorizedMismatch_1 6 rfl rfl)
theorem dJ14_vectorizedMismatch_33 : decode cJ14_vectorizedMismatch 33 = .ok (.aload_n 0, 1) := dk_42 (dk_at dksJ14_vectorizedMismatch_1 9 rfl rfl)
theorem dJ14_vectorizedMismatch_34 : decode cJ14_vectorizedMismatch 34 = .ok (.lload_n 1, 1) := dk_31 (dk_at dksJ14_vectorizedMismatch_1 10 rfl rfl)
theorem dJ14_vectorizedMismatch_35 : decode cJ14_vectorizedMismatch 35 = .ok (.lload 10, 2) := dk_22 10 (dk_at dksJ14_vectorizedMismatch_1 11 rfl rfl)
theorem dJ14_vectorizedMismatch_37 : decode cJ14_vectorizedMismatch 37 = .ok (.ladd, 1) := dk_97 (dk_at dksJ14_vectorizedMismatch_1 13 rfl rfl)
theorem dJ14_vectorizedMismatch_38 : decode cJ14_vectorizedMismatch 38 = .ok (.invokevirtual 30, 3) := dk_182 0 30 (dk_at dksJ14_vectorizedMismatch_1 14 rfl rfl)
theorem dJ14_vectorizedMismatch_41 : decode cJ14_vectorizedMismatch 41 = .ok (.lstore 12, 2) := dk_55 12 (dk_at dksJ14_vectorizedMismatch_1 17 rfl rfl)
theorem dJ14_vectorizedMismatch_43 : decode cJ14_vectorizedMismatch 43 = .ok (.getstatic 26, 3) := dk_178 0 26 (dk_at dksJ14_vectorizedMismatch_1 19 rfl rfl)
theorem dJ14_vectorizedMismatch_46 : decode cJ14_vectorizedMismatch 46 = .ok (.aload_n 3, 1) := dk_45 (dk_at dksJ14_vectorizedMismatch_1 22 rfl rfl)
theorem dJ14_vectorizedMismatch_47 : decode cJ14_vectorizedMismatch 47 = .ok (.lload 4, 2) := dk_22 4 (dk_at dksJ14_vectorizedMismatch_2 0 rfl rfl)
theorem dJ14_vectorizedMismatch_49 : decode cJ14_vectorizedMismatch 49 = .ok (.lload 10, 2) := dk_22 10 (dk_at dksJ14_vectorizedMismatch_2 2 rfl rfl)
theorem dJ14_vectorizedMismatch_51 : decode cJ14_vectorizedMismatch 51 = .ok (.ladd, 1) := dk_97 (dk_at dksJ14_vectorizedMismatch_2 4 rfl rfl)
theorem dJ14_vectorizedMismatch_52 : decode cJ14_vectorizedMismatch 52 = .ok (.invokevirtual 30, 3) := dk_182 0 30 (dk_at dksJ14_vectorizedMismatch_2 5 rfl rfl)
theorem dJ14_vectorizedMismatch_55 : decode cJ14_vectorizedMismatch 55 = .ok (.lstore 14, 2) := dk_55 14 (dk_at dksJ14_vectorizedMismatch_2 8 rfl rfl)
theorem dJ14_vectorizedMismatch_57 : decode cJ14_vectorizedMismatch 57 = .ok (.lload 12, 2) := dk_22 12 (dk_at dksJ14_vectorizedMismatch_2 10 rfl rfl)
theorem dJ14_vectorizedMismatch_59 : decode cJ14_vectorizedMismatch 59 = .ok (.lload 14, 2) := dk_22 14 (dk_at dksJ14_vectorizedMismatch_2 12 rfl rfl)
theorem dJ14_vectorizedMismatch_61 : decode cJ14_vectorizedMismatch 61 = .ok (.lcmp, 1) := dk_148 (dk_at dksJ14_vectorizedMismatch_2 14 rfl rfl)
theorem dJ14_vectorizedMismatch_62 : decode cJ14_vectorizedMismatch 62 = .ok (.ifCond .eq 54, 3) := dk_153 0 54 (dk_at dksJ14_vectorizedMismatch_2 15 rfl rfl)
theorem dJ14_vectorizedMismatch_65 : decode cJ14_vectorizedMismatch 65 = .ok (.lload 12, 2) := dk_22 12 (dk_at dksJ14_vectorizedMismatch_2 18 rfl rfl)
theorem dJ14_vectorizedMismatch_67 : decode cJ14_vectorizedMismatch 67 = .ok (.lload 14, 2) := dk_22 14 (dk_at dksJ14_vectorizedMismatch_2 20 rfl rfl)
theorem dJ14_vectorizedMismatch_69 : decode cJ14_vectorizedMismatch 69 = .ok (.lxor, 1) := dk_131 (dk_at dksJ14_vectorizedMismatch_2 22 rfl rfl)
theorem dJ14_vectorizedMismatch_70 : decode cJ14_vectorizedMismatch 70 = .ok (.lstore 16, 2) := dk_55 16 (dk_at dksJ14_vectorizedMismatch_3 0 rfl rfl)
theorem dJ14_vectorizedMismatch_72 : decode cJ14_vectorizedMismatch 72 = .ok (.getstatic 36, 3) := dk_178 0 36 (dk_at dksJ14_vectorizedMismatch_3 2 rfl rfl)
theorem dJ14_vectorizedMismatch_75 : decode cJ14_vectorizedMismatch 75 = .ok (.ifCond .eq 18, 3) := dk_153 0 18 (dk_at dksJ14_vectorizedMismatch_3 5 rfl rfl)
theorem dJ14_vectorizedMismatch_78 : decode cJ14_vectorizedMismatch 78 = .ok (.lload 16, 2) := dk_22 16 (dk_at dksJ14_vectorizedMismatch_3 8 rfl rfl)
theorem dJ14_vectorizedMismatch_80 : decode cJ14_vectorizedMismatch 80 = .ok (.invokestatic 40, 3) := dk_184 0 40 (dk_at dksJ14_vectorizedMismatch_3 10 rfl rfl)
theorem dJ14_vectorizedMismatch_83 : decode cJ14_vectorizedMismatch 83 = .ok (.getstatic 46, 3) := dk_178 0 46 (dk_at dksJ14_vectorizedMismatch_3 13 rfl rfl)
theorem dJ14_vectorizedMismatch_86 : decode cJ14_vectorizedMismatch 86 = .ok (.iload 7, 2) := dk_21 7 (dk_at dksJ14_vectorizedMismatch_3 16 rfl rfl)
theorem dJ14_vectorizedMismatch_88 : decode cJ14_vectorizedMismatch 88 = .ok (.iadd, 1) := dk_96 (dk_at dksJ14_vectorizedMismatch_3 18 rfl rfl)
theorem dJ14_vectorizedMismatch_89 : decode cJ14_vectorizedMismatch 89 = .ok (.ishr, 1) := dk_122 (dk_at dksJ14_vectorizedMismatch_3 19 rfl rfl)
theorem dJ14_vectorizedMismatch_90 : decode cJ14_vectorizedMismatch 90 = .ok (.goto 15, 3) := dk_167 0 15 (dk_at dksJ14_vectorizedMismatch_3 20 rfl rfl)
theorem dJ14_vectorizedMismatch_93 : decode cJ14_vectorizedMismatch 93 = .ok (.lload 16, 2) := dk_22 16 (dk_at dksJ14_vectorizedMismatch_4 0 rfl rfl)
theorem dJ14_vectorizedMismatch_95 : decode cJ14_vectorizedMismatch 95 = .ok (.invokestatic 49, 3) := dk_184 0 49 (dk_at dksJ14_vectorizedMismatch_4 2 rfl rfl)
theorem dJ14_vectorizedMismatch_98 : decode cJ14_vectorizedMismatch 98 = .ok (.getstatic 46, 3) := dk_178 0 46 (dk_at dksJ14_vectorizedMismatch_4 5 rfl rfl)
theorem dJ14_vectorizedMismatch_101 : decode cJ14_vectorizedMismatch 101 = .ok (.iload 7, 2) := dk_21 7 (dk_at dksJ14_vectorizedMismatch_4 8 rfl rfl)
theorem dJ14_vectorizedMismatch_103 : decode cJ14_vectorizedMismatch 103 = .ok (.iadd, 1) := dk_96 (dk_at dksJ14_vectorizedMismatch_4 10 rfl rfl)
theorem dJ14_vectorizedMismatch_104 : decode cJ14_vectorizedMismatch 104 = .ok (.ishr, 1) := dk_122 (dk_at dksJ14_vectorizedMismatch_4 11 rfl rfl)
theorem dJ14_vectorizedMismatch_105 : decode cJ14_vectorizedMismatch 105 = .ok (.istore 18, 2) := dk_54 18 (dk_at dksJ14_vectorizedMismatch_4 12 rfl rfl)
theorem dJ14_vectorizedMismatch_107 : decode cJ14_vectorizedMismatch 107 = .ok (.iload 9, 2) := dk_21 9 (dk_at dksJ14_vectorizedMismatch_4 14 rfl rfl)
theorem dJ14_vectorizedMismatch_109 : decode cJ14_vectorizedMismatch 109 = .ok (.iload 8, 2) := dk_21 8 (dk_at dksJ14_vectorizedMismatch_4 16 rfl rfl)
theorem dJ14_vectorizedMismatch_111 : decode cJ14_vectorizedMismatch 111 = .ok (.ishl, 1) := dk_120 (dk_at dksJ14_vectorizedMismatch_4 18 rfl rfl)
theorem dJ14_vectorizedMismatch_112 : decode cJ14_vectorizedMismatch 112 = .ok (.iload 18, 2) := dk_21 18 (dk_at dksJ14_vectorizedMismatch_4 19 rfl rfl)
theorem dJ14_vectorizedMismatch_114 : decode cJ14_vectorizedMismatch 114 = .ok (.iadd, 1) := dk_96 (dk_at dksJ14_vectorizedMismatch_4 21 rfl rfl)
theorem dJ14_vectorizedMismatch_115 : decode cJ14_vectorizedMismatch 115 = .ok (.ireturn, 1) := dk_172 (dk_at dksJ14_vectorizedMismatch_4 22 rfl rfl)
theorem dJ14_vectorizedMismatch_116 : decode cJ14_vectorizedMismatch 116 = .ok (.iinc 9 1, 3) := dk_132 9 1 (dk_at dksJ14_vectorizedMismatch_5 0 rfl rfl)
theorem dJ14_vectorizedMismatch_119 : decode cJ14_vectorizedMismatch 119 = .ok (.goto (-108), 3) := dk_167 255 148 (dk_at dksJ14_vectorizedMismatch_5 3 rfl rfl)
theorem dJ14_vectorizedMismatch_122 : decode cJ14_vectorizedMismatch 122 = .ok (.iload 6, 2) := dk_21 6 (dk_at dksJ14_vectorizedMismatch_5 6 rfl rfl)
theorem dJ14_vectorizedMismatch_124 : decode cJ14_vectorizedMismatch 124 = .ok (.iload 9, 2) := dk_21 9 (dk_at dksJ14_vectorizedMismatch_5 8 rfl rfl)
theorem dJ14_vectorizedMismatch_126 : decode cJ14_vectorizedMismatch 126 = .ok (.iload 8, 2) := dk_21 8 (dk_at dksJ14_vectorizedMismatch_5 10 rfl rfl)
theorem dJ14_vectorizedMismatch_128 : decode cJ14_vectorizedMismatch 128 = .ok (.ishl, 1) := dk_120 (dk_at dksJ14_vectorizedMismatch_5 12 rfl rfl)
theorem dJ14_vectorizedMismatch_129 : decode cJ14_vectorizedMismatch 129 = .ok (.isub, 1) := dk_100 (dk_at dksJ14_vectorizedMismatch_5 13 rfl rfl)
theorem dJ14_vectorizedMismatch_130 : decode cJ14_vectorizedMismatch 130 = .ok (.istore 10, 2) := dk_54 10 (dk_at dksJ14_vectorizedMismatch_5 14 rfl rfl)
theorem dJ14_vectorizedMismatch_132 : decode cJ14_vectorizedMismatch 132 = .ok (.iload 7, 2) := dk_21 7 (dk_at dksJ14_vectorizedMismatch_5 16 rfl rfl)
theorem dJ14_vectorizedMismatch_134 : decode cJ14_vectorizedMismatch 134 = .ok (.getstatic 51, 3) := dk_178 0 51 (dk_at dksJ14_vectorizedMismatch_5 18 rfl rfl)
theorem dJ14_vectorizedMismatch_137 : decode cJ14_vectorizedMismatch 137 = .ok (.if_icmp .ge 126, 3) := dk_162 0 126 (dk_at dksJ14_vectorizedMismatch_5 21 rfl rfl)
theorem dJ14_vectorizedMismatch_140 : decode cJ14_vectorizedMismatch 140 = .ok (.iconst 1, 1) := dk_4 (dk_at dksJ14_vectorizedMismatch_6 0 rfl rfl)
theorem dJ14_vectorizedMismatch_141 : decode cJ14_vectorizedMismatch 141 = .ok (.getstatic 51, 3) := dk_178 0 51 (dk_at dksJ14_vectorizedMismatch_6 1 rfl rfl)
theorem dJ14_vectorizedMismatch_144 : decode cJ14_vectorizedMismatch 144 = .ok (.iload 7, 2) := dk_21 7 (dk_at dksJ14_vectorizedMismatch_6 4 rfl rfl)
theorem dJ14_vectorizedMismatch_146 : decode cJ14_vectorizedMismatch 146 = .ok (.isub, 1) := dk_100 (dk_at dksJ14_vectorizedMismatch_6 6 rfl rfl)
theorem dJ14_vectorizedMismatch_147 : decode cJ14_vectorizedMismatch 147 = .ok (.ishl, 1) := dk_120 (dk_at dksJ14_vectorizedMismatch_6 7 rfl rfl)
theorem dJ14_vectorizedMismatch_148 : decode cJ14_vectorizedMismatch 148 = .ok (.istore 11, 2) := dk_54 11 (dk_at dksJ14_vectorizedMismatch_6 8 rfl rfl)
theorem dJ14_vectorizedMismatch_150 : decode cJ14_vectorizedMismatch 150 = .ok (.iload 10, 2) := dk_21 10 (dk_at dksJ14_vectorizedMismatch_6 10 rfl rfl)
theorem dJ14_vectorizedMismatch_152 : decode cJ14_vectorizedMismatch 152 = .ok (.iload 11, 2) := dk_21 11 (dk_at dksJ14_vectorizedMismatch_6 12 rfl rfl)
theorem dJ14_vectorizedMismatch_154 : decode cJ14_vectorizedMismatch 154 = .ok (.if_icmp .lt 104, 3) := dk_161 0 104 (dk_at dksJ14_vectorizedMismatch_6 14 rfl rfl)
theorem dJ14_vectorizedMismatch_157 : decode cJ14_vectorizedMismatch 157 = .ok (.iload 9, 2) := dk_21 9 (dk_at dksJ14_vectorizedMismatch_6 17 rfl rfl)
theorem dJ14_vectorizedMismatch_159 : decode cJ14_vectorizedMismatch 159 = .ok (.i2l, 1) := dk_133 (dk_at dksJ14_vectorizedMismatch_6 19 rfl rfl)
theorem dJ14_vectorizedMismatch_160 : decode cJ14_vectorizedMismatch 160 = .ok (.getstatic 20, 3) := dk_178 0 20 (dk_at dksJ14_vectorizedMismatch_6 20 rfl rfl)
theorem dJ14_vectorizedMismatch_163 : decode cJ14_vectorizedMismatch 163 = .ok (.lshl, 1) := dk_121 (dk_at dksJ14_vectorizedMismatch_6 23 rfl rfl)
theorem dJ14_vectorizedMismatch_164 : decode cJ14_vectorizedMismatch 164 = .ok (.lstore 12, 2) := dk_55 12 (dk_at dksJ14_vectorizedMismatch_7 0 rfl rfl)
theorem dJ14_vectorizedMismatch_166 : decode cJ14_vectorizedMismatch 166 = .ok (.getstatic 26, 3) := dk_178 0 26 (dk_at dksJ14_vectorizedMismatch_7 2 rfl rfl)
theorem dJ14_vectorizedMismatch_169 : decode cJ14_vectorizedMismatch 169 = .ok (.aload_n 0, 1) := dk_42 (dk_at dksJ14_vectorizedMismatch_7 5 rfl rfl)
theorem dJ14_vectorizedMismatch_170 : decode cJ14_vectorizedMismatch 170 = .ok (.lload_n 1, 1) := dk_31 (dk_at dksJ14_vectorizedMismatch_7 6 rfl rfl)
theorem dJ14_vectorizedMismatch_171 : decode cJ14_vectorizedMismatch 171 = .ok (.lload 12, 2) := dk_22 12 (dk_at dksJ14_vectorizedMismatch_7 7 rfl rfl)
theorem dJ14_vectorizedMismatch_173 : decode cJ14_vectorizedMismatch 173 = .ok (.ladd, 1) := dk_97 (dk_at dksJ14_vectorizedMismatch_7 9 rfl rfl)
theorem dJ14_vectorizedMismatch_174 : decode cJ14_vectorizedMismatch 174 = .ok (.invokevirtual 54, 3) := dk_182 0 54 (dk_at dksJ14_vectorizedMismatch_7 10 rfl rfl)
theorem dJ14_vectorizedMismatch_177 : decode cJ14_vectorizedMismatch 177 = .ok (.istore 14, 2) := dk_54 14 (dk_at dksJ14_vectorizedMismatch_7 13 rfl rfl)
theorem dJ14_vectorizedMismatch_179 : decode cJ14_vectorizedMismatch 179 = .ok (.getstatic 26, 3) := dk_178 0 26 (dk_at dksJ14_vectorizedMismatch_7 15 rfl rfl)
theorem dJ14_vectorizedMismatch_182 : decode cJ14_vectorizedMismatch 182 = .ok (.aload_n 3, 1) := dk_45 (dk_at dksJ14_vectorizedMismatch_7 18 rfl rfl)
theorem dJ14_vectorizedMismatch_183 : decode cJ14_vectorizedMismatch 183 = .ok (.lload 4, 2) := dk_22 4 (dk_at dksJ14_vectorizedMismatch_7 19 rfl rfl)
theorem dJ14_vectorizedMismatch_185 : decode cJ14_vectorizedMismatch 185 = .ok (.lload 12, 2) := dk_22 12 (dk_at dksJ14_vectorizedMismatch_7 21 rfl rfl)
theorem dJ14_vectorizedMismatch_187 : decode cJ14_vectorizedMismatch 187 = .ok (.ladd, 1) := dk_97 (dk_at dksJ14_vectorizedMismatch_7 23 rfl rfl)
theorem dJ14_vectorizedMismatch_188 : decode cJ14_vectorizedMismatch 188 = .ok (.invokevirtual 54, 3) := dk_182 0 54 (dk_at dksJ14_vectorizedMismatch_8 0 rfl rfl)
theorem dJ14_vectorizedMismatch_191 : decode cJ14_vectorizedMismatch 191 = .ok (.istore 15, 2) := dk_54 15 (dk_at dksJ14_vectorizedMismatch_8 3 rfl rfl)
theorem dJ14_vectorizedMismatch_193 : decode cJ14_vectorizedMismatch 193 = .ok (.iload 14, 2) := dk_21 14 (dk_at dksJ14_vectorizedMismatch_8 5 rfl rfl)
theorem dJ14_vectorizedMismatch_195 : decode cJ14_vectorizedMismatch 195 = .ok (.iload 15, 2) := dk_21 15 (dk_at dksJ14_vectorizedMismatch_8 7 rfl rfl)
theorem dJ14_vectorizedMismatch_197 : decode cJ14_vectorizedMismatch 197 = .ok (.if_icmp .eq 54, 3) := dk_159 0 54 (dk_at dksJ14_vectorizedMismatch_8 9 rfl rfl)
theorem dJ14_vectorizedMismatch_200 : decode cJ14_vectorizedMismatch 200 = .ok (.iload 14, 2) := dk_21 14 (dk_at dksJ14_vectorizedMismatch_8 12 rfl rfl)
theorem dJ14_vectorizedMismatch_202 : decode cJ14_vectorizedMismatch 202 = .ok (.iload 15, 2) := dk_21 15 (dk_at dksJ14_vectorizedMismatch_8 14 rfl rfl)
theorem dJ14_vectorizedMismatch_204 : decode cJ14_vectorizedMismatch 204 = .ok (.ixor, 1) := dk_130 (dk_at dksJ14_vectorizedMismatch_8 16 rfl rfl)
theorem dJ14_vectorizedMismatch_205 : decode cJ14_vectorizedMismatch 205 = .ok (.istore 16, 2) := dk_54 16 (dk_at dksJ14_vectorizedMismatch_8 17 rfl rfl)
theorem dJ14_vectorizedMismatch_207 : decode cJ14_vectorizedMismatch 207 = .ok (.getstatic 36, 3) := dk_178 0 36 (dk_at dksJ14_vectorizedMismatch_8 19 rfl rfl)
theorem dJ14_vectorizedMismatch_210 : decode cJ14_vectorizedMismatch 210 = .ok (.ifCond .eq 18, 3) := dk_153 0 18 (dk_at dksJ14_vectorizedMismatch_9 0 rfl rfl)
theorem dJ14_vectorizedMismatch_213 : decode cJ14_vectorizedMismatch 213 = .ok (.iload 16, 2) := dk_21 16 (dk_at dksJ14_vectorizedMismatch_9 3 rfl rfl)
theorem dJ14_vectorizedMismatch_215 : decode cJ14_vectorizedMismatch 215 = .ok (.invokestatic 58, 3) := dk_184 0 58 (dk_at dksJ14_vectorizedMismatch_9 5 rfl rfl)
theorem dJ14_vectorizedMismatch_218 : decode cJ14_vectorizedMismatch 218 = .ok (.getstatic 46, 3) := dk_178 0 46 (dk_at dksJ14_vectorizedMismatch_9 8 rfl rfl)
theorem dJ14_vectorizedMismatch_221 : decode cJ14_vectorizedMismatch 221 = .ok (.iload 7, 2) := dk_21 7 (dk_at dksJ14_vectorizedMismatch_9 11 rfl rfl)
theorem dJ14_vectorizedMismatch_223 : decode cJ14_vectorizedMismatch 223 = .ok (.iadd, 1) := dk_96 (dk_at dksJ14_vectorizedMismatch_9 13 rfl rfl)
theorem dJ14_vectorizedMismatch_224 : decode cJ14_vectorizedMismatch 224 = .ok (.ishr, 1) := dk_122 (dk_at dksJ14_vectorizedMismatch_9 14 rfl rfl)
theorem dJ14_vectorizedMismatch_225 : decode cJ14_vectorizedMismatch 225 = .ok (.goto 15, 3) := dk_167 0 15 (dk_at dksJ14_vectorizedMismatch_9 15 rfl rfl)
theorem dJ14_vectorizedMismatch_228 : decode cJ14_vectorizedMismatch 228 = .ok (.iload 16, 2) := dk_21 16 (dk_at dksJ14_vectorizedMismatch_9 18 rfl rfl)
theorem dJ14_vectorizedMismatch_230 : decode cJ14_vectorizedMismatch 230 = .ok (.invokestatic 11, 3) := dk_184 0 11 (dk_at dksJ14_vectorizedMismatch_9 20 rfl rfl)
theorem dJ14_vectorizedMismatch_233 : decode cJ14_vectorizedMismatch 233 = .ok (.getstatic 46, 3) := dk_178 0 46 (dk_at dksJ14_vectorizedMismatch_10 0 rfl rfl)
theorem dJ14_vectorizedMismatch_236 : decode cJ14_vectorizedMismatch 236 = .ok (.iload 7, 2) := dk_21 7 (dk_at dksJ14_vectorizedMismatch_10 3 rfl rfl)
theorem dJ14_vectorizedMismatch_238 : decode cJ14_vectorizedMismatch 238 = .ok (.iadd, 1) := dk_96 (dk_at dksJ14_vectorizedMismatch_10 5 rfl rfl)
theorem dJ14_vectorizedMismatch_239 : decode cJ14_vectorizedMismatch 239 = .ok (.ishr, 1) := dk_122 (dk_at dksJ14_vectorizedMismatch_10 6 rfl rfl)
theorem dJ14_vectorizedMismatch_240 : decode cJ14_vectorizedMismatch 240 = .ok (.istore 17, 2) := dk_54 17 (dk_at dksJ14_vectorizedMismatch_10 7 rfl rfl)
theorem dJ14_vectorizedMismatch_242 : decode cJ14_vectorizedMismatch 242 = .ok (.iload 9, 2) := dk_21 9 (dk_at dksJ14_vectorizedMismatch_10 9 rfl rfl)
theorem dJ14_vectorizedMismatch_244 : decode cJ14_vectorizedMismatch 244 = .ok (.iload 8, 2) := dk_21 8 (dk_at dksJ14_vectorizedMismatch_10 11 rfl rfl)
theorem dJ14_vectorizedMismatch_246 : decode cJ14_vectorizedMismatch 246 = .ok (.ishl, 1) := dk_120 (dk_at dksJ14_vectorizedMismatch_10 13 rfl rfl)
theorem dJ14_vectorizedMismatch_247 : decode cJ14_vectorizedMismatch 247 = .ok (.iload 17, 2) := dk_21 17 (dk_at dksJ14_vectorizedMismatch_10 14 rfl rfl)
theorem dJ14_vectorizedMismatch_249 : decode cJ14_vectorizedMismatch 249 = .ok (.iadd, 1) := dk_96 (dk_at dksJ14_vectorizedMismatch_10 16 rfl rfl)
theorem dJ14_vectorizedMismatch_250 : decode cJ14_vectorizedMismatch 250 = .ok (.ireturn, 1) := dk_172 (dk_at dksJ14_vectorizedMismatch_10 17 rfl rfl)
theorem dJ14_vectorizedMismatch_251 : decode cJ14_vectorizedMismatch 251 = .ok (.iload 10, 2) := dk_21 10 (dk_at dksJ14_vectorizedMismatch_10 18 rfl rfl)
theorem dJ14_vectorizedMismatch_253 : decode cJ14_vectorizedMismatch 253 = .ok (.iload 11, 2) := dk_21 11 (dk_at dksJ14_vectorizedMismatch_10 20 rfl rfl)
theorem dJ14_vectorizedMismatch_255 : decode cJ14_vectorizedMismatch 255 = .ok (.isub, 1) := dk_100 (dk_at dksJ14_vectorizedMismatch_10 22 rfl rfl)
theorem dJ14_vectorizedMismatch_256 : decode cJ14_vectorizedMismatch 256 = .ok (.istore 10, 2) := dk_54 10 (dk_at dksJ14_vectorizedMismatch_11 0 rfl rfl)
theorem dJ14_vectorizedMismatch_258 : decode cJ14_vectorizedMismatch 258 = .ok (.iload 10, 2) := dk_21 10 (dk_at dksJ14_vectorizedMismatch_11 2 rfl rfl)
theorem dJ14_vectorizedMismatch_260 : decode cJ14_vectorizedMismatch 260 = .ok (.iconst (-1), 1) := dk_2 (dk_at dksJ14_vectorizedMismatch_11 4 rfl rfl)
theorem dJ14_vectorizedMismatch_261 : decode cJ14_vectorizedMismatch 261 = .ok (.ixor, 1) := dk_130 (dk_at dksJ14_vectorizedMismatch_11 5 rfl rfl)
theorem dJ14_vectorizedMismatch_262 : decode cJ14_vectorizedMismatch 262 = .ok (.ireturn, 1) := dk_172 (dk_at dksJ14_vectorizedMismatch_11 6 rfl rfl)
theorem dJ14_vectorizedMismatch_263 : decode cJ14_vectorizedMismatch 263 = .ok (.iload 10, 2) := dk_21 10 (dk_at dksJ14_vectorizedMismatch_11 7 rfl rfl)
theorem dJ14_vectorizedMismatch_265 : decode cJ14_vectorizedMismatch 265 = .ok (.iconst (-1), 1) := dk_2 (dk_at dksJ14_vectorizedMismatch_11 9 rfl rfl)
theorem dJ14_vectorizedMismatch_266 : decode cJ14_vectorizedMismatch 266 = .ok (.ixor, 1) := dk_130 (dk_at dksJ14_vectorizedMismatch_11 10 rfl rfl)
theorem dJ14_vectorizedMismatch_267 : decode cJ14_vectorizedMismatch 267 = .ok (.ireturn, 1) := dk_172 (dk_at dksJ14_vectorizedMismatch_11 11 rfl rfl)
theorem q91 : (Jvm.Cond.initialized "jdk/internal/util/ArraysSupport") ∈ lw_all := lw_g (lw_at lw_m1 21 rfl) rfl
theorem q321 : (Jvm.Cond.static ({ cls := "jdk/internal/util/ArraysSupport", name := "newLength", desc := "(III)I" } : Jvm.MethodName)) ∈ lw_all := lw_g (lw_at lw_m2 11 rfl) rfl
theorem q322 : (Jvm.Cond.code ({ cls := "jdk/internal/util/ArraysSupport", name := "newLength", desc := "(III)I" } : Jvm.MethodName) prog_73_method_27_code (4 : Nat) (Option.some Jvm.ClassFile.FieldType.int)) ∈ lw_all := lw_g (lw_at lw_m2 12 rfl) rfl
theorem q323 : (Jvm.Cond.methodLink "jdk/internal/util/ArraysSupport" (194 : Nat) ({ cls := "java/lang/Math", name := "max", desc := "(II)I" } : Jvm.MethodName)) ∈ lw_all := lw_g (lw_at lw_m2 13 rfl) rfl
theorem q326 : (Jvm.Cond.constant "jdk/internal/util/ArraysSupport" (200 : Nat) (2147483639 : Int32)) ∈ lw_all := lw_g (lw_at lw_m2 16 rfl) rfl
theorem q327 : (Jvm.Cond.methodLink "jdk/internal/util/ArraysSupport" (201 : Nat) ({ cls := "jdk/internal/util/ArraysSupport", name := "hugeLength", desc := "(II)I" } : Jvm.MethodName)) ∈ lw_all := lw_g (lw_at lw_m2 17 rfl) rfl
theorem q328 : (Jvm.Cond.static ({ cls := "jdk/internal/util/ArraysSupport", name := "hugeLength", desc := "(II)I" } : Jvm.MethodName)) ∈ lw_all := lw_g (lw_at lw_m2 18 rfl) rfl
theorem q329 : (Jvm.Cond.code ({ cls := "jdk/internal/util/ArraysSupport", name := "hugeLength", desc := "(II)I" } : Jvm.MethodName) prog_73_method_28_code (3 : Nat) (Option.some Jvm.ClassFile.FieldType.int)) ∈ lw_all := lw_g (lw_at lw_m2 19 rfl) rfl
theorem q1363 : (Jvm.Cond.static ({ cls := "jdk/internal/util/ArraysSupport", name := "mismatch", desc := "([B[BI)I" } : Jvm.MethodName)) ∈ lw_all := lw_g (lw_at lw_m6 93 rfl) rfl
theorem q1364 : (Jvm.Cond.code ({ cls := "jdk/internal/util/ArraysSupport", name := "mismatch", desc := "([B[BI)I" } : Jvm.MethodName) prog_73_method_13_code (4 : Nat) (Option.some Jvm.ClassFile.FieldType.int)) ∈ lw_all := lw_g (lw_at lw_m6 94 rfl) rfl
theorem q1365 : (Jvm.Cond.fieldLink "jdk/internal/util/ArraysSupport" (126 : Nat) "jdk/internal/misc/Unsafe" "ARRAY_BYTE_BASE_OFFSET" "I") ∈ lw_all := lw_g (lw_at lw_m6 95 rfl) rfl
theorem q1367 : (Jvm.Cond.fieldLink "jdk/internal/util/ArraysSupport" (129 : Nat) "jdk/internal/util/ArraysSupport" "LOG2_ARRAY_BYTE_INDEX_SCALE" "I") ∈ lw_all := lw_g (lw_at lw_m6 97 rfl) rfl
theorem q1368 : (Jvm.Cond.laysStatic "jdk/internal/util/ArraysSupport" "LOG2_ARRAY_BYTE_INDEX_SCALE" "I") ∈ lw_tbl := lw_at lw_m6 98 rfl
theorem q1369 : (Jvm.Cond.methodLink "jdk/internal/util/ArraysSupport" (122 : Nat) ({ cls := "jdk/internal/util/ArraysSupport", name := "vectorizedMismatch", desc := "(Ljava/lang/Object;JLjava/lang/Object;JII)I" } : Jvm.MethodName)) ∈ lw_all := lw_g (lw_at lw_m6 99 rfl) rfl
theorem q1370 : (Jvm.Cond.static ({ cls := "jdk/internal/util/ArraysSupport", name := "vectorizedMismatch", desc := "(Ljava/lang/Object;JLjava/lang/Object;JII)I" } : Jvm.MethodName)) ∈ lw_all := lw_g (lw_at lw_m6 100 rfl) rfl
theorem q1371 : (Jvm.Cond.code ({ cls := "jdk/internal/util/ArraysSupport", name := "vectorizedMismatch", desc := "(Ljava/lang/Object;JLjava/lang/Object;JII)I" } : Jvm.MethodName) prog_73_method_3_code (19 : Nat) (Option.some Jvm.ClassFile.FieldType.int)) ∈ lw_all := lw_g (lw_at lw_m6 101 rfl) rfl
theorem q1372 : (Jvm.Cond.fieldLink "jdk/internal/util/ArraysSupport" (20 : Nat) "jdk/internal/util/ArraysSupport" "LOG2_ARRAY_LONG_INDEX_SCALE" "I") ∈ lw_all := lw_g (lw_at lw_m6 102 rfl) rfl
theorem q1373 : (Jvm.Cond.laysStatic "jdk/internal/util/ArraysSupport" "LOG2_ARRAY_LONG_INDEX_SCALE" "I") ∈ lw_tbl := lw_at lw_m6 103 rfl
theorem q1374 : (Jvm.Cond.fieldLink "jdk/internal/util/ArraysSupport" (26 : Nat) "jdk/internal/util/ArraysSupport" "U" "Ljdk/internal/misc/Unsafe;") ∈ lw_all := lw_g (lw_at lw_m6 104 rfl) rfl
theorem q1375 : (Jvm.Cond.laysStatic "jdk/internal/util/ArraysSupport" "U" "Ljdk/internal/misc/Unsafe;") ∈ lw_tbl := lw_at lw_m6 105 rfl
theorem q1376 : (Jvm.Cond.methodLink "jdk/internal/util/ArraysSupport" (30 : Nat) ({ cls := "jdk/internal/misc/Unsafe", name := "getLongUnaligned", desc := "(Ljava/lang/Object;J)J" } : Jvm.MethodName)) ∈ lw_all := lw_g (lw_at lw_m6 106 rfl) rfl
theorem q1428 : (Jvm.Cond.fieldLink "jdk/internal/util/ArraysSupport" (36 : Nat) "jdk/internal/util/ArraysSupport" "BIG_ENDIAN" "Z") ∈ lw_all := lw_g (lw_at lw_m6 158 rfl) rfl
theorem q1429 : (Jvm.Cond.laysStatic "jdk/internal/util/ArraysSupport" "BIG_ENDIAN" "Z") ∈ lw_tbl := lw_at lw_m6 159 rfl
theorem q1430 : (Jvm.Cond.methodLink "jdk/internal/util/ArraysSupport" (40 : Nat) ({ cls := "java/lang/Long", name := "numberOfLeadingZeros", desc := "(J)I" } : Jvm.MethodName)) ∈ lw_all := lw_g (lw_at lw_m6 160 rfl) rfl
theorem q1437 : (Jvm.Cond.fieldLink "jdk/internal/util/ArraysSupport" (46 : Nat) "jdk/internal/util/ArraysSupport" "LOG2_BYTE_BIT_SIZE" "I") ∈ lw_all := lw_g (lw_at lw_m6 167 rfl) rfl
theorem q1438 : (Jvm.Cond.laysStatic "jdk/internal/util/ArraysSupport" "LOG2_BYTE_BIT_SIZE" "I") ∈ lw_tbl := lw_at lw_m6 168 rfl
theorem q1439 : (Jvm.Cond.methodLink "jdk/internal/util/ArraysSupport" (49 : Nat) ({ cls := "java/lang/Long", name := "numberOfTrailingZeros", desc := "(J)I" } : Jvm.MethodName)) ∈ lw_all := lw_g (lw_at lw_m6 169 rfl) rfl
theorem q1445 : (Jvm.Cond.fieldLink "jdk/internal/util/ArraysSupport" (51 : Nat) "jdk/internal/util/ArraysSupport" "LOG2_ARRAY_INT_INDEX_SCALE" "I") ∈ lw_all := lw_g (lw_at lw_m6 175 rfl) rfl
theorem q1446 : (Jvm.Cond.laysStatic "jdk/internal/util/ArraysSupport" "LOG2_ARRAY_INT_INDEX_SCALE" "I") ∈ lw_tbl := lw_at lw_m6 176 rfl
theorem q1447 : (Jvm.Cond.methodLink "jdk/internal/util/ArraysSupport" (54 : Nat) ({ cls := "jdk/internal/misc/Unsafe", name := "getIntUnaligned", desc := "(Ljava/lang/Object;J)I" } : Jvm.MethodName)) ∈ lw_all := lw_g (lw_at lw_m6 177 rfl) rfl
theorem q1464 : (Jvm.Cond.methodLink "jdk/internal/util/ArraysSupport" (58 : Nat) ({ cls := "java/lang/Integer", name := "numberOfLeadingZeros", desc := "(I)I" } : Jvm.MethodName)) ∈ lw_all := lw_g (lw_at lw_m6 194 rfl) rfl
theorem q1465 : (Jvm.Cond.methodLink "jdk/internal/util/ArraysSupport" (11 : Nat) ({ cls := "java/lang/Integer", name := "numberOfTrailingZeros", desc := "(I)I" } : Jvm.MethodName)) ∈ lw_all := lw_g (lw_at lw_m6 195 rfl) rfl

/-! java/util/PriorityQueue -/
set_option maxRecDepth 100000
def RJ23 : String := "java/util/PriorityQueue"
def TJ23 : u_T := fun k => match k with
  | 0 => ("java/util/PriorityQueue", "queue", "[Ljava/lang/Object;", false)
  | 1 => ("java/util/PriorityQueue", "size", "I", false)
  | 2 => ("java/util/PriorityQueue", "comparator", "Ljava/util/Comparator;", true)
  | _ => ("java/util/PriorityQueue", "modCount", "I", false)
def tyJ23 : Nat → FieldType := fun k => match k with
  | 0 => .array (.object "java/lang/Object")
  | 1 => .int
  | 2 => .object "java/util/Comparator"
  | _ => .int
abbrev wsJ230 : List Cond := u_ws RJ23 TJ23 4
theorem nmJ23 : ∀ a, a < 4 → ∀ b, b < 4 → a ≠ b → (TJ23 a).2.1 ≠ (TJ23 b).2.1 := by decide +kernel
theorem tyJ23_ok : ∀ k, k < 4 → parseFieldDescriptor (TJ23 k).2.2.1 = some (tyJ23 k) := by decide +kernel
abbrev cJ23_init : ByteArray := prog_55_method_4_code
def yJ23_init : MethodName := ⟨RJ23, "<init>", "(ILjava/util/Comparator;)V"⟩
def dkwJ23_init_1 : List UInt8 := [181, 0, 17, 42, 44, 181, 0, 21, 177]
abbrev dktJ23_init_1 : List UInt8 := dkwJ23_init_1 ++ []
def dkwJ23_init_0 : List UInt8 := [42, 183, 0, 7, 27, 4, 162, 0, 11, 187, 0, 12, 89, 183, 0, 14, 191, 42, 27, 189, 0, 15]
abbrev dktJ23_init_0 : List UInt8 := dkwJ23_init_0 ++ dktJ23_init_1
theorem dksJ23_init_0 : cJ23_init.data.toList.drop 0 = dktJ23_init_0 := by decide +kernel
theorem dksJ23_init_1 : cJ23_init.data.toList.drop 22 = dktJ23_init_1 := dk_seg dksJ23_init_0 22 rfl rfl
theorem dJ23_init_0 : decode cJ23_init 0 = .ok (.aload_n 0, 1) := dk_42 (dk_at dksJ23_init_0 0 rfl rfl)
theorem dJ23_init_1 : decode cJ23_init 1 = .ok (.invokespecial 7, 3) := dk_183 0 7 (dk_at dksJ23_init_0 1 rfl rfl)
theorem dJ23_init_4 : decode cJ23_init 4 = .ok (.iload_n 1, 1) := dk_27 (dk_at dksJ23_init_0 4 rfl rfl)
theorem dJ23_init_5 : decode cJ23_init 5 = .ok (.iconst 1, 1) := dk_4 (dk_at dksJ23_init_0 5 rfl rfl)
theorem dJ23_init_6 : decode cJ23_init 6 = .ok (.if_icmp .ge 11, 3) := dk_162 0 11 (dk_at dksJ23_init_0 6 rfl rfl)
theorem dJ23_init_9 : decode cJ23_init 9 = .ok (.new 12, 3) := dk_187 0 12 (dk_at dksJ23_init_0 9 rfl rfl)
theorem dJ23_init_12 : decode cJ23_init 12 = .ok (.dup, 1) := dk_89 (dk_at dksJ23_init_0 12 rfl rfl)
theorem dJ23_init_13 : decode cJ23_init 13 = .ok (.invokespecial 14, 3) := dk_183 0 14 (dk_at dksJ23_init_0 13 rfl rfl)
theorem dJ23_init_16 : decode cJ23_init 16 = .ok (.athrow, 1) := dk_191 (dk_at dksJ23_init_0 16 rfl rfl)
theorem dJ23_init_17 : decode cJ23_init 17 = .ok (.aload_n 0, 1) := dk_42 (dk_at dksJ23_init_0 17 rfl rfl)
theorem dJ23_init_18 : decode cJ23_init 18 = .ok (.iload_n 1, 1) := dk_27 (dk_at dksJ23_init_0 18 rfl rfl)
theorem dJ23_init_19 : decode cJ23_init 19 = .ok (.anewarray 15, 3) := dk_189 0 15 (dk_at dksJ23_init_0 19 rfl rfl)
theorem dJ23_init_22 : decode cJ23_init 22 = .ok (.putfield 17, 3) := dk_181 0 17 (dk_at dksJ23_init_1 0 rfl rfl)
theorem dJ23_init_25 : decode cJ23_init 25 = .ok (.aload_n 0, 1) := dk_42 (dk_at dksJ23_init_1 3 rfl rfl)
theorem dJ23_init_26 : decode cJ23_init 26 = .ok (.aload_n 2, 1) := dk_44 (dk_at dksJ23_init_1 4 rfl rfl)
theorem dJ23_init_27 : decode cJ23_init 27 = .ok (.putfield 21, 3) := dk_181 0 21 (dk_at dksJ23_init_1 5 rfl rfl)
theorem dJ23_init_30 : decode cJ23_init 30 = .ok (.return_, 1) := dk_177 (dk_at dksJ23_init_1 8 rfl rfl)
abbrev cJ23_add : ByteArray := prog_55_method_13_code
def yJ23_add : MethodName := ⟨RJ23, "add", "(Ljava/lang/Object;)Z"⟩
def dkwJ23_add_0 : List UInt8 := [42, 43, 182, 0, 89, 172]
abbrev dktJ23_add_0 : List UInt8 := dkwJ23_add_0 ++ []
theorem dksJ23_add_0 : cJ23_add.data.toList.drop 0 = dktJ23_add_0 := by decide +kernel
theorem dJ23_add_0 : decode cJ23_add 0 = .ok (.aload_n 0, 1) := dk_42 (dk_at dksJ23_add_0 0 rfl rfl)
theorem dJ23_add_1 : decode cJ23_add 1 = .ok (.aload_n 1, 1) := dk_43 (dk_at dksJ23_add_0 1 rfl rfl)
theorem dJ23_add_2 : decode cJ23_add 2 = .ok (.invokevirtual 89, 3) := dk_182 0 89 (dk_at dksJ23_add_0 2 rfl rfl)
theorem dJ23_add_5 : decode cJ23_add 5 = .ok (.ireturn, 1) := dk_172 (dk_at dksJ23_add_0 5 rfl rfl)
abbrev cJ23_offer : ByteArray := prog_55_method_14_code
def yJ23_offer : MethodName := ⟨RJ23, "offer", "(Ljava/lang/Object;)Z"⟩
def dkwJ23_offer_2 : List UInt8 := [182, 0, 100, 42, 28, 4, 96, 181, 0, 58, 4, 172]
abbrev dktJ23_offer_2 : List UInt8 := dkwJ23_offer_2 ++ []
def dkwJ23_offer_1 : List UInt8 := [180, 0, 58, 61, 28, 42, 180, 0, 17, 190, 161, 0, 10, 42, 28, 4, 96, 182, 0, 96, 42, 28, 43]
abbrev dktJ23_offer_1 : List UInt8 := dkwJ23_offer_1 ++ dktJ23_offer_2
def dkwJ23_offer_0 : List UInt8 := [43, 199, 0, 11, 187, 0, 74, 89, 183, 0, 76, 191, 42, 89, 180, 0, 93, 4, 96, 181, 0, 93, 42]
abbrev dktJ23_offer_0 : List UInt8 := dkwJ23_offer_0 ++ dktJ23_offer_1
theorem dksJ23_offer_0 : cJ23_offer.data.toList.drop 0 = dktJ23_offer_0 := by decide +kernel
theorem dksJ23_offer_1 : cJ23_offer.data.toList.drop 23 = dktJ23_offer_1 := dk_seg dksJ23_offer_0 23 rfl rfl
theorem dksJ23_offer_2 : cJ23_offer.data.toList.drop 46 = dktJ23_offer_2 := dk_seg dksJ23_offer_1 23 rfl rfl
theorem dJ23_offer_0 : decode cJ23_offer 0 = .ok (.aload_n 1, 1) := dk_43 (dk_at dksJ23_offer_0 0 rfl rfl)
theorem dJ23_offer_1 : decode cJ23_offer 1 = .ok (.ifnonnull 11, 3) := dk_199 0 11 (dk_at dksJ23_offer_0 1 rfl rfl)
theorem dJ23_offer_4 : decode cJ23_offer 4 = .ok (.new 74, 3) := dk_187 0 74 (dk_at dksJ23_offer_0 4 rfl rfl)
theorem dJ23_offer_7 : decode cJ23_offer 7 = .ok (.dup, 1) := dk_89 (dk_at dksJ23_offer_0 7 rfl rfl)
theorem dJ23_offer_8 : decode cJ23_offer 8 = .ok (.invokespecial 76, 3) := dk_183 0 76 (dk_at dksJ23_offer_0 8 rfl rfl)
theorem dJ23_offer_11 : decode cJ23_offer 11 = .ok (.athrow, 1) := dk_191 (dk_at dksJ23_offer_0 11 rfl rfl)
theorem dJ23_offer_12 : decode cJ23_offer 12 = .ok (.aload_n 0, 1) := dk_42 (dk_at dksJ23_offer_0 12 rfl rfl)
theorem dJ23_offer_13 : decode cJ23_offer 13 = .ok (.dup, 1) := dk_89 (dk_at dksJ23_offer_0 13 rfl rfl)
theorem dJ23_offer_14 : decode cJ23_offer 14 = .ok (.getfield 93, 3) := dk_180 0 93 (dk_at dksJ23_offer_0 14 rfl rfl)
theorem dJ23_offer_17 : decode cJ23_offer 17 = .ok (.iconst 1, 1) := dk_4 (dk_at dksJ23_offer_0 17 rfl rfl)
theorem dJ23_offer_18 : decode cJ23_offer 18 = .ok (.iadd, 1) := dk_96 (dk_at dksJ23_offer_0 18 rfl rfl)
theorem dJ23_offer_19 : decode cJ23_offer 19 = .ok (.putfield 93, 3) := dk_181 0 93 (dk_at dksJ23_offer_0 19 rfl rfl)
theorem dJ23_offer_22 : decode cJ23_offer 22 = .ok (.aload_n 0, 1) := dk_42 (dk_at dksJ23_offer_0 22 rfl rfl)
theorem dJ23_offer_23 : decode cJ23_offer 23 = .ok (.getfield 58, 3) := dk_180 0 58 (dk_at dksJ23_offer_1 0 rfl rfl)
theorem dJ23_offer_26 : decode cJ23_offer 26 = .ok (.istore_n 2, 1) := dk_61 (dk_at dksJ23_offer_1 3 rfl rfl)
theorem dJ23_offer_27 : decode cJ23_offer 27 = .ok (.iload_n 2, 1) := dk_28 (dk_at dksJ23_offer_1 4 rfl rfl)
theorem dJ23_offer_28 : decode cJ23_offer 28 = .ok (.aload_n 0, 1) := dk_42 (dk_at dksJ23_offer_1 5 rfl rfl)
theorem dJ23_offer_29 : decode cJ23_offer 29 = .ok (.getfield 17, 3) := dk_180 0 17 (dk_at dksJ23_offer_1 6 rfl rfl)
theorem dJ23_offer_32 : decode cJ23_offer 32 = .ok (.arraylength, 1) := dk_190 (dk_at dksJ23_offer_1 9 rfl rfl)
theorem dJ23_offer_33 : decode cJ23_offer 33 = .ok (.if_icmp .lt 10, 3) := dk_161 0 10 (dk_at dksJ23_offer_1 10 rfl rfl)
theorem dJ23_offer_36 : decode cJ23_offer 36 = .ok (.aload_n 0, 1) := dk_42 (dk_at dksJ23_offer_1 13 rfl rfl)
theorem dJ23_offer_37 : decode cJ23_offer 37 = .ok (.iload_n 2, 1) := dk_28 (dk_at dksJ23_offer_1 14 rfl rfl)
theorem dJ23_offer_38 : decode cJ23_offer 38 = .ok (.iconst 1, 1) := dk_4 (dk_at dksJ23_offer_1 15 rfl rfl)
theorem dJ23_offer_39 : decode cJ23_offer 39 = .ok (.iadd, 1) := dk_96 (dk_at dksJ23_offer_1 16 rfl rfl)
theorem dJ23_offer_40 : decode cJ23_offer 40 = .ok (.invokevirtual 96, 3) := dk_182 0 96 (dk_at dksJ23_offer_1 17 rfl rfl)
theorem dJ23_offer_43 : decode cJ23_offer 43 = .ok (.aload_n 0, 1) := dk_42 (dk_at dksJ23_offer_1 20 rfl rfl)
theorem dJ23_offer_44 : decode cJ23_offer 44 = .ok (.iload_n 2, 1) := dk_28 (dk_at dksJ23_offer_1 21 rfl rfl)
theorem dJ23_offer_45 : decode cJ23_offer 45 = .ok (.aload_n 1, 1) := dk_43 (dk_at dksJ23_offer_1 22 rfl rfl)
theorem dJ23_offer_46 : decode cJ23_offer 46 = .ok (.invokevirtual 100, 3) := dk_182 0 100 (dk_at dksJ23_offer_2 0 rfl rfl)
theorem dJ23_offer_49 : decode cJ23_offer 49 = .ok (.aload_n 0, 1) := dk_42 (dk_at dksJ23_offer_2 3 rfl rfl)
theorem dJ23_offer_50 : decode cJ23_offer 50 = .ok (.iload_n 2, 1) := dk_28 (dk_at dksJ23_offer_2 4 rfl rfl)
theorem dJ23_offer_51 : decode cJ23_offer 51 = .ok (.iconst 1, 1) := dk_4 (dk_at dksJ23_offer_2 5 rfl rfl)
theorem dJ23_offer_52 : decode cJ23_offer 52 = .ok (.iadd, 1) := dk_96 (dk_at dksJ23_offer_2 6 rfl rfl)
theorem dJ23_offer_53 : decode cJ23_offer 53 = .ok (.putfield 58, 3) := dk_181 0 58 (dk_at dksJ23_offer_2 7 rfl rfl)
theorem dJ23_offer_56 : decode cJ23_offer 56 = .ok (.iconst 1, 1) := dk_4 (dk_at dksJ23_offer_2 10 rfl rfl)
theorem dJ23_offer_57 : decode cJ23_offer 57 = .ok (.ireturn, 1) := dk_172 (dk_at dksJ23_offer_2 11 rfl rfl)
abbrev cJ23_grow : ByteArray := prog_55_method_12_code
def yJ23_grow : MethodName := ⟨RJ23, "grow", "(I)V"⟩
def dkwJ23_grow_1 : List UInt8 := [122, 184, 0, 80, 62, 42, 42, 180, 0, 17, 29, 184, 0, 86, 181, 0, 17, 177]
abbrev dktJ23_grow_1 : List UInt8 := dkwJ23_grow_1 ++ []
def dkwJ23_grow_0 : List UInt8 := [42, 180, 0, 17, 190, 61, 28, 27, 28, 100, 28, 16, 64, 162, 0, 9, 28, 5, 96, 167, 0, 6, 28, 4]
abbrev dktJ23_grow_0 : List UInt8 := dkwJ23_grow_0 ++ dktJ23_grow_1
theorem dksJ23_grow_0 : cJ23_grow.data.toList.drop 0 = dktJ23_grow_0 := by decide +kernel
theorem dksJ23_grow_1 : cJ23_grow.data.toList.drop 24 = dktJ23_grow_1 := dk_seg dksJ23_grow_0 24 rfl rfl
theorem dJ23_grow_0 : decode cJ23_grow 0 = .ok (.aload_n 0, 1) := dk_42 (dk_at dksJ23_grow_0 0 rfl rfl)
theorem dJ23_grow_1 : decode cJ23_grow 1 = .ok (.getfield 17, 3) := dk_180 0 17 (dk_at dksJ23_grow_0 1 rfl rfl)
theorem dJ23_grow_4 : decode cJ23_grow 4 = .ok (.arraylength, 1) := dk_190 (dk_at dksJ23_grow_0 4 rfl rfl)
theorem dJ23_grow_5 : decode cJ23_grow 5 = .ok (.istore_n 2, 1) := dk_61 (dk_at dksJ23_grow_0 5 rfl rfl)
theorem dJ23_grow_6 : decode cJ23_grow 6 = .ok (.iload_n 2, 1) := dk_28 (dk_at dksJ23_grow_0 6 rfl rfl)
theorem dJ23_grow_7 : decode cJ23_grow 7 = .ok (.iload_n 1, 1) := dk_27 (dk_at dksJ23_grow_0 7 rfl rfl)
theorem dJ23_grow_8 : decode cJ23_grow 8 = .ok (.iload_n 2, 1) := dk_28 (dk_at dksJ23_grow_0 8 rfl rfl)
theorem dJ23_grow_9 : decode cJ23_grow 9 = .ok (.isub, 1) := dk_100 (dk_at dksJ23_grow_0 9 rfl rfl)
theorem dJ23_grow_10 : decode cJ23_grow 10 = .ok (.iload_n 2, 1) := dk_28 (dk_at dksJ23_grow_0 10 rfl rfl)
theorem dJ23_grow_11 : decode cJ23_grow 11 = .ok (.bipush 64, 2) := dk_16 64 (dk_at dksJ23_grow_0 11 rfl rfl)
theorem dJ23_grow_13 : decode cJ23_grow 13 = .ok (.if_icmp .ge 9, 3) := dk_162 0 9 (dk_at dksJ23_grow_0 13 rfl rfl)
theorem dJ23_grow_16 : decode cJ23_grow 16 = .ok (.iload_n 2, 1) := dk_28 (dk_at dksJ23_grow_0 16 rfl rfl)
theorem dJ23_grow_17 : decode cJ23_grow 17 = .ok (.iconst 2, 1) := dk_5 (dk_at dksJ23_grow_0 17 rfl rfl)
theorem dJ23_grow_18 : decode cJ23_grow 18 = .ok (.iadd, 1) := dk_96 (dk_at dksJ23_grow_0 18 rfl rfl)
theorem dJ23_grow_19 : decode cJ23_grow 19 = .ok (.goto 6, 3) := dk_167 0 6 (dk_at dksJ23_grow_0 19 rfl rfl)
theorem dJ23_grow_22 : decode cJ23_grow 22 = .ok (.iload_n 2, 1) := dk_28 (dk_at dksJ23_grow_0 22 rfl rfl)
theorem dJ23_grow_23 : decode cJ23_grow 23 = .ok (.iconst 1, 1) := dk_4 (dk_at dksJ23_grow_0 23 rfl rfl)
theorem dJ23_grow_24 : decode cJ23_grow 24 = .ok (.ishr, 1) := dk_122 (dk_at dksJ23_grow_1 0 rfl rfl)
theorem dJ23_grow_25 : decode cJ23_grow 25 = .ok (.invokestatic 80, 3) := dk_184 0 80 (dk_at dksJ23_grow_1 1 rfl rfl)
theorem dJ23_grow_28 : decode cJ23_grow 28 = .ok (.istore_n 3, 1) := dk_62 (dk_at dksJ23_grow_1 4 rfl rfl)
theorem dJ23_grow_29 : decode cJ23_grow 29 = .ok (.aload_n 0, 1) := dk_42 (dk_at dksJ23_grow_1 5 rfl rfl)
theorem dJ23_grow_30 : decode cJ23_grow 30 = .ok (.aload_n 0, 1) := dk_42 (dk_at dksJ23_grow_1 6 rfl rfl)
theorem dJ23_grow_31 : decode cJ23_grow 31 = .ok (.getfield 17, 3) := dk_180 0 17 (dk_at dksJ23_grow_1 7 rfl rfl)
theorem dJ23_grow_34 : decode cJ23_grow 34 = .ok (.iload_n 3, 1) := dk_29 (dk_at dksJ23_grow_1 10 rfl rfl)
theorem dJ23_grow_35 : decode cJ23_grow 35 = .ok (.invokestatic 86, 3) := dk_184 0 86 (dk_at dksJ23_grow_1 11 rfl rfl)
theorem dJ23_grow_38 : decode cJ23_grow 38 = .ok (.putfield 17, 3) := dk_181 0 17 (dk_at dksJ23_grow_1 14 rfl rfl)
theorem dJ23_grow_41 : decode cJ23_grow 41 = .ok (.return_, 1) := dk_177 (dk_at dksJ23_grow_1 17 rfl rfl)
abbrev cJ23_siftUp : ByteArray := prog_55_method_27_code
def yJ23_siftUp : MethodName := ⟨RJ23, "siftUp", "(ILjava/lang/Object;)V"⟩
def dkwJ23_siftUp_1 : List UInt8 := [44, 42, 180, 0, 17, 184, 0, 140, 177]
abbrev dktJ23_siftUp_1 : List UInt8 := dkwJ23_siftUp_1 ++ []
def dkwJ23_siftUp_0 : List UInt8 := [42, 180, 0, 21, 198, 0, 19, 27, 44, 42, 180, 0, 17, 42, 180, 0, 21, 184, 0, 136, 167, 0, 12, 27]
abbrev dktJ23_siftUp_0 : List UInt8 := dkwJ23_siftUp_0 ++ dktJ23_siftUp_1
theorem dksJ23_siftUp_0 : cJ23_siftUp.data.toList.drop 0 = dktJ23_siftUp_0 := by decide +kernel
theorem dksJ23_siftUp_1 : cJ23_siftUp.data.toList.drop 24 = dktJ23_siftUp_1 := dk_seg dksJ23_siftUp_0 24 rfl rfl
theorem dJ23_siftUp_0 : decode cJ23_siftUp 0 = .ok (.aload_n 0, 1) := dk_42 (dk_at dksJ23_siftUp_0 0 rfl rfl)
theorem dJ23_siftUp_1 : decode cJ23_siftUp 1 = .ok (.getfield 21, 3) := dk_180 0 21 (dk_at dksJ23_siftUp_0 1 rfl rfl)
theorem dJ23_siftUp_4 : decode cJ23_siftUp 4 = .ok (.ifnull 19, 3) := dk_198 0 19 (dk_at dksJ23_siftUp_0 4 rfl rfl)
theorem dJ23_siftUp_7 : decode cJ23_siftUp 7 = .ok (.iload_n 1, 1) := dk_27 (dk_at dksJ23_siftUp_0 7 rfl rfl)
theorem dJ23_siftUp_8 : decode cJ23_siftUp 8 = .ok (.aload_n 2, 1) := dk_44 (dk_at dksJ23_siftUp_0 8 rfl rfl)
theorem dJ23_siftUp_9 : decode cJ23_siftUp 9 = .ok (.aload_n 0, 1) := dk_42 (dk_at dksJ23_siftUp_0 9 rfl rfl)
theorem dJ23_siftUp_10 : decode cJ23_siftUp 10 = .ok (.getfield 17, 3) := dk_180 0 17 (dk_at dksJ23_siftUp_0 10 rfl rfl)
theorem dJ23_siftUp_13 : decode cJ23_siftUp 13 = .ok (.aload_n 0, 1) := dk_42 (dk_at dksJ23_siftUp_0 13 rfl rfl)
theorem dJ23_siftUp_14 : decode cJ23_siftUp 14 = .ok (.getfield 21, 3) := dk_180 0 21 (dk_at dksJ23_siftUp_0 14 rfl rfl)
theorem dJ23_siftUp_17 : decode cJ23_siftUp 17 = .ok (.invokestatic 136, 3) := dk_184 0 136 (dk_at dksJ23_siftUp_0 17 rfl rfl)
theorem dJ23_siftUp_20 : decode cJ23_siftUp 20 = .ok (.goto 12, 3) := dk_167 0 12 (dk_at dksJ23_siftUp_0 20 rfl rfl)
theorem dJ23_siftUp_23 : decode cJ23_siftUp 23 = .ok (.iload_n 1, 1) := dk_27 (dk_at dksJ23_siftUp_0 23 rfl rfl)
theorem dJ23_siftUp_24 : decode cJ23_siftUp 24 = .ok (.aload_n 2, 1) := dk_44 (dk_at dksJ23_siftUp_1 0 rfl rfl)
theorem dJ23_siftUp_25 : decode cJ23_siftUp 25 = .ok (.aload_n 0, 1) := dk_42 (dk_at dksJ23_siftUp_1 1 rfl rfl)
theorem dJ23_siftUp_26 : decode cJ23_siftUp 26 = .ok (.getfield 17, 3) := dk_180 0 17 (dk_at dksJ23_siftUp_1 2 rfl rfl)
theorem dJ23_siftUp_29 : decode cJ23_siftUp 29 = .ok (.invokestatic 140, 3) := dk_184 0 140 (dk_at dksJ23_siftUp_1 5 rfl rfl)
theorem dJ23_siftUp_32 : decode cJ23_siftUp 32 = .ok (.return_, 1) := dk_177 (dk_at dksJ23_siftUp_1 8 rfl rfl)
abbrev cJ23_siftUpUsingComparator : ByteArray := prog_55_method_29_code
def yJ23_siftUpUsingComparator : MethodName := ⟨RJ23, "siftUpUsingComparator", "(ILjava/lang/Object;[Ljava/lang/Object;Ljava/util/Comparator;)V"⟩
def dkwJ23_siftUpUsingComparator_2 : List UInt8 := [43, 83, 177]
abbrev dktJ23_siftUpUsingComparator_2 : List UInt8 := dkwJ23_siftUpUsingComparator_2 ++ []
def dkwJ23_siftUpUsingComparator_1 : List UInt8 := [185, 0, 149, 3, 0, 155, 0, 6, 167, 0, 14, 44, 26, 25, 5, 83, 21, 4, 59, 167, 255, 216, 44, 26]
abbrev dktJ23_siftUpUsingComparator_1 : List UInt8 := dkwJ23_siftUpUsingComparator_1 ++ dktJ23_siftUpUsingComparator_2
def dkwJ23_siftUpUsingComparator_0 : List UInt8 := [26, 158, 0, 42, 26, 4, 100, 4, 124, 54, 4, 44, 21, 4, 50, 58, 5, 45, 43, 25, 5]
abbrev dktJ23_siftUpUsingComparator_0 : List UInt8 := dkwJ23_siftUpUsingComparator_0 ++ dktJ23_siftUpUsingComparator_1
theorem dksJ23_siftUpUsingComparator_0 : cJ23_siftUpUsingComparator.data.toList.drop 0 = dktJ23_siftUpUsingComparator_0 := by decide +kernel
theorem dksJ23_siftUpUsingComparator_1 : cJ23_siftUpUsingComparator.data.toList.drop 21 = dktJ23_siftUpUsingComparator_1 := dk_seg dksJ23_siftUpUsingComparator_0 21 rfl rfl
theorem dksJ23_siftUpUsingComparator_2 : cJ23_siftUpUsingComparator.data.toList.drop 45 = dktJ23_siftUpUsingComparator_2 := dk_seg dksJ23_siftUpUsingComparator_1 24 rfl rfl
theorem dJ23_siftUpUsingComparator_0 : decode cJ23_siftUpUsingComparator 0 = .ok (.iload_n 0, 1) := dk_26 (dk_at dksJ23_siftUpUsingComparator_0 0 rfl rfl)
theorem dJ23_siftUpUsingComparator_1 : decode cJ23_siftUpUsingComparator 1 = .ok (.ifCond .le 42, 3) := dk_158 0 42 (dk_at dksJ23_siftUpUsingComparator_0 1 rfl rfl)
theorem dJ23_siftUpUsingComparator_4 : decode cJ23_siftUpUsingComparator 4 = .ok (.iload_n 0, 1) := dk_26 (dk_at dksJ23_siftUpUsingComparator_0 4 rfl rfl)
theorem dJ23_siftUpUsingComparator_5 : decode cJ23_siftUpUsingComparator 5 = .ok (.iconst 1, 1) := dk_4 (dk_at dksJ23_siftUpUsingComparator_0 5 rfl rfl)
theorem dJ23_siftUpUsingComparator_6 : decode cJ23_siftUpUsingComparator 6 = .ok (.isub, 1) := dk_100 (dk_at dksJ23_siftUpUsingComparator_0 6 rfl rfl)
theorem dJ23_siftUpUsingComparator_7 : decode cJ23_siftUpUsingComparator 7 = .ok (.iconst 1, 1) := dk_4 (dk_at dksJ23_siftUpUsingComparator_0 7 rfl rfl)
theorem dJ23_siftUpUsingComparator_8 : decode cJ23_siftUpUsingComparator 8 = .ok (.iushr, 1) := dk_124 (dk_at dksJ23_siftUpUsingComparator_0 8 rfl rfl)
theorem dJ23_siftUpUsingComparator_9 : decode cJ23_siftUpUsingComparator 9 = .ok (.istore 4, 2) := dk_54 4 (dk_at dksJ23_siftUpUsingComparator_0 9 rfl rfl)
theorem dJ23_siftUpUsingComparator_11 : decode cJ23_siftUpUsingComparator 11 = .ok (.aload_n 2, 1) := dk_44 (dk_at dksJ23_siftUpUsingComparator_0 11 rfl rfl)
theorem dJ23_siftUpUsingComparator_12 : decode cJ23_siftUpUsingComparator 12 = .ok (.iload 4, 2) := dk_21 4 (dk_at dksJ23_siftUpUsingComparator_0 12 rfl rfl)
theorem dJ23_siftUpUsingComparator_14 : decode cJ23_siftUpUsingComparator 14 = .ok (.aaload, 1) := dk_50 (dk_at dksJ23_siftUpUsingComparator_0 14 rfl rfl)
theorem dJ23_siftUpUsingComparator_15 : decode cJ23_siftUpUsingComparator 15 = .ok (.astore 5, 2) := dk_58 5 (dk_at dksJ23_siftUpUsingComparator_0 15 rfl rfl)
theorem dJ23_siftUpUsingComparator_17 : decode cJ23_siftUpUsingComparator 17 = .ok (.aload_n 3, 1) := dk_45 (dk_at dksJ23_siftUpUsingComparator_0 17 rfl rfl)
theorem dJ23_siftUpUsingComparator_18 : decode cJ23_siftUpUsingComparator 18 = .ok (.aload_n 1, 1) := dk_43 (dk_at dksJ23_siftUpUsingComparator_0 18 rfl rfl)
theorem dJ23_siftUpUsingComparator_19 : decode cJ23_siftUpUsingComparator 19 = .ok (.aload 5, 2) := dk_25 5 (dk_at dksJ23_siftUpUsingComparator_0 19 rfl rfl)
theorem dJ23_siftUpUsingComparator_21 : decode cJ23_siftUpUsingComparator 21 = .ok (.invokeinterface 149 3, 5) := by decide +kernel
theorem dJ23_siftUpUsingComparator_26 : decode cJ23_siftUpUsingComparator 26 = .ok (.ifCond .lt 6, 3) := dk_155 0 6 (dk_at dksJ23_siftUpUsingComparator_1 5 rfl rfl)
theorem dJ23_siftUpUsingComparator_29 : decode cJ23_siftUpUsingComparator 29 = .ok (.goto 14, 3) := dk_167 0 14 (dk_at dksJ23_siftUpUsingComparator_1 8 rfl rfl)
theorem dJ23_siftUpUsingComparator_32 : decode cJ23_siftUpUsingComparator 32 = .ok (.aload_n 2, 1) := dk_44 (dk_at dksJ23_siftUpUsingComparator_1 11 rfl rfl)
theorem dJ23_siftUpUsingComparator_33 : decode cJ23_siftUpUsingComparator 33 = .ok (.iload_n 0, 1) := dk_26 (dk_at dksJ23_siftUpUsingComparator_1 12 rfl rfl)
theorem dJ23_siftUpUsingComparator_34 : decode cJ23_siftUpUsingComparator 34 = .ok (.aload 5, 2) := dk_25 5 (dk_at dksJ23_siftUpUsingComparator_1 13 rfl rfl)
theorem dJ23_siftUpUsingComparator_36 : decode cJ23_siftUpUsingComparator 36 = .ok (.aastore, 1) := dk_83 (dk_at dksJ23_siftUpUsingComparator_1 15 rfl rfl)
theorem dJ23_siftUpUsingComparator_37 : decode cJ23_siftUpUsingComparator 37 = .ok (.iload 4, 2) := dk_21 4 (dk_at dksJ23_siftUpUsingComparator_1 16 rfl rfl)
theorem dJ23_siftUpUsingComparator_39 : decode cJ23_siftUpUsingComparator 39 = .ok (.istore_n 0, 1) := dk_59 (dk_at dksJ23_siftUpUsingComparator_1 18 rfl rfl)
theorem dJ23_siftUpUsingComparator_40 : decode cJ23_siftUpUsingComparator 40 = .ok (.goto (-40), 3) := dk_167 255 216 (dk_at dksJ23_siftUpUsingComparator_1 19 rfl rfl)
theorem dJ23_siftUpUsingComparator_43 : decode cJ23_siftUpUsingComparator 43 = .ok (.aload_n 2, 1) := dk_44 (dk_at dksJ23_siftUpUsingComparator_1 22 rfl rfl)
theorem dJ23_siftUpUsingComparator_44 : decode cJ23_siftUpUsingComparator 44 = .ok (.iload_n 0, 1) := dk_26 (dk_at dksJ23_siftUpUsingComparator_1 23 rfl rfl)
theorem dJ23_siftUpUsingComparator_45 : decode cJ23_siftUpUsingComparator 45 = .ok (.aload_n 1, 1) := dk_43 (dk_at dksJ23_siftUpUsingComparator_2 0 rfl rfl)
theorem dJ23_siftUpUsingComparator_46 : decode cJ23_siftUpUsingComparator 46 = .ok (.aastore, 1) := dk_83 (dk_at dksJ23_siftUpUsingComparator_2 1 rfl rfl)
theorem dJ23_siftUpUsingComparator_47 : decode cJ23_siftUpUsingComparator 47 = .ok (.return_, 1) := dk_177 (dk_at dksJ23_siftUpUsingComparator_2 2 rfl rfl)
abbrev cJ23_siftUpComparable : ByteArray := prog_55_method_28_code
def yJ23_siftUpComparable : MethodName := ⟨RJ23, "siftUpComparable", "(ILjava/lang/Object;[Ljava/lang/Object;)V"⟩
def dkwJ23_siftUpComparable_2 : List UInt8 := [44, 26, 45, 83, 177]
abbrev dktJ23_siftUpComparable_2 : List UInt8 := dkwJ23_siftUpComparable_2 ++ []
def dkwJ23_siftUpComparable_1 : List UInt8 := [25, 5, 185, 0, 146, 2, 0, 155, 0, 6, 167, 0, 14, 44, 26, 25, 5, 83, 21, 4, 59, 167, 255, 217]
abbrev dktJ23_siftUpComparable_1 : List UInt8 := dkwJ23_siftUpComparable_1 ++ dktJ23_siftUpComparable_2
def dkwJ23_siftUpComparable_0 : List UInt8 := [43, 192, 0, 144, 78, 26, 158, 0, 41, 26, 4, 100, 4, 124, 54, 4, 44, 21, 4, 50, 58, 5, 45]
abbrev dktJ23_siftUpComparable_0 : List UInt8 := dkwJ23_siftUpComparable_0 ++ dktJ23_siftUpComparable_1
theorem dksJ23_siftUpComparable_0 : cJ23_siftUpComparable.data.toList.drop 0 = dktJ23_siftUpComparable_0 := by decide +kernel
theorem dksJ23_siftUpComparable_1 : cJ23_siftUpComparable.data.toList.drop 23 = dktJ23_siftUpComparable_1 := dk_seg dksJ23_siftUpComparable_0 23 rfl rfl
theorem dksJ23_siftUpComparable_2 : cJ23_siftUpComparable.data.toList.drop 47 = dktJ23_siftUpComparable_2 := dk_seg dksJ23_siftUpComparable_1 24 rfl rfl
theorem dJ23_siftUpComparable_0 : decode cJ23_siftUpComparable 0 = .ok (.aload_n 1, 1) := dk_43 (dk_at dksJ23_siftUpComparable_0 0 rfl rfl)
theorem dJ23_siftUpComparable_1 : decode cJ23_siftUpComparable 1 = .ok (.checkcast 144, 3) := dk_192 0 144 (dk_at dksJ23_siftUpComparable_0 1 rfl rfl)
theorem dJ23_siftUpComparable_4 : decode cJ23_siftUpComparable 4 = .ok (.astore_n 3, 1) := dk_78 (dk_at dksJ23_siftUpComparable_0 4 rfl rfl)
theorem dJ23_siftUpComparable_5 : decode cJ23_siftUpComparable 5 = .ok (.iload_n 0, 1) := dk_26 (dk_at dksJ23_siftUpComparable_0 5 rfl rfl)
theorem dJ23_siftUpComparable_6 : decode cJ23_siftUpComparable 6 = .ok (.ifCond .le 41, 3) := dk_158 0 41 (dk_at dksJ23_siftUpComparable_0 6 rfl rfl)
theorem dJ23_siftUpComparable_9 : decode cJ23_siftUpComparable 9 = .ok (.iload_n 0, 1) := dk_26 (dk_at dksJ23_siftUpComparable_0 9 rfl rfl)
theorem dJ23_siftUpComparable_10 : decode cJ23_siftUpComparable 10 = .ok (.iconst 1, 1) := dk_4 (dk_at dksJ23_siftUpComparable_0 10 rfl rfl)
theorem dJ23_siftUpComparable_11 : decode cJ23_siftUpComparable 11 = .ok (.isub, 1) := dk_100 (dk_at dksJ23_siftUpComparable_0 11 rfl rfl)
theorem dJ23_siftUpComparable_12 : decode cJ23_siftUpComparable 12 = .ok (.iconst 1, 1) := dk_4 (dk_at dksJ23_siftUpComparable_0 12 rfl rfl)
theorem dJ23_siftUpComparable_13 : decode cJ23_siftUpComparable 13 = .ok (.iushr, 1) := dk_124 (dk_at dksJ23_siftUpComparable_0 13 rfl rfl)
theorem dJ23_siftUpComparable_14 : decode cJ23_siftUpComparable 14 = .ok (.istore 4, 2) := dk_54 4 (dk_at dksJ23_siftUpComparable_0 14 rfl rfl)
theorem dJ23_siftUpComparable_16 : decode cJ23_siftUpComparable 16 = .ok (.aload_n 2, 1) := dk_44 (dk_at dksJ23_siftUpComparable_0 16 rfl rfl)
theorem dJ23_siftUpComparable_17 : decode cJ23_siftUpComparable 17 = .ok (.iload 4, 2) := dk_21 4 (dk_at dksJ23_siftUpComparable_0 17 rfl rfl)
theorem dJ23_siftUpComparable_19 : decode cJ23_siftUpComparable 19 = .ok (.aaload, 1) := dk_50 (dk_at dksJ23_siftUpComparable_0 19 rfl rfl)
theorem dJ23_siftUpComparable_20 : decode cJ23_siftUpComparable 20 = .ok (.astore 5, 2) := dk_58 5 (dk_at dksJ23_siftUpComparable_0 20 rfl rfl)
theorem dJ23_siftUpComparable_22 : decode cJ23_siftUpComparable 22 = .ok (.aload_n 3, 1) := dk_45 (dk_at dksJ23_siftUpComparable_0 22 rfl rfl)
theorem dJ23_siftUpComparable_23 : decode cJ23_siftUpComparable 23 = .ok (.aload 5, 2) := dk_25 5 (dk_at dksJ23_siftUpComparable_1 0 rfl rfl)
theorem dJ23_siftUpComparable_25 : decode cJ23_siftUpComparable 25 = .ok (.invokeinterface 146 2, 5) := by decide +kernel
theorem dJ23_siftUpComparable_30 : decode cJ23_siftUpComparable 30 = .ok (.ifCond .lt 6, 3) := dk_155 0 6 (dk_at dksJ23_siftUpComparable_1 7 rfl rfl)
theorem dJ23_siftUpComparable_33 : decode cJ23_siftUpComparable 33 = .ok (.goto 14, 3) := dk_167 0 14 (dk_at dksJ23_siftUpComparable_1 10 rfl rfl)
theorem dJ23_siftUpComparable_36 : decode cJ23_siftUpComparable 36 = .ok (.aload_n 2, 1) := dk_44 (dk_at dksJ23_siftUpComparable_1 13 rfl rfl)
theorem dJ23_siftUpComparable_37 : decode cJ23_siftUpComparable 37 = .ok (.iload_n 0, 1) := dk_26 (dk_at dksJ23_siftUpComparable_1 14 rfl rfl)
theorem dJ23_siftUpComparable_38 : decode cJ23_siftUpComparable 38 = .ok (.aload 5, 2) := dk_25 5 (dk_at dksJ23_siftUpComparable_1 15 rfl rfl)
theorem dJ23_siftUpComparable_40 : decode cJ23_siftUpComparable 40 = .ok (.aastore, 1) := dk_83 (dk_at dksJ23_siftUpComparable_1 17 rfl rfl)
theorem dJ23_siftUpComparable_41 : decode cJ23_siftUpComparable 41 = .ok (.iload 4, 2) := dk_21 4 (dk_at dksJ23_siftUpComparable_1 18 rfl rfl)
theorem dJ23_siftUpComparable_43 : decode cJ23_siftUpComparable 43 = .ok (.istore_n 0, 1) := dk_59 (dk_at dksJ23_siftUpComparable_1 20 rfl rfl)
theorem dJ23_siftUpComparable_44 : decode cJ23_siftUpComparable 44 = .ok (.goto (-39), 3) := dk_167 255 217 (dk_at dksJ23_siftUpComparable_1 21 rfl rfl)
theorem dJ23_siftUpComparable_47 : decode cJ23_siftUpComparable 47 = .ok (.aload_n 2, 1) := dk_44 (dk_at dksJ23_siftUpComparable_2 0 rfl rfl)
theorem dJ23_siftUpComparable_48 : decode cJ23_siftUpComparable 48 = .ok (.iload_n 0, 1) := dk_26 (dk_at dksJ23_siftUpComparable_2 1 rfl rfl)
theorem dJ23_siftUpComparable_49 : decode cJ23_siftUpComparable 49 = .ok (.aload_n 3, 1) := dk_45 (dk_at dksJ23_siftUpComparable_2 2 rfl rfl)
theorem dJ23_siftUpComparable_50 : decode cJ23_siftUpComparable 50 = .ok (.aastore, 1) := dk_83 (dk_at dksJ23_siftUpComparable_2 3 rfl rfl)
theorem dJ23_siftUpComparable_51 : decode cJ23_siftUpComparable 51 = .ok (.return_, 1) := dk_177 (dk_at dksJ23_siftUpComparable_2 4 rfl rfl)
abbrev cJ23_size : ByteArray := prog_55_method_23_code
def yJ23_size : MethodName := ⟨RJ23, "size", "()I"⟩
theorem dJ23_size_0 : decode cJ23_size 0 = .ok (.aload_n 0, 1) := by decide +kernel
theorem dJ23_size_1 : decode cJ23_size 1 = .ok (.getfield 58, 3) := by decide +kernel
theorem dJ23_size_4 : decode cJ23_size 4 = .ok (.ireturn, 1) := by decide +kernel
abbrev cJ23_poll : ByteArray := prog_55_method_25_code
def yJ23_poll : MethodName := ⟨RJ23, "poll", "()Ljava/lang/Object;"⟩
def dkwJ23_poll_3 : List UInt8 := [43, 29, 25, 5, 184, 0, 129, 44, 176]
abbrev dktJ23_poll_3 : List UInt8 := dkwJ23_poll_3 ++ []
def dkwJ23_poll_2 : List UInt8 := [42, 180, 0, 21, 89, 58, 5, 199, 0, 14, 3, 25, 4, 43, 29, 184, 0, 125, 167, 0, 13, 3, 25, 4]
abbrev dktJ23_poll_2 : List UInt8 := dkwJ23_poll_2 ++ dktJ23_poll_3
def dkwJ23_poll_1 : List UInt8 := [42, 89, 180, 0, 58, 4, 100, 90, 181, 0, 58, 89, 62, 50, 58, 4, 43, 29, 1, 83, 29, 158, 0, 34]
abbrev dktJ23_poll_1 : List UInt8 := dkwJ23_poll_1 ++ dktJ23_poll_2
def dkwJ23_poll_0 : List UInt8 := [42, 180, 0, 17, 89, 76, 3, 50, 89, 77, 198, 0, 69, 42, 89, 180, 0, 93, 4, 96, 181, 0, 93, 43]
abbrev dktJ23_poll_0 : List UInt8 := dkwJ23_poll_0 ++ dktJ23_poll_1
theorem dksJ23_poll_0 : cJ23_poll.data.toList.drop 0 = dktJ23_poll_0 := by decide +kernel
theorem dksJ23_poll_1 : cJ23_poll.data.toList.drop 24 = dktJ23_poll_1 := dk_seg dksJ23_poll_0 24 rfl rfl
theorem dksJ23_poll_2 : cJ23_poll.data.toList.drop 48 = dktJ23_poll_2 := dk_seg dksJ23_poll_1 24 rfl rfl
theorem dksJ23_poll_3 : cJ23_poll.data.toList.drop 72 = dktJ23_poll_3 := dk_seg dksJ23_poll_2 24 rfl rfl
theorem dJ23_poll_0 : decode cJ23_poll 0 = .ok (.aload_n 0, 1) := dk_42 (dk_at dksJ23_poll_0 0 rfl rfl)
theorem dJ23_poll_1 : decode cJ23_poll 1 = .ok (.getfield 17, 3) := dk_180 0 17 (dk_at dksJ23_poll_0 1 rfl rfl)
theorem dJ23_poll_4 : decode cJ23_poll 4 = .ok (.dup, 1) := dk_89 (dk_at dksJ23_poll_0 4 rfl rfl)
theorem dJ23_poll_5 : decode cJ23_poll 5 = .ok (.astore_n 1, 1) := dk_76 (dk_at dksJ23_poll_0 5 rfl rfl)
theorem dJ23_poll_6 : decode cJ23_poll 6 = .ok (.iconst 0, 1) := dk_3 (dk_at dksJ23_poll_0 6 rfl rfl)
theorem dJ23_poll_7 : decode cJ23_poll 7 = .ok (.aaload, 1) := dk_50 (dk_at dksJ23_poll_0 7 rfl rfl)
theorem dJ23_poll_8 : decode cJ23_poll 8 = .ok (.dup, 1) := dk_89 (dk_at dksJ23_poll_0 8 rfl rfl)
theorem dJ23_poll_9 : decode cJ23_poll 9 = .ok (.astore_n 2, 1) := dk_77 (dk_at dksJ23_poll_0 9 rfl rfl)
theorem dJ23_poll_10 : decode cJ23_poll 10 = .ok (.ifnull 69, 3) := dk_198 0 69 (dk_at dksJ23_poll_0 10 rfl rfl)
theorem dJ23_poll_13 : decode cJ23_poll 13 = .ok (.aload_n 0, 1) := dk_42 (dk_at dksJ23_poll_0 13 rfl rfl)
theorem dJ23_poll_14 : decode cJ23_poll 14 = .ok (.dup, 1) := dk_89 (dk_at dksJ23_poll_0 14 rfl rfl)
theorem dJ23_poll_15 : decode cJ23_poll 15 = .ok (.getfield 93, 3) := dk_180 0 93 (dk_at dksJ23_poll_0 15 rfl rfl)
theorem dJ23_poll_18 : decode cJ23_poll 18 = .ok (.iconst 1, 1) := dk_4 (dk_at dksJ23_poll_0 18 rfl rfl)
theorem dJ23_poll_19 : decode cJ23_poll 19 = .ok (.iadd, 1) := dk_96 (dk_at dksJ23_poll_0 19 rfl rfl)
theorem dJ23_poll_20 : decode cJ23_poll 20 = .ok (.putfield 93, 3) := dk_181 0 93 (dk_at dksJ23_poll_0 20 rfl rfl)
theorem dJ23_poll_23 : decode cJ23_poll 23 = .ok (.aload_n 1, 1) := dk_43 (dk_at dksJ23_poll_0 23 rfl rfl)
theorem dJ23_poll_24 : decode cJ23_poll 24 = .ok (.aload_n 0, 1) := dk_42 (dk_at dksJ23_poll_1 0 rfl rfl)
theorem dJ23_poll_25 : decode cJ23_poll 25 = .ok (.dup, 1) := dk_89 (dk_at dksJ23_poll_1 1 rfl rfl)
theorem dJ23_poll_26 : decode cJ23_poll 26 = .ok (.getfield 58, 3) := dk_180 0 58 (dk_at dksJ23_poll_1 2 rfl rfl)
theorem dJ23_poll_29 : decode cJ23_poll 29 = .ok (.iconst 1, 1) := dk_4 (dk_at dksJ23_poll_1 5 rfl rfl)
theorem dJ23_poll_30 : decode cJ23_poll 30 = .ok (.isub, 1) := dk_100 (dk_at dksJ23_poll_1 6 rfl rfl)
theorem dJ23_poll_31 : decode cJ23_poll 31 = .ok (.dup_x1, 1) := dk_90 (dk_at dksJ23_poll_1 7 rfl rfl)
theorem dJ23_poll_32 : decode cJ23_poll 32 = .ok (.putfield 58, 3) := dk_181 0 58 (dk_at dksJ23_poll_1 8 rfl rfl)
theorem dJ23_poll_35 : decode cJ23_poll 35 = .ok (.dup, 1) := dk_89 (dk_at dksJ23_poll_1 11 rfl rfl)
theorem dJ23_poll_36 : decode cJ23_poll 36 = .ok (.istore_n 3, 1) := dk_62 (dk_at dksJ23_poll_1 12 rfl rfl)
theorem dJ23_poll_37 : decode cJ23_poll 37 = .ok (.aaload, 1) := dk_50 (dk_at dksJ23_poll_1 13 rfl rfl)
theorem dJ23_poll_38 : decode cJ23_poll 38 = .ok (.astore 4, 2) := dk_58 4 (dk_at dksJ23_poll_1 14 rfl rfl)
theorem dJ23_poll_40 : decode cJ23_poll 40 = .ok (.aload_n 1, 1) := dk_43 (dk_at dksJ23_poll_1 16 rfl rfl)
theorem dJ23_poll_41 : decode cJ23_poll 41 = .ok (.iload_n 3, 1) := dk_29 (dk_at dksJ23_poll_1 17 rfl rfl)
theorem dJ23_poll_42 : decode cJ23_poll 42 = .ok (.aconst_null, 1) := dk_1 (dk_at dksJ23_poll_1 18 rfl rfl)
theorem dJ23_poll_43 : decode cJ23_poll 43 = .ok (.aastore, 1) := dk_83 (dk_at dksJ23_poll_1 19 rfl rfl)
theorem dJ23_poll_44 : decode cJ23_poll 44 = .ok (.iload_n 3, 1) := dk_29 (dk_at dksJ23_poll_1 20 rfl rfl)
theorem dJ23_poll_45 : decode cJ23_poll 45 = .ok (.ifCond .le 34, 3) := dk_158 0 34 (dk_at dksJ23_poll_1 21 rfl rfl)
theorem dJ23_poll_48 : decode cJ23_poll 48 = .ok (.aload_n 0, 1) := dk_42 (dk_at dksJ23_poll_2 0 rfl rfl)
theorem dJ23_poll_49 : decode cJ23_poll 49 = .ok (.getfield 21, 3) := dk_180 0 21 (dk_at dksJ23_poll_2 1 rfl rfl)
theorem dJ23_poll_52 : decode cJ23_poll 52 = .ok (.dup, 1) := dk_89 (dk_at dksJ23_poll_2 4 rfl rfl)
theorem dJ23_poll_53 : decode cJ23_poll 53 = .ok (.astore 5, 2) := dk_58 5 (dk_at dksJ23_poll_2 5 rfl rfl)
theorem dJ23_poll_55 : decode cJ23_poll 55 = .ok (.ifnonnull 14, 3) := dk_199 0 14 (dk_at dksJ23_poll_2 7 rfl rfl)
theorem dJ23_poll_58 : decode cJ23_poll 58 = .ok (.iconst 0, 1) := dk_3 (dk_at dksJ23_poll_2 10 rfl rfl)
theorem dJ23_poll_59 : decode cJ23_poll 59 = .ok (.aload 4, 2) := dk_25 4 (dk_at dksJ23_poll_2 11 rfl rfl)
theorem dJ23_poll_61 : decode cJ23_poll 61 = .ok (.aload_n 1, 1) := dk_43 (dk_at dksJ23_poll_2 13 rfl rfl)
theorem dJ23_poll_62 : decode cJ23_poll 62 = .ok (.iload_n 3, 1) := dk_29 (dk_at dksJ23_poll_2 14 rfl rfl)
theorem dJ23_poll_63 : decode cJ23_poll 63 = .ok (.invokestatic 125, 3) := dk_184 0 125 (dk_at dksJ23_poll_2 15 rfl rfl)
theorem dJ23_poll_66 : decode cJ23_poll 66 = .ok (.goto 13, 3) := dk_167 0 13 (dk_at dksJ23_poll_2 18 rfl rfl)
theorem dJ23_poll_69 : decode cJ23_poll 69 = .ok (.iconst 0, 1) := dk_3 (dk_at dksJ23_poll_2 21 rfl rfl)
theorem dJ23_poll_70 : decode cJ23_poll 70 = .ok (.aload 4, 2) := dk_25 4 (dk_at dksJ23_poll_2 22 rfl rfl)
theorem dJ23_poll_72 : decode cJ23_poll 72 = .ok (.aload_n 1, 1) := dk_43 (dk_at dksJ23_poll_3 0 rfl rfl)
theorem dJ23_poll_73 : decode cJ23_poll 73 = .ok (.iload_n 3, 1) := dk_29 (dk_at dksJ23_poll_3 1 rfl rfl)
theorem dJ23_poll_74 : decode cJ23_poll 74 = .ok (.aload 5, 2) := dk_25 5 (dk_at dksJ23_poll_3 2 rfl rfl)
theorem dJ23_poll_76 : decode cJ23_poll 76 = .ok (.invokestatic 129, 3) := dk_184 0 129 (dk_at dksJ23_poll_3 4 rfl rfl)
theorem dJ23_poll_79 : decode cJ23_poll 79 = .ok (.aload_n 2, 1) := dk_44 (dk_at dksJ23_poll_3 7 rfl rfl)
theorem dJ23_poll_80 : decode cJ23_poll 80 = .ok (.areturn, 1) := dk_176 (dk_at dksJ23_poll_3 8 rfl rfl)
abbrev cJ23_siftDownComparable : ByteArray := prog_55_method_31_code
def yJ23_siftDownComparable : MethodName := ⟨RJ23, "siftDownComparable", "(ILjava/lang/Object;[Ljava/lang/Object;I)V"⟩
def dkwJ23_siftDownComparable_4 : List UInt8 := [25, 4, 83, 177]
abbrev dktJ23_siftDownComparable_4 : List UInt8 := dkwJ23_siftDownComparable_4 ++ []
def dkwJ23_siftDownComparable_3 : List UInt8 := [185, 0, 146, 2, 0, 157, 0, 6, 167, 0, 14, 44, 26, 25, 7, 83, 21, 6, 59, 167, 255, 176, 44, 26]
abbrev dktJ23_siftDownComparable_3 : List UInt8 := dkwJ23_siftDownComparable_3 ++ dktJ23_siftDownComparable_4
def dkwJ23_siftDownComparable_2 : List UInt8 := [21, 8, 50, 185, 0, 146, 2, 0, 158, 0, 12, 44, 21, 8, 89, 54, 6, 50, 58, 7, 25, 4, 25, 7]
abbrev dktJ23_siftDownComparable_2 : List UInt8 := dkwJ23_siftDownComparable_2 ++ dktJ23_siftDownComparable_3
def dkwJ23_siftDownComparable_1 : List UInt8 := [44, 21, 6, 50, 58, 7, 21, 6, 4, 96, 54, 8, 21, 8, 29, 162, 0, 29, 25, 7, 192, 0, 144, 44]
abbrev dktJ23_siftDownComparable_1 : List UInt8 := dkwJ23_siftDownComparable_1 ++ dktJ23_siftDownComparable_2
def dkwJ23_siftDownComparable_0 : List UInt8 := [43, 192, 0, 144, 58, 4, 29, 4, 124, 54, 5, 26, 21, 5, 162, 0, 80, 26, 4, 120, 4, 96, 54, 6]
abbrev dktJ23_siftDownComparable_0 : List UInt8 := dkwJ23_siftDownComparable_0 ++ dktJ23_siftDownComparable_1
theorem dksJ23_siftDownComparable_0 : cJ23_siftDownComparable.data.toList.drop 0 = dktJ23_siftDownComparable_0 := by decide +kernel
theorem dksJ23_siftDownComparable_1 : cJ23_siftDownComparable.data.toList.drop 24 = dktJ23_siftDownComparable_1 := dk_seg dksJ23_siftDownComparable_0 24 rfl rfl
theorem dksJ23_siftDownComparable_2 : cJ23_siftDownComparable.data.toList.drop 48 = dktJ23_siftDownComparable_2 := dk_seg dksJ23_siftDownComparable_1 24 rfl rfl
theorem dksJ23_siftDownComparable_3 : cJ23_siftDownComparable.data.toList.drop 72 = dktJ23_siftDownComparable_3 := dk_seg dksJ23_siftDownComparable_2 24 rfl rfl
theorem dksJ23_siftDownComparable_4 : cJ23_siftDownComparable.data.toList.drop 96 = dktJ23_siftDownComparable_4 := dk_seg dksJ23_siftDownComparable_3 24 rfl rfl
theorem dJ23_siftDownComparable_0 : decode cJ23_siftDownComparable 0 = .ok (.aload_n 1, 1) := dk_43 (dk_at dksJ23_siftDownComparable_0 0 rfl rfl)
theorem dJ23_siftDownComparable_1 : decode cJ23_siftDownComparable 1 = .ok (.checkcast 144, 3) := dk_192 0 144 (dk_at dksJ23_siftDownComparable_0 1 rfl rfl)
theorem dJ23_siftDownComparable_4 : decode cJ23_siftDownComparable 4 = .ok (.astore 4, 2) := dk_58 4 (dk_at dksJ23_siftDownComparable_0 4 rfl rfl)
theorem dJ23_siftDownComparable_6 : decode cJ23_siftDownComparable 6 = .ok (.iload_n 3, 1) := dk_29 (dk_at dksJ23_siftDownComparable_0 6 rfl rfl)
theorem dJ23_siftDownComparable_7 : decode cJ23_siftDownComparable 7 = .ok (.iconst 1, 1) := dk_4 (dk_at dksJ23_siftDownComparable_0 7 rfl rfl)
theorem dJ23_siftDownComparable_8 : decode cJ23_siftDownComparable 8 = .ok (.iushr, 1) := dk_124 (dk_at dksJ23_siftDownComparable_0 8 rfl rfl)
theorem dJ23_siftDownComparable_9 : decode cJ23_siftDownComparable 9 = .ok (.istore 5, 2) := dk_54 5 (dk_at dksJ23_siftDownComparable_0 9 rfl rfl)
theorem dJ23_siftDownComparable_11 : decode cJ23_siftDownComparable 11 = .ok (.iload_n 0, 1) := dk_26 (dk_at dksJ23_siftDownComparable_0 11 rfl rfl)
theorem dJ23_siftDownComparable_12 : decode cJ23_siftDownComparable 12 = .ok (.iload 5, 2) := dk_21 5 (dk_at dksJ23_siftDownComparable_0 12 rfl rfl)
theorem dJ23_siftDownComparable_14 : decode cJ23_siftDownComparable 14 = .ok (.if_icmp .ge 80, 3) := dk_162 0 80 (dk_at dksJ23_siftDownComparable_0 14 rfl rfl)
theorem dJ23_siftDownComparable_17 : decode cJ23_siftDownComparable 17 = .ok (.iload_n 0, 1) := dk_26 (dk_at dksJ23_siftDownComparable_0 17 rfl rfl)
theorem dJ23_siftDownComparable_18 : decode cJ23_siftDownComparable 18 = .ok (.iconst 1, 1) := dk_4 (dk_at dksJ23_siftDownComparable_0 18 rfl rfl)
theorem dJ23_siftDownComparable_19 : decode cJ23_siftDownComparable 19 = .ok (.ishl, 1) := dk_120 (dk_at dksJ23_siftDownComparable_0 19 rfl rfl)
theorem dJ23_siftDownComparable_20 : decode cJ23_siftDownComparable 20 = .ok (.iconst 1, 1) := dk_4 (dk_at dksJ23_siftDownComparable_0 20 rfl rfl)
theorem dJ23_siftDownComparable_21 : decode cJ23_siftDownComparable 21 = .ok (.iadd, 1) := dk_96 (dk_at dksJ23_siftDownComparable_0 21 rfl rfl)
theorem dJ23_siftDownComparable_22 : decode cJ23_siftDownComparable 22 = .ok (.istore 6, 2) := dk_54 6 (dk_at dksJ23_siftDownComparable_0 22 rfl rfl)
theorem dJ23_siftDownComparable_24 : decode cJ23_siftDownComparable 24 = .ok (.aload_n 2, 1) := dk_44 (dk_at dksJ23_siftDownComparable_1 0 rfl rfl)
theorem dJ23_siftDownComparable_25 : decode cJ23_siftDownComparable 25 = .ok (.iload 6, 2) := dk_21 6 (dk_at dksJ23_siftDownComparable_1 1 rfl rfl)
theorem dJ23_siftDownComparable_27 : decode cJ23_siftDownComparable 27 = .ok (.aaload, 1) := dk_50 (dk_at dksJ23_siftDownComparable_1 3 rfl rfl)
theorem dJ23_siftDownComparable_28 : decode cJ23_siftDownComparable 28 = .ok (.astore 7, 2) := dk_58 7 (dk_at dksJ23_siftDownComparable_1 4 rfl rfl)
theorem dJ23_siftDownComparable_30 : decode cJ23_siftDownComparable 30 = .ok (.iload 6, 2) := dk_21 6 (dk_at dksJ23_siftDownComparable_1 6 rfl rfl)
theorem dJ23_siftDownComparable_32 : decode cJ23_siftDownComparable 32 = .ok (.iconst 1, 1) := dk_4 (dk_at dksJ23_siftDownComparable_1 8 rfl rfl)
theorem dJ23_siftDownComparable_33 : decode cJ23_siftDownComparable 33 = .ok (.iadd, 1) := dk_96 (dk_at dksJ23_siftDownComparable_1 9 rfl rfl)
theorem dJ23_siftDownComparable_34 : decode cJ23_siftDownComparable 34 = .ok (.istore 8, 2) := dk_54 8 (dk_at dksJ23_siftDownComparable_1 10 rfl rfl)
theorem dJ23_siftDownComparable_36 : decode cJ23_siftDownComparable 36 = .ok (.iload 8, 2) := dk_21 8 (dk_at dksJ23_siftDownComparable_1 12 rfl rfl)
theorem dJ23_siftDownComparable_38 : decode cJ23_siftDownComparable 38 = .ok (.iload_n 3, 1) := dk_29 (dk_at dksJ23_siftDownComparable_1 14 rfl rfl)
theorem dJ23_siftDownComparable_39 : decode cJ23_siftDownComparable 39 = .ok (.if_icmp .ge 29, 3) := dk_162 0 29 (dk_at dksJ23_siftDownComparable_1 15 rfl rfl)
theorem dJ23_siftDownComparable_42 : decode cJ23_siftDownComparable 42 = .ok (.aload 7, 2) := dk_25 7 (dk_at dksJ23_siftDownComparable_1 18 rfl rfl)
theorem dJ23_siftDownComparable_44 : decode cJ23_siftDownComparable 44 = .ok (.checkcast 144, 3) := dk_192 0 144 (dk_at dksJ23_siftDownComparable_1 20 rfl rfl)
theorem dJ23_siftDownComparable_47 : decode cJ23_siftDownComparable 47 = .ok (.aload_n 2, 1) := dk_44 (dk_at dksJ23_siftDownComparable_1 23 rfl rfl)
theorem dJ23_siftDownComparable_48 : decode cJ23_siftDownComparable 48 = .ok (.iload 8, 2) := dk_21 8 (dk_at dksJ23_siftDownComparable_2 0 rfl rfl)
theorem dJ23_siftDownComparable_50 : decode cJ23_siftDownComparable 50 = .ok (.aaload, 1) := dk_50 (dk_at dksJ23_siftDownComparable_2 2 rfl rfl)
theorem dJ23_siftDownComparable_51 : decode cJ23_siftDownComparable 51 = .ok (.invokeinterface 146 2, 5) := by decide +kernel
theorem dJ23_siftDownComparable_56 : decode cJ23_siftDownComparable 56 = .ok (.ifCond .le 12, 3) := dk_158 0 12 (dk_at dksJ23_siftDownComparable_2 8 rfl rfl)
theorem dJ23_siftDownComparable_59 : decode cJ23_siftDownComparable 59 = .ok (.aload_n 2, 1) := dk_44 (dk_at dksJ23_siftDownComparable_2 11 rfl rfl)
theorem dJ23_siftDownComparable_60 : decode cJ23_siftDownComparable 60 = .ok (.iload 8, 2) := dk_21 8 (dk_at dksJ23_siftDownComparable_2 12 rfl rfl)
theorem dJ23_siftDownComparable_62 : decode cJ23_siftDownComparable 62 = .ok (.dup, 1) := dk_89 (dk_at dksJ23_siftDownComparable_2 14 rfl rfl)
theorem dJ23_siftDownComparable_63 : decode cJ23_siftDownComparable 63 = .ok (.istore 6, 2) := dk_54 6 (dk_at dksJ23_siftDownComparable_2 15 rfl rfl)
theorem dJ23_siftDownComparable_65 : decode cJ23_siftDownComparable 65 = .ok (.aaload, 1) := dk_50 (dk_at dksJ23_siftDownComparable_2 17 rfl rfl)
theorem dJ23_siftDownComparable_66 : decode cJ23_siftDownComparable 66 = .ok (.astore 7, 2) := dk_58 7 (dk_at dksJ23_siftDownComparable_2 18 rfl rfl)
theorem dJ23_siftDownComparable_68 : decode cJ23_siftDownComparable 68 = .ok (.aload 4, 2) := dk_25 4 (dk_at dksJ23_siftDownComparable_2 20 rfl rfl)
theorem dJ23_siftDownComparable_70 : decode cJ23_siftDownComparable 70 = .ok (.aload 7, 2) := dk_25 7 (dk_at dksJ23_siftDownComparable_2 22 rfl rfl)
theorem dJ23_siftDownComparable_72 : decode cJ23_siftDownComparable 72 = .ok (.invokeinterface 146 2, 5) := by decide +kernel
theorem dJ23_siftDownComparable_77 : decode cJ23_siftDownComparable 77 = .ok (.ifCond .gt 6, 3) := dk_157 0 6 (dk_at dksJ23_siftDownComparable_3 5 rfl rfl)
theorem dJ23_siftDownComparable_80 : decode cJ23_siftDownComparable 80 = .ok (.goto 14, 3) := dk_167 0 14 (dk_at dksJ23_siftDownComparable_3 8 rfl rfl)
theorem dJ23_siftDownComparable_83 : decode cJ23_siftDownComparable 83 = .ok (.aload_n 2, 1) := dk_44 (dk_at dksJ23_siftDownComparable_3 11 rfl rfl)
theorem dJ23_siftDownComparable_84 : decode cJ23_siftDownComparable 84 = .ok (.iload_n 0, 1) := dk_26 (dk_at dksJ23_siftDownComparable_3 12 rfl rfl)
theorem dJ23_siftDownComparable_85 : decode cJ23_siftDownComparable 85 = .ok (.aload 7, 2) := dk_25 7 (dk_at dksJ23_siftDownComparable_3 13 rfl rfl)
theorem dJ23_siftDownComparable_87 : decode cJ23_siftDownComparable 87 = .ok (.aastore, 1) := dk_83 (dk_at dksJ23_siftDownComparable_3 15 rfl rfl)
theorem dJ23_siftDownComparable_88 : decode cJ23_siftDownComparable 88 = .ok (.iload 6, 2) := dk_21 6 (dk_at dksJ23_siftDownComparable_3 16 rfl rfl)
theorem dJ23_siftDownComparable_90 : decode cJ23_siftDownComparable 90 = .ok (.istore_n 0, 1) := dk_59 (dk_at dksJ23_siftDownComparable_3 18 rfl rfl)
theorem dJ23_siftDownComparable_91 : decode cJ23_siftDownComparable 91 = .ok (.goto (-80), 3) := dk_167 255 176 (dk_at dksJ23_siftDownComparable_3 19 rfl rfl)
theorem dJ23_siftDownComparable_94 : decode cJ23_siftDownComparable 94 = .ok (.aload_n 2, 1) := dk_44 (dk_at dksJ23_siftDownComparable_3 22 rfl rfl)
theorem dJ23_siftDownComparable_95 : decode cJ23_siftDownComparable 95 = .ok (.iload_n 0, 1) := dk_26 (dk_at dksJ23_siftDownComparable_3 23 rfl rfl)
theorem dJ23_siftDownComparable_96 : decode cJ23_siftDownComparable 96 = .ok (.aload 4, 2) := dk_25 4 (dk_at dksJ23_siftDownComparable_4 0 rfl rfl)
theorem dJ23_siftDownComparable_98 : decode cJ23_siftDownComparable 98 = .ok (.aastore, 1) := dk_83 (dk_at dksJ23_siftDownComparable_4 2 rfl rfl)
theorem dJ23_siftDownComparable_99 : decode cJ23_siftDownComparable 99 = .ok (.return_, 1) := dk_177 (dk_at dksJ23_siftDownComparable_4 3 rfl rfl)
abbrev cJ23_siftDownUsingComparator : ByteArray := prog_55_method_32_code
def yJ23_siftDownUsingComparator : MethodName := ⟨RJ23, "siftDownUsingComparator", "(ILjava/lang/Object;[Ljava/lang/Object;ILjava/util/Comparator;)V"⟩
def dkwJ23_siftDownUsingComparator_4 : List UInt8 := [43, 83, 177]
abbrev dktJ23_siftDownUsingComparator_4 : List UInt8 := dkwJ23_siftDownUsingComparator_4 ++ []
def dkwJ23_siftDownUsingComparator_3 : List UInt8 := [185, 0, 149, 3, 0, 157, 0, 6, 167, 0, 14, 44, 26, 25, 7, 83, 21, 6, 59, 167, 255, 176, 44, 26]
abbrev dktJ23_siftDownUsingComparator_3 : List UInt8 := dkwJ23_siftDownUsingComparator_3 ++ dktJ23_siftDownUsingComparator_4
def dkwJ23_siftDownUsingComparator_2 : List UInt8 := [185, 0, 149, 3, 0, 158, 0, 12, 44, 21, 8, 89, 54, 6, 50, 58, 7, 25, 4, 43, 25, 7]
abbrev dktJ23_siftDownUsingComparator_2 : List UInt8 := dkwJ23_siftDownUsingComparator_2 ++ dktJ23_siftDownUsingComparator_3
def dkwJ23_siftDownUsingComparator_1 : List UInt8 := [21, 6, 4, 96, 54, 8, 21, 8, 29, 162, 0, 28, 25, 4, 25, 7, 44, 21, 8, 50]
abbrev dktJ23_siftDownUsingComparator_1 : List UInt8 := dkwJ23_siftDownUsingComparator_1 ++ dktJ23_siftDownUsingComparator_2
def dkwJ23_siftDownUsingComparator_0 : List UInt8 := [29, 4, 124, 54, 5, 26, 21, 5, 162, 0, 80, 26, 4, 120, 4, 96, 54, 6, 44, 21, 6, 50, 58, 7]
abbrev dktJ23_siftDownUsingComparator_0 : List UInt8 := dkwJ23_siftDownUsingComparator_0 ++ dktJ23_siftDownUsingComparator_1
theorem dksJ23_siftDownUsingComparator_0 : cJ23_siftDownUsingComparator.data.toList.drop 0 = dktJ23_siftDownUsingComparator_0 := by decide +kernel
theorem dksJ23_siftDownUsingComparator_1 : cJ23_siftDownUsingComparator.data.toList.drop 24 = dktJ23_siftDownUsingComparator_1 := dk_seg dksJ23_siftDownUsingComparator_0 24 rfl rfl
theorem dksJ23_siftDownUsingComparator_2 : cJ23_siftDownUsingComparator.data.toList.drop 44 = dktJ23_siftDownUsingComparator_2 := dk_seg dksJ23_siftDownUsingComparator_1 20 rfl rfl
theorem dksJ23_siftDownUsingComparator_3 : cJ23_siftDownUsingComparator.data.toList.drop 66 = dktJ23_siftDownUsingComparator_3 := dk_seg dksJ23_siftDownUsingComparator_2 22 rfl rfl
theorem dksJ23_siftDownUsingComparator_4 : cJ23_siftDownUsingComparator.data.toList.drop 90 = dktJ23_siftDownUsingComparator_4 := dk_seg dksJ23_siftDownUsingComparator_3 24 rfl rfl
theorem dJ23_siftDownUsingComparator_0 : decode cJ23_siftDownUsingComparator 0 = .ok (.iload_n 3, 1) := dk_29 (dk_at dksJ23_siftDownUsingComparator_0 0 rfl rfl)
theorem dJ23_siftDownUsingComparator_1 : decode cJ23_siftDownUsingComparator 1 = .ok (.iconst 1, 1) := dk_4 (dk_at dksJ23_siftDownUsingComparator_0 1 rfl rfl)
theorem dJ23_siftDownUsingComparator_2 : decode cJ23_siftDownUsingComparator 2 = .ok (.iushr, 1) := dk_124 (dk_at dksJ23_siftDownUsingComparator_0 2 rfl rfl)
theorem dJ23_siftDownUsingComparator_3 : decode cJ23_siftDownUsingComparator 3 = .ok (.istore 5, 2) := dk_54 5 (dk_at dksJ23_siftDownUsingComparator_0 3 rfl rfl)
theorem dJ23_siftDownUsingComparator_5 : decode cJ23_siftDownUsingComparator 5 = .ok (.iload_n 0, 1) := dk_26 (dk_at dksJ23_siftDownUsingComparator_0 5 rfl rfl)
theorem dJ23_siftDownUsingComparator_6 : decode cJ23_siftDownUsingComparator 6 = .ok (.iload 5, 2) := dk_21 5 (dk_at dksJ23_siftDownUsingComparator_0 6 rfl rfl)
theorem dJ23_siftDownUsingComparator_8 : decode cJ23_siftDownUsingComparator 8 = .ok (.if_icmp .ge 80, 3) := dk_162 0 80 (dk_at dksJ23_siftDownUsingComparator_0 8 rfl rfl)
theorem dJ23_siftDownUsingComparator_11 : decode cJ23_siftDownUsingComparator 11 = .ok (.iload_n 0, 1) := dk_26 (dk_at dksJ23_siftDownUsingComparator_0 11 rfl rfl)
theorem dJ23_siftDownUsingComparator_12 : decode cJ23_siftDownUsingComparator 12 = .ok (.iconst 1, 1) := dk_4 (dk_at dksJ23_siftDownUsingComparator_0 12 rfl rfl)
theorem dJ23_siftDownUsingComparator_13 : decode cJ23_siftDownUsingComparator 13 = .ok (.ishl, 1) := dk_120 (dk_at dksJ23_siftDownUsingComparator_0 13 rfl rfl)
theorem dJ23_siftDownUsingComparator_14 : decode cJ23_siftDownUsingComparator 14 = .ok (.iconst 1, 1) := dk_4 (dk_at dksJ23_siftDownUsingComparator_0 14 rfl rfl)
theorem dJ23_siftDownUsingComparator_15 : decode cJ23_siftDownUsingComparator 15 = .ok (.iadd, 1) := dk_96 (dk_at dksJ23_siftDownUsingComparator_0 15 rfl rfl)
theorem dJ23_siftDownUsingComparator_16 : decode cJ23_siftDownUsingComparator 16 = .ok (.istore 6, 2) := dk_54 6 (dk_at dksJ23_siftDownUsingComparator_0 16 rfl rfl)
theorem dJ23_siftDownUsingComparator_18 : decode cJ23_siftDownUsingComparator 18 = .ok (.aload_n 2, 1) := dk_44 (dk_at dksJ23_siftDownUsingComparator_0 18 rfl rfl)
theorem dJ23_siftDownUsingComparator_19 : decode cJ23_siftDownUsingComparator 19 = .ok (.iload 6, 2) := dk_21 6 (dk_at dksJ23_siftDownUsingComparator_0 19 rfl rfl)
theorem dJ23_siftDownUsingComparator_21 : decode cJ23_siftDownUsingComparator 21 = .ok (.aaload, 1) := dk_50 (dk_at dksJ23_siftDownUsingComparator_0 21 rfl rfl)
theorem dJ23_siftDownUsingComparator_22 : decode cJ23_siftDownUsingComparator 22 = .ok (.astore 7, 2) := dk_58 7 (dk_at dksJ23_siftDownUsingComparator_0 22 rfl rfl)
theorem dJ23_siftDownUsingComparator_24 : decode cJ23_siftDownUsingComparator 24 = .ok (.iload 6, 2) := dk_21 6 (dk_at dksJ23_siftDownUsingComparator_1 0 rfl rfl)
theorem dJ23_siftDownUsingComparator_26 : decode cJ23_siftDownUsingComparator 26 = .ok (.iconst 1, 1) := dk_4 (dk_at dksJ23_siftDownUsingComparator_1 2 rfl rfl)
theorem dJ23_siftDownUsingComparator_27 : decode cJ23_siftDownUsingComparator 27 = .ok (.iadd, 1) := dk_96 (dk_at dksJ23_siftDownUsingComparator_1 3 rfl rfl)
theorem dJ23_siftDownUsingComparator_28 : decode cJ23_siftDownUsingComparator 28 = .ok (.istore 8, 2) := dk_54 8 (dk_at dksJ23_siftDownUsingComparator_1 4 rfl rfl)
theorem dJ23_siftDownUsingComparator_30 : decode cJ23_siftDownUsingComparator 30 = .ok (.iload 8, 2) := dk_21 8 (dk_at dksJ23_siftDownUsingComparator_1 6 rfl rfl)
theorem dJ23_siftDownUsingComparator_32 : decode cJ23_siftDownUsingComparator 32 = .ok (.iload_n 3, 1) := dk_29 (dk_at dksJ23_siftDownUsingComparator_1 8 rfl rfl)
theorem dJ23_siftDownUsingComparator_33 : decode cJ23_siftDownUsingComparator 33 = .ok (.if_icmp .ge 28, 3) := dk_162 0 28 (dk_at dksJ23_siftDownUsingComparator_1 9 rfl rfl)
theorem dJ23_siftDownUsingComparator_36 : decode cJ23_siftDownUsingComparator 36 = .ok (.aload 4, 2) := dk_25 4 (dk_at dksJ23_siftDownUsingComparator_1 12 rfl rfl)
theorem dJ23_siftDownUsingComparator_38 : decode cJ23_siftDownUsingComparator 38 = .ok (.aload 7, 2) := dk_25 7 (dk_at dksJ23_siftDownUsingComparator_1 14 rfl rfl)
theorem dJ23_siftDownUsingComparator_40 : decode cJ23_siftDownUsingComparator 40 = .ok (.aload_n 2, 1) := dk_44 (dk_at dksJ23_siftDownUsingComparator_1 16 rfl rfl)
theorem dJ23_siftDownUsingComparator_41 : decode cJ23_siftDownUsingComparator 41 = .ok (.iload 8, 2) := dk_21 8 (dk_at dksJ23_siftDownUsingComparator_1 17 rfl rfl)
theorem dJ23_siftDownUsingComparator_43 : decode cJ23_siftDownUsingComparator 43 = .ok (.aaload, 1) := dk_50 (dk_at dksJ23_siftDownUsingComparator_1 19 rfl rfl)
theorem dJ23_siftDownUsingComparator_44 : decode cJ23_siftDownUsingComparator 44 = .ok (.invokeinterface 149 3, 5) := by decide +kernel
theorem dJ23_siftDownUsingComparator_49 : decode cJ23_siftDownUsingComparator 49 = .ok (.ifCond .le 12, 3) := dk_158 0 12 (dk_at dksJ23_siftDownUsingComparator_2 5 rfl rfl)
theorem dJ23_siftDownUsingComparator_52 : decode cJ23_siftDownUsingComparator 52 = .ok (.aload_n 2, 1) := dk_44 (dk_at dksJ23_siftDownUsingComparator_2 8 rfl rfl)
theorem dJ23_siftDownUsingComparator_53 : decode cJ23_siftDownUsingComparator 53 = .ok (.iload 8, 2) := dk_21 8 (dk_at dksJ23_siftDownUsingComparator_2 9 rfl rfl)
theorem dJ23_siftDownUsingComparator_55 : decode cJ23_siftDownUsingComparator 55 = .ok (.dup, 1) := dk_89 (dk_at dksJ23_siftDownUsingComparator_2 11 rfl rfl)
theorem dJ23_siftDownUsingComparator_56 : decode cJ23_siftDownUsingComparator 56 = .ok (.istore 6, 2) := dk_54 6 (dk_at dksJ23_siftDownUsingComparator_2 12 rfl rfl)
theorem dJ23_siftDownUsingComparator_58 : decode cJ23_siftDownUsingComparator 58 = .ok (.aaload, 1) := dk_50 (dk_at dksJ23_siftDownUsingComparator_2 14 rfl rfl)
theorem dJ23_siftDownUsingComparator_59 : decode cJ23_siftDownUsingComparator 59 = .ok (.astore 7, 2) := dk_58 7 (dk_at dksJ23_siftDownUsingComparator_2 15 rfl rfl)
theorem dJ23_siftDownUsingComparator_61 : decode cJ23_siftDownUsingComparator 61 = .ok (.aload 4, 2) := dk_25 4 (dk_at dksJ23_siftDownUsingComparator_2 17 rfl rfl)
theorem dJ23_siftDownUsingComparator_63 : decode cJ23_siftDownUsingComparator 63 = .ok (.aload_n 1, 1) := dk_43 (dk_at dksJ23_siftDownUsingComparator_2 19 rfl rfl)
theorem dJ23_siftDownUsingComparator_64 : decode cJ23_siftDownUsingComparator 64 = .ok (.aload 7, 2) := dk_25 7 (dk_at dksJ23_siftDownUsingComparator_2 20 rfl rfl)
theorem dJ23_siftDownUsingComparator_66 : decode cJ23_siftDownUsingComparator 66 = .ok (.invokeinterface 149 3, 5) := by decide +kernel
theorem dJ23_siftDownUsingComparator_71 : decode cJ23_siftDownUsingComparator 71 = .ok (.ifCond .gt 6, 3) := dk_157 0 6 (dk_at dksJ23_siftDownUsingComparator_3 5 rfl rfl)
theorem dJ23_siftDownUsingComparator_74 : decode cJ23_siftDownUsingComparator 74 = .ok (.goto 14, 3) := dk_167 0 14 (dk_at dksJ23_siftDownUsingComparator_3 8 rfl rfl)
theorem dJ23_siftDownUsingComparator_77 : decode cJ23_siftDownUsingComparator 77 = .ok (.aload_n 2, 1) := dk_44 (dk_at dksJ23_siftDownUsingComparator_3 11 rfl rfl)
theorem dJ23_siftDownUsingComparator_78 : decode cJ23_siftDownUsingComparator 78 = .ok (.iload_n 0, 1) := dk_26 (dk_at dksJ23_siftDownUsingComparator_3 12 rfl rfl)
theorem dJ23_siftDownUsingComparator_79 : decode cJ23_siftDownUsingComparator 79 = .ok (.aload 7, 2) := dk_25 7 (dk_at dksJ23_siftDownUsingComparator_3 13 rfl rfl)
theorem dJ23_siftDownUsingComparator_81 : decode cJ23_siftDownUsingComparator 81 = .ok (.aastore, 1) := dk_83 (dk_at dksJ23_siftDownUsingComparator_3 15 rfl rfl)
theorem dJ23_siftDownUsingComparator_82 : decode cJ23_siftDownUsingComparator 82 = .ok (.iload 6, 2) := dk_21 6 (dk_at dksJ23_siftDownUsingComparator_3 16 rfl rfl)
theorem dJ23_siftDownUsingComparator_84 : decode cJ23_siftDownUsingComparator 84 = .ok (.istore_n 0, 1) := dk_59 (dk_at dksJ23_siftDownUsingComparator_3 18 rfl rfl)
theorem dJ23_siftDownUsingComparator_85 : decode cJ23_siftDownUsingComparator 85 = .ok (.goto (-80), 3) := dk_167 255 176 (dk_at dksJ23_siftDownUsingComparator_3 19 rfl rfl)
theorem dJ23_siftDownUsingComparator_88 : decode cJ23_siftDownUsingComparator 88 = .ok (.aload_n 2, 1) := dk_44 (dk_at dksJ23_siftDownUsingComparator_3 22 rfl rfl)
theorem dJ23_siftDownUsingComparator_89 : decode cJ23_siftDownUsingComparator 89 = .ok (.iload_n 0, 1) := dk_26 (dk_at dksJ23_siftDownUsingComparator_3 23 rfl rfl)
theorem dJ23_siftDownUsingComparator_90 : decode cJ23_siftDownUsingComparator 90 = .ok (.aload_n 1, 1) := dk_43 (dk_at dksJ23_siftDownUsingComparator_4 0 rfl rfl)
theorem dJ23_siftDownUsingComparator_91 : decode cJ23_siftDownUsingComparator 91 = .ok (.aastore, 1) := dk_83 (dk_at dksJ23_siftDownUsingComparator_4 1 rfl rfl)
theorem dJ23_siftDownUsingComparator_92 : decode cJ23_siftDownUsingComparator 92 = .ok (.return_, 1) := dk_177 (dk_at dksJ23_siftDownUsingComparator_4 2 rfl rfl)
theorem q105 : (Jvm.Cond.initialized "java/util/PriorityQueue") ∈ lw_all := lw_g (lw_at lw_m1 35 rfl) rfl
theorem q355 : (Jvm.Cond.selects "java/util/PriorityQueue" ({ cls := "java/lang/Object", name := "getClass", desc := "()Ljava/lang/Class;" } : Jvm.MethodName) ({ cls := "java/lang/Object", name := "getClass", desc := "()Ljava/lang/Class;" } : Jvm.MethodName)) ∈ lw_all := lw_g (lw_at lw_m2 45 rfl) rfl
theorem q1238 : (Jvm.Cond.instantiable "java/util/PriorityQueue" (4 : Nat)) ∈ lw_all := lw_g (lw_at lw_m5 208 rfl) rfl
theorem q1247 : (Jvm.Cond.instanceMethod ({ cls := "java/util/PriorityQueue", name := "<init>", desc := "(ILjava/util/Comparator;)V" } : Jvm.MethodName)) ∈ lw_all := lw_g (lw_at lw_m5 217 rfl) rfl
theorem q1248 : (Jvm.Cond.code ({ cls := "java/util/PriorityQueue", name := "<init>", desc := "(ILjava/util/Comparator;)V" } : Jvm.MethodName) prog_55_method_4_code (3 : Nat) (Option.none : Option Jvm.ClassFile.FieldType)) ∈ lw_all := lw_g (lw_at lw_m5 218 rfl) rfl
theorem q1249 : (Jvm.Cond.methodLink "java/util/PriorityQueue" (7 : Nat) ({ cls := "java/util/AbstractQueue", name := "<init>", desc := "()V" } : Jvm.MethodName)) ∈ lw_all := lw_g (lw_at lw_m5 219 rfl) rfl
theorem q1253 : (Jvm.Cond.classLink "java/util/PriorityQueue" (12 : Nat) "java/lang/IllegalArgumentException") ∈ lw_all := lw_g (lw_at lw_m5 223 rfl) rfl
theorem q1254 : (Jvm.Cond.methodLink "java/util/PriorityQueue" (14 : Nat) ({ cls := "java/lang/IllegalArgumentException", name := "<init>", desc := "()V" } : Jvm.MethodName)) ∈ lw_all := lw_g (lw_at lw_m5 224 rfl) rfl
theorem q1255 : (Jvm.Cond.classLink "java/util/PriorityQueue" (15 : Nat) "java/lang/Object") ∈ lw_all := lw_g (lw_at lw_m5 225 rfl) rfl
theorem q1256 : (Jvm.Cond.fieldLink "java/util/PriorityQueue" (17 : Nat) "java/util/PriorityQueue" "queue" "[Ljava/lang/Object;") ∈ lw_all := lw_g (lw_at lw_m5 226 rfl) rfl
theorem q1257 : (Jvm.Cond.fieldLink "java/util/PriorityQueue" (58 : Nat) "java/util/PriorityQueue" "size" "I") ∈ lw_all := lw_g (lw_at lw_m5 227 rfl) rfl
theorem q1258 : (Jvm.Cond.fieldLink "java/util/PriorityQueue" (21 : Nat) "java/util/PriorityQueue" "comparator" "Ljava/util/Comparator;") ∈ lw_all := lw_g (lw_at lw_m5 228 rfl) rfl
theorem q1259 : (Jvm.Cond.fieldLink "java/util/PriorityQueue" (93 : Nat) "java/util/PriorityQueue" "modCount" "I") ∈ lw_all := lw_g (lw_at lw_m5 229 rfl) rfl
theorem q1260 : (Jvm.Cond.lays "java/util/PriorityQueue" "java/util/PriorityQueue" "queue" "[Ljava/lang/Object;") ∈ lw_all := lw_g (lw_at lw_m5 230 rfl) rfl
theorem q1261 : (Jvm.Cond.soleField "java/util/PriorityQueue" "queue") ∈ lw_all := lw_g (lw_at lw_m5 231 rfl) rfl
theorem q1262 : (Jvm.Cond.lays "java/util/PriorityQueue" "java/util/PriorityQueue" "size" "I") ∈ lw_all := lw_g (lw_at lw_m5 232 rfl) rfl
theorem q1263 : (Jvm.Cond.soleField "java/util/PriorityQueue" "size") ∈ lw_all := lw_g (lw_at lw_m5 233 rfl) rfl
theorem q1264 : (Jvm.Cond.laysFinal "java/util/PriorityQueue" "java/util/PriorityQueue" "comparator" "Ljava/util/Comparator;") ∈ lw_all := lw_g (lw_at lw_m5 234 rfl) rfl
theorem q1265 : (Jvm.Cond.soleField "java/util/PriorityQueue" "comparator") ∈ lw_all := lw_g (lw_at lw_m5 235 rfl) rfl
theorem q1266 : (Jvm.Cond.lays "java/util/PriorityQueue" "java/util/PriorityQueue" "modCount" "I") ∈ lw_all := lw_g (lw_at lw_m5 236 rfl) rfl
theorem q1267 : (Jvm.Cond.soleField "java/util/PriorityQueue" "modCount") ∈ lw_all := lw_g (lw_at lw_m5 237 rfl) rfl
theorem q1268 : (Jvm.Cond.superclass "java/util/PriorityQueue" "java/util/AbstractQueue") ∈ lw_all := lw_g (lw_at lw_m5 238 rfl) rfl
theorem q1287 : (Jvm.Cond.instanceMethod ({ cls := "java/util/PriorityQueue", name := "add", desc := "(Ljava/lang/Object;)Z" } : Jvm.MethodName)) ∈ lw_all := lw_g (lw_at lw_m6 17 rfl) rfl
theorem q1288 : (Jvm.Cond.selects "java/util/PriorityQueue" ({ cls := "java/util/PriorityQueue", name := "add", desc := "(Ljava/lang/Object;)Z" } : Jvm.MethodName) ({ cls := "java/util/PriorityQueue", name := "add", desc := "(Ljava/lang/Object;)Z" } : Jvm.MethodName)) ∈ lw_all := lw_g (lw_at lw_m6 18 rfl) rfl
theorem q1289 : (Jvm.Cond.code ({ cls := "java/util/PriorityQueue", name := "add", desc := "(Ljava/lang/Object;)Z" } : Jvm.MethodName) prog_55_method_13_code (2 : Nat) (Option.some Jvm.ClassFile.FieldType.boolean)) ∈ lw_all := lw_g (lw_at lw_m6 19 rfl) rfl
theorem q1290 : (Jvm.Cond.methodLink "java/util/PriorityQueue" (89 : Nat) ({ cls := "java/util/PriorityQueue", name := "offer", desc := "(Ljava/lang/Object;)Z" } : Jvm.MethodName)) ∈ lw_all := lw_g (lw_at lw_m6 20 rfl) rfl
theorem q1291 : (Jvm.Cond.instanceMethod ({ cls := "java/util/PriorityQueue", name := "offer", desc := "(Ljava/lang/Object;)Z" } : Jvm.MethodName)) ∈ lw_all := lw_g (lw_at lw_m6 21 rfl) rfl
theorem q1292 : (Jvm.Cond.selects "java/util/PriorityQueue" ({ cls := "java/util/PriorityQueue", name := "offer", desc := "(Ljava/lang/Object;)Z" } : Jvm.MethodName) ({ cls := "java/util/PriorityQueue", name := "offer", desc := "(Ljava/lang/Object;)Z" } : Jvm.MethodName)) ∈ lw_all := lw_g (lw_at lw_m6 22 rfl) rfl
theorem q1293 : (Jvm.Cond.code ({ cls := "java/util/PriorityQueue", name := "offer", desc := "(Ljava/lang/Object;)Z" } : Jvm.MethodName) prog_55_method_14_code (3 : Nat) (Option.some Jvm.ClassFile.FieldType.boolean)) ∈ lw_all := lw_g (lw_at lw_m6 23 rfl) rfl
theorem q1294 : (Jvm.Cond.methodLink "java/util/PriorityQueue" (96 : Nat) ({ cls := "java/util/PriorityQueue", name := "grow", desc := "(I)V" } : Jvm.MethodName)) ∈ lw_all := lw_g (lw_at lw_m6 24 rfl) rfl
theorem q1295 : (Jvm.Cond.privateMethod ({ cls := "java/util/PriorityQueue", name := "grow", desc := "(I)V" } : Jvm.MethodName)) ∈ lw_tbl := lw_at lw_m6 25 rfl
theorem q1296 : (Jvm.Cond.instanceMethod ({ cls := "java/util/PriorityQueue", name := "grow", desc := "(I)V" } : Jvm.MethodName)) ∈ lw_all := lw_g (lw_at lw_m6 26 rfl) rfl
theorem q1297 : (Jvm.Cond.code ({ cls := "java/util/PriorityQueue", name := "grow", desc := "(I)V" } : Jvm.MethodName) prog_55_method_12_code (4 : Nat) (Option.none : Option Jvm.ClassFile.FieldType)) ∈ lw_all := lw_g (lw_at lw_m6 27 rfl) rfl
theorem q1298 : (Jvm.Cond.methodLink "java/util/PriorityQueue" (80 : Nat) ({ cls := "jdk/internal/util/ArraysSupport", name := "newLength", desc := "(III)I" } : Jvm.MethodName)) ∈ lw_all := lw_g (lw_at lw_m6 28 rfl) rfl
theorem q1299 : (Jvm.Cond.methodLink "java/util/PriorityQueue" (86 : Nat) ({ cls := "java/util/Arrays", name := "copyOf", desc := "([Ljava/lang/Object;I)[Ljava/lang/Object;" } : Jvm.MethodName)) ∈ lw_all := lw_g (lw_at lw_m6 29 rfl) rfl
theorem q1300 : (Jvm.Cond.methodLink "java/util/PriorityQueue" (100 : Nat) ({ cls := "java/util/PriorityQueue", name := "siftUp", desc := "(ILjava/lang/Object;)V" } : Jvm.MethodName)) ∈ lw_all := lw_g (lw_at lw_m6 30 rfl) rfl
theorem q1301 : (Jvm.Cond.privateMethod ({ cls := "java/util/PriorityQueue", name := "siftUp", desc := "(ILjava/lang/Object;)V" } : Jvm.MethodName)) ∈ lw_tbl := lw_at lw_m6 31 rfl
theorem q1302 : (Jvm.Cond.instanceMethod ({ cls := "java/util/PriorityQueue", name := "siftUp", desc := "(ILjava/lang/Object;)V" } : Jvm.MethodName)) ∈ lw_all := lw_g (lw_at lw_m6 32 rfl) rfl
theorem q1303 : (Jvm.Cond.code ({ cls := "java/util/PriorityQueue", name := "siftUp", desc := "(ILjava/lang/Object;)V" } : Jvm.MethodName) prog_55_method_27_code (3 : Nat) (Option.none : Option Jvm.ClassFile.FieldType)) ∈ lw_all := lw_g (lw_at lw_m6 33 rfl) rfl
theorem q1304 : (Jvm.Cond.methodLink "java/util/PriorityQueue" (136 : Nat) ({ cls := "java/util/PriorityQueue", name := "siftUpUsingComparator", desc := "(ILjava/lang/Object;[Ljava/lang/Object;Ljava/util/Comparator;)V" } : Jvm.MethodName)) ∈ lw_all := lw_g (lw_at lw_m6 34 rfl) rfl
theorem q1305 : (Jvm.Cond.static ({ cls := "java/util/PriorityQueue", name := "siftUpUsingComparator", desc := "(ILjava/lang/Object;[Ljava/lang/Object;Ljava/util/Comparator;)V" } : Jvm.MethodName)) ∈ lw_all := lw_g (lw_at lw_m6 35 rfl) rfl
theorem q1306 : (Jvm.Cond.code ({ cls := "java/util/PriorityQueue", name := "siftUpUsingComparator", desc := "(ILjava/lang/Object;[Ljava/lang/Object;Ljava/util/Comparator;)V" } : Jvm.MethodName) prog_55_method_29_code (6 : Nat) (Option.none : Option Jvm.ClassFile.FieldType)) ∈ lw_all := lw_g (lw_at lw_m6 36 rfl) rfl
theorem q1307 : (Jvm.Cond.interfaceEntry "java/util/PriorityQueue" (149 : Nat)) ∈ lw_tbl := lw_at lw_m6 37 rfl
theorem q1308 : (Jvm.Cond.methodLink "java/util/PriorityQueue" (149 : Nat) ({ cls := "java/util/Comparator", name := "compare", desc := "(Ljava/lang/Object;Ljava/lang/Object;)I" } : Jvm.MethodName)) ∈ lw_all := lw_g (lw_at lw_m6 38 rfl) rfl
theorem q1325 : (Jvm.Cond.methodLink "java/util/PriorityQueue" (140 : Nat) ({ cls := "java/util/PriorityQueue", name := "siftUpComparable", desc := "(ILjava/lang/Object;[Ljava/lang/Object;)V" } : Jvm.MethodName)) ∈ lw_all := lw_g (lw_at lw_m6 55 rfl) rfl
theorem q1326 : (Jvm.Cond.static ({ cls := "java/util/PriorityQueue", name := "siftUpComparable", desc := "(ILjava/lang/Object;[Ljava/lang/Object;)V" } : Jvm.MethodName)) ∈ lw_all := lw_g (lw_at lw_m6 56 rfl) rfl
theorem q1327 : (Jvm.Cond.code ({ cls := "java/util/PriorityQueue", name := "siftUpComparable", desc := "(ILjava/lang/Object;[Ljava/lang/Object;)V" } : Jvm.MethodName) prog_55_method_28_code (6 : Nat) (Option.none : Option Jvm.ClassFile.FieldType)) ∈ lw_all := lw_g (lw_at lw_m6 57 rfl) rfl
theorem q1328 : (Jvm.Cond.classLink "java/util/PriorityQueue" (144 : Nat) "java/lang/Comparable") ∈ lw_all := lw_g (lw_at lw_m6 58 rfl) rfl
theorem q1329 : (Jvm.Cond.interfaceEntry "java/util/PriorityQueue" (146 : Nat)) ∈ lw_tbl := lw_at lw_m6 59 rfl
theorem q1330 : (Jvm.Cond.methodLink "java/util/PriorityQueue" (146 : Nat) ({ cls := "java/lang/Comparable", name := "compareTo", desc := "(Ljava/lang/Object;)I" } : Jvm.MethodName)) ∈ lw_all := lw_g (lw_at lw_m6 60 rfl) rfl
theorem q1491 : (Jvm.Cond.sameMethod "java/util/PriorityQueue" "java/util/AbstractCollection" "isEmpty" "()Z") ∈ lw_all := lw_g (lw_at lw_m6 221 rfl) rfl
theorem q1493 : (Jvm.Cond.selects "java/util/PriorityQueue" ({ cls := "java/util/PriorityQueue", name := "isEmpty", desc := "()Z" } : Jvm.MethodName) ({ cls := "java/util/AbstractCollection", name := "isEmpty", desc := "()Z" } : Jvm.MethodName)) ∈ lw_all := lw_g (lw_at lw_m6 223 rfl) rfl
theorem q1500 : (Jvm.Cond.selects "java/util/PriorityQueue" ({ cls := "java/util/AbstractCollection", name := "size", desc := "()I" } : Jvm.MethodName) ({ cls := "java/util/PriorityQueue", name := "size", desc := "()I" } : Jvm.MethodName)) ∈ lw_all := lw_g (lw_at lw_m6 230 rfl) rfl
theorem q1501 : (Jvm.Cond.instanceMethod ({ cls := "java/util/PriorityQueue", name := "size", desc := "()I" } : Jvm.MethodName)) ∈ lw_all := lw_g (lw_at lw_m6 231 rfl) rfl
theorem q1502 : (Jvm.Cond.code ({ cls := "java/util/PriorityQueue", name := "size", desc := "()I" } : Jvm.MethodName) prog_55_method_23_code (1 : Nat) (Option.some Jvm.ClassFile.FieldType.int)) ∈ lw_all := lw_g (lw_at lw_m6 232 rfl) rfl
theorem q1520 : (Jvm.Cond.instanceMethod ({ cls := "java/util/PriorityQueue", name := "poll", desc := "()Ljava/lang/Object;" } : Jvm.MethodName)) ∈ lw_all := lw_g (lw_at lw_m7 10 rfl) rfl
theorem q1521 : (Jvm.Cond.selects "java/util/PriorityQueue" ({ cls := "java/util/PriorityQueue", name := "poll", desc := "()Ljava/lang/Object;" } : Jvm.MethodName) ({ cls := "java/util/PriorityQueue", name := "poll", desc := "()Ljava/lang/Object;" } : Jvm.MethodName)) ∈ lw_all := lw_g (lw_at lw_m7 11 rfl) rfl
theorem q1522 : (Jvm.Cond.code ({ cls := "java/util/PriorityQueue", name := "poll", desc := "()Ljava/lang/Object;" } : Jvm.MethodName) prog_55_method_25_code (6 : Nat) (Option.some (Jvm.ClassFile.FieldType.object "java/lang/Object"))) ∈ lw_all := lw_g (lw_at lw_m7 12 rfl) rfl
theorem q1523 : (Jvm.Cond.methodLink "java/util/PriorityQueue" (125 : Nat) ({ cls := "java/util/PriorityQueue", name := "siftDownComparable", desc := "(ILjava/lang/Object;[Ljava/lang/Object;I)V" } : Jvm.MethodName)) ∈ lw_all := lw_g (lw_at lw_m7 13 rfl) rfl
theorem q1524 : (Jvm.Cond.static ({ cls := "java/util/PriorityQueue", name := "siftDownComparable", desc := "(ILjava/lang/Object;[Ljava/lang/Object;I)V" } : Jvm.MethodName)) ∈ lw_all := lw_g (lw_at lw_m7 14 rfl) rfl
theorem q1525 : (Jvm.Cond.code ({ cls := "java/util/PriorityQueue", name := "siftDownComparable", desc := "(ILjava/lang/Object;[Ljava/lang/Object;I)V" } : Jvm.MethodName) prog_55_method_31_code (9 : Nat) (Option.none : Option Jvm.ClassFile.FieldType)) ∈ lw_all := lw_g (lw_at lw_m7 15 rfl) rfl
theorem q1526 : (Jvm.Cond.methodLink "java/util/PriorityQueue" (129 : Nat) ({ cls := "java/util/PriorityQueue", name := "siftDownUsingComparator", desc := "(ILjava/lang/Object;[Ljava/lang/Object;ILjava/util/Comparator;)V" } : Jvm.MethodName)) ∈ lw_all := lw_g (lw_at lw_m7 16 rfl) rfl
theorem q1527 : (Jvm.Cond.static ({ cls := "java/util/PriorityQueue", name := "siftDownUsingComparator", desc := "(ILjava/lang/Object;[Ljava/lang/Object;ILjava/util/Comparator;)V" } : Jvm.MethodName)) ∈ lw_all := lw_g (lw_at lw_m7 17 rfl) rfl
theorem q1528 : (Jvm.Cond.code ({ cls := "java/util/PriorityQueue", name := "siftDownUsingComparator", desc := "(ILjava/lang/Object;[Ljava/lang/Object;ILjava/util/Comparator;)V" } : Jvm.MethodName) prog_55_method_32_code (9 : Nat) (Option.none : Option Jvm.ClassFile.FieldType)) ∈ lw_all := lw_g (lw_at lw_m7 18 rfl) rfl
theorem q2302 : (Jvm.Cond.castable "java/util/PriorityQueue" "java/lang/Object") ∈ lw_tbl := lw_at lw_m10 72 rfl
theorem in_J23 : ∀ w ∈ wsJ230, w ∈ lw_all := lw_in wsJ230 [1260, 1262, 1264, 1266] (by decide +kernel) (by decide +kernel)

/-! java/util/TreeSet -/
set_option maxRecDepth 100000
def RJ27 : String := "java/util/TreeSet"
def TJ27 : u_T := fun k => match k with
  | _ => ("java/util/TreeSet", "m", "Ljava/util/NavigableMap;", false)
def tyJ27 : Nat → FieldType := fun k => match k with
  | _ => .object "java/util/NavigableMap"
abbrev wsJ270 : List Cond := u_ws RJ27 TJ27 1
theorem nmJ27 : ∀ a, a < 1 → ∀ b, b < 1 → a ≠ b → (TJ27 a).2.1 ≠ (TJ27 b).2.1 := by decide +kernel
theorem tyJ27_ok : ∀ k, k < 1 → parseFieldDescriptor (TJ27 k).2.2.1 = some (tyJ27 k) := by decide +kernel
abbrev cJ27_size : ByteArray := prog_70_method_9_code
def yJ27_size : MethodName := ⟨RJ27, "size", "()I"⟩
def dkwJ27_size_0 : List UInt8 := [42, 180, 0, 7, 185, 0, 53, 1, 0, 172]
abbrev dktJ27_size_0 : List UInt8 := dkwJ27_size_0 ++ []
theorem dksJ27_size_0 : cJ27_size.data.toList.drop 0 = dktJ27_size_0 := by decide +kernel
theorem dJ27_size_0 : decode cJ27_size 0 = .ok (.aload_n 0, 1) := dk_42 (dk_at dksJ27_size_0 0 rfl rfl)
theorem dJ27_size_1 : decode cJ27_size 1 = .ok (.getfield 7, 3) := dk_180 0 7 (dk_at dksJ27_size_0 1 rfl rfl)
theorem dJ27_size_4 : decode cJ27_size 4 = .ok (.invokeinterface 53 1, 5) := by decide +kernel
theorem dJ27_size_9 : decode cJ27_size 9 = .ok (.ireturn, 1) := dk_172 (dk_at dksJ27_size_0 9 rfl rfl)
abbrev cJ27_init : ByteArray := prog_70_method_2_code
def yJ27_init : MethodName := ⟨RJ27, "<init>", "()V"⟩
def dkwJ27_init_0 : List UInt8 := [42, 187, 0, 13, 89, 183, 0, 15, 183, 0, 16, 177]
abbrev dktJ27_init_0 : List UInt8 := dkwJ27_init_0 ++ []
theorem dksJ27_init_0 : cJ27_init.data.toList.drop 0 = dktJ27_init_0 := by decide +kernel
theorem dJ27_init_0 : decode cJ27_init 0 = .ok (.aload_n 0, 1) := dk_42 (dk_at dksJ27_init_0 0 rfl rfl)
theorem dJ27_init_1 : decode cJ27_init 1 = .ok (.new 13, 3) := dk_187 0 13 (dk_at dksJ27_init_0 1 rfl rfl)
theorem dJ27_init_4 : decode cJ27_init 4 = .ok (.dup, 1) := dk_89 (dk_at dksJ27_init_0 4 rfl rfl)
theorem dJ27_init_5 : decode cJ27_init 5 = .ok (.invokespecial 15, 3) := dk_183 0 15 (dk_at dksJ27_init_0 5 rfl rfl)
theorem dJ27_init_8 : decode cJ27_init 8 = .ok (.invokespecial 16, 3) := dk_183 0 16 (dk_at dksJ27_init_0 8 rfl rfl)
theorem dJ27_init_11 : decode cJ27_init 11 = .ok (.return_, 1) := dk_177 (dk_at dksJ27_init_0 11 rfl rfl)
abbrev cJ27_init_2 : ByteArray := prog_70_method_1_code
def yJ27_init_2 : MethodName := ⟨RJ27, "<init>", "(Ljava/util/NavigableMap;)V"⟩
def dkwJ27_init_2_0 : List UInt8 := [42, 183, 0, 1, 42, 43, 181, 0, 7, 177]
abbrev dktJ27_init_2_0 : List UInt8 := dkwJ27_init_2_0 ++ []
theorem dksJ27_init_2_0 : cJ27_init_2.data.toList.drop 0 = dktJ27_init_2_0 := by decide +kernel
theorem dJ27_init_2_0 : decode cJ27_init_2 0 = .ok (.aload_n 0, 1) := dk_42 (dk_at dksJ27_init_2_0 0 rfl rfl)
theorem dJ27_init_2_1 : decode cJ27_init_2 1 = .ok (.invokespecial 1, 3) := dk_183 0 1 (dk_at dksJ27_init_2_0 1 rfl rfl)
theorem dJ27_init_2_4 : decode cJ27_init_2 4 = .ok (.aload_n 0, 1) := dk_42 (dk_at dksJ27_init_2_0 4 rfl rfl)
theorem dJ27_init_2_5 : decode cJ27_init_2 5 = .ok (.aload_n 1, 1) := dk_43 (dk_at dksJ27_init_2_0 5 rfl rfl)
theorem dJ27_init_2_6 : decode cJ27_init_2 6 = .ok (.putfield 7, 3) := dk_181 0 7 (dk_at dksJ27_init_2_0 6 rfl rfl)
theorem dJ27_init_2_9 : decode cJ27_init_2 9 = .ok (.return_, 1) := dk_177 (dk_at dksJ27_init_2_0 9 rfl rfl)
abbrev cJ27_add : ByteArray := prog_70_method_12_code
def yJ27_add : MethodName := ⟨RJ27, "add", "(Ljava/lang/Object;)Z"⟩
def dkwJ27_add_0 : List UInt8 := [42, 180, 0, 7, 43, 178, 0, 65, 185, 0, 69, 3, 0, 199, 0, 7, 4, 167, 0, 4, 3, 172]
abbrev dktJ27_add_0 : List UInt8 := dkwJ27_add_0 ++ []
theorem dksJ27_add_0 : cJ27_add.data.toList.drop 0 = dktJ27_add_0 := by decide +kernel
theorem dJ27_add_0 : decode cJ27_add 0 = .ok (.aload_n 0, 1) := dk_42 (dk_at dksJ27_add_0 0 rfl rfl)
theorem dJ27_add_1 : decode cJ27_add 1 = .ok (.getfield 7, 3) := dk_180 0 7 (dk_at dksJ27_add_0 1 rfl rfl)
theorem dJ27_add_4 : decode cJ27_add 4 = .ok (.aload_n 1, 1) := dk_43 (dk_at dksJ27_add_0 4 rfl rfl)
theorem dJ27_add_5 : decode cJ27_add 5 = .ok (.getstatic 65, 3) := dk_178 0 65 (dk_at dksJ27_add_0 5 rfl rfl)
theorem dJ27_add_8 : decode cJ27_add 8 = .ok (.invokeinterface 69 3, 5) := by decide +kernel
theorem dJ27_add_13 : decode cJ27_add 13 = .ok (.ifnonnull 7, 3) := dk_199 0 7 (dk_at dksJ27_add_0 13 rfl rfl)
theorem dJ27_add_16 : decode cJ27_add 16 = .ok (.iconst 1, 1) := dk_4 (dk_at dksJ27_add_0 16 rfl rfl)
theorem dJ27_add_17 : decode cJ27_add 17 = .ok (.goto 4, 3) := dk_167 0 4 (dk_at dksJ27_add_0 17 rfl rfl)
theorem dJ27_add_20 : decode cJ27_add 20 = .ok (.iconst 0, 1) := dk_3 (dk_at dksJ27_add_0 20 rfl rfl)
theorem dJ27_add_21 : decode cJ27_add 21 = .ok (.ireturn, 1) := dk_172 (dk_at dksJ27_add_0 21 rfl rfl)
abbrev cJ27_iterator : ByteArray := prog_70_method_6_code
def yJ27_iterator : MethodName := ⟨RJ27, "iterator", "()Ljava/util/Iterator;"⟩
def dkwJ27_iterator_0 : List UInt8 := [42, 180, 0, 7, 185, 0, 34, 1, 0, 185, 0, 40, 1, 0, 176]
abbrev dktJ27_iterator_0 : List UInt8 := dkwJ27_iterator_0 ++ []
theorem dksJ27_iterator_0 : cJ27_iterator.data.toList.drop 0 = dktJ27_iterator_0 := by decide +kernel
theorem dJ27_iterator_0 : decode cJ27_iterator 0 = .ok (.aload_n 0, 1) := dk_42 (dk_at dksJ27_iterator_0 0 rfl rfl)
theorem dJ27_iterator_1 : decode cJ27_iterator 1 = .ok (.getfield 7, 3) := dk_180 0 7 (dk_at dksJ27_iterator_0 1 rfl rfl)
theorem dJ27_iterator_4 : decode cJ27_iterator 4 = .ok (.invokeinterface 34 1, 5) := by decide +kernel
theorem dJ27_iterator_9 : decode cJ27_iterator 9 = .ok (.invokeinterface 40 1, 5) := by decide +kernel
theorem dJ27_iterator_14 : decode cJ27_iterator 14 = .ok (.areturn, 1) := dk_176 (dk_at dksJ27_iterator_0 14 rfl rfl)
theorem q112 : (Jvm.Cond.initialized "java/util/TreeSet") ∈ lw_all := lw_g (lw_at lw_m1 42 rfl) rfl
theorem q360 : (Jvm.Cond.selects "java/util/TreeSet" ({ cls := "java/lang/Object", name := "getClass", desc := "()Ljava/lang/Class;" } : Jvm.MethodName) ({ cls := "java/lang/Object", name := "getClass", desc := "()Ljava/lang/Class;" } : Jvm.MethodName)) ∈ lw_all := lw_g (lw_at lw_m2 50 rfl) rfl
theorem q1515 : (Jvm.Cond.selects "java/util/TreeSet" ({ cls := "java/util/AbstractCollection", name := "size", desc := "()I" } : Jvm.MethodName) ({ cls := "java/util/TreeSet", name := "size", desc := "()I" } : Jvm.MethodName)) ∈ lw_all := lw_g (lw_at lw_m7 5 rfl) rfl
theorem q1516 : (Jvm.Cond.instanceMethod ({ cls := "java/util/TreeSet", name := "size", desc := "()I" } : Jvm.MethodName)) ∈ lw_all := lw_g (lw_at lw_m7 6 rfl) rfl
theorem q1517 : (Jvm.Cond.code ({ cls := "java/util/TreeSet", name := "size", desc := "()I" } : Jvm.MethodName) prog_70_method_9_code (1 : Nat) (Option.some Jvm.ClassFile.FieldType.int)) ∈ lw_all := lw_g (lw_at lw_m7 7 rfl) rfl
theorem q1518 : (Jvm.Cond.interfaceEntry "java/util/TreeSet" (53 : Nat)) ∈ lw_tbl := lw_at lw_m7 8 rfl
theorem q1568 : (Jvm.Cond.instantiable "java/util/TreeSet" (1 : Nat)) ∈ lw_all := lw_g (lw_at lw_m7 58 rfl) rfl
theorem q1570 : (Jvm.Cond.instanceMethod ({ cls := "java/util/TreeSet", name := "<init>", desc := "()V" } : Jvm.MethodName)) ∈ lw_all := lw_g (lw_at lw_m7 60 rfl) rfl
theorem q1571 : (Jvm.Cond.code ({ cls := "java/util/TreeSet", name := "<init>", desc := "()V" } : Jvm.MethodName) prog_70_method_2_code (1 : Nat) (Option.none : Option Jvm.ClassFile.FieldType)) ∈ lw_all := lw_g (lw_at lw_m7 61 rfl) rfl
theorem q1572 : (Jvm.Cond.classLink "java/util/TreeSet" (13 : Nat) "java/util/TreeMap") ∈ lw_all := lw_g (lw_at lw_m7 62 rfl) rfl
theorem q1574 : (Jvm.Cond.methodLink "java/util/TreeSet" (15 : Nat) ({ cls := "java/util/TreeMap", name := "<init>", desc := "()V" } : Jvm.MethodName)) ∈ lw_all := lw_g (lw_at lw_m7 64 rfl) rfl
theorem q1606 : (Jvm.Cond.methodLink "java/util/TreeSet" (16 : Nat) ({ cls := "java/util/TreeSet", name := "<init>", desc := "(Ljava/util/NavigableMap;)V" } : Jvm.MethodName)) ∈ lw_all := lw_g (lw_at lw_m7 96 rfl) rfl
theorem q1607 : (Jvm.Cond.instanceMethod ({ cls := "java/util/TreeSet", name := "<init>", desc := "(Ljava/util/NavigableMap;)V" } : Jvm.MethodName)) ∈ lw_all := lw_g (lw_at lw_m7 97 rfl) rfl
theorem q1608 : (Jvm.Cond.code ({ cls := "java/util/TreeSet", name := "<init>", desc := "(Ljava/util/NavigableMap;)V" } : Jvm.MethodName) prog_70_method_1_code (2 : Nat) (Option.none : Option Jvm.ClassFile.FieldType)) ∈ lw_all := lw_g (lw_at lw_m7 98 rfl) rfl
theorem q1609 : (Jvm.Cond.methodLink "java/util/TreeSet" (1 : Nat) ({ cls := "java/util/AbstractSet", name := "<init>", desc := "()V" } : Jvm.MethodName)) ∈ lw_all := lw_g (lw_at lw_m7 99 rfl) rfl
theorem q1613 : (Jvm.Cond.fieldLink "java/util/TreeSet" (7 : Nat) "java/util/TreeSet" "m" "Ljava/util/NavigableMap;") ∈ lw_all := lw_g (lw_at lw_m7 103 rfl) rfl
theorem q1614 : (Jvm.Cond.lays "java/util/TreeSet" "java/util/TreeSet" "m" "Ljava/util/NavigableMap;") ∈ lw_all := lw_g (lw_at lw_m7 104 rfl) rfl
theorem q1615 : (Jvm.Cond.soleField "java/util/TreeSet" "m") ∈ lw_all := lw_g (lw_at lw_m7 105 rfl) rfl
theorem q1616 : (Jvm.Cond.superclass "java/util/TreeSet" "java/util/AbstractSet") ∈ lw_all := lw_g (lw_at lw_m7 106 rfl) rfl
theorem q1618 : (Jvm.Cond.instanceMethod ({ cls := "java/util/TreeSet", name := "add", desc := "(Ljava/lang/Object;)Z" } : Jvm.MethodName)) ∈ lw_all := lw_g (lw_at lw_m7 108 rfl) rfl
theorem q1619 : (Jvm.Cond.selects "java/util/TreeSet" ({ cls := "java/util/TreeSet", name := "add", desc := "(Ljava/lang/Object;)Z" } : Jvm.MethodName) ({ cls := "java/util/TreeSet", name := "add", desc := "(Ljava/lang/Object;)Z" } : Jvm.MethodName)) ∈ lw_all := lw_g (lw_at lw_m7 109 rfl) rfl
theorem q1620 : (Jvm.Cond.code ({ cls := "java/util/TreeSet", name := "add", desc := "(Ljava/lang/Object;)Z" } : Jvm.MethodName) prog_70_method_12_code (2 : Nat) (Option.some Jvm.ClassFile.FieldType.boolean)) ∈ lw_all := lw_g (lw_at lw_m7 110 rfl) rfl
theorem q1621 : (Jvm.Cond.fieldLink "java/util/TreeSet" (65 : Nat) "java/util/TreeSet" "PRESENT" "Ljava/lang/Object;") ∈ lw_all := lw_g (lw_at lw_m7 111 rfl) rfl
theorem q1622 : (Jvm.Cond.laysStatic "java/util/TreeSet" "PRESENT" "Ljava/lang/Object;") ∈ lw_tbl := lw_at lw_m7 112 rfl
theorem q1623 : (Jvm.Cond.interfaceEntry "java/util/TreeSet" (69 : Nat)) ∈ lw_tbl := lw_at lw_m7 113 rfl
theorem q1714 : (Jvm.Cond.instanceMethod ({ cls := "java/util/TreeSet", name := "iterator", desc := "()Ljava/util/Iterator;" } : Jvm.MethodName)) ∈ lw_all := lw_g (lw_at lw_m7 204 rfl) rfl
theorem q1715 : (Jvm.Cond.selects "java/util/TreeSet" ({ cls := "java/util/TreeSet", name := "iterator", desc := "()Ljava/util/Iterator;" } : Jvm.MethodName) ({ cls := "java/util/TreeSet", name := "iterator", desc := "()Ljava/util/Iterator;" } : Jvm.MethodName)) ∈ lw_all := lw_g (lw_at lw_m7 205 rfl) rfl
theorem q1716 : (Jvm.Cond.code ({ cls := "java/util/TreeSet", name := "iterator", desc := "()Ljava/util/Iterator;" } : Jvm.MethodName) prog_70_method_6_code (1 : Nat) (Option.some (Jvm.ClassFile.FieldType.object "java/util/Iterator"))) ∈ lw_all := lw_g (lw_at lw_m7 206 rfl) rfl
theorem q1717 : (Jvm.Cond.interfaceEntry "java/util/TreeSet" (34 : Nat)) ∈ lw_tbl := lw_at lw_m7 207 rfl
theorem q1718 : (Jvm.Cond.methodLink "java/util/TreeSet" (34 : Nat) ({ cls := "java/util/NavigableMap", name := "navigableKeySet", desc := "()Ljava/util/NavigableSet;" } : Jvm.MethodName)) ∈ lw_all := lw_g (lw_at lw_m7 208 rfl) rfl
theorem q1736 : (Jvm.Cond.interfaceEntry "java/util/TreeSet" (40 : Nat)) ∈ lw_tbl := lw_at lw_m7 226 rfl
theorem q1737 : (Jvm.Cond.methodLink "java/util/TreeSet" (40 : Nat) ({ cls := "java/util/NavigableSet", name := "iterator", desc := "()Ljava/util/Iterator;" } : Jvm.MethodName)) ∈ lw_all := lw_g (lw_at lw_m7 227 rfl) rfl
theorem q1781 : (Jvm.Cond.castable "java/util/TreeSet" "java/util/NavigableSet") ∈ lw_tbl := lw_at lw_m8 31 rfl
theorem q1782 : (Jvm.Cond.selects "java/util/TreeSet" ({ cls := "java/util/NavigableSet", name := "iterator", desc := "()Ljava/util/Iterator;" } : Jvm.MethodName) ({ cls := "java/util/TreeSet", name := "iterator", desc := "()Ljava/util/Iterator;" } : Jvm.MethodName)) ∈ lw_all := lw_g (lw_at lw_m8 32 rfl) rfl
theorem q1783 : (Jvm.Cond.unhidden "java/util/TreeSet" "iterator" "()Ljava/util/Iterator;") ∈ lw_tbl := lw_at lw_m8 33 rfl
theorem q1784 : (Jvm.Cond.publicMethod ({ cls := "java/util/TreeSet", name := "iterator", desc := "()Ljava/util/Iterator;" } : Jvm.MethodName)) ∈ lw_tbl := lw_at lw_m8 34 rfl
theorem q2283 : (Jvm.Cond.selects "java/util/TreeSet" ({ cls := "java/util/TreeSet", name := "size", desc := "()I" } : Jvm.MethodName) ({ cls := "java/util/TreeSet", name := "size", desc := "()I" } : Jvm.MethodName)) ∈ lw_all := lw_g (lw_at lw_m10 53 rfl) rfl
theorem q2306 : (Jvm.Cond.castable "java/util/TreeSet" "java/lang/Object") ∈ lw_tbl := lw_at lw_m10 76 rfl
theorem in_J27 : ∀ w ∈ wsJ270, w ∈ lw_all := lw_in wsJ270 [1614] (by decide +kernel) (by decide +kernel)

/-! java/util/TreeMap -/
set_option maxRecDepth 100000
def RJ29 : String := "java/util/TreeMap"
def TJ29 : u_T := fun k => match k with
  | 0 => ("java/util/AbstractMap", "keySet", "Ljava/util/Set;", false)
  | 1 => ("java/util/AbstractMap", "values", "Ljava/util/Collection;", false)
  | 2 => ("java/util/TreeMap", "comparator", "Ljava/util/Comparator;", true)
  | 3 => ("java/util/TreeMap", "root", "Ljava/util/TreeMap$Entry;", false)
  | 4 => ("java/util/TreeMap", "size", "I", false)
  | 5 => ("java/util/TreeMap", "modCount", "I", false)
  | 6 => ("java/util/TreeMap", "entrySet", "Ljava/util/TreeMap$EntrySet;", false)
  | 7 => ("java/util/TreeMap", "navigableKeySet", "Ljava/util/TreeMap$KeySet;", false)
  | _ => ("java/util/TreeMap", "descendingMap", "Ljava/util/NavigableMap;", false)
def tyJ29 : Nat → FieldType := fun k => match k with
  | 0 => .object "java/util/Set"
  | 1 => .object "java/util/Collection"
  | 2 => .object "java/util/Comparator"
  | 3 => .object "java/util/TreeMap$Entry"
  | 4 => .int
  | 5 => .int
  | 6 => .object "java/util/TreeMap$EntrySet"
  | 7 => .object "java/util/TreeMap$KeySet"
  | _ => .object "java/util/NavigableMap"
abbrev wsJ290 : List Cond := u_ws RJ29 TJ29 9
theorem nmJ29 : ∀ a, a < 9 → ∀ b, b < 9 → a ≠ b → (TJ29 a).2.1 ≠ (TJ29 b).2.1 := by decide +kernel
theorem tyJ29_ok : ∀ k, k < 9 → parseFieldDescriptor (TJ29 k).2.2.1 = some (tyJ29 k) := by decide +kernel
abbrev cJ29_size : ByteArray := prog_64_method_5_code
def yJ29_size : MethodName := ⟨RJ29, "size", "()I"⟩
theorem dJ29_size_0 : decode cJ29_size 0 = .ok (.aload_n 0, 1) := by decide +kernel
theorem dJ29_size_1 : decode cJ29_size 1 = .ok (.getfield 7, 3) := by decide +kernel
theorem dJ29_size_4 : decode cJ29_size 4 = .ok (.ireturn, 1) := by decide +kernel
abbrev cJ29_init : ByteArray := prog_64_method_1_code
def yJ29_init : MethodName := ⟨RJ29, "<init>", "()V"⟩
def dkwJ29_init_0 : List UInt8 := [42, 183, 0, 1, 42, 3, 181, 0, 7, 42, 3, 181, 0, 13, 42, 1, 181, 0, 16, 177]
abbrev dktJ29_init_0 : List UInt8 := dkwJ29_init_0 ++ []
theorem dksJ29_init_0 : cJ29_init.data.toList.drop 0 = dktJ29_init_0 := by decide +kernel
theorem dJ29_init_0 : decode cJ29_init 0 = .ok (.aload_n 0, 1) := dk_42 (dk_at dksJ29_init_0 0 rfl rfl)
theorem dJ29_init_1 : decode cJ29_init 1 = .ok (.invokespecial 1, 3) := dk_183 0 1 (dk_at dksJ29_init_0 1 rfl rfl)
theorem dJ29_init_4 : decode cJ29_init 4 = .ok (.aload_n 0, 1) := dk_42 (dk_at dksJ29_init_0 4 rfl rfl)
theorem dJ29_init_5 : decode cJ29_init 5 = .ok (.iconst 0, 1) := dk_3 (dk_at dksJ29_init_0 5 rfl rfl)
theorem dJ29_init_6 : decode cJ29_init 6 = .ok (.putfield 7, 3) := dk_181 0 7 (dk_at dksJ29_init_0 6 rfl rfl)
theorem dJ29_init_9 : decode cJ29_init 9 = .ok (.aload_n 0, 1) := dk_42 (dk_at dksJ29_init_0 9 rfl rfl)
theorem dJ29_init_10 : decode cJ29_init 10 = .ok (.iconst 0, 1) := dk_3 (dk_at dksJ29_init_0 10 rfl rfl)
theorem dJ29_init_11 : decode cJ29_init 11 = .ok (.putfield 13, 3) := dk_181 0 13 (dk_at dksJ29_init_0 11 rfl rfl)
theorem dJ29_init_14 : decode cJ29_init 14 = .ok (.aload_n 0, 1) := dk_42 (dk_at dksJ29_init_0 14 rfl rfl)
theorem dJ29_init_15 : decode cJ29_init 15 = .ok (.aconst_null, 1) := dk_1 (dk_at dksJ29_init_0 15 rfl rfl)
theorem dJ29_init_16 : decode cJ29_init 16 = .ok (.putfield 16, 3) := dk_181 0 16 (dk_at dksJ29_init_0 16 rfl rfl)
theorem dJ29_init_19 : decode cJ29_init 19 = .ok (.return_, 1) := dk_177 (dk_at dksJ29_init_0 19 rfl rfl)
abbrev cJ29_put : ByteArray := prog_64_method_21_code
def yJ29_put : MethodName := ⟨RJ29, "put", "(Ljava/lang/Object;Ljava/lang/Object;)Ljava/lang/Object;"⟩
def dkwJ29_put_0 : List UInt8 := [42, 43, 44, 4, 182, 0, 127, 176]
abbrev dktJ29_put_0 : List UInt8 := dkwJ29_put_0 ++ []
theorem dksJ29_put_0 : cJ29_put.data.toList.drop 0 = dktJ29_put_0 := by decide +kernel
theorem dJ29_put_0 : decode cJ29_put 0 = .ok (.aload_n 0, 1) := dk_42 (dk_at dksJ29_put_0 0 rfl rfl)
theorem dJ29_put_1 : decode cJ29_put 1 = .ok (.aload_n 1, 1) := dk_43 (dk_at dksJ29_put_0 1 rfl rfl)
theorem dJ29_put_2 : decode cJ29_put 2 = .ok (.aload_n 2, 1) := dk_44 (dk_at dksJ29_put_0 2 rfl rfl)
theorem dJ29_put_3 : decode cJ29_put 3 = .ok (.iconst 1, 1) := dk_4 (dk_at dksJ29_put_0 3 rfl rfl)
theorem dJ29_put_4 : decode cJ29_put 4 = .ok (.invokevirtual 127, 3) := dk_182 0 127 (dk_at dksJ29_put_0 4 rfl rfl)
theorem dJ29_put_7 : decode cJ29_put 7 = .ok (.areturn, 1) := dk_176 (dk_at dksJ29_put_0 7 rfl rfl)
abbrev cJ29_put_2 : ByteArray := prog_64_method_31_code
def yJ29_put_2 : MethodName := ⟨RJ29, "put", "(Ljava/lang/Object;Ljava/lang/Object;Z)Ljava/lang/Object;"⟩
def dkwJ29_put_2_9 : List UInt8 := [4, 167, 0, 4, 3, 182, 0, 139, 1, 176]
abbrev dktJ29_put_2_9 : List UInt8 := dkwJ29_put_2_9 ++ []
def dkwJ29_put_2_8 : List UInt8 := [25, 4, 44, 181, 0, 58, 25, 9, 176, 25, 4, 199, 255, 181, 42, 43, 44, 25, 6, 21, 5, 156, 0, 7]
abbrev dktJ29_put_2_8 : List UInt8 := dkwJ29_put_2_8 ++ dktJ29_put_2_9
def dkwJ29_put_2_7 : List UInt8 := [180, 0, 114, 58, 4, 167, 0, 28, 25, 4, 180, 0, 58, 58, 9, 29, 154, 0, 8, 25, 9, 199, 0, 9]
abbrev dktJ29_put_2_7 : List UInt8 := dkwJ29_put_2_7 ++ dktJ29_put_2_8
def dkwJ29_put_2_6 : List UInt8 := [21, 5, 156, 0, 13, 25, 4, 180, 0, 111, 58, 4, 167, 0, 43, 21, 5, 158, 0, 13, 25, 4]
abbrev dktJ29_put_2_6 : List UInt8 := dkwJ29_put_2_6 ++ dktJ29_put_2_7
def dkwJ29_put_2_5 : List UInt8 := [192, 0, 99, 58, 8, 25, 4, 58, 6, 25, 8, 25, 4, 180, 0, 105, 185, 0, 107, 2, 0, 54, 5]
abbrev dktJ29_put_2_5 : List UInt8 := dkwJ29_put_2_5 ++ dktJ29_put_2_6
def dkwJ29_put_2_4 : List UInt8 := [25, 4, 44, 181, 0, 58, 25, 8, 176, 25, 4, 199, 255, 180, 167, 0, 92, 43, 184, 0, 95, 87, 43]
abbrev dktJ29_put_2_4 : List UInt8 := dkwJ29_put_2_4 ++ dktJ29_put_2_5
def dkwJ29_put_2_3 : List UInt8 := [180, 0, 114, 58, 4, 167, 0, 28, 25, 4, 180, 0, 58, 58, 8, 29, 154, 0, 8, 25, 8, 199, 0, 9]
abbrev dktJ29_put_2_3 : List UInt8 := dkwJ29_put_2_3 ++ dktJ29_put_2_4
def dkwJ29_put_2_2 : List UInt8 := [54, 5, 21, 5, 156, 0, 13, 25, 4, 180, 0, 111, 58, 4, 167, 0, 43, 21, 5, 158, 0, 13, 25, 4]
abbrev dktJ29_put_2_2 : List UInt8 := dkwJ29_put_2_2 ++ dktJ29_put_2_3
def dkwJ29_put_2_1 : List UInt8 := [58, 7, 25, 7, 198, 0, 85, 25, 4, 58, 6, 25, 7, 43, 25, 4, 180, 0, 105, 185, 0, 117, 3, 0]
abbrev dktJ29_put_2_1 : List UInt8 := dkwJ29_put_2_1 ++ dktJ29_put_2_2
def dkwJ29_put_2_0 : List UInt8 := [42, 180, 0, 101, 58, 4, 25, 4, 199, 0, 11, 42, 43, 44, 182, 0, 135, 1, 176, 42, 180, 0, 16]
abbrev dktJ29_put_2_0 : List UInt8 := dkwJ29_put_2_0 ++ dktJ29_put_2_1
theorem dksJ29_put_2_0 : cJ29_put_2.data.toList.drop 0 = dktJ29_put_2_0 := by decide +kernel
theorem dksJ29_put_2_1 : cJ29_put_2.data.toList.drop 23 = dktJ29_put_2_1 := dk_seg dksJ29_put_2_0 23 rfl rfl
theorem dksJ29_put_2_2 : cJ29_put_2.data.toList.drop 47 = dktJ29_put_2_2 := dk_seg dksJ29_put_2_1 24 rfl rfl
theorem dksJ29_put_2_3 : cJ29_put_2.data.toList.drop 71 = dktJ29_put_2_3 := dk_seg dksJ29_put_2_2 24 rfl rfl
theorem dksJ29_put_2_4 : cJ29_put_2.data.toList.drop 95 = dktJ29_put_2_4 := dk_seg dksJ29_put_2_3 24 rfl rfl
theorem dksJ29_put_2_5 : cJ29_put_2.data.toList.drop 118 = dktJ29_put_2_5 := dk_seg dksJ29_put_2_4 23 rfl rfl
theorem dksJ29_put_2_6 : cJ29_put_2.data.toList.drop 141 = dktJ29_put_2_6 := dk_seg dksJ29_put_2_5 23 rfl rfl
theorem dksJ29_put_2_7 : cJ29_put_2.data.toList.drop 163 = dktJ29_put_2_7 := dk_seg dksJ29_put_2_6 22 rfl rfl
theorem dksJ29_put_2_8 : cJ29_put_2.data.toList.drop 187 = dktJ29_put_2_8 := dk_seg dksJ29_put_2_7 24 rfl rfl
theorem dksJ29_put_2_9 : cJ29_put_2.data.toList.drop 211 = dktJ29_put_2_9 := dk_seg dksJ29_put_2_8 24 rfl rfl
theorem dJ29_put_2_0 : decode cJ29_put_2 0 = .ok (.aload_n 0, 1) := dk_42 (dk_at dksJ29_put_2_0 0 rfl rfl)
theorem dJ29_put_2_1 : decode cJ29_put_2 1 = .ok (.getfield 101, 3) := dk_180 0 101 (dk_at dksJ29_put_2_0 1 rfl rfl)
theorem dJ29_put_2_4 : decode cJ29_put_2 4 = .ok (.astore 4, 2) := dk_58 4 (dk_at dksJ29_put_2_0 4 rfl rfl)
theorem dJ29_put_2_6 : decode cJ29_put_2 6 = .ok (.aload 4, 2) := dk_25 4 (dk_at dksJ29_put_2_0 6 rfl rfl)
theorem dJ29_put_2_8 : decode cJ29_put_2 8 = .ok (.ifnonnull 11, 3) := dk_199 0 11 (dk_at dksJ29_put_2_0 8 rfl rfl)
theorem dJ29_put_2_11 : decode cJ29_put_2 11 = .ok (.aload_n 0, 1) := dk_42 (dk_at dksJ29_put_2_0 11 rfl rfl)
theorem dJ29_put_2_12 : decode cJ29_put_2 12 = .ok (.aload_n 1, 1) := dk_43 (dk_at dksJ29_put_2_0 12 rfl rfl)
theorem dJ29_put_2_13 : decode cJ29_put_2 13 = .ok (.aload_n 2, 1) := dk_44 (dk_at dksJ29_put_2_0 13 rfl rfl)
theorem dJ29_put_2_14 : decode cJ29_put_2 14 = .ok (.invokevirtual 135, 3) := dk_182 0 135 (dk_at dksJ29_put_2_0 14 rfl rfl)
theorem dJ29_put_2_17 : decode cJ29_put_2 17 = .ok (.aconst_null, 1) := dk_1 (dk_at dksJ29_put_2_0 17 rfl rfl)
theorem dJ29_put_2_18 : decode cJ29_put_2 18 = .ok (.areturn, 1) := dk_176 (dk_at dksJ29_put_2_0 18 rfl rfl)
theorem dJ29_put_2_19 : decode cJ29_put_2 19 = .ok (.aload_n 0, 1) := dk_42 (dk_at dksJ29_put_2_0 19 rfl rfl)
theorem dJ29_put_2_20 : decode cJ29_put_2 20 = .ok (.getfield 16, 3) := dk_180 0 16 (dk_at dksJ29_put_2_0 20 rfl rfl)
theorem dJ29_put_2_23 : decode cJ29_put_2 23 = .ok (.astore 7, 2) := dk_58 7 (dk_at dksJ29_put_2_1 0 rfl rfl)
theorem dJ29_put_2_25 : decode cJ29_put_2 25 = .ok (.aload 7, 2) := dk_25 7 (dk_at dksJ29_put_2_1 2 rfl rfl)
theorem dJ29_put_2_27 : decode cJ29_put_2 27 = .ok (.ifnull 85, 3) := dk_198 0 85 (dk_at dksJ29_put_2_1 4 rfl rfl)
theorem dJ29_put_2_30 : decode cJ29_put_2 30 = .ok (.aload 4, 2) := dk_25 4 (dk_at dksJ29_put_2_1 7 rfl rfl)
theorem dJ29_put_2_32 : decode cJ29_put_2 32 = .ok (.astore 6, 2) := dk_58 6 (dk_at dksJ29_put_2_1 9 rfl rfl)
theorem dJ29_put_2_34 : decode cJ29_put_2 34 = .ok (.aload 7, 2) := dk_25 7 (dk_at dksJ29_put_2_1 11 rfl rfl)
theorem dJ29_put_2_36 : decode cJ29_put_2 36 = .ok (.aload_n 1, 1) := dk_43 (dk_at dksJ29_put_2_1 13 rfl rfl)
theorem dJ29_put_2_37 : decode cJ29_put_2 37 = .ok (.aload 4, 2) := dk_25 4 (dk_at dksJ29_put_2_1 14 rfl rfl)
theorem dJ29_put_2_39 : decode cJ29_put_2 39 = .ok (.getfield 105, 3) := dk_180 0 105 (dk_at dksJ29_put_2_1 16 rfl rfl)
theorem dJ29_put_2_42 : decode cJ29_put_2 42 = .ok (.invokeinterface 117 3, 5) := by decide +kernel
theorem dJ29_put_2_47 : decode cJ29_put_2 47 = .ok (.istore 5, 2) := dk_54 5 (dk_at dksJ29_put_2_2 0 rfl rfl)
theorem dJ29_put_2_49 : decode cJ29_put_2 49 = .ok (.iload 5, 2) := dk_21 5 (dk_at dksJ29_put_2_2 2 rfl rfl)
theorem dJ29_put_2_51 : decode cJ29_put_2 51 = .ok (.ifCond .ge 13, 3) := dk_156 0 13 (dk_at dksJ29_put_2_2 4 rfl rfl)
theorem dJ29_put_2_54 : decode cJ29_put_2 54 = .ok (.aload 4, 2) := dk_25 4 (dk_at dksJ29_put_2_2 7 rfl rfl)
theorem dJ29_put_2_56 : decode cJ29_put_2 56 = .ok (.getfield 111, 3) := dk_180 0 111 (dk_at dksJ29_put_2_2 9 rfl rfl)
theorem dJ29_put_2_59 : decode cJ29_put_2 59 = .ok (.astore 4, 2) := dk_58 4 (dk_at dksJ29_put_2_2 12 rfl rfl)
theorem dJ29_put_2_61 : decode cJ29_put_2 61 = .ok (.goto 43, 3) := dk_167 0 43 (dk_at dksJ29_put_2_2 14 rfl rfl)
theorem dJ29_put_2_64 : decode cJ29_put_2 64 = .ok (.iload 5, 2) := dk_21 5 (dk_at dksJ29_put_2_2 17 rfl rfl)
theorem dJ29_put_2_66 : decode cJ29_put_2 66 = .ok (.ifCond .le 13, 3) := dk_158 0 13 (dk_at dksJ29_put_2_2 19 rfl rfl)
theorem dJ29_put_2_69 : decode cJ29_put_2 69 = .ok (.aload 4, 2) := dk_25 4 (dk_at dksJ29_put_2_2 22 rfl rfl)
theorem dJ29_put_2_71 : decode cJ29_put_2 71 = .ok (.getfield 114, 3) := dk_180 0 114 (dk_at dksJ29_put_2_3 0 rfl rfl)
theorem dJ29_put_2_74 : decode cJ29_put_2 74 = .ok (.astore 4, 2) := dk_58 4 (dk_at dksJ29_put_2_3 3 rfl rfl)
theorem dJ29_put_2_76 : decode cJ29_put_2 76 = .ok (.goto 28, 3) := dk_167 0 28 (dk_at dksJ29_put_2_3 5 rfl rfl)
theorem dJ29_put_2_79 : decode cJ29_put_2 79 = .ok (.aload 4, 2) := dk_25 4 (dk_at dksJ29_put_2_3 8 rfl rfl)
theorem dJ29_put_2_81 : decode cJ29_put_2 81 = .ok (.getfield 58, 3) := dk_180 0 58 (dk_at dksJ29_put_2_3 10 rfl rfl)
theorem dJ29_put_2_84 : decode cJ29_put_2 84 = .ok (.astore 8, 2) := dk_58 8 (dk_at dksJ29_put_2_3 13 rfl rfl)
theorem dJ29_put_2_86 : decode cJ29_put_2 86 = .ok (.iload_n 3, 1) := dk_29 (dk_at dksJ29_put_2_3 15 rfl rfl)
theorem dJ29_put_2_87 : decode cJ29_put_2 87 = .ok (.ifCond .ne 8, 3) := dk_154 0 8 (dk_at dksJ29_put_2_3 16 rfl rfl)
theorem dJ29_put_2_90 : decode cJ29_put_2 90 = .ok (.aload 8, 2) := dk_25 8 (dk_at dksJ29_put_2_3 19 rfl rfl)
theorem dJ29_put_2_92 : decode cJ29_put_2 92 = .ok (.ifnonnull 9, 3) := dk_199 0 9 (dk_at dksJ29_put_2_3 21 rfl rfl)
theorem dJ29_put_2_95 : decode cJ29_put_2 95 = .ok (.aload 4, 2) := dk_25 4 (dk_at dksJ29_put_2_4 0 rfl rfl)
theorem dJ29_put_2_97 : decode cJ29_put_2 97 = .ok (.aload_n 2, 1) := dk_44 (dk_at dksJ29_put_2_4 2 rfl rfl)
theorem dJ29_put_2_98 : decode cJ29_put_2 98 = .ok (.putfield 58, 3) := dk_181 0 58 (dk_at dksJ29_put_2_4 3 rfl rfl)
theorem dJ29_put_2_101 : decode cJ29_put_2 101 = .ok (.aload 8, 2) := dk_25 8 (dk_at dksJ29_put_2_4 6 rfl rfl)
theorem dJ29_put_2_103 : decode cJ29_put_2 103 = .ok (.areturn, 1) := dk_176 (dk_at dksJ29_put_2_4 8 rfl rfl)
theorem dJ29_put_2_104 : decode cJ29_put_2 104 = .ok (.aload 4, 2) := dk_25 4 (dk_at dksJ29_put_2_4 9 rfl rfl)
theorem dJ29_put_2_106 : decode cJ29_put_2 106 = .ok (.ifnonnull (-76), 3) := dk_199 255 180 (dk_at dksJ29_put_2_4 11 rfl rfl)
theorem dJ29_put_2_109 : decode cJ29_put_2 109 = .ok (.goto 92, 3) := dk_167 0 92 (dk_at dksJ29_put_2_4 14 rfl rfl)
theorem dJ29_put_2_112 : decode cJ29_put_2 112 = .ok (.aload_n 1, 1) := dk_43 (dk_at dksJ29_put_2_4 17 rfl rfl)
theorem dJ29_put_2_113 : decode cJ29_put_2 113 = .ok (.invokestatic 95, 3) := dk_184 0 95 (dk_at dksJ29_put_2_4 18 rfl rfl)
theorem dJ29_put_2_116 : decode cJ29_put_2 116 = .ok (.pop, 1) := dk_87 (dk_at dksJ29_put_2_4 21 rfl rfl)
theorem dJ29_put_2_117 : decode cJ29_put_2 117 = .ok (.aload_n 1, 1) := dk_43 (dk_at dksJ29_put_2_4 22 rfl rfl)
theorem dJ29_put_2_118 : decode cJ29_put_2 118 = .ok (.checkcast 99, 3) := dk_192 0 99 (dk_at dksJ29_put_2_5 0 rfl rfl)
theorem dJ29_put_2_121 : decode cJ29_put_2 121 = .ok (.astore 8, 2) := dk_58 8 (dk_at dksJ29_put_2_5 3 rfl rfl)
theorem dJ29_put_2_123 : decode cJ29_put_2 123 = .ok (.aload 4, 2) := dk_25 4 (dk_at dksJ29_put_2_5 5 rfl rfl)
theorem dJ29_put_2_125 : decode cJ29_put_2 125 = .ok (.astore 6, 2) := dk_58 6 (dk_at dksJ29_put_2_5 7 rfl rfl)
theorem dJ29_put_2_127 : decode cJ29_put_2 127 = .ok (.aload 8, 2) := dk_25 8 (dk_at dksJ29_put_2_5 9 rfl rfl)
theorem dJ29_put_2_129 : decode cJ29_put_2 129 = .ok (.aload 4, 2) := dk_25 4 (dk_at dksJ29_put_2_5 11 rfl rfl)
theorem dJ29_put_2_131 : decode cJ29_put_2 131 = .ok (.getfield 105, 3) := dk_180 0 105 (dk_at dksJ29_put_2_5 13 rfl rfl)
theorem dJ29_put_2_134 : decode cJ29_put_2 134 = .ok (.invokeinterface 107 2, 5) := by decide +kernel
theorem dJ29_put_2_139 : decode cJ29_put_2 139 = .ok (.istore 5, 2) := dk_54 5 (dk_at dksJ29_put_2_5 21 rfl rfl)
theorem dJ29_put_2_141 : decode cJ29_put_2 141 = .ok (.iload 5, 2) := dk_21 5 (dk_at dksJ29_put_2_6 0 rfl rfl)
theorem dJ29_put_2_143 : decode cJ29_put_2 143 = .ok (.ifCond .ge 13, 3) := dk_156 0 13 (dk_at dksJ29_put_2_6 2 rfl rfl)
theorem dJ29_put_2_146 : decode cJ29_put_2 146 = .ok (.aload 4, 2) := dk_25 4 (dk_at dksJ29_put_2_6 5 rfl rfl)
theorem dJ29_put_2_148 : decode cJ29_put_2 148 = .ok (.getfield 111, 3) := dk_180 0 111 (dk_at dksJ29_put_2_6 7 rfl rfl)
theorem dJ29_put_2_151 : decode cJ29_put_2 151 = .ok (.astore 4, 2) := dk_58 4 (dk_at dksJ29_put_2_6 10 rfl rfl)
theorem dJ29_put_2_153 : decode cJ29_put_2 153 = .ok (.goto 43, 3) := dk_167 0 43 (dk_at dksJ29_put_2_6 12 rfl rfl)
theorem dJ29_put_2_156 : decode cJ29_put_2 156 = .ok (.iload 5, 2) := dk_21 5 (dk_at dksJ29_put_2_6 15 rfl rfl)
theorem dJ29_put_2_158 : decode cJ29_put_2 158 = .ok (.ifCond .le 13, 3) := dk_158 0 13 (dk_at dksJ29_put_2_6 17 rfl rfl)
theorem dJ29_put_2_161 : decode cJ29_put_2 161 = .ok (.aload 4, 2) := dk_25 4 (dk_at dksJ29_put_2_6 20 rfl rfl)
theorem dJ29_put_2_163 : decode cJ29_put_2 163 = .ok (.getfield 114, 3) := dk_180 0 114 (dk_at dksJ29_put_2_7 0 rfl rfl)
theorem dJ29_put_2_166 : decode cJ29_put_2 166 = .ok (.astore 4, 2) := dk_58 4 (dk_at dksJ29_put_2_7 3 rfl rfl)
theorem dJ29_put_2_168 : decode cJ29_put_2 168 = .ok (.goto 28, 3) := dk_167 0 28 (dk_at dksJ29_put_2_7 5 rfl rfl)
theorem dJ29_put_2_171 : decode cJ29_put_2 171 = .ok (.aload 4, 2) := dk_25 4 (dk_at dksJ29_put_2_7 8 rfl rfl)
theorem dJ29_put_2_173 : decode cJ29_put_2 173 = .ok (.getfield 58, 3) := dk_180 0 58 (dk_at dksJ29_put_2_7 10 rfl rfl)
theorem dJ29_put_2_176 : decode cJ29_put_2 176 = .ok (.astore 9, 2) := dk_58 9 (dk_at dksJ29_put_2_7 13 rfl rfl)
theorem dJ29_put_2_178 : decode cJ29_put_2 178 = .ok (.iload_n 3, 1) := dk_29 (dk_at dksJ29_put_2_7 15 rfl rfl)
theorem dJ29_put_2_179 : decode cJ29_put_2 179 = .ok (.ifCond .ne 8, 3) := dk_154 0 8 (dk_at dksJ29_put_2_7 16 rfl rfl)
theorem dJ29_put_2_182 : decode cJ29_put_2 182 = .ok (.aload 9, 2) := dk_25 9 (dk_at dksJ29_put_2_7 19 rfl rfl)
theorem dJ29_put_2_184 : decode cJ29_put_2 184 = .ok (.ifnonnull 9, 3) := dk_199 0 9 (dk_at dksJ29_put_2_7 21 rfl rfl)
theorem dJ29_put_2_187 : decode cJ29_put_2 187 = .ok (.aload 4, 2) := dk_25 4 (dk_at dksJ29_put_2_8 0 rfl rfl)
theorem dJ29_put_2_189 : decode cJ29_put_2 189 = .ok (.aload_n 2, 1) := dk_44 (dk_at dksJ29_put_2_8 2 rfl rfl)
theorem dJ29_put_2_190 : decode cJ29_put_2 190 = .ok (.putfield 58, 3) := dk_181 0 58 (dk_at dksJ29_put_2_8 3 rfl rfl)
theorem dJ29_put_2_193 : decode cJ29_put_2 193 = .ok (.aload 9, 2) := dk_25 9 (dk_at dksJ29_put_2_8 6 rfl rfl)
theorem dJ29_put_2_195 : decode cJ29_put_2 195 = .ok (.areturn, 1) := dk_176 (dk_at dksJ29_put_2_8 8 rfl rfl)
theorem dJ29_put_2_196 : decode cJ29_put_2 196 = .ok (.aload 4, 2) := dk_25 4 (dk_at dksJ29_put_2_8 9 rfl rfl)
theorem dJ29_put_2_198 : decode cJ29_put_2 198 = .ok (.ifnonnull (-75), 3) := dk_199 255 181 (dk_at dksJ29_put_2_8 11 rfl rfl)
theorem dJ29_put_2_201 : decode cJ29_put_2 201 = .ok (.aload_n 0, 1) := dk_42 (dk_at dksJ29_put_2_8 14 rfl rfl)
theorem dJ29_put_2_202 : decode cJ29_put_2 202 = .ok (.aload_n 1, 1) := dk_43 (dk_at dksJ29_put_2_8 15 rfl rfl)
theorem dJ29_put_2_203 : decode cJ29_put_2 203 = .ok (.aload_n 2, 1) := dk_44 (dk_at dksJ29_put_2_8 16 rfl rfl)
theorem dJ29_put_2_204 : decode cJ29_put_2 204 = .ok (.aload 6, 2) := dk_25 6 (dk_at dksJ29_put_2_8 17 rfl rfl)
theorem dJ29_put_2_206 : decode cJ29_put_2 206 = .ok (.iload 5, 2) := dk_21 5 (dk_at dksJ29_put_2_8 19 rfl rfl)
theorem dJ29_put_2_208 : decode cJ29_put_2 208 = .ok (.ifCond .ge 7, 3) := dk_156 0 7 (dk_at dksJ29_put_2_8 21 rfl rfl)
theorem dJ29_put_2_211 : decode cJ29_put_2 211 = .ok (.iconst 1, 1) := dk_4 (dk_at dksJ29_put_2_9 0 rfl rfl)
theorem dJ29_put_2_212 : decode cJ29_put_2 212 = .ok (.goto 4, 3) := dk_167 0 4 (dk_at dksJ29_put_2_9 1 rfl rfl)
theorem dJ29_put_2_215 : decode cJ29_put_2 215 = .ok (.iconst 0, 1) := dk_3 (dk_at dksJ29_put_2_9 4 rfl rfl)
theorem dJ29_put_2_216 : decode cJ29_put_2 216 = .ok (.invokevirtual 139, 3) := dk_182 0 139 (dk_at dksJ29_put_2_9 5 rfl rfl)
theorem dJ29_put_2_219 : decode cJ29_put_2 219 = .ok (.aconst_null, 1) := dk_1 (dk_at dksJ29_put_2_9 8 rfl rfl)
theorem dJ29_put_2_220 : decode cJ29_put_2 220 = .ok (.areturn, 1) := dk_176 (dk_at dksJ29_put_2_9 9 rfl rfl)
abbrev cJ29_addEntryToEmptyMap : ByteArray := prog_64_method_30_code
def yJ29_addEntryToEmptyMap : MethodName := ⟨RJ29, "addEntryToEmptyMap", "(Ljava/lang/Object;Ljava/lang/Object;)V"⟩
def dkwJ29_addEntryToEmptyMap_1 : List UInt8 := [181, 0, 7, 42, 89, 180, 0, 13, 4, 96, 181, 0, 13, 177]
abbrev dktJ29_addEntryToEmptyMap_1 : List UInt8 := dkwJ29_addEntryToEmptyMap_1 ++ []
def dkwJ29_addEntryToEmptyMap_0 : List UInt8 := [42, 43, 43, 182, 0, 123, 87, 42, 187, 0, 59, 89, 43, 44, 1, 183, 0, 167, 181, 0, 101, 42, 4]
abbrev dktJ29_addEntryToEmptyMap_0 : List UInt8 := dkwJ29_addEntryToEmptyMap_0 ++ dktJ29_addEntryToEmptyMap_1
theorem dksJ29_addEntryToEmptyMap_0 : cJ29_addEntryToEmptyMap.data.toList.drop 0 = dktJ29_addEntryToEmptyMap_0 := by decide +kernel
theorem dksJ29_addEntryToEmptyMap_1 : cJ29_addEntryToEmptyMap.data.toList.drop 23 = dktJ29_addEntryToEmptyMap_1 := dk_seg dksJ29_addEntryToEmptyMap_0 23 rfl rfl
theorem dJ29_addEntryToEmptyMap_0 : decode cJ29_addEntryToEmptyMap 0 = .ok (.aload_n 0, 1) := dk_42 (dk_at dksJ29_addEntryToEmptyMap_0 0 rfl rfl)
theorem dJ29_addEntryToEmptyMap_1 : decode cJ29_addEntryToEmptyMap 1 = .ok (.aload_n 1, 1) := dk_43 (dk_at dksJ29_addEntryToEmptyMap_0 1 rfl rfl)
theorem dJ29_addEntryToEmptyMap_2 : decode cJ29_addEntryToEmptyMap 2 = .ok (.aload_n 1, 1) := dk_43 (dk_at dksJ29_addEntryToEmptyMap_0 2 rfl rfl)
theorem dJ29_addEntryToEmptyMap_3 : decode cJ29_addEntryToEmptyMap 3 = .ok (.invokevirtual 123, 3) := dk_182 0 123 (dk_at dksJ29_addEntryToEmptyMap_0 3 rfl rfl)
theorem dJ29_addEntryToEmptyMap_6 : decode cJ29_addEntryToEmptyMap 6 = .ok (.pop, 1) := dk_87 (dk_at dksJ29_addEntryToEmptyMap_0 6 rfl rfl)
theorem dJ29_addEntryToEmptyMap_7 : decode cJ29_addEntryToEmptyMap 7 = .ok (.aload_n 0, 1) := dk_42 (dk_at dksJ29_addEntryToEmptyMap_0 7 rfl rfl)
theorem dJ29_addEntryToEmptyMap_8 : decode cJ29_addEntryToEmptyMap 8 = .ok (.new 59, 3) := dk_187 0 59 (dk_at dksJ29_addEntryToEmptyMap_0 8 rfl rfl)
theorem dJ29_addEntryToEmptyMap_11 : decode cJ29_addEntryToEmptyMap 11 = .ok (.dup, 1) := dk_89 (dk_at dksJ29_addEntryToEmptyMap_0 11 rfl rfl)
theorem dJ29_addEntryToEmptyMap_12 : decode cJ29_addEntryToEmptyMap 12 = .ok (.aload_n 1, 1) := dk_43 (dk_at dksJ29_addEntryToEmptyMap_0 12 rfl rfl)
theorem dJ29_addEntryToEmptyMap_13 : decode cJ29_addEntryToEmptyMap 13 = .ok (.aload_n 2, 1) := dk_44 (dk_at dksJ29_addEntryToEmptyMap_0 13 rfl rfl)
theorem dJ29_addEntryToEmptyMap_14 : decode cJ29_addEntryToEmptyMap 14 = .ok (.aconst_null, 1) := dk_1 (dk_at dksJ29_addEntryToEmptyMap_0 14 rfl rfl)
theorem dJ29_addEntryToEmptyMap_15 : decode cJ29_addEntryToEmptyMap 15 = .ok (.invokespecial 167, 3) := dk_183 0 167 (dk_at dksJ29_addEntryToEmptyMap_0 15 rfl rfl)
theorem dJ29_addEntryToEmptyMap_18 : decode cJ29_addEntryToEmptyMap 18 = .ok (.putfield 101, 3) := dk_181 0 101 (dk_at dksJ29_addEntryToEmptyMap_0 18 rfl rfl)
theorem dJ29_addEntryToEmptyMap_21 : decode cJ29_addEntryToEmptyMap 21 = .ok (.aload_n 0, 1) := dk_42 (dk_at dksJ29_addEntryToEmptyMap_0 21 rfl rfl)
theorem dJ29_addEntryToEmptyMap_22 : decode cJ29_addEntryToEmptyMap 22 = .ok (.iconst 1, 1) := dk_4 (dk_at dksJ29_addEntryToEmptyMap_0 22 rfl rfl)
theorem dJ29_addEntryToEmptyMap_23 : decode cJ29_addEntryToEmptyMap 23 = .ok (.putfield 7, 3) := dk_181 0 7 (dk_at dksJ29_addEntryToEmptyMap_1 0 rfl rfl)
theorem dJ29_addEntryToEmptyMap_26 : decode cJ29_addEntryToEmptyMap 26 = .ok (.aload_n 0, 1) := dk_42 (dk_at dksJ29_addEntryToEmptyMap_1 3 rfl rfl)
theorem dJ29_addEntryToEmptyMap_27 : decode cJ29_addEntryToEmptyMap 27 = .ok (.dup, 1) := dk_89 (dk_at dksJ29_addEntryToEmptyMap_1 4 rfl rfl)
theorem dJ29_addEntryToEmptyMap_28 : decode cJ29_addEntryToEmptyMap 28 = .ok (.getfield 13, 3) := dk_180 0 13 (dk_at dksJ29_addEntryToEmptyMap_1 5 rfl rfl)
theorem dJ29_addEntryToEmptyMap_31 : decode cJ29_addEntryToEmptyMap 31 = .ok (.iconst 1, 1) := dk_4 (dk_at dksJ29_addEntryToEmptyMap_1 8 rfl rfl)
theorem dJ29_addEntryToEmptyMap_32 : decode cJ29_addEntryToEmptyMap 32 = .ok (.iadd, 1) := dk_96 (dk_at dksJ29_addEntryToEmptyMap_1 9 rfl rfl)
theorem dJ29_addEntryToEmptyMap_33 : decode cJ29_addEntryToEmptyMap 33 = .ok (.putfield 13, 3) := dk_181 0 13 (dk_at dksJ29_addEntryToEmptyMap_1 10 rfl rfl)
theorem dJ29_addEntryToEmptyMap_36 : decode cJ29_addEntryToEmptyMap 36 = .ok (.return_, 1) := dk_177 (dk_at dksJ29_addEntryToEmptyMap_1 13 rfl rfl)
abbrev cJ29_compare : ByteArray := prog_64_method_67_code
def yJ29_compare : MethodName := ⟨RJ29, "compare", "(Ljava/lang/Object;Ljava/lang/Object;)I"⟩
def dkwJ29_compare_1 : List UInt8 := [43, 44, 185, 0, 117, 3, 0, 172]
abbrev dktJ29_compare_1 : List UInt8 := dkwJ29_compare_1 ++ []
def dkwJ29_compare_0 : List UInt8 := [42, 180, 0, 16, 199, 0, 16, 43, 192, 0, 99, 44, 185, 0, 107, 2, 0, 167, 0, 14, 42, 180, 0, 16]
abbrev dktJ29_compare_0 : List UInt8 := dkwJ29_compare_0 ++ dktJ29_compare_1
theorem dksJ29_compare_0 : cJ29_compare.data.toList.drop 0 = dktJ29_compare_0 := by decide +kernel
theorem dksJ29_compare_1 : cJ29_compare.data.toList.drop 24 = dktJ29_compare_1 := dk_seg dksJ29_compare_0 24 rfl rfl
theorem dJ29_compare_0 : decode cJ29_compare 0 = .ok (.aload_n 0, 1) := dk_42 (dk_at dksJ29_compare_0 0 rfl rfl)
theorem dJ29_compare_1 : decode cJ29_compare 1 = .ok (.getfield 16, 3) := dk_180 0 16 (dk_at dksJ29_compare_0 1 rfl rfl)
theorem dJ29_compare_4 : decode cJ29_compare 4 = .ok (.ifnonnull 16, 3) := dk_199 0 16 (dk_at dksJ29_compare_0 4 rfl rfl)
theorem dJ29_compare_7 : decode cJ29_compare 7 = .ok (.aload_n 1, 1) := dk_43 (dk_at dksJ29_compare_0 7 rfl rfl)
theorem dJ29_compare_8 : decode cJ29_compare 8 = .ok (.checkcast 99, 3) := dk_192 0 99 (dk_at dksJ29_compare_0 8 rfl rfl)
theorem dJ29_compare_11 : decode cJ29_compare 11 = .ok (.aload_n 2, 1) := dk_44 (dk_at dksJ29_compare_0 11 rfl rfl)
theorem dJ29_compare_12 : decode cJ29_compare 12 = .ok (.invokeinterface 107 2, 5) := by decide +kernel
theorem dJ29_compare_17 : decode cJ29_compare 17 = .ok (.goto 14, 3) := dk_167 0 14 (dk_at dksJ29_compare_0 17 rfl rfl)
theorem dJ29_compare_20 : decode cJ29_compare 20 = .ok (.aload_n 0, 1) := dk_42 (dk_at dksJ29_compare_0 20 rfl rfl)
theorem dJ29_compare_21 : decode cJ29_compare 21 = .ok (.getfield 16, 3) := dk_180 0 16 (dk_at dksJ29_compare_0 21 rfl rfl)
theorem dJ29_compare_24 : decode cJ29_compare 24 = .ok (.aload_n 1, 1) := dk_43 (dk_at dksJ29_compare_1 0 rfl rfl)
theorem dJ29_compare_25 : decode cJ29_compare 25 = .ok (.aload_n 2, 1) := dk_44 (dk_at dksJ29_compare_1 1 rfl rfl)
theorem dJ29_compare_26 : decode cJ29_compare 26 = .ok (.invokeinterface 117 3, 5) := by decide +kernel
theorem dJ29_compare_31 : decode cJ29_compare 31 = .ok (.ireturn, 1) := dk_172 (dk_at dksJ29_compare_1 7 rfl rfl)
abbrev cJ29_addEntry : ByteArray := prog_64_method_29_code
def yJ29_addEntry : MethodName := ⟨RJ29, "addEntry", "(Ljava/lang/Object;Ljava/lang/Object;Ljava/util/TreeMap$Entry;Z)V"⟩
def dkwJ29_addEntry_2 : List UInt8 := [181, 0, 7, 42, 89, 180, 0, 13, 4, 96, 181, 0, 13, 177]
abbrev dktJ29_addEntry_2 : List UInt8 := dkwJ29_addEntry_2 ++ []
def dkwJ29_addEntry_1 : List UInt8 := [167, 0, 9, 45, 25, 5, 181, 0, 114, 42, 25, 5, 182, 0, 170, 42, 89, 180, 0, 7, 4, 96]
abbrev dktJ29_addEntry_1 : List UInt8 := dkwJ29_addEntry_1 ++ dktJ29_addEntry_2
def dkwJ29_addEntry_0 : List UInt8 := [187, 0, 59, 89, 43, 44, 45, 183, 0, 167, 58, 5, 21, 4, 153, 0, 12, 45, 25, 5, 181, 0, 111]
abbrev dktJ29_addEntry_0 : List UInt8 := dkwJ29_addEntry_0 ++ dktJ29_addEntry_1
theorem dksJ29_addEntry_0 : cJ29_addEntry.data.toList.drop 0 = dktJ29_addEntry_0 := by decide +kernel
theorem dksJ29_addEntry_1 : cJ29_addEntry.data.toList.drop 23 = dktJ29_addEntry_1 := dk_seg dksJ29_addEntry_0 23 rfl rfl
theorem dksJ29_addEntry_2 : cJ29_addEntry.data.toList.drop 45 = dktJ29_addEntry_2 := dk_seg dksJ29_addEntry_1 22 rfl rfl
theorem dJ29_addEntry_0 : decode cJ29_addEntry 0 = .ok (.new 59, 3) := dk_187 0 59 (dk_at dksJ29_addEntry_0 0 rfl rfl)
theorem dJ29_addEntry_3 : decode cJ29_addEntry 3 = .ok (.dup, 1) := dk_89 (dk_at dksJ29_addEntry_0 3 rfl rfl)
theorem dJ29_addEntry_4 : decode cJ29_addEntry 4 = .ok (.aload_n 1, 1) := dk_43 (dk_at dksJ29_addEntry_0 4 rfl rfl)
theorem dJ29_addEntry_5 : decode cJ29_addEntry 5 = .ok (.aload_n 2, 1) := dk_44 (dk_at dksJ29_addEntry_0 5 rfl rfl)
theorem dJ29_addEntry_6 : decode cJ29_addEntry 6 = .ok (.aload_n 3, 1) := dk_45 (dk_at dksJ29_addEntry_0 6 rfl rfl)
theorem dJ29_addEntry_7 : decode cJ29_addEntry 7 = .ok (.invokespecial 167, 3) := dk_183 0 167 (dk_at dksJ29_addEntry_0 7 rfl rfl)
theorem dJ29_addEntry_10 : decode cJ29_addEntry 10 = .ok (.astore 5, 2) := dk_58 5 (dk_at dksJ29_addEntry_0 10 rfl rfl)
theorem dJ29_addEntry_12 : decode cJ29_addEntry 12 = .ok (.iload 4, 2) := dk_21 4 (dk_at dksJ29_addEntry_0 12 rfl rfl)
theorem dJ29_addEntry_14 : decode cJ29_addEntry 14 = .ok (.ifCond .eq 12, 3) := dk_153 0 12 (dk_at dksJ29_addEntry_0 14 rfl rfl)
theorem dJ29_addEntry_17 : decode cJ29_addEntry 17 = .ok (.aload_n 3, 1) := dk_45 (dk_at dksJ29_addEntry_0 17 rfl rfl)
theorem dJ29_addEntry_18 : decode cJ29_addEntry 18 = .ok (.aload 5, 2) := dk_25 5 (dk_at dksJ29_addEntry_0 18 rfl rfl)
theorem dJ29_addEntry_20 : decode cJ29_addEntry 20 = .ok (.putfield 111, 3) := dk_181 0 111 (dk_at dksJ29_addEntry_0 20 rfl rfl)
theorem dJ29_addEntry_23 : decode cJ29_addEntry 23 = .ok (.goto 9, 3) := dk_167 0 9 (dk_at dksJ29_addEntry_1 0 rfl rfl)
theorem dJ29_addEntry_26 : decode cJ29_addEntry 26 = .ok (.aload_n 3, 1) := dk_45 (dk_at dksJ29_addEntry_1 3 rfl rfl)
theorem dJ29_addEntry_27 : decode cJ29_addEntry 27 = .ok (.aload 5, 2) := dk_25 5 (dk_at dksJ29_addEntry_1 4 rfl rfl)
theorem dJ29_addEntry_29 : decode cJ29_addEntry 29 = .ok (.putfield 114, 3) := dk_181 0 114 (dk_at dksJ29_addEntry_1 6 rfl rfl)
theorem dJ29_addEntry_32 : decode cJ29_addEntry 32 = .ok (.aload_n 0, 1) := dk_42 (dk_at dksJ29_addEntry_1 9 rfl rfl)
theorem dJ29_addEntry_33 : decode cJ29_addEntry 33 = .ok (.aload 5, 2) := dk_25 5 (dk_at dksJ29_addEntry_1 10 rfl rfl)
theorem dJ29_addEntry_35 : decode cJ29_addEntry 35 = .ok (.invokevirtual 170, 3) := dk_182 0 170 (dk_at dksJ29_addEntry_1 12 rfl rfl)
theorem dJ29_addEntry_38 : decode cJ29_addEntry 38 = .ok (.aload_n 0, 1) := dk_42 (dk_at dksJ29_addEntry_1 15 rfl rfl)
theorem dJ29_addEntry_39 : decode cJ29_addEntry 39 = .ok (.dup, 1) := dk_89 (dk_at dksJ29_addEntry_1 16 rfl rfl)
theorem dJ29_addEntry_40 : decode cJ29_addEntry 40 = .ok (.getfield 7, 3) := dk_180 0 7 (dk_at dksJ29_addEntry_1 17 rfl rfl)
theorem dJ29_addEntry_43 : decode cJ29_addEntry 43 = .ok (.iconst 1, 1) := dk_4 (dk_at dksJ29_addEntry_1 20 rfl rfl)
theorem dJ29_addEntry_44 : decode cJ29_addEntry 44 = .ok (.iadd, 1) := dk_96 (dk_at dksJ29_addEntry_1 21 rfl rfl)
theorem dJ29_addEntry_45 : decode cJ29_addEntry 45 = .ok (.putfield 7, 3) := dk_181 0 7 (dk_at dksJ29_addEntry_2 0 rfl rfl)
theorem dJ29_addEntry_48 : decode cJ29_addEntry 48 = .ok (.aload_n 0, 1) := dk_42 (dk_at dksJ29_addEntry_2 3 rfl rfl)
theorem dJ29_addEntry_49 : decode cJ29_addEntry 49 = .ok (.dup, 1) := dk_89 (dk_at dksJ29_addEntry_2 4 rfl rfl)
theorem dJ29_addEntry_50 : decode cJ29_addEntry 50 = .ok (.getfield 13, 3) := dk_180 0 13 (dk_at dksJ29_addEntry_2 5 rfl rfl)
theorem dJ29_addEntry_53 : decode cJ29_addEntry 53 = .ok (.iconst 1, 1) := dk_4 (dk_at dksJ29_addEntry_2 8 rfl rfl)
theorem dJ29_addEntry_54 : decode cJ29_addEntry 54 = .ok (.iadd, 1) := dk_96 (dk_at dksJ29_addEntry_2 9 rfl rfl)
theorem dJ29_addEntry_55 : decode cJ29_addEntry 55 = .ok (.putfield 13, 3) := dk_181 0 13 (dk_at dksJ29_addEntry_2 10 rfl rfl)
theorem dJ29_addEntry_58 : decode cJ29_addEntry 58 = .ok (.return_, 1) := dk_177 (dk_at dksJ29_addEntry_2 13 rfl rfl)
abbrev cJ29_fixAfterInsertion : ByteArray := prog_64_method_83_code
def yJ29_fixAfterInsertion : MethodName := ⟨RJ29, "fixAfterInsertion", "(Ljava/util/TreeMap$Entry;)V"⟩
def dkwJ29_fixAfterInsertion_11 : List UInt8 := [42, 180, 0, 101, 4, 181, 1, 34, 177]
abbrev dktJ29_fixAfterInsertion_11 : List UInt8 := dkwJ29_fixAfterInsertion_11 ++ []
def dkwJ29_fixAfterInsertion_10 : List UInt8 := [184, 1, 38, 184, 1, 38, 3, 184, 1, 51, 42, 43, 184, 1, 38, 184, 1, 38, 182, 1, 55, 167, 255, 6]
abbrev dktJ29_fixAfterInsertion_10 : List UInt8 := dkwJ29_fixAfterInsertion_10 ++ dktJ29_fixAfterInsertion_11
def dkwJ29_fixAfterInsertion_9 : List UInt8 := [166, 0, 13, 43, 184, 1, 38, 76, 42, 43, 182, 1, 58, 43, 184, 1, 38, 4, 184, 1, 51, 43]
abbrev dktJ29_fixAfterInsertion_9 : List UInt8 := dkwJ29_fixAfterInsertion_9 ++ dktJ29_fixAfterInsertion_10
def dkwJ29_fixAfterInsertion_8 : List UInt8 := [184, 1, 51, 43, 184, 1, 38, 184, 1, 38, 76, 167, 0, 54, 43, 43, 184, 1, 38, 184, 1, 41]
abbrev dktJ29_fixAfterInsertion_8 : List UInt8 := dkwJ29_fixAfterInsertion_8 ++ dktJ29_fixAfterInsertion_9
def dkwJ29_fixAfterInsertion_7 : List UInt8 := [154, 0, 38, 43, 184, 1, 38, 4, 184, 1, 51, 44, 4, 184, 1, 51, 43, 184, 1, 38, 184, 1, 38, 3]
abbrev dktJ29_fixAfterInsertion_7 : List UInt8 := dkwJ29_fixAfterInsertion_7 ++ dktJ29_fixAfterInsertion_8
def dkwJ29_fixAfterInsertion_6 : List UInt8 := [184, 1, 38, 182, 1, 58, 167, 255, 113, 43, 184, 1, 38, 184, 1, 38, 184, 1, 41, 77, 44, 184, 1, 47]
abbrev dktJ29_fixAfterInsertion_6 : List UInt8 := dkwJ29_fixAfterInsertion_6 ++ dktJ29_fixAfterInsertion_7
def dkwJ29_fixAfterInsertion_5 : List UInt8 := [43, 184, 1, 38, 4, 184, 1, 51, 43, 184, 1, 38, 184, 1, 38, 3, 184, 1, 51, 42, 43, 184, 1, 38]
abbrev dktJ29_fixAfterInsertion_5 : List UInt8 := dkwJ29_fixAfterInsertion_5 ++ dktJ29_fixAfterInsertion_6
def dkwJ29_fixAfterInsertion_4 : List UInt8 := [167, 0, 54, 43, 43, 184, 1, 38, 184, 1, 44, 166, 0, 13, 43, 184, 1, 38, 76, 42, 43, 182, 1, 55]
abbrev dktJ29_fixAfterInsertion_4 : List UInt8 := dkwJ29_fixAfterInsertion_4 ++ dktJ29_fixAfterInsertion_5
def dkwJ29_fixAfterInsertion_3 : List UInt8 := [184, 1, 51, 43, 184, 1, 38, 184, 1, 38, 3, 184, 1, 51, 43, 184, 1, 38, 184, 1, 38, 76]
abbrev dktJ29_fixAfterInsertion_3 : List UInt8 := dkwJ29_fixAfterInsertion_3 ++ dktJ29_fixAfterInsertion_4
def dkwJ29_fixAfterInsertion_2 : List UInt8 := [184, 1, 38, 184, 1, 44, 77, 44, 184, 1, 47, 154, 0, 38, 43, 184, 1, 38, 4, 184, 1, 51, 44, 4]
abbrev dktJ29_fixAfterInsertion_2 : List UInt8 := dkwJ29_fixAfterInsertion_2 ++ dktJ29_fixAfterInsertion_3
def dkwJ29_fixAfterInsertion_1 : List UInt8 := [154, 0, 234, 43, 184, 1, 38, 43, 184, 1, 38, 184, 1, 38, 184, 1, 41, 166, 0, 110, 43, 184, 1, 38]
abbrev dktJ29_fixAfterInsertion_1 : List UInt8 := dkwJ29_fixAfterInsertion_1 ++ dktJ29_fixAfterInsertion_2
def dkwJ29_fixAfterInsertion_0 : List UInt8 := [43, 3, 181, 1, 34, 43, 198, 0, 252, 43, 42, 180, 0, 101, 165, 0, 244, 43, 180, 0, 124, 180, 1, 34]
abbrev dktJ29_fixAfterInsertion_0 : List UInt8 := dkwJ29_fixAfterInsertion_0 ++ dktJ29_fixAfterInsertion_1
theorem dksJ29_fixAfterInsertion_0 : cJ29_fixAfterInsertion.data.toList.drop 0 = dktJ29_fixAfterInsertion_0 := by decide +kernel
theorem dksJ29_fixAfterInsertion_1 : cJ29_fixAfterInsertion.data.toList.drop 24 = dktJ29_fixAfterInsertion_1 := dk_seg dksJ29_fixAfterInsertion_0 24 rfl rfl
theorem dksJ29_fixAfterInsertion_2 : cJ29_fixAfterInsertion.data.toList.drop 48 = dktJ29_fixAfterInsertion_2 := dk_seg dksJ29_fixAfterInsertion_1 24 rfl rfl
theorem dksJ29_fixAfterInsertion_3 : cJ29_fixAfterInsertion.data.toList.drop 72 = dktJ29_fixAfterInsertion_3 := dk_seg dksJ29_fixAfterInsertion_2 24 rfl rfl
theorem dksJ29_fixAfterInsertion_4 : cJ29_fixAfterInsertion.data.toList.drop 94 = dktJ29_fixAfterInsertion_4 := dk_seg dksJ29_fixAfterInsertion_3 22 rfl rfl
theorem dksJ29_fixAfterInsertion_5 : cJ29_fixAfterInsertion.data.toList.drop 118 = dktJ29_fixAfterInsertion_5 := dk_seg dksJ29_fixAfterInsertion_4 24 rfl rfl
theorem dksJ29_fixAfterInsertion_6 : cJ29_fixAfterInsertion.data.toList.drop 142 = dktJ29_fixAfterInsertion_6 := dk_seg dksJ29_fixAfterInsertion_5 24 rfl rfl
theorem dksJ29_fixAfterInsertion_7 : cJ29_fixAfterInsertion.data.toList.drop 166 = dktJ29_fixAfterInsertion_7 := dk_seg dksJ29_fixAfterInsertion_6 24 rfl rfl
theorem dksJ29_fixAfterInsertion_8 : cJ29_fixAfterInsertion.data.toList.drop 190 = dktJ29_fixAfterInsertion_8 := dk_seg dksJ29_fixAfterInsertion_7 24 rfl rfl
theorem dksJ29_fixAfterInsertion_9 : cJ29_fixAfterInsertion.data.toList.drop 212 = dktJ29_fixAfterInsertion_9 := dk_seg dksJ29_fixAfterInsertion_8 22 rfl rfl
theorem dksJ29_fixAfterInsertion_10 : cJ29_fixAfterInsertion.data.toList.drop 234 = dktJ29_fixAfterInsertion_10 := dk_seg dksJ29_fixAfterInsertion_9 22 rfl rfl
theorem dksJ29_fixAfterInsertion_11 : cJ29_fixAfterInsertion.data.toList.drop 258 = dktJ29_fixAfterInsertion_11 := dk_seg dksJ29_fixAfterInsertion_10 24 rfl rfl
theorem dJ29_fixAfterInsertion_0 : decode cJ29_fixAfterInsertion 0 = .ok (.aload_n 1, 1) := dk_43 (dk_at dksJ29_fixAfterInsertion_0 0 rfl rfl)
theorem dJ29_fixAfterInsertion_1 : decode cJ29_fixAfterInsertion 1 = .ok (.iconst 0, 1) := dk_3 (dk_at dksJ29_fixAfterInsertion_0 1 rfl rfl)
theorem dJ29_fixAfterInsertion_2 : decode cJ29_fixAfterInsertion 2 = .ok (.putfield 290, 3) := dk_181 1 34 (dk_at dksJ29_fixAfterInsertion_0 2 rfl rfl)
theorem dJ29_fixAfterInsertion_5 : decode cJ29_fixAfterInsertion 5 = .ok (.aload_n 1, 1) := dk_43 (dk_at dksJ29_fixAfterInsertion_0 5 rfl rfl)
theorem dJ29_fixAfterInsertion_6 : decode cJ29_fixAfterInsertion 6 = .ok (.ifnull 252, 3) := dk_198 0 252 (dk_at dksJ29_fixAfterInsertion_0 6 rfl rfl)
theorem dJ29_fixAfterInsertion_9 : decode cJ29_fixAfterInsertion 9 = .ok (.aload_n 1, 1) := dk_43 (dk_at dksJ29_fixAfterInsertion_0 9 rfl rfl)
theorem dJ29_fixAfterInsertion_10 : decode cJ29_fixAfterInsertion 10 = .ok (.aload_n 0, 1) := dk_42 (dk_at dksJ29_fixAfterInsertion_0 10 rfl rfl)
theorem dJ29_fixAfterInsertion_11 : decode cJ29_fixAfterInsertion 11 = .ok (.getfield 101, 3) := dk_180 0 101 (dk_at dksJ29_fixAfterInsertion_0 11 rfl rfl)
theorem dJ29_fixAfterInsertion_14 : decode cJ29_fixAfterInsertion 14 = .ok (.if_acmp .eq 244, 3) := dk_165 0 244 (dk_at dksJ29_fixAfterInsertion_0 14 rfl rfl)
theorem dJ29_fixAfterInsertion_17 : decode cJ29_fixAfterInsertion 17 = .ok (.aload_n 1, 1) := dk_43 (dk_at dksJ29_fixAfterInsertion_0 17 rfl rfl)
theorem dJ29_fixAfterInsertion_18 : decode cJ29_fixAfterInsertion 18 = .ok (.getfield 124, 3) := dk_180 0 124 (dk_at dksJ29_fixAfterInsertion_0 18 rfl rfl)
theorem dJ29_fixAfterInsertion_21 : decode cJ29_fixAfterInsertion 21 = .ok (.getfield 290, 3) := dk_180 1 34 (dk_at dksJ29_fixAfterInsertion_0 21 rfl rfl)
theorem dJ29_fixAfterInsertion_24 : decode cJ29_fixAfterInsertion 24 = .ok (.ifCond .ne 234, 3) := dk_154 0 234 (dk_at dksJ29_fixAfterInsertion_1 0 rfl rfl)
theorem dJ29_fixAfterInsertion_27 : decode cJ29_fixAfterInsertion 27 = .ok (.aload_n 1, 1) := dk_43 (dk_at dksJ29_fixAfterInsertion_1 3 rfl rfl)
theorem dJ29_fixAfterInsertion_28 : decode cJ29_fixAfterInsertion 28 = .ok (.invokestatic 294, 3) := dk_184 1 38 (dk_at dksJ29_fixAfterInsertion_1 4 rfl rfl)
theorem dJ29_fixAfterInsertion_31 : decode cJ29_fixAfterInsertion 31 = .ok (.aload_n 1, 1) := dk_43 (dk_at dksJ29_fixAfterInsertion_1 7 rfl rfl)
theorem dJ29_fixAfterInsertion_32 : decode cJ29_fixAfterInsertion 32 = .ok (.invokestatic 294, 3) := dk_184 1 38 (dk_at dksJ29_fixAfterInsertion_1 8 rfl rfl)
theorem dJ29_fixAfterInsertion_35 : decode cJ29_fixAfterInsertion 35 = .ok (.invokestatic 294, 3) := dk_184 1 38 (dk_at dksJ29_fixAfterInsertion_1 11 rfl rfl)
theorem dJ29_fixAfterInsertion_38 : decode cJ29_fixAfterInsertion 38 = .ok (.invokestatic 297, 3) := dk_184 1 41 (dk_at dksJ29_fixAfterInsertion_1 14 rfl rfl)
theorem dJ29_fixAfterInsertion_41 : decode cJ29_fixAfterInsertion 41 = .ok (.if_acmp .ne 110, 3) := dk_166 0 110 (dk_at dksJ29_fixAfterInsertion_1 17 rfl rfl)
theorem dJ29_fixAfterInsertion_44 : decode cJ29_fixAfterInsertion 44 = .ok (.aload_n 1, 1) := dk_43 (dk_at dksJ29_fixAfterInsertion_1 20 rfl rfl)
theorem dJ29_fixAfterInsertion_45 : decode cJ29_fixAfterInsertion 45 = .ok (.invokestatic 294, 3) := dk_184 1 38 (dk_at dksJ29_fixAfterInsertion_1 21 rfl rfl)
theorem dJ29_fixAfterInsertion_48 : decode cJ29_fixAfterInsertion 48 = .ok (.invokestatic 294, 3) := dk_184 1 38 (dk_at dksJ29_fixAfterInsertion_2 0 rfl rfl)
theorem dJ29_fixAfterInsertion_51 : decode cJ29_fixAfterInsertion 51 = .ok (.invokestatic 300, 3) := dk_184 1 44 (dk_at dksJ29_fixAfterInsertion_2 3 rfl rfl)
theorem dJ29_fixAfterInsertion_54 : decode cJ29_fixAfterInsertion 54 = .ok (.astore_n 2, 1) := dk_77 (dk_at dksJ29_fixAfterInsertion_2 6 rfl rfl)
theorem dJ29_fixAfterInsertion_55 : decode cJ29_fixAfterInsertion 55 = .ok (.aload_n 2, 1) := dk_44 (dk_at dksJ29_fixAfterInsertion_2 7 rfl rfl)
theorem dJ29_fixAfterInsertion_56 : decode cJ29_fixAfterInsertion 56 = .ok (.invokestatic 303, 3) := dk_184 1 47 (dk_at dksJ29_fixAfterInsertion_2 8 rfl rfl)
theorem dJ29_fixAfterInsertion_59 : decode cJ29_fixAfterInsertion 59 = .ok (.ifCond .ne 38, 3) := dk_154 0 38 (dk_at dksJ29_fixAfterInsertion_2 11 rfl rfl)
theorem dJ29_fixAfterInsertion_62 : decode cJ29_fixAfterInsertion 62 = .ok (.aload_n 1, 1) := dk_43 (dk_at dksJ29_fixAfterInsertion_2 14 rfl rfl)
theorem dJ29_fixAfterInsertion_63 : decode cJ29_fixAfterInsertion 63 = .ok (.invokestatic 294, 3) := dk_184 1 38 (dk_at dksJ29_fixAfterInsertion_2 15 rfl rfl)
theorem dJ29_fixAfterInsertion_66 : decode cJ29_fixAfterInsertion 66 = .ok (.iconst 1, 1) := dk_4 (dk_at dksJ29_fixAfterInsertion_2 18 rfl rfl)
theorem dJ29_fixAfterInsertion_67 : decode cJ29_fixAfterInsertion 67 = .ok (.invokestatic 307, 3) := dk_184 1 51 (dk_at dksJ29_fixAfterInsertion_2 19 rfl rfl)
theorem dJ29_fixAfterInsertion_70 : decode cJ29_fixAfterInsertion 70 = .ok (.aload_n 2, 1) := dk_44 (dk_at dksJ29_fixAfterInsertion_2 22 rfl rfl)
theorem dJ29_fixAfterInsertion_71 : decode cJ29_fixAfterInsertion 71 = .ok (.iconst 1, 1) := dk_4 (dk_at dksJ29_fixAfterInsertion_2 23 rfl rfl)
theorem dJ29_fixAfterInsertion_72 : decode cJ29_fixAfterInsertion 72 = .ok (.invokestatic 307, 3) := dk_184 1 51 (dk_at dksJ29_fixAfterInsertion_3 0 rfl rfl)
theorem dJ29_fixAfterInsertion_75 : decode cJ29_fixAfterInsertion 75 = .ok (.aload_n 1, 1) := dk_43 (dk_at dksJ29_fixAfterInsertion_3 3 rfl rfl)
theorem dJ29_fixAfterInsertion_76 : decode cJ29_fixAfterInsertion 76 = .ok (.invokestatic 294, 3) := dk_184 1 38 (dk_at dksJ29_fixAfterInsertion_3 4 rfl rfl)
theorem dJ29_fixAfterInsertion_79 : decode cJ29_fixAfterInsertion 79 = .ok (.invokestatic 294, 3) := dk_184 1 38 (dk_at dksJ29_fixAfterInsertion_3 7 rfl rfl)
theorem dJ29_fixAfterInsertion_82 : decode cJ29_fixAfterInsertion 82 = .ok (.iconst 0, 1) := dk_3 (dk_at dksJ29_fixAfterInsertion_3 10 rfl rfl)
theorem dJ29_fixAfterInsertion_83 : decode cJ29_fixAfterInsertion 83 = .ok (.invokestatic 307, 3) := dk_184 1 51 (dk_at dksJ29_fixAfterInsertion_3 11 rfl rfl)
theorem dJ29_fixAfterInsertion_86 : decode cJ29_fixAfterInsertion 86 = .ok (.aload_n 1, 1) := dk_43 (dk_at dksJ29_fixAfterInsertion_3 14 rfl rfl)
theorem dJ29_fixAfterInsertion_87 : decode cJ29_fixAfterInsertion 87 = .ok (.invokestatic 294, 3) := dk_184 1 38 (dk_at dksJ29_fixAfterInsertion_3 15 rfl rfl)
theorem dJ29_fixAfterInsertion_90 : decode cJ29_fixAfterInsertion 90 = .ok (.invokestatic 294, 3) := dk_184 1 38 (dk_at dksJ29_fixAfterInsertion_3 18 rfl rfl)
theorem dJ29_fixAfterInsertion_93 : decode cJ29_fixAfterInsertion 93 = .ok (.astore_n 1, 1) := dk_76 (dk_at dksJ29_fixAfterInsertion_3 21 rfl rfl)
theorem dJ29_fixAfterInsertion_94 : decode cJ29_fixAfterInsertion 94 = .ok (.goto 54, 3) := dk_167 0 54 (dk_at dksJ29_fixAfterInsertion_4 0 rfl rfl)
theorem dJ29_fixAfterInsertion_97 : decode cJ29_fixAfterInsertion 97 = .ok (.aload_n 1, 1) := dk_43 (dk_at dksJ29_fixAfterInsertion_4 3 rfl rfl)
theorem dJ29_fixAfterInsertion_98 : decode cJ29_fixAfterInsertion 98 = .ok (.aload_n 1, 1) := dk_43 (dk_at dksJ29_fixAfterInsertion_4 4 rfl rfl)
theorem dJ29_fixAfterInsertion_99 : decode cJ29_fixAfterInsertion 99 = .ok (.invokestatic 294, 3) := dk_184 1 38 (dk_at dksJ29_fixAfterInsertion_4 5 rfl rfl)
theorem dJ29_fixAfterInsertion_102 : decode cJ29_fixAfterInsertion 102 = .ok (.invokestatic 300, 3) := dk_184 1 44 (dk_at dksJ29_fixAfterInsertion_4 8 rfl rfl)
theorem dJ29_fixAfterInsertion_105 : decode cJ29_fixAfterInsertion 105 = .ok (.if_acmp .ne 13, 3) := dk_166 0 13 (dk_at dksJ29_fixAfterInsertion_4 11 rfl rfl)
theorem dJ29_fixAfterInsertion_108 : decode cJ29_fixAfterInsertion 108 = .ok (.aload_n 1, 1) := dk_43 (dk_at dksJ29_fixAfterInsertion_4 14 rfl rfl)
theorem dJ29_fixAfterInsertion_109 : decode cJ29_fixAfterInsertion 109 = .ok (.invokestatic 294, 3) := dk_184 1 38 (dk_at dksJ29_fixAfterInsertion_4 15 rfl rfl)
theorem dJ29_fixAfterInsertion_112 : decode cJ29_fixAfterInsertion 112 = .ok (.astore_n 1, 1) := dk_76 (dk_at dksJ29_fixAfterInsertion_4 18 rfl rfl)
theorem dJ29_fixAfterInsertion_113 : decode cJ29_fixAfterInsertion 113 = .ok (.aload_n 0, 1) := dk_42 (dk_at dksJ29_fixAfterInsertion_4 19 rfl rfl)
theorem dJ29_fixAfterInsertion_114 : decode cJ29_fixAfterInsertion 114 = .ok (.aload_n 1, 1) := dk_43 (dk_at dksJ29_fixAfterInsertion_4 20 rfl rfl)
theorem dJ29_fixAfterInsertion_115 : decode cJ29_fixAfterInsertion 115 = .ok (.invokevirtual 311, 3) := dk_182 1 55 (dk_at dksJ29_fixAfterInsertion_4 21 rfl rfl)
theorem dJ29_fixAfterInsertion_118 : decode cJ29_fixAfterInsertion 118 = .ok (.aload_n 1, 1) := dk_43 (dk_at dksJ29_fixAfterInsertion_5 0 rfl rfl)
theorem dJ29_fixAfterInsertion_119 : decode cJ29_fixAfterInsertion 119 = .ok (.invokestatic 294, 3) := dk_184 1 38 (dk_at dksJ29_fixAfterInsertion_5 1 rfl rfl)
theorem dJ29_fixAfterInsertion_122 : decode cJ29_fixAfterInsertion 122 = .ok (.iconst 1, 1) := dk_4 (dk_at dksJ29_fixAfterInsertion_5 4 rfl rfl)
theorem dJ29_fixAfterInsertion_123 : decode cJ29_fixAfterInsertion 123 = .ok (.invokestatic 307, 3) := dk_184 1 51 (dk_at dksJ29_fixAfterInsertion_5 5 rfl rfl)
theorem dJ29_fixAfterInsertion_126 : decode cJ29_fixAfterInsertion 126 = .ok (.aload_n 1, 1) := dk_43 (dk_at dksJ29_fixAfterInsertion_5 8 rfl rfl)
theorem dJ29_fixAfterInsertion_127 : decode cJ29_fixAfterInsertion 127 = .ok (.invokestatic 294, 3) := dk_184 1 38 (dk_at dksJ29_fixAfterInsertion_5 9 rfl rfl)
theorem dJ29_fixAfterInsertion_130 : decode cJ29_fixAfterInsertion 130 = .ok (.invokestatic 294, 3) := dk_184 1 38 (dk_at dksJ29_fixAfterInsertion_5 12 rfl rfl)
theorem dJ29_fixAfterInsertion_133 : decode cJ29_fixAfterInsertion 133 = .ok (.iconst 0, 1) := dk_3 (dk_at dksJ29_fixAfterInsertion_5 15 rfl rfl)
theorem dJ29_fixAfterInsertion_134 : decode cJ29_fixAfterInsertion 134 = .ok (.invokestatic 307, 3) := dk_184 1 51 (dk_at dksJ29_fixAfterInsertion_5 16 rfl rfl)
theorem dJ29_fixAfterInsertion_137 : decode cJ29_fixAfterInsertion 137 = .ok (.aload_n 0, 1) := dk_42 (dk_at dksJ29_fixAfterInsertion_5 19 rfl rfl)
theorem dJ29_fixAfterInsertion_138 : decode cJ29_fixAfterInsertion 138 = .ok (.aload_n 1, 1) := dk_43 (dk_at dksJ29_fixAfterInsertion_5 20 rfl rfl)
theorem dJ29_fixAfterInsertion_139 : decode cJ29_fixAfterInsertion 139 = .ok (.invokestatic 294, 3) := dk_184 1 38 (dk_at dksJ29_fixAfterInsertion_5 21 rfl rfl)
theorem dJ29_fixAfterInsertion_142 : decode cJ29_fixAfterInsertion 142 = .ok (.invokestatic 294, 3) := dk_184 1 38 (dk_at dksJ29_fixAfterInsertion_6 0 rfl rfl)
theorem dJ29_fixAfterInsertion_145 : decode cJ29_fixAfterInsertion 145 = .ok (.invokevirtual 314, 3) := dk_182 1 58 (dk_at dksJ29_fixAfterInsertion_6 3 rfl rfl)
theorem dJ29_fixAfterInsertion_148 : decode cJ29_fixAfterInsertion 148 = .ok (.goto (-143), 3) := dk_167 255 113 (dk_at dksJ29_fixAfterInsertion_6 6 rfl rfl)
theorem dJ29_fixAfterInsertion_151 : decode cJ29_fixAfterInsertion 151 = .ok (.aload_n 1, 1) := dk_43 (dk_at dksJ29_fixAfterInsertion_6 9 rfl rfl)
theorem dJ29_fixAfterInsertion_152 : decode cJ29_fixAfterInsertion 152 = .ok (.invokestatic 294, 3) := dk_184 1 38 (dk_at dksJ29_fixAfterInsertion_6 10 rfl rfl)
theorem dJ29_fixAfterInsertion_155 : decode cJ29_fixAfterInsertion 155 = .ok (.invokestatic 294, 3) := dk_184 1 38 (dk_at dksJ29_fixAfterInsertion_6 13 rfl rfl)
theorem dJ29_fixAfterInsertion_158 : decode cJ29_fixAfterInsertion 158 = .ok (.invokestatic 297, 3) := dk_184 1 41 (dk_at dksJ29_fixAfterInsertion_6 16 rfl rfl)
theorem dJ29_fixAfterInsertion_161 : decode cJ29_fixAfterInsertion 161 = .ok (.astore_n 2, 1) := dk_77 (dk_at dksJ29_fixAfterInsertion_6 19 rfl rfl)
theorem dJ29_fixAfterInsertion_162 : decode cJ29_fixAfterInsertion 162 = .ok (.aload_n 2, 1) := dk_44 (dk_at dksJ29_fixAfterInsertion_6 20 rfl rfl)
theorem dJ29_fixAfterInsertion_163 : decode cJ29_fixAfterInsertion 163 = .ok (.invokestatic 303, 3) := dk_184 1 47 (dk_at dksJ29_fixAfterInsertion_6 21 rfl rfl)
theorem dJ29_fixAfterInsertion_166 : decode cJ29_fixAfterInsertion 166 = .ok (.ifCond .ne 38, 3) := dk_154 0 38 (dk_at dksJ29_fixAfterInsertion_7 0 rfl rfl)
theorem dJ29_fixAfterInsertion_169 : decode cJ29_fixAfterInsertion 169 = .ok (.aload_n 1, 1) := dk_43 (dk_at dksJ29_fixAfterInsertion_7 3 rfl rfl)
theorem dJ29_fixAfterInsertion_170 : decode cJ29_fixAfterInsertion 170 = .ok (.invokestatic 294, 3) := dk_184 1 38 (dk_at dksJ29_fixAfterInsertion_7 4 rfl rfl)
theorem dJ29_fixAfterInsertion_173 : decode cJ29_fixAfterInsertion 173 = .ok (.iconst 1, 1) := dk_4 (dk_at dksJ29_fixAfterInsertion_7 7 rfl rfl)
theorem dJ29_fixAfterInsertion_174 : decode cJ29_fixAfterInsertion 174 = .ok (.invokestatic 307, 3) := dk_184 1 51 (dk_at dksJ29_fixAfterInsertion_7 8 rfl rfl)
theorem dJ29_fixAfterInsertion_177 : decode cJ29_fixAfterInsertion 177 = .ok (.aload_n 2, 1) := dk_44 (dk_at dksJ29_fixAfterInsertion_7 11 rfl rfl)
theorem dJ29_fixAfterInsertion_178 : decode cJ29_fixAfterInsertion 178 = .ok (.iconst 1, 1) := dk_4 (dk_at dksJ29_fixAfterInsertion_7 12 rfl rfl)
theorem dJ29_fixAfterInsertion_179 : decode cJ29_fixAfterInsertion 179 = .ok (.invokestatic 307, 3) := dk_184 1 51 (dk_at dksJ29_fixAfterInsertion_7 13 rfl rfl)
theorem dJ29_fixAfterInsertion_182 : decode cJ29_fixAfterInsertion 182 = .ok (.aload_n 1, 1) := dk_43 (dk_at dksJ29_fixAfterInsertion_7 16 rfl rfl)
theorem dJ29_fixAfterInsertion_183 : decode cJ29_fixAfterInsertion 183 = .ok (.invokestatic 294, 3) := dk_184 1 38 (dk_at dksJ29_fixAfterInsertion_7 17 rfl rfl)
theorem dJ29_fixAfterInsertion_186 : decode cJ29_fixAfterInsertion 186 = .ok (.invokestatic 294, 3) := dk_184 1 38 (dk_at dksJ29_fixAfterInsertion_7 20 rfl rfl)
theorem dJ29_fixAfterInsertion_189 : decode cJ29_fixAfterInsertion 189 = .ok (.iconst 0, 1) := dk_3 (dk_at dksJ29_fixAfterInsertion_7 23 rfl rfl)
theorem dJ29_fixAfterInsertion_190 : decode cJ29_fixAfterInsertion 190 = .ok (.invokestatic 307, 3) := dk_184 1 51 (dk_at dksJ29_fixAfterInsertion_8 0 rfl rfl)
theorem dJ29_fixAfterInsertion_193 : decode cJ29_fixAfterInsertion 193 = .ok (.aload_n 1, 1) := dk_43 (dk_at dksJ29_fixAfterInsertion_8 3 rfl rfl)
theorem dJ29_fixAfterInsertion_194 : decode cJ29_fixAfterInsertion 194 = .ok (.invokestatic 294, 3) := dk_184 1 38 (dk_at dksJ29_fixAfterInsertion_8 4 rfl rfl)
theorem dJ29_fixAfterInsertion_197 : decode cJ29_fixAfterInsertion 197 = .ok (.invokestatic 294, 3) := dk_184 1 38 (dk_at dksJ29_fixAfterInsertion_8 7 rfl rfl)
theorem dJ29_fixAfterInsertion_200 : decode cJ29_fixAfterInsertion 200 = .ok (.astore_n 1, 1) := dk_76 (dk_at dksJ29_fixAfterInsertion_8 10 rfl rfl)
theorem dJ29_fixAfterInsertion_201 : decode cJ29_fixAfterInsertion 201 = .ok (.goto 54, 3) := dk_167 0 54 (dk_at dksJ29_fixAfterInsertion_8 11 rfl rfl)
theorem dJ29_fixAfterInsertion_204 : decode cJ29_fixAfterInsertion 204 = .ok (.aload_n 1, 1) := dk_43 (dk_at dksJ29_fixAfterInsertion_8 14 rfl rfl)
theorem dJ29_fixAfterInsertion_205 : decode cJ29_fixAfterInsertion 205 = .ok (.aload_n 1, 1) := dk_43 (dk_at dksJ29_fixAfterInsertion_8 15 rfl rfl)
theorem dJ29_fixAfterInsertion_206 : decode cJ29_fixAfterInsertion 206 = .ok (.invokestatic 294, 3) := dk_184 1 38 (dk_at dksJ29_fixAfterInsertion_8 16 rfl rfl)
theorem dJ29_fixAfterInsertion_209 : decode cJ29_fixAfterInsertion 209 = .ok (.invokestatic 297, 3) := dk_184 1 41 (dk_at dksJ29_fixAfterInsertion_8 19 rfl rfl)
theorem dJ29_fixAfterInsertion_212 : decode cJ29_fixAfterInsertion 212 = .ok (.if_acmp .ne 13, 3) := dk_166 0 13 (dk_at dksJ29_fixAfterInsertion_9 0 rfl rfl)
theorem dJ29_fixAfterInsertion_215 : decode cJ29_fixAfterInsertion 215 = .ok (.aload_n 1, 1) := dk_43 (dk_at dksJ29_fixAfterInsertion_9 3 rfl rfl)
theorem dJ29_fixAfterInsertion_216 : decode cJ29_fixAfterInsertion 216 = .ok (.invokestatic 294, 3) := dk_184 1 38 (dk_at dksJ29_fixAfterInsertion_9 4 rfl rfl)
theorem dJ29_fixAfterInsertion_219 : decode cJ29_fixAfterInsertion 219 = .ok (.astore_n 1, 1) := dk_76 (dk_at dksJ29_fixAfterInsertion_9 7 rfl rfl)
theorem dJ29_fixAfterInsertion_220 : decode cJ29_fixAfterInsertion 220 = .ok (.aload_n 0, 1) := dk_42 (dk_at dksJ29_fixAfterInsertion_9 8 rfl rfl)
theorem dJ29_fixAfterInsertion_221 : decode cJ29_fixAfterInsertion 221 = .ok (.aload_n 1, 1) := dk_43 (dk_at dksJ29_fixAfterInsertion_9 9 rfl rfl)
theorem dJ29_fixAfterInsertion_222 : decode cJ29_fixAfterInsertion 222 = .ok (.invokevirtual 314, 3) := dk_182 1 58 (dk_at dksJ29_fixAfterInsertion_9 10 rfl rfl)
theorem dJ29_fixAfterInsertion_225 : decode cJ29_fixAfterInsertion 225 = .ok (.aload_n 1, 1) := dk_43 (dk_at dksJ29_fixAfterInsertion_9 13 rfl rfl)
theorem dJ29_fixAfterInsertion_226 : decode cJ29_fixAfterInsertion 226 = .ok (.invokestatic 294, 3) := dk_184 1 38 (dk_at dksJ29_fixAfterInsertion_9 14 rfl rfl)
theorem dJ29_fixAfterInsertion_229 : decode cJ29_fixAfterInsertion 229 = .ok (.iconst 1, 1) := dk_4 (dk_at dksJ29_fixAfterInsertion_9 17 rfl rfl)
theorem dJ29_fixAfterInsertion_230 : decode cJ29_fixAfterInsertion 230 = .ok (.invokestatic 307, 3) := dk_184 1 51 (dk_at dksJ29_fixAfterInsertion_9 18 rfl rfl)
theorem dJ29_fixAfterInsertion_233 : decode cJ29_fixAfterInsertion 233 = .ok (.aload_n 1, 1) := dk_43 (dk_at dksJ29_fixAfterInsertion_9 21 rfl rfl)
theorem dJ29_fixAfterInsertion_234 : decode cJ29_fixAfterInsertion 234 = .ok (.invokestatic 294, 3) := dk_184 1 38 (dk_at dksJ29_fixAfterInsertion_10 0 rfl rfl)
theorem dJ29_fixAfterInsertion_237 : decode cJ29_fixAfterInsertion 237 = .ok (.invokestatic 294, 3) := dk_184 1 38 (dk_at dksJ29_fixAfterInsertion_10 3 rfl rfl)
theorem dJ29_fixAfterInsertion_240 : decode cJ29_fixAfterInsertion 240 = .ok (.iconst 0, 1) := dk_3 (dk_at dksJ29_fixAfterInsertion_10 6 rfl rfl)
theorem dJ29_fixAfterInsertion_241 : decode cJ29_fixAfterInsertion 241 = .ok (.invokestatic 307, 3) := dk_184 1 51 (dk_at dksJ29_fixAfterInsertion_10 7 rfl rfl)
theorem dJ29_fixAfterInsertion_244 : decode cJ29_fixAfterInsertion 244 = .ok (.aload_n 0, 1) := dk_42 (dk_at dksJ29_fixAfterInsertion_10 10 rfl rfl)
theorem dJ29_fixAfterInsertion_245 : decode cJ29_fixAfterInsertion 245 = .ok (.aload_n 1, 1) := dk_43 (dk_at dksJ29_fixAfterInsertion_10 11 rfl rfl)
theorem dJ29_fixAfterInsertion_246 : decode cJ29_fixAfterInsertion 246 = .ok (.invokestatic 294, 3) := dk_184 1 38 (dk_at dksJ29_fixAfterInsertion_10 12 rfl rfl)
theorem dJ29_fixAfterInsertion_249 : decode cJ29_fixAfterInsertion 249 = .ok (.invokestatic 294, 3) := dk_184 1 38 (dk_at dksJ29_fixAfterInsertion_10 15 rfl rfl)
theorem dJ29_fixAfterInsertion_252 : decode cJ29_fixAfterInsertion 252 = .ok (.invokevirtual 311, 3) := dk_182 1 55 (dk_at dksJ29_fixAfterInsertion_10 18 rfl rfl)
theorem dJ29_fixAfterInsertion_255 : decode cJ29_fixAfterInsertion 255 = .ok (.goto (-250), 3) := dk_167 255 6 (dk_at dksJ29_fixAfterInsertion_10 21 rfl rfl)
theorem dJ29_fixAfterInsertion_258 : decode cJ29_fixAfterInsertion 258 = .ok (.aload_n 0, 1) := dk_42 (dk_at dksJ29_fixAfterInsertion_11 0 rfl rfl)
theorem dJ29_fixAfterInsertion_259 : decode cJ29_fixAfterInsertion 259 = .ok (.getfield 101, 3) := dk_180 0 101 (dk_at dksJ29_fixAfterInsertion_11 1 rfl rfl)
theorem dJ29_fixAfterInsertion_262 : decode cJ29_fixAfterInsertion 262 = .ok (.iconst 1, 1) := dk_4 (dk_at dksJ29_fixAfterInsertion_11 4 rfl rfl)
theorem dJ29_fixAfterInsertion_263 : decode cJ29_fixAfterInsertion 263 = .ok (.putfield 290, 3) := dk_181 1 34 (dk_at dksJ29_fixAfterInsertion_11 5 rfl rfl)
theorem dJ29_fixAfterInsertion_266 : decode cJ29_fixAfterInsertion 266 = .ok (.return_, 1) := dk_177 (dk_at dksJ29_fixAfterInsertion_11 8 rfl rfl)
abbrev cJ29_parentOf : ByteArray := prog_64_method_77_code
def yJ29_parentOf : MethodName := ⟨RJ29, "parentOf", "(Ljava/util/TreeMap$Entry;)Ljava/util/TreeMap$Entry;"⟩
def dkwJ29_parentOf_0 : List UInt8 := [42, 199, 0, 7, 1, 167, 0, 7, 42, 180, 0, 124, 176]
abbrev dktJ29_parentOf_0 : List UInt8 := dkwJ29_parentOf_0 ++ []
theorem dksJ29_parentOf_0 : cJ29_parentOf.data.toList.drop 0 = dktJ29_parentOf_0 := by decide +kernel
theorem dJ29_parentOf_0 : decode cJ29_parentOf 0 = .ok (.aload_n 0, 1) := dk_42 (dk_at dksJ29_parentOf_0 0 rfl rfl)
theorem dJ29_parentOf_1 : decode cJ29_parentOf 1 = .ok (.ifnonnull 7, 3) := dk_199 0 7 (dk_at dksJ29_parentOf_0 1 rfl rfl)
theorem dJ29_parentOf_4 : decode cJ29_parentOf 4 = .ok (.aconst_null, 1) := dk_1 (dk_at dksJ29_parentOf_0 4 rfl rfl)
theorem dJ29_parentOf_5 : decode cJ29_parentOf 5 = .ok (.goto 7, 3) := dk_167 0 7 (dk_at dksJ29_parentOf_0 5 rfl rfl)
theorem dJ29_parentOf_8 : decode cJ29_parentOf 8 = .ok (.aload_n 0, 1) := dk_42 (dk_at dksJ29_parentOf_0 8 rfl rfl)
theorem dJ29_parentOf_9 : decode cJ29_parentOf 9 = .ok (.getfield 124, 3) := dk_180 0 124 (dk_at dksJ29_parentOf_0 9 rfl rfl)
theorem dJ29_parentOf_12 : decode cJ29_parentOf 12 = .ok (.areturn, 1) := dk_176 (dk_at dksJ29_parentOf_0 12 rfl rfl)
abbrev cJ29_leftOf : ByteArray := prog_64_method_79_code
def yJ29_leftOf : MethodName := ⟨RJ29, "leftOf", "(Ljava/util/TreeMap$Entry;)Ljava/util/TreeMap$Entry;"⟩
def dkwJ29_leftOf_0 : List UInt8 := [42, 199, 0, 7, 1, 167, 0, 7, 42, 180, 0, 111, 176]
abbrev dktJ29_leftOf_0 : List UInt8 := dkwJ29_leftOf_0 ++ []
theorem dksJ29_leftOf_0 : cJ29_leftOf.data.toList.drop 0 = dktJ29_leftOf_0 := by decide +kernel
theorem dJ29_leftOf_0 : decode cJ29_leftOf 0 = .ok (.aload_n 0, 1) := dk_42 (dk_at dksJ29_leftOf_0 0 rfl rfl)
theorem dJ29_leftOf_1 : decode cJ29_leftOf 1 = .ok (.ifnonnull 7, 3) := dk_199 0 7 (dk_at dksJ29_leftOf_0 1 rfl rfl)
theorem dJ29_leftOf_4 : decode cJ29_leftOf 4 = .ok (.aconst_null, 1) := dk_1 (dk_at dksJ29_leftOf_0 4 rfl rfl)
theorem dJ29_leftOf_5 : decode cJ29_leftOf 5 = .ok (.goto 7, 3) := dk_167 0 7 (dk_at dksJ29_leftOf_0 5 rfl rfl)
theorem dJ29_leftOf_8 : decode cJ29_leftOf 8 = .ok (.aload_n 0, 1) := dk_42 (dk_at dksJ29_leftOf_0 8 rfl rfl)
theorem dJ29_leftOf_9 : decode cJ29_leftOf 9 = .ok (.getfield 111, 3) := dk_180 0 111 (dk_at dksJ29_leftOf_0 9 rfl rfl)
theorem dJ29_leftOf_12 : decode cJ29_leftOf 12 = .ok (.areturn, 1) := dk_176 (dk_at dksJ29_leftOf_0 12 rfl rfl)
abbrev cJ29_rightOf : ByteArray := prog_64_method_80_code
def yJ29_rightOf : MethodName := ⟨RJ29, "rightOf", "(Ljava/util/TreeMap$Entry;)Ljava/util/TreeMap$Entry;"⟩
def dkwJ29_rightOf_0 : List UInt8 := [42, 199, 0, 7, 1, 167, 0, 7, 42, 180, 0, 114, 176]
abbrev dktJ29_rightOf_0 : List UInt8 := dkwJ29_rightOf_0 ++ []
theorem dksJ29_rightOf_0 : cJ29_rightOf.data.toList.drop 0 = dktJ29_rightOf_0 := by decide +kernel
theorem dJ29_rightOf_0 : decode cJ29_rightOf 0 = .ok (.aload_n 0, 1) := dk_42 (dk_at dksJ29_rightOf_0 0 rfl rfl)
theorem dJ29_rightOf_1 : decode cJ29_rightOf 1 = .ok (.ifnonnull 7, 3) := dk_199 0 7 (dk_at dksJ29_rightOf_0 1 rfl rfl)
theorem dJ29_rightOf_4 : decode cJ29_rightOf 4 = .ok (.aconst_null, 1) := dk_1 (dk_at dksJ29_rightOf_0 4 rfl rfl)
theorem dJ29_rightOf_5 : decode cJ29_rightOf 5 = .ok (.goto 7, 3) := dk_167 0 7 (dk_at dksJ29_rightOf_0 5 rfl rfl)
theorem dJ29_rightOf_8 : decode cJ29_rightOf 8 = .ok (.aload_n 0, 1) := dk_42 (dk_at dksJ29_rightOf_0 8 rfl rfl)
theorem dJ29_rightOf_9 : decode cJ29_rightOf 9 = .ok (.getfield 114, 3) := dk_180 0 114 (dk_at dksJ29_rightOf_0 9 rfl rfl)
theorem dJ29_rightOf_12 : decode cJ29_rightOf 12 = .ok (.areturn, 1) := dk_176 (dk_at dksJ29_rightOf_0 12 rfl rfl)
abbrev cJ29_colorOf : ByteArray := prog_64_method_76_code
def yJ29_colorOf : MethodName := ⟨RJ29, "colorOf", "(Ljava/util/TreeMap$Entry;)Z"⟩
def dkwJ29_colorOf_0 : List UInt8 := [42, 199, 0, 7, 4, 167, 0, 7, 42, 180, 1, 34, 172]
abbrev dktJ29_colorOf_0 : List UInt8 := dkwJ29_colorOf_0 ++ []
theorem dksJ29_colorOf_0 : cJ29_colorOf.data.toList.drop 0 = dktJ29_colorOf_0 := by decide +kernel
theorem dJ29_colorOf_0 : decode cJ29_colorOf 0 = .ok (.aload_n 0, 1) := dk_42 (dk_at dksJ29_colorOf_0 0 rfl rfl)
theorem dJ29_colorOf_1 : decode cJ29_colorOf 1 = .ok (.ifnonnull 7, 3) := dk_199 0 7 (dk_at dksJ29_colorOf_0 1 rfl rfl)
theorem dJ29_colorOf_4 : decode cJ29_colorOf 4 = .ok (.iconst 1, 1) := dk_4 (dk_at dksJ29_colorOf_0 4 rfl rfl)
theorem dJ29_colorOf_5 : decode cJ29_colorOf 5 = .ok (.goto 7, 3) := dk_167 0 7 (dk_at dksJ29_colorOf_0 5 rfl rfl)
theorem dJ29_colorOf_8 : decode cJ29_colorOf 8 = .ok (.aload_n 0, 1) := dk_42 (dk_at dksJ29_colorOf_0 8 rfl rfl)
theorem dJ29_colorOf_9 : decode cJ29_colorOf 9 = .ok (.getfield 290, 3) := dk_180 1 34 (dk_at dksJ29_colorOf_0 9 rfl rfl)
theorem dJ29_colorOf_12 : decode cJ29_colorOf 12 = .ok (.ireturn, 1) := dk_172 (dk_at dksJ29_colorOf_0 12 rfl rfl)
abbrev cJ29_setColor : ByteArray := prog_64_method_78_code
def yJ29_setColor : MethodName := ⟨RJ29, "setColor", "(Ljava/util/TreeMap$Entry;Z)V"⟩
def dkwJ29_setColor_0 : List UInt8 := [42, 198, 0, 8, 42, 27, 181, 1, 34, 177]
abbrev dktJ29_setColor_0 : List UInt8 := dkwJ29_setColor_0 ++ []
theorem dksJ29_setColor_0 : cJ29_setColor.data.toList.drop 0 = dktJ29_setColor_0 := by decide +kernel
theorem dJ29_setColor_0 : decode cJ29_setColor 0 = .ok (.aload_n 0, 1) := dk_42 (dk_at dksJ29_setColor_0 0 rfl rfl)
theorem dJ29_setColor_1 : decode cJ29_setColor 1 = .ok (.ifnull 8, 3) := dk_198 0 8 (dk_at dksJ29_setColor_0 1 rfl rfl)
theorem dJ29_setColor_4 : decode cJ29_setColor 4 = .ok (.aload_n 0, 1) := dk_42 (dk_at dksJ29_setColor_0 4 rfl rfl)
theorem dJ29_setColor_5 : decode cJ29_setColor 5 = .ok (.iload_n 1, 1) := dk_27 (dk_at dksJ29_setColor_0 5 rfl rfl)
theorem dJ29_setColor_6 : decode cJ29_setColor 6 = .ok (.putfield 290, 3) := dk_181 1 34 (dk_at dksJ29_setColor_0 6 rfl rfl)
theorem dJ29_setColor_9 : decode cJ29_setColor 9 = .ok (.return_, 1) := dk_177 (dk_at dksJ29_setColor_0 9 rfl rfl)
abbrev cJ29_rotateLeft : ByteArray := prog_64_method_81_code
def yJ29_rotateLeft : MethodName := ⟨RJ29, "rotateLeft", "(Ljava/util/TreeMap$Entry;)V"⟩
def dkwJ29_rotateLeft_4 : List UInt8 := [177]
abbrev dktJ29_rotateLeft_4 : List UInt8 := dkwJ29_rotateLeft_4 ++ []
def dkwJ29_rotateLeft_3 : List UInt8 := [181, 0, 111, 167, 0, 11, 43, 180, 0, 124, 44, 181, 0, 114, 44, 43, 181, 0, 111, 43, 44, 181, 0, 124]
abbrev dktJ29_rotateLeft_3 : List UInt8 := dkwJ29_rotateLeft_3 ++ dktJ29_rotateLeft_4
def dkwJ29_rotateLeft_2 : List UInt8 := [44, 181, 0, 101, 167, 0, 33, 43, 180, 0, 124, 180, 0, 111, 43, 166, 0, 14, 43, 180, 0, 124, 44]
abbrev dktJ29_rotateLeft_2 : List UInt8 := dkwJ29_rotateLeft_2 ++ dktJ29_rotateLeft_3
def dkwJ29_rotateLeft_1 : List UInt8 := [44, 180, 0, 111, 43, 181, 0, 124, 44, 43, 180, 0, 124, 181, 0, 124, 43, 180, 0, 124, 199, 0, 11, 42]
abbrev dktJ29_rotateLeft_1 : List UInt8 := dkwJ29_rotateLeft_1 ++ dktJ29_rotateLeft_2
def dkwJ29_rotateLeft_0 : List UInt8 := [43, 198, 0, 94, 43, 180, 0, 114, 77, 43, 44, 180, 0, 111, 181, 0, 114, 44, 180, 0, 111, 198, 0, 11]
abbrev dktJ29_rotateLeft_0 : List UInt8 := dkwJ29_rotateLeft_0 ++ dktJ29_rotateLeft_1
theorem dksJ29_rotateLeft_0 : cJ29_rotateLeft.data.toList.drop 0 = dktJ29_rotateLeft_0 := by decide +kernel
theorem dksJ29_rotateLeft_1 : cJ29_rotateLeft.data.toList.drop 24 = dktJ29_rotateLeft_1 := dk_seg dksJ29_rotateLeft_0 24 rfl rfl
theorem dksJ29_rotateLeft_2 : cJ29_rotateLeft.data.toList.drop 48 = dktJ29_rotateLeft_2 := dk_seg dksJ29_rotateLeft_1 24 rfl rfl
theorem dksJ29_rotateLeft_3 : cJ29_rotateLeft.data.toList.drop 71 = dktJ29_rotateLeft_3 := dk_seg dksJ29_rotateLeft_2 23 rfl rfl
theorem dksJ29_rotateLeft_4 : cJ29_rotateLeft.data.toList.drop 95 = dktJ29_rotateLeft_4 := dk_seg dksJ29_rotateLeft_3 24 rfl rfl
theorem dJ29_rotateLeft_0 : decode cJ29_rotateLeft 0 = .ok (.aload_n 1, 1) := dk_43 (dk_at dksJ29_rotateLeft_0 0 rfl rfl)
theorem dJ29_rotateLeft_1 : decode cJ29_rotateLeft 1 = .ok (.ifnull 94, 3) := dk_198 0 94 (dk_at dksJ29_rotateLeft_0 1 rfl rfl)
theorem dJ29_rotateLeft_4 : decode cJ29_rotateLeft 4 = .ok (.aload_n 1, 1) := dk_43 (dk_at dksJ29_rotateLeft_0 4 rfl rfl)
theorem dJ29_rotateLeft_5 : decode cJ29_rotateLeft 5 = .ok (.getfield 114, 3) := dk_180 0 114 (dk_at dksJ29_rotateLeft_0 5 rfl rfl)
theorem dJ29_rotateLeft_8 : decode cJ29_rotateLeft 8 = .ok (.astore_n 2, 1) := dk_77 (dk_at dksJ29_rotateLeft_0 8 rfl rfl)
theorem dJ29_rotateLeft_9 : decode cJ29_rotateLeft 9 = .ok (.aload_n 1, 1) := dk_43 (dk_at dksJ29_rotateLeft_0 9 rfl rfl)
theorem dJ29_rotateLeft_10 : decode cJ29_rotateLeft 10 = .ok (.aload_n 2, 1) := dk_44 (dk_at dksJ29_rotateLeft_0 10 rfl rfl)
theorem dJ29_rotateLeft_11 : decode cJ29_rotateLeft 11 = .ok (.getfield 111, 3) := dk_180 0 111 (dk_at dksJ29_rotateLeft_0 11 rfl rfl)
theorem dJ29_rotateLeft_14 : decode cJ29_rotateLeft 14 = .ok (.putfield 114, 3) := dk_181 0 114 (dk_at dksJ29_rotateLeft_0 14 rfl rfl)
theorem dJ29_rotateLeft_17 : decode cJ29_rotateLeft 17 = .ok (.aload_n 2, 1) := dk_44 (dk_at dksJ29_rotateLeft_0 17 rfl rfl)
theorem dJ29_rotateLeft_18 : decode cJ29_rotateLeft 18 = .ok (.getfield 111, 3) := dk_180 0 111 (dk_at dksJ29_rotateLeft_0 18 rfl rfl)
theorem dJ29_rotateLeft_21 : decode cJ29_rotateLeft 21 = .ok (.ifnull 11, 3) := dk_198 0 11 (dk_at dksJ29_rotateLeft_0 21 rfl rfl)
theorem dJ29_rotateLeft_24 : decode cJ29_rotateLeft 24 = .ok (.aload_n 2, 1) := dk_44 (dk_at dksJ29_rotateLeft_1 0 rfl rfl)
theorem dJ29_rotateLeft_25 : decode cJ29_rotateLeft 25 = .ok (.getfield 111, 3) := dk_180 0 111 (dk_at dksJ29_rotateLeft_1 1 rfl rfl)
theorem dJ29_rotateLeft_28 : decode cJ29_rotateLeft 28 = .ok (.aload_n 1, 1) := dk_43 (dk_at dksJ29_rotateLeft_1 4 rfl rfl)
theorem dJ29_rotateLeft_29 : decode cJ29_rotateLeft 29 = .ok (.putfield 124, 3) := dk_181 0 124 (dk_at dksJ29_rotateLeft_1 5 rfl rfl)
theorem dJ29_rotateLeft_32 : decode cJ29_rotateLeft 32 = .ok (.aload_n 2, 1) := dk_44 (dk_at dksJ29_rotateLeft_1 8 rfl rfl)
theorem dJ29_rotateLeft_33 : decode cJ29_rotateLeft 33 = .ok (.aload_n 1, 1) := dk_43 (dk_at dksJ29_rotateLeft_1 9 rfl rfl)
theorem dJ29_rotateLeft_34 : decode cJ29_rotateLeft 34 = .ok (.getfield 124, 3) := dk_180 0 124 (dk_at dksJ29_rotateLeft_1 10 rfl rfl)
theorem dJ29_rotateLeft_37 : decode cJ29_rotateLeft 37 = .ok (.putfield 124, 3) := dk_181 0 124 (dk_at dksJ29_rotateLeft_1 13 rfl rfl)
theorem dJ29_rotateLeft_40 : decode cJ29_rotateLeft 40 = .ok (.aload_n 1, 1) := dk_43 (dk_at dksJ29_rotateLeft_1 16 rfl rfl)
theorem dJ29_rotateLeft_41 : decode cJ29_rotateLeft 41 = .ok (.getfield 124, 3) := dk_180 0 124 (dk_at dksJ29_rotateLeft_1 17 rfl rfl)
theorem dJ29_rotateLeft_44 : decode cJ29_rotateLeft 44 = .ok (.ifnonnull 11, 3) := dk_199 0 11 (dk_at dksJ29_rotateLeft_1 20 rfl rfl)
theorem dJ29_rotateLeft_47 : decode cJ29_rotateLeft 47 = .ok (.aload_n 0, 1) := dk_42 (dk_at dksJ29_rotateLeft_1 23 rfl rfl)
theorem dJ29_rotateLeft_48 : decode cJ29_rotateLeft 48 = .ok (.aload_n 2, 1) := dk_44 (dk_at dksJ29_rotateLeft_2 0 rfl rfl)
theorem dJ29_rotateLeft_49 : decode cJ29_rotateLeft 49 = .ok (.putfield 101, 3) := dk_181 0 101 (dk_at dksJ29_rotateLeft_2 1 rfl rfl)
theorem dJ29_rotateLeft_52 : decode cJ29_rotateLeft 52 = .ok (.goto 33, 3) := dk_167 0 33 (dk_at dksJ29_rotateLeft_2 4 rfl rfl)
theorem dJ29_rotateLeft_55 : decode cJ29_rotateLeft 55 = .ok (.aload_n 1, 1) := dk_43 (dk_at dksJ29_rotateLeft_2 7 rfl rfl)
theorem dJ29_rotateLeft_56 : decode cJ29_rotateLeft 56 = .ok (.getfield 124, 3) := dk_180 0 124 (dk_at dksJ29_rotateLeft_2 8 rfl rfl)
theorem dJ29_rotateLeft_59 : decode cJ29_rotateLeft 59 = .ok (.getfield 111, 3) := dk_180 0 111 (dk_at dksJ29_rotateLeft_2 11 rfl rfl)
theorem dJ29_rotateLeft_62 : decode cJ29_rotateLeft 62 = .ok (.aload_n 1, 1) := dk_43 (dk_at dksJ29_rotateLeft_2 14 rfl rfl)
theorem dJ29_rotateLeft_63 : decode cJ29_rotateLeft 63 = .ok (.if_acmp .ne 14, 3) := dk_166 0 14 (dk_at dksJ29_rotateLeft_2 15 rfl rfl)
theorem dJ29_rotateLeft_66 : decode cJ29_rotateLeft 66 = .ok (.aload_n 1, 1) := dk_43 (dk_at dksJ29_rotateLeft_2 18 rfl rfl)
theorem dJ29_rotateLeft_67 : decode cJ29_rotateLeft 67 = .ok (.getfield 124, 3) := dk_180 0 124 (dk_at dksJ29_rotateLeft_2 19 rfl rfl)
theorem dJ29_rotateLeft_70 : decode cJ29_rotateLeft 70 = .ok (.aload_n 2, 1) := dk_44 (dk_at dksJ29_rotateLeft_2 22 rfl rfl)
theorem dJ29_rotateLeft_71 : decode cJ29_rotateLeft 71 = .ok (.putfield 111, 3) := dk_181 0 111 (dk_at dksJ29_rotateLeft_3 0 rfl rfl)
theorem dJ29_rotateLeft_74 : decode cJ29_rotateLeft 74 = .ok (.goto 11, 3) := dk_167 0 11 (dk_at dksJ29_rotateLeft_3 3 rfl rfl)
theorem dJ29_rotateLeft_77 : decode cJ29_rotateLeft 77 = .ok (.aload_n 1, 1) := dk_43 (dk_at dksJ29_rotateLeft_3 6 rfl rfl)
theorem dJ29_rotateLeft_78 : decode cJ29_rotateLeft 78 = .ok (.getfield 124, 3) := dk_180 0 124 (dk_at dksJ29_rotateLeft_3 7 rfl rfl)
theorem dJ29_rotateLeft_81 : decode cJ29_rotateLeft 81 = .ok (.aload_n 2, 1) := dk_44 (dk_at dksJ29_rotateLeft_3 10 rfl rfl)
theorem dJ29_rotateLeft_82 : decode cJ29_rotateLeft 82 = .ok (.putfield 114, 3) := dk_181 0 114 (dk_at dksJ29_rotateLeft_3 11 rfl rfl)
theorem dJ29_rotateLeft_85 : decode cJ29_rotateLeft 85 = .ok (.aload_n 2, 1) := dk_44 (dk_at dksJ29_rotateLeft_3 14 rfl rfl)
theorem dJ29_rotateLeft_86 : decode cJ29_rotateLeft 86 = .ok (.aload_n 1, 1) := dk_43 (dk_at dksJ29_rotateLeft_3 15 rfl rfl)
theorem dJ29_rotateLeft_87 : decode cJ29_rotateLeft 87 = .ok (.putfield 111, 3) := dk_181 0 111 (dk_at dksJ29_rotateLeft_3 16 rfl rfl)
theorem dJ29_rotateLeft_90 : decode cJ29_rotateLeft 90 = .ok (.aload_n 1, 1) := dk_43 (dk_at dksJ29_rotateLeft_3 19 rfl rfl)
theorem dJ29_rotateLeft_91 : decode cJ29_rotateLeft 91 = .ok (.aload_n 2, 1) := dk_44 (dk_at dksJ29_rotateLeft_3 20 rfl rfl)
theorem dJ29_rotateLeft_92 : decode cJ29_rotateLeft 92 = .ok (.putfield 124, 3) := dk_181 0 124 (dk_at dksJ29_rotateLeft_3 21 rfl rfl)
theorem dJ29_rotateLeft_95 : decode cJ29_rotateLeft 95 = .ok (.return_, 1) := dk_177 (dk_at dksJ29_rotateLeft_4 0 rfl rfl)
abbrev cJ29_rotateRight : ByteArray := prog_64_method_82_code
def yJ29_rotateRight : MethodName := ⟨RJ29, "rotateRight", "(Ljava/util/TreeMap$Entry;)V"⟩
def dkwJ29_rotateRight_4 : List UInt8 := [177]
abbrev dktJ29_rotateRight_4 : List UInt8 := dkwJ29_rotateRight_4 ++ []
def dkwJ29_rotateRight_3 : List UInt8 := [181, 0, 114, 167, 0, 11, 43, 180, 0, 124, 44, 181, 0, 111, 44, 43, 181, 0, 114, 43, 44, 181, 0, 124]
abbrev dktJ29_rotateRight_3 : List UInt8 := dkwJ29_rotateRight_3 ++ dktJ29_rotateRight_4
def dkwJ29_rotateRight_2 : List UInt8 := [44, 181, 0, 101, 167, 0, 33, 43, 180, 0, 124, 180, 0, 114, 43, 166, 0, 14, 43, 180, 0, 124, 44]
abbrev dktJ29_rotateRight_2 : List UInt8 := dkwJ29_rotateRight_2 ++ dktJ29_rotateRight_3
def dkwJ29_rotateRight_1 : List UInt8 := [44, 180, 0, 114, 43, 181, 0, 124, 44, 43, 180, 0, 124, 181, 0, 124, 43, 180, 0, 124, 199, 0, 11, 42]
abbrev dktJ29_rotateRight_1 : List UInt8 := dkwJ29_rotateRight_1 ++ dktJ29_rotateRight_2
def dkwJ29_rotateRight_0 : List UInt8 := [43, 198, 0, 94, 43, 180, 0, 111, 77, 43, 44, 180, 0, 114, 181, 0, 111, 44, 180, 0, 114, 198, 0, 11]
abbrev dktJ29_rotateRight_0 : List UInt8 := dkwJ29_rotateRight_0 ++ dktJ29_rotateRight_1
theorem dksJ29_rotateRight_0 : cJ29_rotateRight.data.toList.drop 0 = dktJ29_rotateRight_0 := by decide +kernel
theorem dksJ29_rotateRight_1 : cJ29_rotateRight.data.toList.drop 24 = dktJ29_rotateRight_1 := dk_seg dksJ29_rotateRight_0 24 rfl rfl
theorem dksJ29_rotateRight_2 : cJ29_rotateRight.data.toList.drop 48 = dktJ29_rotateRight_2 := dk_seg dksJ29_rotateRight_1 24 rfl rfl
theorem dksJ29_rotateRight_3 : cJ29_rotateRight.data.toList.drop 71 = dktJ29_rotateRight_3 := dk_seg dksJ29_rotateRight_2 23 rfl rfl
theorem dksJ29_rotateRight_4 : cJ29_rotateRight.data.toList.drop 95 = dktJ29_rotateRight_4 := dk_seg dksJ29_rotateRight_3 24 rfl rfl
theorem dJ29_rotateRight_0 : decode cJ29_rotateRight 0 = .ok (.aload_n 1, 1) := dk_43 (dk_at dksJ29_rotateRight_0 0 rfl rfl)
theorem dJ29_rotateRight_1 : decode cJ29_rotateRight 1 = .ok (.ifnull 94, 3) := dk_198 0 94 (dk_at dksJ29_rotateRight_0 1 rfl rfl)
theorem dJ29_rotateRight_4 : decode cJ29_rotateRight 4 = .ok (.aload_n 1, 1) := dk_43 (dk_at dksJ29_rotateRight_0 4 rfl rfl)
theorem dJ29_rotateRight_5 : decode cJ29_rotateRight 5 = .ok (.getfield 111, 3) := dk_180 0 111 (dk_at dksJ29_rotateRight_0 5 rfl rfl)
theorem dJ29_rotateRight_8 : decode cJ29_rotateRight 8 = .ok (.astore_n 2, 1) := dk_77 (dk_at dksJ29_rotateRight_0 8 rfl rfl)
theorem dJ29_rotateRight_9 : decode cJ29_rotateRight 9 = .ok (.aload_n 1, 1) := dk_43 (dk_at dksJ29_rotateRight_0 9 rfl rfl)
theorem dJ29_rotateRight_10 : decode cJ29_rotateRight 10 = .ok (.aload_n 2, 1) := dk_44 (dk_at dksJ29_rotateRight_0 10 rfl rfl)
theorem dJ29_rotateRight_11 : decode cJ29_rotateRight 11 = .ok (.getfield 114, 3) := dk_180 0 114 (dk_at dksJ29_rotateRight_0 11 rfl rfl)
theorem dJ29_rotateRight_14 : decode cJ29_rotateRight 14 = .ok (.putfield 111, 3) := dk_181 0 111 (dk_at dksJ29_rotateRight_0 14 rfl rfl)
theorem dJ29_rotateRight_17 : decode cJ29_rotateRight 17 = .ok (.aload_n 2, 1) := dk_44 (dk_at dksJ29_rotateRight_0 17 rfl rfl)
theorem dJ29_rotateRight_18 : decode cJ29_rotateRight 18 = .ok (.getfield 114, 3) := dk_180 0 114 (dk_at dksJ29_rotateRight_0 18 rfl rfl)
theorem dJ29_rotateRight_21 : decode cJ29_rotateRight 21 = .ok (.ifnull 11, 3) := dk_198 0 11 (dk_at dksJ29_rotateRight_0 21 rfl rfl)
theorem dJ29_rotateRight_24 : decode cJ29_rotateRight 24 = .ok (.aload_n 2, 1) := dk_44 (dk_at dksJ29_rotateRight_1 0 rfl rfl)
theorem dJ29_rotateRight_25 : decode cJ29_rotateRight 25 = .ok (.getfield 114, 3) := dk_180 0 114 (dk_at dksJ29_rotateRight_1 1 rfl rfl)
theorem dJ29_rotateRight_28 : decode cJ29_rotateRight 28 = .ok (.aload_n 1, 1) := dk_43 (dk_at dksJ29_rotateRight_1 4 rfl rfl)
theorem dJ29_rotateRight_29 : decode cJ29_rotateRight 29 = .ok (.putfield 124, 3) := dk_181 0 124 (dk_at dksJ29_rotateRight_1 5 rfl rfl)
theorem dJ29_rotateRight_32 : decode cJ29_rotateRight 32 = .ok (.aload_n 2, 1) := dk_44 (dk_at dksJ29_rotateRight_1 8 rfl rfl)
theorem dJ29_rotateRight_33 : decode cJ29_rotateRight 33 = .ok (.aload_n 1, 1) := dk_43 (dk_at dksJ29_rotateRight_1 9 rfl rfl)
theorem dJ29_rotateRight_34 : decode cJ29_rotateRight 34 = .ok (.getfield 124, 3) := dk_180 0 124 (dk_at dksJ29_rotateRight_1 10 rfl rfl)
theorem dJ29_rotateRight_37 : decode cJ29_rotateRight 37 = .ok (.putfield 124, 3) := dk_181 0 124 (dk_at dksJ29_rotateRight_1 13 rfl rfl)
theorem dJ29_rotateRight_40 : decode cJ29_rotateRight 40 = .ok (.aload_n 1, 1) := dk_43 (dk_at dksJ29_rotateRight_1 16 rfl rfl)
theorem dJ29_rotateRight_41 : decode cJ29_rotateRight 41 = .ok (.getfield 124, 3) := dk_180 0 124 (dk_at dksJ29_rotateRight_1 17 rfl rfl)
theorem dJ29_rotateRight_44 : decode cJ29_rotateRight 44 = .ok (.ifnonnull 11, 3) := dk_199 0 11 (dk_at dksJ29_rotateRight_1 20 rfl rfl)
theorem dJ29_rotateRight_47 : decode cJ29_rotateRight 47 = .ok (.aload_n 0, 1) := dk_42 (dk_at dksJ29_rotateRight_1 23 rfl rfl)
theorem dJ29_rotateRight_48 : decode cJ29_rotateRight 48 = .ok (.aload_n 2, 1) := dk_44 (dk_at dksJ29_rotateRight_2 0 rfl rfl)
theorem dJ29_rotateRight_49 : decode cJ29_rotateRight 49 = .ok (.putfield 101, 3) := dk_181 0 101 (dk_at dksJ29_rotateRight_2 1 rfl rfl)
theorem dJ29_rotateRight_52 : decode cJ29_rotateRight 52 = .ok (.goto 33, 3) := dk_167 0 33 (dk_at dksJ29_rotateRight_2 4 rfl rfl)
theorem dJ29_rotateRight_55 : decode cJ29_rotateRight 55 = .ok (.aload_n 1, 1) := dk_43 (dk_at dksJ29_rotateRight_2 7 rfl rfl)
theorem dJ29_rotateRight_56 : decode cJ29_rotateRight 56 = .ok (.getfield 124, 3) := dk_180 0 124 (dk_at dksJ29_rotateRight_2 8 rfl rfl)
theorem dJ29_rotateRight_59 : decode cJ29_rotateRight 59 = .ok (.getfield 114, 3) := dk_180 0 114 (dk_at dksJ29_rotateRight_2 11 rfl rfl)
theorem dJ29_rotateRight_62 : decode cJ29_rotateRight 62 = .ok (.aload_n 1, 1) := dk_43 (dk_at dksJ29_rotateRight_2 14 rfl rfl)
theorem dJ29_rotateRight_63 : decode cJ29_rotateRight 63 = .ok (.if_acmp .ne 14, 3) := dk_166 0 14 (dk_at dksJ29_rotateRight_2 15 rfl rfl)
theorem dJ29_rotateRight_66 : decode cJ29_rotateRight 66 = .ok (.aload_n 1, 1) := dk_43 (dk_at dksJ29_rotateRight_2 18 rfl rfl)
theorem dJ29_rotateRight_67 : decode cJ29_rotateRight 67 = .ok (.getfield 124, 3) := dk_180 0 124 (dk_at dksJ29_rotateRight_2 19 rfl rfl)
theorem dJ29_rotateRight_70 : decode cJ29_rotateRight 70 = .ok (.aload_n 2, 1) := dk_44 (dk_at dksJ29_rotateRight_2 22 rfl rfl)
theorem dJ29_rotateRight_71 : decode cJ29_rotateRight 71 = .ok (.putfield 114, 3) := dk_181 0 114 (dk_at dksJ29_rotateRight_3 0 rfl rfl)
theorem dJ29_rotateRight_74 : decode cJ29_rotateRight 74 = .ok (.goto 11, 3) := dk_167 0 11 (dk_at dksJ29_rotateRight_3 3 rfl rfl)
theorem dJ29_rotateRight_77 : decode cJ29_rotateRight 77 = .ok (.aload_n 1, 1) := dk_43 (dk_at dksJ29_rotateRight_3 6 rfl rfl)
theorem dJ29_rotateRight_78 : decode cJ29_rotateRight 78 = .ok (.getfield 124, 3) := dk_180 0 124 (dk_at dksJ29_rotateRight_3 7 rfl rfl)
theorem dJ29_rotateRight_81 : decode cJ29_rotateRight 81 = .ok (.aload_n 2, 1) := dk_44 (dk_at dksJ29_rotateRight_3 10 rfl rfl)
theorem dJ29_rotateRight_82 : decode cJ29_rotateRight 82 = .ok (.putfield 111, 3) := dk_181 0 111 (dk_at dksJ29_rotateRight_3 11 rfl rfl)
theorem dJ29_rotateRight_85 : decode cJ29_rotateRight 85 = .ok (.aload_n 2, 1) := dk_44 (dk_at dksJ29_rotateRight_3 14 rfl rfl)
theorem dJ29_rotateRight_86 : decode cJ29_rotateRight 86 = .ok (.aload_n 1, 1) := dk_43 (dk_at dksJ29_rotateRight_3 15 rfl rfl)
theorem dJ29_rotateRight_87 : decode cJ29_rotateRight 87 = .ok (.putfield 114, 3) := dk_181 0 114 (dk_at dksJ29_rotateRight_3 16 rfl rfl)
theorem dJ29_rotateRight_90 : decode cJ29_rotateRight 90 = .ok (.aload_n 1, 1) := dk_43 (dk_at dksJ29_rotateRight_3 19 rfl rfl)
theorem dJ29_rotateRight_91 : decode cJ29_rotateRight 91 = .ok (.aload_n 2, 1) := dk_44 (dk_at dksJ29_rotateRight_3 20 rfl rfl)
theorem dJ29_rotateRight_92 : decode cJ29_rotateRight 92 = .ok (.putfield 124, 3) := dk_181 0 124 (dk_at dksJ29_rotateRight_3 21 rfl rfl)
theorem dJ29_rotateRight_95 : decode cJ29_rotateRight 95 = .ok (.return_, 1) := dk_177 (dk_at dksJ29_rotateRight_4 0 rfl rfl)
abbrev cJ29_navigableKeySet : ByteArray := prog_64_method_50_code
def yJ29_navigableKeySet : MethodName := ⟨RJ29, "navigableKeySet", "()Ljava/util/NavigableSet;"⟩
def dkwJ29_navigableKeySet_1 : List UInt8 := [181, 0, 191, 176]
abbrev dktJ29_navigableKeySet_1 : List UInt8 := dkwJ29_navigableKeySet_1 ++ []
def dkwJ29_navigableKeySet_0 : List UInt8 := [42, 180, 0, 191, 76, 43, 198, 0, 7, 43, 167, 0, 16, 42, 187, 0, 222, 89, 42, 183, 0, 224, 90]
abbrev dktJ29_navigableKeySet_0 : List UInt8 := dkwJ29_navigableKeySet_0 ++ dktJ29_navigableKeySet_1
theorem dksJ29_navigableKeySet_0 : cJ29_navigableKeySet.data.toList.drop 0 = dktJ29_navigableKeySet_0 := by decide +kernel
theorem dksJ29_navigableKeySet_1 : cJ29_navigableKeySet.data.toList.drop 23 = dktJ29_navigableKeySet_1 := dk_seg dksJ29_navigableKeySet_0 23 rfl rfl
theorem dJ29_navigableKeySet_0 : decode cJ29_navigableKeySet 0 = .ok (.aload_n 0, 1) := dk_42 (dk_at dksJ29_navigableKeySet_0 0 rfl rfl)
theorem dJ29_navigableKeySet_1 : decode cJ29_navigableKeySet 1 = .ok (.getfield 191, 3) := dk_180 0 191 (dk_at dksJ29_navigableKeySet_0 1 rfl rfl)
theorem dJ29_navigableKeySet_4 : decode cJ29_navigableKeySet 4 = .ok (.astore_n 1, 1) := dk_76 (dk_at dksJ29_navigableKeySet_0 4 rfl rfl)
theorem dJ29_navigableKeySet_5 : decode cJ29_navigableKeySet 5 = .ok (.aload_n 1, 1) := dk_43 (dk_at dksJ29_navigableKeySet_0 5 rfl rfl)
theorem dJ29_navigableKeySet_6 : decode cJ29_navigableKeySet 6 = .ok (.ifnull 7, 3) := dk_198 0 7 (dk_at dksJ29_navigableKeySet_0 6 rfl rfl)
theorem dJ29_navigableKeySet_9 : decode cJ29_navigableKeySet 9 = .ok (.aload_n 1, 1) := dk_43 (dk_at dksJ29_navigableKeySet_0 9 rfl rfl)
theorem dJ29_navigableKeySet_10 : decode cJ29_navigableKeySet 10 = .ok (.goto 16, 3) := dk_167 0 16 (dk_at dksJ29_navigableKeySet_0 10 rfl rfl)
theorem dJ29_navigableKeySet_13 : decode cJ29_navigableKeySet 13 = .ok (.aload_n 0, 1) := dk_42 (dk_at dksJ29_navigableKeySet_0 13 rfl rfl)
theorem dJ29_navigableKeySet_14 : decode cJ29_navigableKeySet 14 = .ok (.new 222, 3) := dk_187 0 222 (dk_at dksJ29_navigableKeySet_0 14 rfl rfl)
theorem dJ29_navigableKeySet_17 : decode cJ29_navigableKeySet 17 = .ok (.dup, 1) := dk_89 (dk_at dksJ29_navigableKeySet_0 17 rfl rfl)
theorem dJ29_navigableKeySet_18 : decode cJ29_navigableKeySet 18 = .ok (.aload_n 0, 1) := dk_42 (dk_at dksJ29_navigableKeySet_0 18 rfl rfl)
theorem dJ29_navigableKeySet_19 : decode cJ29_navigableKeySet 19 = .ok (.invokespecial 224, 3) := dk_183 0 224 (dk_at dksJ29_navigableKeySet_0 19 rfl rfl)
theorem dJ29_navigableKeySet_22 : decode cJ29_navigableKeySet 22 = .ok (.dup_x1, 1) := dk_90 (dk_at dksJ29_navigableKeySet_0 22 rfl rfl)
theorem dJ29_navigableKeySet_23 : decode cJ29_navigableKeySet 23 = .ok (.putfield 191, 3) := dk_181 0 191 (dk_at dksJ29_navigableKeySet_1 0 rfl rfl)
theorem dJ29_navigableKeySet_26 : decode cJ29_navigableKeySet 26 = .ok (.areturn, 1) := dk_176 (dk_at dksJ29_navigableKeySet_1 3 rfl rfl)
abbrev cJ29_keyIterator : ByteArray := prog_64_method_65_code
def yJ29_keyIterator : MethodName := ⟨RJ29, "keyIterator", "()Ljava/util/Iterator;"⟩
def dkwJ29_keyIterator_0 : List UInt8 := [187, 1, 13, 89, 42, 42, 182, 0, 54, 183, 1, 15, 176]
abbrev dktJ29_keyIterator_0 : List UInt8 := dkwJ29_keyIterator_0 ++ []
theorem dksJ29_keyIterator_0 : cJ29_keyIterator.data.toList.drop 0 = dktJ29_keyIterator_0 := by decide +kernel
theorem dJ29_keyIterator_0 : decode cJ29_keyIterator 0 = .ok (.new 269, 3) := dk_187 1 13 (dk_at dksJ29_keyIterator_0 0 rfl rfl)
theorem dJ29_keyIterator_3 : decode cJ29_keyIterator 3 = .ok (.dup, 1) := dk_89 (dk_at dksJ29_keyIterator_0 3 rfl rfl)
theorem dJ29_keyIterator_4 : decode cJ29_keyIterator 4 = .ok (.aload_n 0, 1) := dk_42 (dk_at dksJ29_keyIterator_0 4 rfl rfl)
theorem dJ29_keyIterator_5 : decode cJ29_keyIterator 5 = .ok (.aload_n 0, 1) := dk_42 (dk_at dksJ29_keyIterator_0 5 rfl rfl)
theorem dJ29_keyIterator_6 : decode cJ29_keyIterator 6 = .ok (.invokevirtual 54, 3) := dk_182 0 54 (dk_at dksJ29_keyIterator_0 6 rfl rfl)
theorem dJ29_keyIterator_9 : decode cJ29_keyIterator 9 = .ok (.invokespecial 271, 3) := dk_183 1 15 (dk_at dksJ29_keyIterator_0 9 rfl rfl)
theorem dJ29_keyIterator_12 : decode cJ29_keyIterator 12 = .ok (.areturn, 1) := dk_176 (dk_at dksJ29_keyIterator_0 12 rfl rfl)
abbrev cJ29_getFirstEntry : ByteArray := prog_64_method_72_code
def yJ29_getFirstEntry : MethodName := ⟨RJ29, "getFirstEntry", "()Ljava/util/TreeMap$Entry;"⟩
def dkwJ29_getFirstEntry_1 : List UInt8 := [43, 176]
abbrev dktJ29_getFirstEntry_1 : List UInt8 := dkwJ29_getFirstEntry_1 ++ []
def dkwJ29_getFirstEntry_0 : List UInt8 := [42, 180, 0, 101, 76, 43, 198, 0, 18, 43, 180, 0, 111, 198, 0, 11, 43, 180, 0, 111, 76, 167, 255, 244]
abbrev dktJ29_getFirstEntry_0 : List UInt8 := dkwJ29_getFirstEntry_0 ++ dktJ29_getFirstEntry_1
theorem dksJ29_getFirstEntry_0 : cJ29_getFirstEntry.data.toList.drop 0 = dktJ29_getFirstEntry_0 := by decide +kernel
theorem dksJ29_getFirstEntry_1 : cJ29_getFirstEntry.data.toList.drop 24 = dktJ29_getFirstEntry_1 := dk_seg dksJ29_getFirstEntry_0 24 rfl rfl
theorem dJ29_getFirstEntry_0 : decode cJ29_getFirstEntry 0 = .ok (.aload_n 0, 1) := dk_42 (dk_at dksJ29_getFirstEntry_0 0 rfl rfl)
theorem dJ29_getFirstEntry_1 : decode cJ29_getFirstEntry 1 = .ok (.getfield 101, 3) := dk_180 0 101 (dk_at dksJ29_getFirstEntry_0 1 rfl rfl)
theorem dJ29_getFirstEntry_4 : decode cJ29_getFirstEntry 4 = .ok (.astore_n 1, 1) := dk_76 (dk_at dksJ29_getFirstEntry_0 4 rfl rfl)
theorem dJ29_getFirstEntry_5 : decode cJ29_getFirstEntry 5 = .ok (.aload_n 1, 1) := dk_43 (dk_at dksJ29_getFirstEntry_0 5 rfl rfl)
theorem dJ29_getFirstEntry_6 : decode cJ29_getFirstEntry 6 = .ok (.ifnull 18, 3) := dk_198 0 18 (dk_at dksJ29_getFirstEntry_0 6 rfl rfl)
theorem dJ29_getFirstEntry_9 : decode cJ29_getFirstEntry 9 = .ok (.aload_n 1, 1) := dk_43 (dk_at dksJ29_getFirstEntry_0 9 rfl rfl)
theorem dJ29_getFirstEntry_10 : decode cJ29_getFirstEntry 10 = .ok (.getfield 111, 3) := dk_180 0 111 (dk_at dksJ29_getFirstEntry_0 10 rfl rfl)
theorem dJ29_getFirstEntry_13 : decode cJ29_getFirstEntry 13 = .ok (.ifnull 11, 3) := dk_198 0 11 (dk_at dksJ29_getFirstEntry_0 13 rfl rfl)
theorem dJ29_getFirstEntry_16 : decode cJ29_getFirstEntry 16 = .ok (.aload_n 1, 1) := dk_43 (dk_at dksJ29_getFirstEntry_0 16 rfl rfl)
theorem dJ29_getFirstEntry_17 : decode cJ29_getFirstEntry 17 = .ok (.getfield 111, 3) := dk_180 0 111 (dk_at dksJ29_getFirstEntry_0 17 rfl rfl)
theorem dJ29_getFirstEntry_20 : decode cJ29_getFirstEntry 20 = .ok (.astore_n 1, 1) := dk_76 (dk_at dksJ29_getFirstEntry_0 20 rfl rfl)
theorem dJ29_getFirstEntry_21 : decode cJ29_getFirstEntry 21 = .ok (.goto (-12), 3) := dk_167 255 244 (dk_at dksJ29_getFirstEntry_0 21 rfl rfl)
theorem dJ29_getFirstEntry_24 : decode cJ29_getFirstEntry 24 = .ok (.aload_n 1, 1) := dk_43 (dk_at dksJ29_getFirstEntry_1 0 rfl rfl)
theorem dJ29_getFirstEntry_25 : decode cJ29_getFirstEntry 25 = .ok (.areturn, 1) := dk_176 (dk_at dksJ29_getFirstEntry_1 1 rfl rfl)
abbrev cJ29_successor : ByteArray := prog_64_method_74_code
def yJ29_successor : MethodName := ⟨RJ29, "successor", "(Ljava/util/TreeMap$Entry;)Ljava/util/TreeMap$Entry;"⟩
def dkwJ29_successor_2 : List UInt8 := [44, 43, 180, 0, 114, 166, 0, 13, 43, 77, 43, 180, 0, 124, 76, 167, 255, 237, 43, 176]
abbrev dktJ29_successor_2 : List UInt8 := dkwJ29_successor_2 ++ []
def dkwJ29_successor_1 : List UInt8 := [198, 0, 11, 43, 180, 0, 111, 76, 167, 255, 244, 43, 176, 42, 180, 0, 124, 76, 42, 77, 43, 198, 0, 21]
abbrev dktJ29_successor_1 : List UInt8 := dkwJ29_successor_1 ++ dktJ29_successor_2
def dkwJ29_successor_0 : List UInt8 := [42, 199, 0, 5, 1, 176, 42, 180, 0, 114, 198, 0, 25, 42, 180, 0, 114, 76, 43, 180, 0, 111]
abbrev dktJ29_successor_0 : List UInt8 := dkwJ29_successor_0 ++ dktJ29_successor_1
theorem dksJ29_successor_0 : cJ29_successor.data.toList.drop 0 = dktJ29_successor_0 := by decide +kernel
theorem dksJ29_successor_1 : cJ29_successor.data.toList.drop 22 = dktJ29_successor_1 := dk_seg dksJ29_successor_0 22 rfl rfl
theorem dksJ29_successor_2 : cJ29_successor.data.toList.drop 46 = dktJ29_successor_2 := dk_seg dksJ29_successor_1 24 rfl rfl
theorem dJ29_successor_0 : decode cJ29_successor 0 = .ok (.aload_n 0, 1) := dk_42 (dk_at dksJ29_successor_0 0 rfl rfl)
theorem dJ29_successor_1 : decode cJ29_successor 1 = .ok (.ifnonnull 5, 3) := dk_199 0 5 (dk_at dksJ29_successor_0 1 rfl rfl)
theorem dJ29_successor_4 : decode cJ29_successor 4 = .ok (.aconst_null, 1) := dk_1 (dk_at dksJ29_successor_0 4 rfl rfl)
theorem dJ29_successor_5 : decode cJ29_successor 5 = .ok (.areturn, 1) := dk_176 (dk_at dksJ29_successor_0 5 rfl rfl)
theorem dJ29_successor_6 : decode cJ29_successor 6 = .ok (.aload_n 0, 1) := dk_42 (dk_at dksJ29_successor_0 6 rfl rfl)
theorem dJ29_successor_7 : decode cJ29_successor 7 = .ok (.getfield 114, 3) := dk_180 0 114 (dk_at dksJ29_successor_0 7 rfl rfl)
theorem dJ29_successor_10 : decode cJ29_successor 10 = .ok (.ifnull 25, 3) := dk_198 0 25 (dk_at dksJ29_successor_0 10 rfl rfl)
theorem dJ29_successor_13 : decode cJ29_successor 13 = .ok (.aload_n 0, 1) := dk_42 (dk_at dksJ29_successor_0 13 rfl rfl)
theorem dJ29_successor_14 : decode cJ29_successor 14 = .ok (.getfield 114, 3) := dk_180 0 114 (dk_at dksJ29_successor_0 14 rfl rfl)
theorem dJ29_successor_17 : decode cJ29_successor 17 = .ok (.astore_n 1, 1) := dk_76 (dk_at dksJ29_successor_0 17 rfl rfl)
theorem dJ29_successor_18 : decode cJ29_successor 18 = .ok (.aload_n 1, 1) := dk_43 (dk_at dksJ29_successor_0 18 rfl rfl)
theorem dJ29_successor_19 : decode cJ29_successor 19 = .ok (.getfield 111, 3) := dk_180 0 111 (dk_at dksJ29_successor_0 19 rfl rfl)
theorem dJ29_successor_22 : decode cJ29_successor 22 = .ok (.ifnull 11, 3) := dk_198 0 11 (dk_at dksJ29_successor_1 0 rfl rfl)
theorem dJ29_successor_25 : decode cJ29_successor 25 = .ok (.aload_n 1, 1) := dk_43 (dk_at dksJ29_successor_1 3 rfl rfl)
theorem dJ29_successor_26 : decode cJ29_successor 26 = .ok (.getfield 111, 3) := dk_180 0 111 (dk_at dksJ29_successor_1 4 rfl rfl)
theorem dJ29_successor_29 : decode cJ29_successor 29 = .ok (.astore_n 1, 1) := dk_76 (dk_at dksJ29_successor_1 7 rfl rfl)
theorem dJ29_successor_30 : decode cJ29_successor 30 = .ok (.goto (-12), 3) := dk_167 255 244 (dk_at dksJ29_successor_1 8 rfl rfl)
theorem dJ29_successor_33 : decode cJ29_successor 33 = .ok (.aload_n 1, 1) := dk_43 (dk_at dksJ29_successor_1 11 rfl rfl)
theorem dJ29_successor_34 : decode cJ29_successor 34 = .ok (.areturn, 1) := dk_176 (dk_at dksJ29_successor_1 12 rfl rfl)
theorem dJ29_successor_35 : decode cJ29_successor 35 = .ok (.aload_n 0, 1) := dk_42 (dk_at dksJ29_successor_1 13 rfl rfl)
theorem dJ29_successor_36 : decode cJ29_successor 36 = .ok (.getfield 124, 3) := dk_180 0 124 (dk_at dksJ29_successor_1 14 rfl rfl)
theorem dJ29_successor_39 : decode cJ29_successor 39 = .ok (.astore_n 1, 1) := dk_76 (dk_at dksJ29_successor_1 17 rfl rfl)
theorem dJ29_successor_40 : decode cJ29_successor 40 = .ok (.aload_n 0, 1) := dk_42 (dk_at dksJ29_successor_1 18 rfl rfl)
theorem dJ29_successor_41 : decode cJ29_successor 41 = .ok (.astore_n 2, 1) := dk_77 (dk_at dksJ29_successor_1 19 rfl rfl)
theorem dJ29_successor_42 : decode cJ29_successor 42 = .ok (.aload_n 1, 1) := dk_43 (dk_at dksJ29_successor_1 20 rfl rfl)
theorem dJ29_successor_43 : decode cJ29_successor 43 = .ok (.ifnull 21, 3) := dk_198 0 21 (dk_at dksJ29_successor_1 21 rfl rfl)
theorem dJ29_successor_46 : decode cJ29_successor 46 = .ok (.aload_n 2, 1) := dk_44 (dk_at dksJ29_successor_2 0 rfl rfl)
theorem dJ29_successor_47 : decode cJ29_successor 47 = .ok (.aload_n 1, 1) := dk_43 (dk_at dksJ29_successor_2 1 rfl rfl)
theorem dJ29_successor_48 : decode cJ29_successor 48 = .ok (.getfield 114, 3) := dk_180 0 114 (dk_at dksJ29_successor_2 2 rfl rfl)
theorem dJ29_successor_51 : decode cJ29_successor 51 = .ok (.if_acmp .ne 13, 3) := dk_166 0 13 (dk_at dksJ29_successor_2 5 rfl rfl)
theorem dJ29_successor_54 : decode cJ29_successor 54 = .ok (.aload_n 1, 1) := dk_43 (dk_at dksJ29_successor_2 8 rfl rfl)
theorem dJ29_successor_55 : decode cJ29_successor 55 = .ok (.astore_n 2, 1) := dk_77 (dk_at dksJ29_successor_2 9 rfl rfl)
theorem dJ29_successor_56 : decode cJ29_successor 56 = .ok (.aload_n 1, 1) := dk_43 (dk_at dksJ29_successor_2 10 rfl rfl)
theorem dJ29_successor_57 : decode cJ29_successor 57 = .ok (.getfield 124, 3) := dk_180 0 124 (dk_at dksJ29_successor_2 11 rfl rfl)
theorem dJ29_successor_60 : decode cJ29_successor 60 = .ok (.astore_n 1, 1) := dk_76 (dk_at dksJ29_successor_2 14 rfl rfl)
theorem dJ29_successor_61 : decode cJ29_successor 61 = .ok (.goto (-19), 3) := dk_167 255 237 (dk_at dksJ29_successor_2 15 rfl rfl)
theorem dJ29_successor_64 : decode cJ29_successor 64 = .ok (.aload_n 1, 1) := dk_43 (dk_at dksJ29_successor_2 18 rfl rfl)
theorem dJ29_successor_65 : decode cJ29_successor 65 = .ok (.areturn, 1) := dk_176 (dk_at dksJ29_successor_2 19 rfl rfl)
theorem q114 : (Jvm.Cond.initialized "java/util/TreeMap") ∈ lw_all := lw_g (lw_at lw_m1 44 rfl) rfl
theorem q356 : (Jvm.Cond.selects "java/util/TreeMap" ({ cls := "java/lang/Object", name := "getClass", desc := "()Ljava/lang/Class;" } : Jvm.MethodName) ({ cls := "java/lang/Object", name := "getClass", desc := "()Ljava/lang/Class;" } : Jvm.MethodName)) ∈ lw_all := lw_g (lw_at lw_m2 46 rfl) rfl
theorem q1509 : (Jvm.Cond.castable "java/util/TreeMap" "java/util/NavigableMap") ∈ lw_tbl := lw_at lw_m6 239 rfl
theorem q1510 : (Jvm.Cond.selects "java/util/TreeMap" ({ cls := "java/util/Map", name := "size", desc := "()I" } : Jvm.MethodName) ({ cls := "java/util/TreeMap", name := "size", desc := "()I" } : Jvm.MethodName)) ∈ lw_all := lw_g (lw_at lw_m7 0 rfl) rfl
theorem q1511 : (Jvm.Cond.unhidden "java/util/TreeMap" "size" "()I") ∈ lw_tbl := lw_at lw_m7 1 rfl
theorem q1512 : (Jvm.Cond.instanceMethod ({ cls := "java/util/TreeMap", name := "size", desc := "()I" } : Jvm.MethodName)) ∈ lw_all := lw_g (lw_at lw_m7 2 rfl) rfl
theorem q1513 : (Jvm.Cond.publicMethod ({ cls := "java/util/TreeMap", name := "size", desc := "()I" } : Jvm.MethodName)) ∈ lw_tbl := lw_at lw_m7 3 rfl
theorem q1514 : (Jvm.Cond.code ({ cls := "java/util/TreeMap", name := "size", desc := "()I" } : Jvm.MethodName) prog_64_method_5_code (1 : Nat) (Option.some Jvm.ClassFile.FieldType.int)) ∈ lw_all := lw_g (lw_at lw_m7 4 rfl) rfl
theorem q1573 : (Jvm.Cond.instantiable "java/util/TreeMap" (9 : Nat)) ∈ lw_all := lw_g (lw_at lw_m7 63 rfl) rfl
theorem q1575 : (Jvm.Cond.instanceMethod ({ cls := "java/util/TreeMap", name := "<init>", desc := "()V" } : Jvm.MethodName)) ∈ lw_all := lw_g (lw_at lw_m7 65 rfl) rfl
theorem q1576 : (Jvm.Cond.code ({ cls := "java/util/TreeMap", name := "<init>", desc := "()V" } : Jvm.MethodName) prog_64_method_1_code (1 : Nat) (Option.none : Option Jvm.ClassFile.FieldType)) ∈ lw_all := lw_g (lw_at lw_m7 66 rfl) rfl
theorem q1577 : (Jvm.Cond.methodLink "java/util/TreeMap" (1 : Nat) ({ cls := "java/util/AbstractMap", name := "<init>", desc := "()V" } : Jvm.MethodName)) ∈ lw_all := lw_g (lw_at lw_m7 67 rfl) rfl
theorem q1581 : (Jvm.Cond.fieldLink "java/util/TreeMap" (16 : Nat) "java/util/TreeMap" "comparator" "Ljava/util/Comparator;") ∈ lw_all := lw_g (lw_at lw_m7 71 rfl) rfl
theorem q1582 : (Jvm.Cond.fieldLink "java/util/TreeMap" (101 : Nat) "java/util/TreeMap" "root" "Ljava/util/TreeMap$Entry;") ∈ lw_all := lw_g (lw_at lw_m7 72 rfl) rfl
theorem q1583 : (Jvm.Cond.fieldLink "java/util/TreeMap" (7 : Nat) "java/util/TreeMap" "size" "I") ∈ lw_all := lw_g (lw_at lw_m7 73 rfl) rfl
theorem q1584 : (Jvm.Cond.fieldLink "java/util/TreeMap" (13 : Nat) "java/util/TreeMap" "modCount" "I") ∈ lw_all := lw_g (lw_at lw_m7 74 rfl) rfl
theorem q1586 : (Jvm.Cond.fieldLink "java/util/TreeMap" (191 : Nat) "java/util/TreeMap" "navigableKeySet" "Ljava/util/TreeMap$KeySet;") ∈ lw_all := lw_g (lw_at lw_m7 76 rfl) rfl
theorem q1587 : (Jvm.Cond.laysFinal "java/util/TreeMap" "java/util/TreeMap" "comparator" "Ljava/util/Comparator;") ∈ lw_all := lw_g (lw_at lw_m7 77 rfl) rfl
theorem q1588 : (Jvm.Cond.soleField "java/util/TreeMap" "comparator") ∈ lw_all := lw_g (lw_at lw_m7 78 rfl) rfl
theorem q1589 : (Jvm.Cond.lays "java/util/TreeMap" "java/util/TreeMap" "root" "Ljava/util/TreeMap$Entry;") ∈ lw_all := lw_g (lw_at lw_m7 79 rfl) rfl
theorem q1590 : (Jvm.Cond.soleField "java/util/TreeMap" "root") ∈ lw_all := lw_g (lw_at lw_m7 80 rfl) rfl
theorem q1591 : (Jvm.Cond.lays "java/util/TreeMap" "java/util/TreeMap" "size" "I") ∈ lw_all := lw_g (lw_at lw_m7 81 rfl) rfl
theorem q1592 : (Jvm.Cond.soleField "java/util/TreeMap" "size") ∈ lw_all := lw_g (lw_at lw_m7 82 rfl) rfl
theorem q1593 : (Jvm.Cond.lays "java/util/TreeMap" "java/util/TreeMap" "modCount" "I") ∈ lw_all := lw_g (lw_at lw_m7 83 rfl) rfl
theorem q1594 : (Jvm.Cond.soleField "java/util/TreeMap" "modCount") ∈ lw_all := lw_g (lw_at lw_m7 84 rfl) rfl
theorem q1595 : (Jvm.Cond.lays "java/util/TreeMap" "java/util/TreeMap" "entrySet" "Ljava/util/TreeMap$EntrySet;") ∈ lw_all := lw_g (lw_at lw_m7 85 rfl) rfl
theorem q1596 : (Jvm.Cond.soleField "java/util/TreeMap" "entrySet") ∈ lw_all := lw_g (lw_at lw_m7 86 rfl) rfl
theorem q1597 : (Jvm.Cond.lays "java/util/TreeMap" "java/util/TreeMap" "navigableKeySet" "Ljava/util/TreeMap$KeySet;") ∈ lw_all := lw_g (lw_at lw_m7 87 rfl) rfl
theorem q1598 : (Jvm.Cond.soleField "java/util/TreeMap" "navigableKeySet") ∈ lw_all := lw_g (lw_at lw_m7 88 rfl) rfl
theorem q1599 : (Jvm.Cond.lays "java/util/TreeMap" "java/util/TreeMap" "descendingMap" "Ljava/util/NavigableMap;") ∈ lw_all := lw_g (lw_at lw_m7 89 rfl) rfl
theorem q1600 : (Jvm.Cond.soleField "java/util/TreeMap" "descendingMap") ∈ lw_all := lw_g (lw_at lw_m7 90 rfl) rfl
theorem q1601 : (Jvm.Cond.lays "java/util/TreeMap" "java/util/AbstractMap" "keySet" "Ljava/util/Set;") ∈ lw_all := lw_g (lw_at lw_m7 91 rfl) rfl
theorem q1603 : (Jvm.Cond.lays "java/util/TreeMap" "java/util/AbstractMap" "values" "Ljava/util/Collection;") ∈ lw_all := lw_g (lw_at lw_m7 93 rfl) rfl
theorem q1605 : (Jvm.Cond.superclass "java/util/TreeMap" "java/util/AbstractMap") ∈ lw_all := lw_g (lw_at lw_m7 95 rfl) rfl
theorem q1626 : (Jvm.Cond.selects "java/util/TreeMap" ({ cls := "java/util/Map", name := "put", desc := "(Ljava/lang/Object;Ljava/lang/Object;)Ljava/lang/Object;" } : Jvm.MethodName) ({ cls := "java/util/TreeMap", name := "put", desc := "(Ljava/lang/Object;Ljava/lang/Object;)Ljava/lang/Object;" } : Jvm.MethodName)) ∈ lw_all := lw_g (lw_at lw_m7 116 rfl) rfl
theorem q1627 : (Jvm.Cond.unhidden "java/util/TreeMap" "put" "(Ljava/lang/Object;Ljava/lang/Object;)Ljava/lang/Object;") ∈ lw_tbl := lw_at lw_m7 117 rfl
theorem q1628 : (Jvm.Cond.instanceMethod ({ cls := "java/util/TreeMap", name := "put", desc := "(Ljava/lang/Object;Ljava/lang/Object;)Ljava/lang/Object;" } : Jvm.MethodName)) ∈ lw_all := lw_g (lw_at lw_m7 118 rfl) rfl
theorem q1629 : (Jvm.Cond.publicMethod ({ cls := "java/util/TreeMap", name := "put", desc := "(Ljava/lang/Object;Ljava/lang/Object;)Ljava/lang/Object;" } : Jvm.MethodName)) ∈ lw_tbl := lw_at lw_m7 119 rfl
theorem q1630 : (Jvm.Cond.code ({ cls := "java/util/TreeMap", name := "put", desc := "(Ljava/lang/Object;Ljava/lang/Object;)Ljava/lang/Object;" } : Jvm.MethodName) prog_64_method_21_code (3 : Nat) (Option.some (Jvm.ClassFile.FieldType.object "java/lang/Object"))) ∈ lw_all := lw_g (lw_at lw_m7 120 rfl) rfl
theorem q1631 : (Jvm.Cond.methodLink "java/util/TreeMap" (127 : Nat) ({ cls := "java/util/TreeMap", name := "put", desc := "(Ljava/lang/Object;Ljava/lang/Object;Z)Ljava/lang/Object;" } : Jvm.MethodName)) ∈ lw_all := lw_g (lw_at lw_m7 121 rfl) rfl
theorem q1632 : (Jvm.Cond.privateMethod ({ cls := "java/util/TreeMap", name := "put", desc := "(Ljava/lang/Object;Ljava/lang/Object;Z)Ljava/lang/Object;" } : Jvm.MethodName)) ∈ lw_tbl := lw_at lw_m7 122 rfl
theorem q1633 : (Jvm.Cond.instanceMethod ({ cls := "java/util/TreeMap", name := "put", desc := "(Ljava/lang/Object;Ljava/lang/Object;Z)Ljava/lang/Object;" } : Jvm.MethodName)) ∈ lw_all := lw_g (lw_at lw_m7 123 rfl) rfl
theorem q1634 : (Jvm.Cond.code ({ cls := "java/util/TreeMap", name := "put", desc := "(Ljava/lang/Object;Ljava/lang/Object;Z)Ljava/lang/Object;" } : Jvm.MethodName) prog_64_method_31_code (10 : Nat) (Option.some (Jvm.ClassFile.FieldType.object "java/lang/Object"))) ∈ lw_all := lw_g (lw_at lw_m7 124 rfl) rfl
theorem q1635 : (Jvm.Cond.methodLink "java/util/TreeMap" (135 : Nat) ({ cls := "java/util/TreeMap", name := "addEntryToEmptyMap", desc := "(Ljava/lang/Object;Ljava/lang/Object;)V" } : Jvm.MethodName)) ∈ lw_all := lw_g (lw_at lw_m7 125 rfl) rfl
theorem q1636 : (Jvm.Cond.privateMethod ({ cls := "java/util/TreeMap", name := "addEntryToEmptyMap", desc := "(Ljava/lang/Object;Ljava/lang/Object;)V" } : Jvm.MethodName)) ∈ lw_tbl := lw_at lw_m7 126 rfl
theorem q1637 : (Jvm.Cond.instanceMethod ({ cls := "java/util/TreeMap", name := "addEntryToEmptyMap", desc := "(Ljava/lang/Object;Ljava/lang/Object;)V" } : Jvm.MethodName)) ∈ lw_all := lw_g (lw_at lw_m7 127 rfl) rfl
theorem q1638 : (Jvm.Cond.code ({ cls := "java/util/TreeMap", name := "addEntryToEmptyMap", desc := "(Ljava/lang/Object;Ljava/lang/Object;)V" } : Jvm.MethodName) prog_64_method_30_code (3 : Nat) (Option.none : Option Jvm.ClassFile.FieldType)) ∈ lw_all := lw_g (lw_at lw_m7 128 rfl) rfl
theorem q1639 : (Jvm.Cond.methodLink "java/util/TreeMap" (123 : Nat) ({ cls := "java/util/TreeMap", name := "compare", desc := "(Ljava/lang/Object;Ljava/lang/Object;)I" } : Jvm.MethodName)) ∈ lw_all := lw_g (lw_at lw_m7 129 rfl) rfl
theorem q1640 : (Jvm.Cond.instanceMethod ({ cls := "java/util/TreeMap", name := "compare", desc := "(Ljava/lang/Object;Ljava/lang/Object;)I" } : Jvm.MethodName)) ∈ lw_all := lw_g (lw_at lw_m7 130 rfl) rfl
theorem q1641 : (Jvm.Cond.selects "java/util/TreeMap" ({ cls := "java/util/TreeMap", name := "compare", desc := "(Ljava/lang/Object;Ljava/lang/Object;)I" } : Jvm.MethodName) ({ cls := "java/util/TreeMap", name := "compare", desc := "(Ljava/lang/Object;Ljava/lang/Object;)I" } : Jvm.MethodName)) ∈ lw_all := lw_g (lw_at lw_m7 131 rfl) rfl
theorem q1642 : (Jvm.Cond.code ({ cls := "java/util/TreeMap", name := "compare", desc := "(Ljava/lang/Object;Ljava/lang/Object;)I" } : Jvm.MethodName) prog_64_method_67_code (3 : Nat) (Option.some Jvm.ClassFile.FieldType.int)) ∈ lw_all := lw_g (lw_at lw_m7 132 rfl) rfl
theorem q1643 : (Jvm.Cond.classLink "java/util/TreeMap" (99 : Nat) "java/lang/Comparable") ∈ lw_all := lw_g (lw_at lw_m7 133 rfl) rfl
theorem q1644 : (Jvm.Cond.interfaceEntry "java/util/TreeMap" (107 : Nat)) ∈ lw_tbl := lw_at lw_m7 134 rfl
theorem q1645 : (Jvm.Cond.methodLink "java/util/TreeMap" (107 : Nat) ({ cls := "java/lang/Comparable", name := "compareTo", desc := "(Ljava/lang/Object;)I" } : Jvm.MethodName)) ∈ lw_all := lw_g (lw_at lw_m7 135 rfl) rfl
theorem q1646 : (Jvm.Cond.interfaceEntry "java/util/TreeMap" (117 : Nat)) ∈ lw_tbl := lw_at lw_m7 136 rfl
theorem q1647 : (Jvm.Cond.methodLink "java/util/TreeMap" (117 : Nat) ({ cls := "java/util/Comparator", name := "compare", desc := "(Ljava/lang/Object;Ljava/lang/Object;)I" } : Jvm.MethodName)) ∈ lw_all := lw_g (lw_at lw_m7 137 rfl) rfl
theorem q1648 : (Jvm.Cond.classLink "java/util/TreeMap" (59 : Nat) "java/util/TreeMap$Entry") ∈ lw_all := lw_g (lw_at lw_m7 138 rfl) rfl
theorem q1650 : (Jvm.Cond.methodLink "java/util/TreeMap" (167 : Nat) ({ cls := "java/util/TreeMap$Entry", name := "<init>", desc := "(Ljava/lang/Object;Ljava/lang/Object;Ljava/util/TreeMap$Entry;)V" } : Jvm.MethodName)) ∈ lw_all := lw_g (lw_at lw_m7 140 rfl) rfl
theorem q1656 : (Jvm.Cond.fieldLink "java/util/TreeMap" (105 : Nat) "java/util/TreeMap$Entry" "key" "Ljava/lang/Object;") ∈ lw_all := lw_g (lw_at lw_m7 146 rfl) rfl
theorem q1658 : (Jvm.Cond.fieldLink "java/util/TreeMap" (58 : Nat) "java/util/TreeMap$Entry" "value" "Ljava/lang/Object;") ∈ lw_all := lw_g (lw_at lw_m7 148 rfl) rfl
theorem q1659 : (Jvm.Cond.fieldLink "java/util/TreeMap" (111 : Nat) "java/util/TreeMap$Entry" "left" "Ljava/util/TreeMap$Entry;") ∈ lw_all := lw_g (lw_at lw_m7 149 rfl) rfl
theorem q1660 : (Jvm.Cond.fieldLink "java/util/TreeMap" (114 : Nat) "java/util/TreeMap$Entry" "right" "Ljava/util/TreeMap$Entry;") ∈ lw_all := lw_g (lw_at lw_m7 150 rfl) rfl
theorem q1662 : (Jvm.Cond.fieldLink "java/util/TreeMap" (124 : Nat) "java/util/TreeMap$Entry" "parent" "Ljava/util/TreeMap$Entry;") ∈ lw_all := lw_g (lw_at lw_m7 152 rfl) rfl
theorem q1664 : (Jvm.Cond.fieldLink "java/util/TreeMap" (290 : Nat) "java/util/TreeMap$Entry" "color" "Z") ∈ lw_all := lw_g (lw_at lw_m7 154 rfl) rfl
theorem q1678 : (Jvm.Cond.methodLink "java/util/TreeMap" (95 : Nat) ({ cls := "java/util/Objects", name := "requireNonNull", desc := "(Ljava/lang/Object;)Ljava/lang/Object;" } : Jvm.MethodName)) ∈ lw_all := lw_g (lw_at lw_m7 168 rfl) rfl
theorem q1681 : (Jvm.Cond.methodLink "java/util/TreeMap" (139 : Nat) ({ cls := "java/util/TreeMap", name := "addEntry", desc := "(Ljava/lang/Object;Ljava/lang/Object;Ljava/util/TreeMap$Entry;Z)V" } : Jvm.MethodName)) ∈ lw_all := lw_g (lw_at lw_m7 171 rfl) rfl
theorem q1682 : (Jvm.Cond.privateMethod ({ cls := "java/util/TreeMap", name := "addEntry", desc := "(Ljava/lang/Object;Ljava/lang/Object;Ljava/util/TreeMap$Entry;Z)V" } : Jvm.MethodName)) ∈ lw_tbl := lw_at lw_m7 172 rfl
theorem q1683 : (Jvm.Cond.instanceMethod ({ cls := "java/util/TreeMap", name := "addEntry", desc := "(Ljava/lang/Object;Ljava/lang/Object;Ljava/util/TreeMap$Entry;Z)V" } : Jvm.MethodName)) ∈ lw_all := lw_g (lw_at lw_m7 173 rfl) rfl
theorem q1684 : (Jvm.Cond.code ({ cls := "java/util/TreeMap", name := "addEntry", desc := "(Ljava/lang/Object;Ljava/lang/Object;Ljava/util/TreeMap$Entry;Z)V" } : Jvm.MethodName) prog_64_method_29_code (6 : Nat) (Option.none : Option Jvm.ClassFile.FieldType)) ∈ lw_all := lw_g (lw_at lw_m7 174 rfl) rfl
theorem q1685 : (Jvm.Cond.methodLink "java/util/TreeMap" (170 : Nat) ({ cls := "java/util/TreeMap", name := "fixAfterInsertion", desc := "(Ljava/util/TreeMap$Entry;)V" } : Jvm.MethodName)) ∈ lw_all := lw_g (lw_at lw_m7 175 rfl) rfl
theorem q1686 : (Jvm.Cond.privateMethod ({ cls := "java/util/TreeMap", name := "fixAfterInsertion", desc := "(Ljava/util/TreeMap$Entry;)V" } : Jvm.MethodName)) ∈ lw_tbl := lw_at lw_m7 176 rfl
theorem q1687 : (Jvm.Cond.instanceMethod ({ cls := "java/util/TreeMap", name := "fixAfterInsertion", desc := "(Ljava/util/TreeMap$Entry;)V" } : Jvm.MethodName)) ∈ lw_all := lw_g (lw_at lw_m7 177 rfl) rfl
theorem q1688 : (Jvm.Cond.code ({ cls := "java/util/TreeMap", name := "fixAfterInsertion", desc := "(Ljava/util/TreeMap$Entry;)V" } : Jvm.MethodName) prog_64_method_83_code (3 : Nat) (Option.none : Option Jvm.ClassFile.FieldType)) ∈ lw_all := lw_g (lw_at lw_m7 178 rfl) rfl
theorem q1689 : (Jvm.Cond.methodLink "java/util/TreeMap" (294 : Nat) ({ cls := "java/util/TreeMap", name := "parentOf", desc := "(Ljava/util/TreeMap$Entry;)Ljava/util/TreeMap$Entry;" } : Jvm.MethodName)) ∈ lw_all := lw_g (lw_at lw_m7 179 rfl) rfl
theorem q1690 : (Jvm.Cond.static ({ cls := "java/util/TreeMap", name := "parentOf", desc := "(Ljava/util/TreeMap$Entry;)Ljava/util/TreeMap$Entry;" } : Jvm.MethodName)) ∈ lw_all := lw_g (lw_at lw_m7 180 rfl) rfl
theorem q1691 : (Jvm.Cond.code ({ cls := "java/util/TreeMap", name := "parentOf", desc := "(Ljava/util/TreeMap$Entry;)Ljava/util/TreeMap$Entry;" } : Jvm.MethodName) prog_64_method_77_code (1 : Nat) (Option.some (Jvm.ClassFile.FieldType.object "java/util/TreeMap$Entry"))) ∈ lw_all := lw_g (lw_at lw_m7 181 rfl) rfl
theorem q1692 : (Jvm.Cond.methodLink "java/util/TreeMap" (297 : Nat) ({ cls := "java/util/TreeMap", name := "leftOf", desc := "(Ljava/util/TreeMap$Entry;)Ljava/util/TreeMap$Entry;" } : Jvm.MethodName)) ∈ lw_all := lw_g (lw_at lw_m7 182 rfl) rfl
theorem q1693 : (Jvm.Cond.static ({ cls := "java/util/TreeMap", name := "leftOf", desc := "(Ljava/util/TreeMap$Entry;)Ljava/util/TreeMap$Entry;" } : Jvm.MethodName)) ∈ lw_all := lw_g (lw_at lw_m7 183 rfl) rfl
theorem q1694 : (Jvm.Cond.code ({ cls := "java/util/TreeMap", name := "leftOf", desc := "(Ljava/util/TreeMap$Entry;)Ljava/util/TreeMap$Entry;" } : Jvm.MethodName) prog_64_method_79_code (1 : Nat) (Option.some (Jvm.ClassFile.FieldType.object "java/util/TreeMap$Entry"))) ∈ lw_all := lw_g (lw_at lw_m7 184 rfl) rfl
theorem q1695 : (Jvm.Cond.methodLink "java/util/TreeMap" (300 : Nat) ({ cls := "java/util/TreeMap", name := "rightOf", desc := "(Ljava/util/TreeMap$Entry;)Ljava/util/TreeMap$Entry;" } : Jvm.MethodName)) ∈ lw_all := lw_g (lw_at lw_m7 185 rfl) rfl
theorem q1696 : (Jvm.Cond.static ({ cls := "java/util/TreeMap", name := "rightOf", desc := "(Ljava/util/TreeMap$Entry;)Ljava/util/TreeMap$Entry;" } : Jvm.MethodName)) ∈ lw_all := lw_g (lw_at lw_m7 186 rfl) rfl
theorem q1697 : (Jvm.Cond.code ({ cls := "java/util/TreeMap", name := "rightOf", desc := "(Ljava/util/TreeMap$Entry;)Ljava/util/TreeMap$Entry;" } : Jvm.MethodName) prog_64_method_80_code (1 : Nat) (Option.some (Jvm.ClassFile.FieldType.object "java/util/TreeMap$Entry"))) ∈ lw_all := lw_g (lw_at lw_m7 187 rfl) rfl
theorem q1698 : (Jvm.Cond.methodLink "java/util/TreeMap" (303 : Nat) ({ cls := "java/util/TreeMap", name := "colorOf", desc := "(Ljava/util/TreeMap$Entry;)Z" } : Jvm.MethodName)) ∈ lw_all := lw_g (lw_at lw_m7 188 rfl) rfl
theorem q1699 : (Jvm.Cond.static ({ cls := "java/util/TreeMap", name := "colorOf", desc := "(Ljava/util/TreeMap$Entry;)Z" } : Jvm.MethodName)) ∈ lw_all := lw_g (lw_at lw_m7 189 rfl) rfl
theorem q1700 : (Jvm.Cond.code ({ cls := "java/util/TreeMap", name := "colorOf", desc := "(Ljava/util/TreeMap$Entry;)Z" } : Jvm.MethodName) prog_64_method_76_code (1 : Nat) (Option.some Jvm.ClassFile.FieldType.boolean)) ∈ lw_all := lw_g (lw_at lw_m7 190 rfl) rfl
theorem q1701 : (Jvm.Cond.methodLink "java/util/TreeMap" (307 : Nat) ({ cls := "java/util/TreeMap", name := "setColor", desc := "(Ljava/util/TreeMap$Entry;Z)V" } : Jvm.MethodName)) ∈ lw_all := lw_g (lw_at lw_m7 191 rfl) rfl
theorem q1702 : (Jvm.Cond.static ({ cls := "java/util/TreeMap", name := "setColor", desc := "(Ljava/util/TreeMap$Entry;Z)V" } : Jvm.MethodName)) ∈ lw_all := lw_g (lw_at lw_m7 192 rfl) rfl
theorem q1703 : (Jvm.Cond.code ({ cls := "java/util/TreeMap", name := "setColor", desc := "(Ljava/util/TreeMap$Entry;Z)V" } : Jvm.MethodName) prog_64_method_78_code (2 : Nat) (Option.none : Option Jvm.ClassFile.FieldType)) ∈ lw_all := lw_g (lw_at lw_m7 193 rfl) rfl
theorem q1704 : (Jvm.Cond.methodLink "java/util/TreeMap" (311 : Nat) ({ cls := "java/util/TreeMap", name := "rotateLeft", desc := "(Ljava/util/TreeMap$Entry;)V" } : Jvm.MethodName)) ∈ lw_all := lw_g (lw_at lw_m7 194 rfl) rfl
theorem q1705 : (Jvm.Cond.privateMethod ({ cls := "java/util/TreeMap", name := "rotateLeft", desc := "(Ljava/util/TreeMap$Entry;)V" } : Jvm.MethodName)) ∈ lw_tbl := lw_at lw_m7 195 rfl
theorem q1706 : (Jvm.Cond.instanceMethod ({ cls := "java/util/TreeMap", name := "rotateLeft", desc := "(Ljava/util/TreeMap$Entry;)V" } : Jvm.MethodName)) ∈ lw_all := lw_g (lw_at lw_m7 196 rfl) rfl
theorem q1707 : (Jvm.Cond.code ({ cls := "java/util/TreeMap", name := "rotateLeft", desc := "(Ljava/util/TreeMap$Entry;)V" } : Jvm.MethodName) prog_64_method_81_code (3 : Nat) (Option.none : Option Jvm.ClassFile.FieldType)) ∈ lw_all := lw_g (lw_at lw_m7 197 rfl) rfl
theorem q1708 : (Jvm.Cond.methodLink "java/util/TreeMap" (314 : Nat) ({ cls := "java/util/TreeMap", name := "rotateRight", desc := "(Ljava/util/TreeMap$Entry;)V" } : Jvm.MethodName)) ∈ lw_all := lw_g (lw_at lw_m7 198 rfl) rfl
theorem q1709 : (Jvm.Cond.privateMethod ({ cls := "java/util/TreeMap", name := "rotateRight", desc := "(Ljava/util/TreeMap$Entry;)V" } : Jvm.MethodName)) ∈ lw_tbl := lw_at lw_m7 199 rfl
theorem q1710 : (Jvm.Cond.instanceMethod ({ cls := "java/util/TreeMap", name := "rotateRight", desc := "(Ljava/util/TreeMap$Entry;)V" } : Jvm.MethodName)) ∈ lw_all := lw_g (lw_at lw_m7 200 rfl) rfl
theorem q1711 : (Jvm.Cond.code ({ cls := "java/util/TreeMap", name := "rotateRight", desc := "(Ljava/util/TreeMap$Entry;)V" } : Jvm.MethodName) prog_64_method_82_code (3 : Nat) (Option.none : Option Jvm.ClassFile.FieldType)) ∈ lw_all := lw_g (lw_at lw_m7 201 rfl) rfl
theorem q1721 : (Jvm.Cond.selects "java/util/TreeMap" ({ cls := "java/util/NavigableMap", name := "navigableKeySet", desc := "()Ljava/util/NavigableSet;" } : Jvm.MethodName) ({ cls := "java/util/TreeMap", name := "navigableKeySet", desc := "()Ljava/util/NavigableSet;" } : Jvm.MethodName)) ∈ lw_all := lw_g (lw_at lw_m7 211 rfl) rfl
theorem q1722 : (Jvm.Cond.unhidden "java/util/TreeMap" "navigableKeySet" "()Ljava/util/NavigableSet;") ∈ lw_tbl := lw_at lw_m7 212 rfl
theorem q1723 : (Jvm.Cond.instanceMethod ({ cls := "java/util/TreeMap", name := "navigableKeySet", desc := "()Ljava/util/NavigableSet;" } : Jvm.MethodName)) ∈ lw_all := lw_g (lw_at lw_m7 213 rfl) rfl
theorem q1724 : (Jvm.Cond.publicMethod ({ cls := "java/util/TreeMap", name := "navigableKeySet", desc := "()Ljava/util/NavigableSet;" } : Jvm.MethodName)) ∈ lw_tbl := lw_at lw_m7 214 rfl
theorem q1725 : (Jvm.Cond.code ({ cls := "java/util/TreeMap", name := "navigableKeySet", desc := "()Ljava/util/NavigableSet;" } : Jvm.MethodName) prog_64_method_50_code (2 : Nat) (Option.some (Jvm.ClassFile.FieldType.object "java/util/NavigableSet"))) ∈ lw_all := lw_g (lw_at lw_m7 215 rfl) rfl
theorem q1726 : (Jvm.Cond.classLink "java/util/TreeMap" (222 : Nat) "java/util/TreeMap$KeySet") ∈ lw_all := lw_g (lw_at lw_m7 216 rfl) rfl
theorem q1728 : (Jvm.Cond.methodLink "java/util/TreeMap" (224 : Nat) ({ cls := "java/util/TreeMap$KeySet", name := "<init>", desc := "(Ljava/util/NavigableMap;)V" } : Jvm.MethodName)) ∈ lw_all := lw_g (lw_at lw_m7 218 rfl) rfl
theorem q1748 : (Jvm.Cond.instanceMethod ({ cls := "java/util/TreeMap", name := "keyIterator", desc := "()Ljava/util/Iterator;" } : Jvm.MethodName)) ∈ lw_all := lw_g (lw_at lw_m7 238 rfl) rfl
theorem q1749 : (Jvm.Cond.selects "java/util/TreeMap" ({ cls := "java/util/TreeMap", name := "keyIterator", desc := "()Ljava/util/Iterator;" } : Jvm.MethodName) ({ cls := "java/util/TreeMap", name := "keyIterator", desc := "()Ljava/util/Iterator;" } : Jvm.MethodName)) ∈ lw_all := lw_g (lw_at lw_m7 239 rfl) rfl
theorem q1750 : (Jvm.Cond.code ({ cls := "java/util/TreeMap", name := "keyIterator", desc := "()Ljava/util/Iterator;" } : Jvm.MethodName) prog_64_method_65_code (1 : Nat) (Option.some (Jvm.ClassFile.FieldType.object "java/util/Iterator"))) ∈ lw_all := lw_g (lw_at lw_m8 0 rfl) rfl
theorem q1751 : (Jvm.Cond.classLink "java/util/TreeMap" (269 : Nat) "java/util/TreeMap$KeyIterator") ∈ lw_all := lw_g (lw_at lw_m8 1 rfl) rfl
theorem q1753 : (Jvm.Cond.methodLink "java/util/TreeMap" (54 : Nat) ({ cls := "java/util/TreeMap", name := "getFirstEntry", desc := "()Ljava/util/TreeMap$Entry;" } : Jvm.MethodName)) ∈ lw_all := lw_g (lw_at lw_m8 3 rfl) rfl
theorem q1754 : (Jvm.Cond.instanceMethod ({ cls := "java/util/TreeMap", name := "getFirstEntry", desc := "()Ljava/util/TreeMap$Entry;" } : Jvm.MethodName)) ∈ lw_all := lw_g (lw_at lw_m8 4 rfl) rfl
theorem q1755 : (Jvm.Cond.selects "java/util/TreeMap" ({ cls := "java/util/TreeMap", name := "getFirstEntry", desc := "()Ljava/util/TreeMap$Entry;" } : Jvm.MethodName) ({ cls := "java/util/TreeMap", name := "getFirstEntry", desc := "()Ljava/util/TreeMap$Entry;" } : Jvm.MethodName)) ∈ lw_all := lw_g (lw_at lw_m8 5 rfl) rfl
theorem q1756 : (Jvm.Cond.code ({ cls := "java/util/TreeMap", name := "getFirstEntry", desc := "()Ljava/util/TreeMap$Entry;" } : Jvm.MethodName) prog_64_method_72_code (2 : Nat) (Option.some (Jvm.ClassFile.FieldType.object "java/util/TreeMap$Entry"))) ∈ lw_all := lw_g (lw_at lw_m8 6 rfl) rfl
theorem q1757 : (Jvm.Cond.methodLink "java/util/TreeMap" (271 : Nat) ({ cls := "java/util/TreeMap$KeyIterator", name := "<init>", desc := "(Ljava/util/TreeMap;Ljava/util/TreeMap$Entry;)V" } : Jvm.MethodName)) ∈ lw_all := lw_g (lw_at lw_m8 7 rfl) rfl
theorem q1813 : (Jvm.Cond.static ({ cls := "java/util/TreeMap", name := "successor", desc := "(Ljava/util/TreeMap$Entry;)Ljava/util/TreeMap$Entry;" } : Jvm.MethodName)) ∈ lw_all := lw_g (lw_at lw_m8 63 rfl) rfl
theorem q1814 : (Jvm.Cond.code ({ cls := "java/util/TreeMap", name := "successor", desc := "(Ljava/util/TreeMap$Entry;)Ljava/util/TreeMap$Entry;" } : Jvm.MethodName) prog_64_method_74_code (3 : Nat) (Option.some (Jvm.ClassFile.FieldType.object "java/util/TreeMap$Entry"))) ∈ lw_all := lw_g (lw_at lw_m8 64 rfl) rfl
theorem q2307 : (Jvm.Cond.castable "java/util/TreeMap" "java/lang/Object") ∈ lw_tbl := lw_at lw_m10 77 rfl
theorem in_J29 : ∀ w ∈ wsJ290, w ∈ lw_all := lw_in wsJ290 [1601, 1603, 1587, 1589, 1591, 1593, 1595, 1597, 1599] (by decide +kernel) (by decide +kernel)

/-! java/util/TreeMap$Entry -/
set_option maxRecDepth 100000
def RJ30 : String := "java/util/TreeMap$Entry"
def TJ30 : u_T := fun k => match k with
  | 0 => ("java/util/TreeMap$Entry", "key", "Ljava/lang/Object;", false)
  | 1 => ("java/util/TreeMap$Entry", "value", "Ljava/lang/Object;", false)
  | 2 => ("java/util/TreeMap$Entry", "left", "Ljava/util/TreeMap$Entry;", false)
  | 3 => ("java/util/TreeMap$Entry", "right", "Ljava/util/TreeMap$Entry;", false)
  | 4 => ("java/util/TreeMap$Entry", "parent", "Ljava/util/TreeMap$Entry;", false)
  | _ => ("java/util/TreeMap$Entry", "color", "Z", false)
def tyJ30 : Nat → FieldType := fun k => match k with
  | 0 => .object "java/lang/Object"
  | 1 => .object "java/lang/Object"
  | 2 => .object "java/util/TreeMap$Entry"
  | 3 => .object "java/util/TreeMap$Entry"
  | 4 => .object "java/util/TreeMap$Entry"
  | _ => .boolean
abbrev wsJ300 : List Cond := u_ws RJ30 TJ30 6
theorem nmJ30 : ∀ a, a < 6 → ∀ b, b < 6 → a ≠ b → (TJ30 a).2.1 ≠ (TJ30 b).2.1 := by decide +kernel
theorem tyJ30_ok : ∀ k, k < 6 → parseFieldDescriptor (TJ30 k).2.2.1 = some (tyJ30 k) := by decide +kernel
abbrev cJ30_init : ByteArray := prog_65_method_1_code
def yJ30_init : MethodName := ⟨RJ30, "<init>", "(Ljava/lang/Object;Ljava/lang/Object;Ljava/util/TreeMap$Entry;)V"⟩
def dkwJ30_init_1 : List UInt8 := [177]
abbrev dktJ30_init_1 : List UInt8 := dkwJ30_init_1 ++ []
def dkwJ30_init_0 : List UInt8 := [42, 183, 0, 3, 42, 4, 181, 0, 9, 42, 43, 181, 0, 15, 42, 44, 181, 0, 19, 42, 45, 181, 0, 22]
abbrev dktJ30_init_0 : List UInt8 := dkwJ30_init_0 ++ dktJ30_init_1
theorem dksJ30_init_0 : cJ30_init.data.toList.drop 0 = dktJ30_init_0 := by decide +kernel
theorem dksJ30_init_1 : cJ30_init.data.toList.drop 24 = dktJ30_init_1 := dk_seg dksJ30_init_0 24 rfl rfl
theorem dJ30_init_0 : decode cJ30_init 0 = .ok (.aload_n 0, 1) := dk_42 (dk_at dksJ30_init_0 0 rfl rfl)
theorem dJ30_init_1 : decode cJ30_init 1 = .ok (.invokespecial 3, 3) := dk_183 0 3 (dk_at dksJ30_init_0 1 rfl rfl)
theorem dJ30_init_4 : decode cJ30_init 4 = .ok (.aload_n 0, 1) := dk_42 (dk_at dksJ30_init_0 4 rfl rfl)
theorem dJ30_init_5 : decode cJ30_init 5 = .ok (.iconst 1, 1) := dk_4 (dk_at dksJ30_init_0 5 rfl rfl)
theorem dJ30_init_6 : decode cJ30_init 6 = .ok (.putfield 9, 3) := dk_181 0 9 (dk_at dksJ30_init_0 6 rfl rfl)
theorem dJ30_init_9 : decode cJ30_init 9 = .ok (.aload_n 0, 1) := dk_42 (dk_at dksJ30_init_0 9 rfl rfl)
theorem dJ30_init_10 : decode cJ30_init 10 = .ok (.aload_n 1, 1) := dk_43 (dk_at dksJ30_init_0 10 rfl rfl)
theorem dJ30_init_11 : decode cJ30_init 11 = .ok (.putfield 15, 3) := dk_181 0 15 (dk_at dksJ30_init_0 11 rfl rfl)
theorem dJ30_init_14 : decode cJ30_init 14 = .ok (.aload_n 0, 1) := dk_42 (dk_at dksJ30_init_0 14 rfl rfl)
theorem dJ30_init_15 : decode cJ30_init 15 = .ok (.aload_n 2, 1) := dk_44 (dk_at dksJ30_init_0 15 rfl rfl)
theorem dJ30_init_16 : decode cJ30_init 16 = .ok (.putfield 19, 3) := dk_181 0 19 (dk_at dksJ30_init_0 16 rfl rfl)
theorem dJ30_init_19 : decode cJ30_init 19 = .ok (.aload_n 0, 1) := dk_42 (dk_at dksJ30_init_0 19 rfl rfl)
theorem dJ30_init_20 : decode cJ30_init 20 = .ok (.aload_n 3, 1) := dk_45 (dk_at dksJ30_init_0 20 rfl rfl)
theorem dJ30_init_21 : decode cJ30_init 21 = .ok (.putfield 22, 3) := dk_181 0 22 (dk_at dksJ30_init_0 21 rfl rfl)
theorem dJ30_init_24 : decode cJ30_init 24 = .ok (.return_, 1) := dk_177 (dk_at dksJ30_init_1 0 rfl rfl)
theorem q115 : (Jvm.Cond.initialized "java/util/TreeMap$Entry") ∈ lw_all := lw_g (lw_at lw_m1 45 rfl) rfl
theorem q357 : (Jvm.Cond.selects "java/util/TreeMap$Entry" ({ cls := "java/lang/Object", name := "getClass", desc := "()Ljava/lang/Class;" } : Jvm.MethodName) ({ cls := "java/lang/Object", name := "getClass", desc := "()Ljava/lang/Class;" } : Jvm.MethodName)) ∈ lw_all := lw_g (lw_at lw_m2 47 rfl) rfl
theorem q1649 : (Jvm.Cond.instantiable "java/util/TreeMap$Entry" (6 : Nat)) ∈ lw_all := lw_g (lw_at lw_m7 139 rfl) rfl
theorem q1651 : (Jvm.Cond.instanceMethod ({ cls := "java/util/TreeMap$Entry", name := "<init>", desc := "(Ljava/lang/Object;Ljava/lang/Object;Ljava/util/TreeMap$Entry;)V" } : Jvm.MethodName)) ∈ lw_all := lw_g (lw_at lw_m7 141 rfl) rfl
theorem q1652 : (Jvm.Cond.code ({ cls := "java/util/TreeMap$Entry", name := "<init>", desc := "(Ljava/lang/Object;Ljava/lang/Object;Ljava/util/TreeMap$Entry;)V" } : Jvm.MethodName) prog_65_method_1_code (4 : Nat) (Option.none : Option Jvm.ClassFile.FieldType)) ∈ lw_all := lw_g (lw_at lw_m7 142 rfl) rfl
theorem q1653 : (Jvm.Cond.methodLink "java/util/TreeMap$Entry" (3 : Nat) ({ cls := "java/lang/Object", name := "<init>", desc := "()V" } : Jvm.MethodName)) ∈ lw_all := lw_g (lw_at lw_m7 143 rfl) rfl
theorem q1654 : (Jvm.Cond.fieldLink "java/util/TreeMap$Entry" (15 : Nat) "java/util/TreeMap$Entry" "key" "Ljava/lang/Object;") ∈ lw_all := lw_g (lw_at lw_m7 144 rfl) rfl
theorem q1657 : (Jvm.Cond.fieldLink "java/util/TreeMap$Entry" (19 : Nat) "java/util/TreeMap$Entry" "value" "Ljava/lang/Object;") ∈ lw_all := lw_g (lw_at lw_m7 147 rfl) rfl
theorem q1661 : (Jvm.Cond.fieldLink "java/util/TreeMap$Entry" (22 : Nat) "java/util/TreeMap$Entry" "parent" "Ljava/util/TreeMap$Entry;") ∈ lw_all := lw_g (lw_at lw_m7 151 rfl) rfl
theorem q1663 : (Jvm.Cond.fieldLink "java/util/TreeMap$Entry" (9 : Nat) "java/util/TreeMap$Entry" "color" "Z") ∈ lw_all := lw_g (lw_at lw_m7 153 rfl) rfl
theorem q1665 : (Jvm.Cond.lays "java/util/TreeMap$Entry" "java/util/TreeMap$Entry" "key" "Ljava/lang/Object;") ∈ lw_all := lw_g (lw_at lw_m7 155 rfl) rfl
theorem q1666 : (Jvm.Cond.soleField "java/util/TreeMap$Entry" "key") ∈ lw_all := lw_g (lw_at lw_m7 156 rfl) rfl
theorem q1667 : (Jvm.Cond.lays "java/util/TreeMap$Entry" "java/util/TreeMap$Entry" "value" "Ljava/lang/Object;") ∈ lw_all := lw_g (lw_at lw_m7 157 rfl) rfl
theorem q1668 : (Jvm.Cond.soleField "java/util/TreeMap$Entry" "value") ∈ lw_all := lw_g (lw_at lw_m7 158 rfl) rfl
theorem q1669 : (Jvm.Cond.lays "java/util/TreeMap$Entry" "java/util/TreeMap$Entry" "left" "Ljava/util/TreeMap$Entry;") ∈ lw_all := lw_g (lw_at lw_m7 159 rfl) rfl
theorem q1670 : (Jvm.Cond.soleField "java/util/TreeMap$Entry" "left") ∈ lw_all := lw_g (lw_at lw_m7 160 rfl) rfl
theorem q1671 : (Jvm.Cond.lays "java/util/TreeMap$Entry" "java/util/TreeMap$Entry" "right" "Ljava/util/TreeMap$Entry;") ∈ lw_all := lw_g (lw_at lw_m7 161 rfl) rfl
theorem q1672 : (Jvm.Cond.soleField "java/util/TreeMap$Entry" "right") ∈ lw_all := lw_g (lw_at lw_m7 162 rfl) rfl
theorem q1673 : (Jvm.Cond.lays "java/util/TreeMap$Entry" "java/util/TreeMap$Entry" "parent" "Ljava/util/TreeMap$Entry;") ∈ lw_all := lw_g (lw_at lw_m7 163 rfl) rfl
theorem q1674 : (Jvm.Cond.soleField "java/util/TreeMap$Entry" "parent") ∈ lw_all := lw_g (lw_at lw_m7 164 rfl) rfl
theorem q1675 : (Jvm.Cond.lays "java/util/TreeMap$Entry" "java/util/TreeMap$Entry" "color" "Z") ∈ lw_all := lw_g (lw_at lw_m7 165 rfl) rfl
theorem q1676 : (Jvm.Cond.soleField "java/util/TreeMap$Entry" "color") ∈ lw_all := lw_g (lw_at lw_m7 166 rfl) rfl
theorem q1677 : (Jvm.Cond.superclass "java/util/TreeMap$Entry" "java/lang/Object") ∈ lw_all := lw_g (lw_at lw_m7 167 rfl) rfl
theorem q2308 : (Jvm.Cond.castable "java/util/TreeMap$Entry" "java/lang/Object") ∈ lw_tbl := lw_at lw_m10 78 rfl
theorem in_J30 : ∀ w ∈ wsJ300, w ∈ lw_all := lw_in wsJ300 [1665, 1667, 1669, 1671, 1673, 1675] (by decide +kernel) (by decide +kernel)

/-! java/util/TreeMap$KeySet -/
set_option maxRecDepth 100000
def RJ31 : String := "java/util/TreeMap$KeySet"
def TJ31 : u_T := fun k => match k with
  | _ => ("java/util/TreeMap$KeySet", "m", "Ljava/util/NavigableMap;", true)
def tyJ31 : Nat → FieldType := fun k => match k with
  | _ => .object "java/util/NavigableMap"
abbrev wsJ310 : List Cond := u_ws RJ31 TJ31 1
theorem nmJ31 : ∀ a, a < 1 → ∀ b, b < 1 → a ≠ b → (TJ31 a).2.1 ≠ (TJ31 b).2.1 := by decide +kernel
theorem tyJ31_ok : ∀ k, k < 1 → parseFieldDescriptor (TJ31 k).2.2.1 = some (tyJ31 k) := by decide +kernel
abbrev cJ31_size : ByteArray := prog_67_method_4_code
def yJ31_size : MethodName := ⟨RJ31, "size", "()I"⟩
def dkwJ31_size_0 : List UInt8 := [42, 180, 0, 7, 185, 0, 26, 1, 0, 172]
abbrev dktJ31_size_0 : List UInt8 := dkwJ31_size_0 ++ []
theorem dksJ31_size_0 : cJ31_size.data.toList.drop 0 = dktJ31_size_0 := by decide +kernel
theorem dJ31_size_0 : decode cJ31_size 0 = .ok (.aload_n 0, 1) := dk_42 (dk_at dksJ31_size_0 0 rfl rfl)
theorem dJ31_size_1 : decode cJ31_size 1 = .ok (.getfield 7, 3) := dk_180 0 7 (dk_at dksJ31_size_0 1 rfl rfl)
theorem dJ31_size_4 : decode cJ31_size 4 = .ok (.invokeinterface 26 1, 5) := by decide +kernel
theorem dJ31_size_9 : decode cJ31_size 9 = .ok (.ireturn, 1) := dk_172 (dk_at dksJ31_size_0 9 rfl rfl)
abbrev cJ31_init : ByteArray := prog_67_method_1_code
def yJ31_init : MethodName := ⟨RJ31, "<init>", "(Ljava/util/NavigableMap;)V"⟩
def dkwJ31_init_0 : List UInt8 := [42, 183, 0, 1, 42, 43, 181, 0, 7, 177]
abbrev dktJ31_init_0 : List UInt8 := dkwJ31_init_0 ++ []
theorem dksJ31_init_0 : cJ31_init.data.toList.drop 0 = dktJ31_init_0 := by decide +kernel
theorem dJ31_init_0 : decode cJ31_init 0 = .ok (.aload_n 0, 1) := dk_42 (dk_at dksJ31_init_0 0 rfl rfl)
theorem dJ31_init_1 : decode cJ31_init 1 = .ok (.invokespecial 1, 3) := dk_183 0 1 (dk_at dksJ31_init_0 1 rfl rfl)
theorem dJ31_init_4 : decode cJ31_init 4 = .ok (.aload_n 0, 1) := dk_42 (dk_at dksJ31_init_0 4 rfl rfl)
theorem dJ31_init_5 : decode cJ31_init 5 = .ok (.aload_n 1, 1) := dk_43 (dk_at dksJ31_init_0 5 rfl rfl)
theorem dJ31_init_6 : decode cJ31_init 6 = .ok (.putfield 7, 3) := dk_181 0 7 (dk_at dksJ31_init_0 6 rfl rfl)
theorem dJ31_init_9 : decode cJ31_init 9 = .ok (.return_, 1) := dk_177 (dk_at dksJ31_init_0 9 rfl rfl)
abbrev cJ31_iterator : ByteArray := prog_67_method_2_code
def yJ31_iterator : MethodName := ⟨RJ31, "iterator", "()Ljava/util/Iterator;"⟩
def dkwJ31_iterator_1 : List UInt8 := [180, 0, 7, 192, 0, 19, 182, 0, 21, 176]
abbrev dktJ31_iterator_1 : List UInt8 := dkwJ31_iterator_1 ++ []
def dkwJ31_iterator_0 : List UInt8 := [42, 180, 0, 7, 193, 0, 13, 153, 0, 14, 42, 180, 0, 7, 192, 0, 13, 182, 0, 15, 176, 42]
abbrev dktJ31_iterator_0 : List UInt8 := dkwJ31_iterator_0 ++ dktJ31_iterator_1
theorem dksJ31_iterator_0 : cJ31_iterator.data.toList.drop 0 = dktJ31_iterator_0 := by decide +kernel
theorem dksJ31_iterator_1 : cJ31_iterator.data.toList.drop 22 = dktJ31_iterator_1 := dk_seg dksJ31_iterator_0 22 rfl rfl
theorem dJ31_iterator_0 : decode cJ31_iterator 0 = .ok (.aload_n 0, 1) := dk_42 (dk_at dksJ31_iterator_0 0 rfl rfl)
theorem dJ31_iterator_1 : decode cJ31_iterator 1 = .ok (.getfield 7, 3) := dk_180 0 7 (dk_at dksJ31_iterator_0 1 rfl rfl)
theorem dJ31_iterator_4 : decode cJ31_iterator 4 = .ok (.instanceof 13, 3) := dk_193 0 13 (dk_at dksJ31_iterator_0 4 rfl rfl)
theorem dJ31_iterator_7 : decode cJ31_iterator 7 = .ok (.ifCond .eq 14, 3) := dk_153 0 14 (dk_at dksJ31_iterator_0 7 rfl rfl)
theorem dJ31_iterator_10 : decode cJ31_iterator 10 = .ok (.aload_n 0, 1) := dk_42 (dk_at dksJ31_iterator_0 10 rfl rfl)
theorem dJ31_iterator_11 : decode cJ31_iterator 11 = .ok (.getfield 7, 3) := dk_180 0 7 (dk_at dksJ31_iterator_0 11 rfl rfl)
theorem dJ31_iterator_14 : decode cJ31_iterator 14 = .ok (.checkcast 13, 3) := dk_192 0 13 (dk_at dksJ31_iterator_0 14 rfl rfl)
theorem dJ31_iterator_17 : decode cJ31_iterator 17 = .ok (.invokevirtual 15, 3) := dk_182 0 15 (dk_at dksJ31_iterator_0 17 rfl rfl)
theorem dJ31_iterator_20 : decode cJ31_iterator 20 = .ok (.areturn, 1) := dk_176 (dk_at dksJ31_iterator_0 20 rfl rfl)
theorem dJ31_iterator_21 : decode cJ31_iterator 21 = .ok (.aload_n 0, 1) := dk_42 (dk_at dksJ31_iterator_0 21 rfl rfl)
theorem dJ31_iterator_22 : decode cJ31_iterator 22 = .ok (.getfield 7, 3) := dk_180 0 7 (dk_at dksJ31_iterator_1 0 rfl rfl)
theorem dJ31_iterator_25 : decode cJ31_iterator 25 = .ok (.checkcast 19, 3) := dk_192 0 19 (dk_at dksJ31_iterator_1 3 rfl rfl)
theorem dJ31_iterator_28 : decode cJ31_iterator 28 = .ok (.invokevirtual 21, 3) := dk_182 0 21 (dk_at dksJ31_iterator_1 6 rfl rfl)
theorem dJ31_iterator_31 : decode cJ31_iterator 31 = .ok (.areturn, 1) := dk_176 (dk_at dksJ31_iterator_1 9 rfl rfl)
theorem q116 : (Jvm.Cond.initialized "java/util/TreeMap$KeySet") ∈ lw_all := lw_g (lw_at lw_m1 46 rfl) rfl
theorem q359 : (Jvm.Cond.selects "java/util/TreeMap$KeySet" ({ cls := "java/lang/Object", name := "getClass", desc := "()Ljava/lang/Class;" } : Jvm.MethodName) ({ cls := "java/lang/Object", name := "getClass", desc := "()Ljava/lang/Class;" } : Jvm.MethodName)) ∈ lw_all := lw_g (lw_at lw_m2 49 rfl) rfl
theorem q1503 : (Jvm.Cond.selects "java/util/TreeMap$KeySet" ({ cls := "java/util/AbstractCollection", name := "size", desc := "()I" } : Jvm.MethodName) ({ cls := "java/util/TreeMap$KeySet", name := "size", desc := "()I" } : Jvm.MethodName)) ∈ lw_all := lw_g (lw_at lw_m6 233 rfl) rfl
theorem q1504 : (Jvm.Cond.instanceMethod ({ cls := "java/util/TreeMap$KeySet", name := "size", desc := "()I" } : Jvm.MethodName)) ∈ lw_all := lw_g (lw_at lw_m6 234 rfl) rfl
theorem q1505 : (Jvm.Cond.code ({ cls := "java/util/TreeMap$KeySet", name := "size", desc := "()I" } : Jvm.MethodName) prog_67_method_4_code (1 : Nat) (Option.some Jvm.ClassFile.FieldType.int)) ∈ lw_all := lw_g (lw_at lw_m6 235 rfl) rfl
theorem q1506 : (Jvm.Cond.interfaceEntry "java/util/TreeMap$KeySet" (26 : Nat)) ∈ lw_tbl := lw_at lw_m6 236 rfl
theorem q1727 : (Jvm.Cond.instantiable "java/util/TreeMap$KeySet" (1 : Nat)) ∈ lw_all := lw_g (lw_at lw_m7 217 rfl) rfl
theorem q1729 : (Jvm.Cond.instanceMethod ({ cls := "java/util/TreeMap$KeySet", name := "<init>", desc := "(Ljava/util/NavigableMap;)V" } : Jvm.MethodName)) ∈ lw_all := lw_g (lw_at lw_m7 219 rfl) rfl
theorem q1730 : (Jvm.Cond.code ({ cls := "java/util/TreeMap$KeySet", name := "<init>", desc := "(Ljava/util/NavigableMap;)V" } : Jvm.MethodName) prog_67_method_1_code (2 : Nat) (Option.none : Option Jvm.ClassFile.FieldType)) ∈ lw_all := lw_g (lw_at lw_m7 220 rfl) rfl
theorem q1731 : (Jvm.Cond.methodLink "java/util/TreeMap$KeySet" (1 : Nat) ({ cls := "java/util/AbstractSet", name := "<init>", desc := "()V" } : Jvm.MethodName)) ∈ lw_all := lw_g (lw_at lw_m7 221 rfl) rfl
theorem q1732 : (Jvm.Cond.fieldLink "java/util/TreeMap$KeySet" (7 : Nat) "java/util/TreeMap$KeySet" "m" "Ljava/util/NavigableMap;") ∈ lw_all := lw_g (lw_at lw_m7 222 rfl) rfl
theorem q1733 : (Jvm.Cond.laysFinal "java/util/TreeMap$KeySet" "java/util/TreeMap$KeySet" "m" "Ljava/util/NavigableMap;") ∈ lw_all := lw_g (lw_at lw_m7 223 rfl) rfl
theorem q1734 : (Jvm.Cond.soleField "java/util/TreeMap$KeySet" "m") ∈ lw_all := lw_g (lw_at lw_m7 224 rfl) rfl
theorem q1735 : (Jvm.Cond.superclass "java/util/TreeMap$KeySet" "java/util/AbstractSet") ∈ lw_all := lw_g (lw_at lw_m7 225 rfl) rfl
theorem q1740 : (Jvm.Cond.castable "java/util/TreeMap$KeySet" "java/util/NavigableSet") ∈ lw_tbl := lw_at lw_m7 230 rfl
theorem q1741 : (Jvm.Cond.selects "java/util/TreeMap$KeySet" ({ cls := "java/util/NavigableSet", name := "iterator", desc := "()Ljava/util/Iterator;" } : Jvm.MethodName) ({ cls := "java/util/TreeMap$KeySet", name := "iterator", desc := "()Ljava/util/Iterator;" } : Jvm.MethodName)) ∈ lw_all := lw_g (lw_at lw_m7 231 rfl) rfl
theorem q1742 : (Jvm.Cond.unhidden "java/util/TreeMap$KeySet" "iterator" "()Ljava/util/Iterator;") ∈ lw_tbl := lw_at lw_m7 232 rfl
theorem q1743 : (Jvm.Cond.instanceMethod ({ cls := "java/util/TreeMap$KeySet", name := "iterator", desc := "()Ljava/util/Iterator;" } : Jvm.MethodName)) ∈ lw_all := lw_g (lw_at lw_m7 233 rfl) rfl
theorem q1744 : (Jvm.Cond.publicMethod ({ cls := "java/util/TreeMap$KeySet", name := "iterator", desc := "()Ljava/util/Iterator;" } : Jvm.MethodName)) ∈ lw_tbl := lw_at lw_m7 234 rfl
theorem q1745 : (Jvm.Cond.code ({ cls := "java/util/TreeMap$KeySet", name := "iterator", desc := "()Ljava/util/Iterator;" } : Jvm.MethodName) prog_67_method_2_code (1 : Nat) (Option.some (Jvm.ClassFile.FieldType.object "java/util/Iterator"))) ∈ lw_all := lw_g (lw_at lw_m7 235 rfl) rfl
theorem q1746 : (Jvm.Cond.classLink "java/util/TreeMap$KeySet" (13 : Nat) "java/util/TreeMap") ∈ lw_all := lw_g (lw_at lw_m7 236 rfl) rfl
theorem q1747 : (Jvm.Cond.methodLink "java/util/TreeMap$KeySet" (15 : Nat) ({ cls := "java/util/TreeMap", name := "keyIterator", desc := "()Ljava/util/Iterator;" } : Jvm.MethodName)) ∈ lw_all := lw_g (lw_at lw_m7 237 rfl) rfl
theorem q1777 : (Jvm.Cond.classLink "java/util/TreeMap$KeySet" (19 : Nat) "java/util/TreeMap$NavigableSubMap") ∈ lw_all := lw_g (lw_at lw_m8 27 rfl) rfl
theorem q1778 : (Jvm.Cond.methodLink "java/util/TreeMap$KeySet" (21 : Nat) ({ cls := "java/util/TreeMap$NavigableSubMap", name := "keyIterator", desc := "()Ljava/util/Iterator;" } : Jvm.MethodName)) ∈ lw_all := lw_g (lw_at lw_m8 28 rfl) rfl
theorem q2309 : (Jvm.Cond.castable "java/util/TreeMap$KeySet" "java/lang/Object") ∈ lw_tbl := lw_at lw_m10 79 rfl
theorem in_J31 : ∀ w ∈ wsJ310, w ∈ lw_all := lw_in wsJ310 [1733] (by decide +kernel) (by decide +kernel)

/-! java/util/TreeMap$PrivateEntryIterator -/
set_option maxRecDepth 100000
def RJ32 : String := "java/util/TreeMap$PrivateEntryIterator"
abbrev cJ32_init : ByteArray := prog_69_method_1_code
def yJ32_init : MethodName := ⟨RJ32, "<init>", "(Ljava/util/TreeMap;Ljava/util/TreeMap$Entry;)V"⟩
def dkwJ32_init_1 : List UInt8 := [181, 0, 26, 177]
abbrev dktJ32_init_1 : List UInt8 := dkwJ32_init_1 ++ []
def dkwJ32_init_0 : List UInt8 := [42, 43, 181, 0, 1, 42, 183, 0, 7, 42, 43, 180, 0, 13, 181, 0, 19, 42, 1, 181, 0, 22, 42, 44]
abbrev dktJ32_init_0 : List UInt8 := dkwJ32_init_0 ++ dktJ32_init_1
theorem dksJ32_init_0 : cJ32_init.data.toList.drop 0 = dktJ32_init_0 := by decide +kernel
theorem dksJ32_init_1 : cJ32_init.data.toList.drop 24 = dktJ32_init_1 := dk_seg dksJ32_init_0 24 rfl rfl
theorem dJ32_init_0 : decode cJ32_init 0 = .ok (.aload_n 0, 1) := dk_42 (dk_at dksJ32_init_0 0 rfl rfl)
theorem dJ32_init_1 : decode cJ32_init 1 = .ok (.aload_n 1, 1) := dk_43 (dk_at dksJ32_init_0 1 rfl rfl)
theorem dJ32_init_2 : decode cJ32_init 2 = .ok (.putfield 1, 3) := dk_181 0 1 (dk_at dksJ32_init_0 2 rfl rfl)
theorem dJ32_init_5 : decode cJ32_init 5 = .ok (.aload_n 0, 1) := dk_42 (dk_at dksJ32_init_0 5 rfl rfl)
theorem dJ32_init_6 : decode cJ32_init 6 = .ok (.invokespecial 7, 3) := dk_183 0 7 (dk_at dksJ32_init_0 6 rfl rfl)
theorem dJ32_init_9 : decode cJ32_init 9 = .ok (.aload_n 0, 1) := dk_42 (dk_at dksJ32_init_0 9 rfl rfl)
theorem dJ32_init_10 : decode cJ32_init 10 = .ok (.aload_n 1, 1) := dk_43 (dk_at dksJ32_init_0 10 rfl rfl)
theorem dJ32_init_11 : decode cJ32_init 11 = .ok (.getfield 13, 3) := dk_180 0 13 (dk_at dksJ32_init_0 11 rfl rfl)
theorem dJ32_init_14 : decode cJ32_init 14 = .ok (.putfield 19, 3) := dk_181 0 19 (dk_at dksJ32_init_0 14 rfl rfl)
theorem dJ32_init_17 : decode cJ32_init 17 = .ok (.aload_n 0, 1) := dk_42 (dk_at dksJ32_init_0 17 rfl rfl)
theorem dJ32_init_18 : decode cJ32_init 18 = .ok (.aconst_null, 1) := dk_1 (dk_at dksJ32_init_0 18 rfl rfl)
theorem dJ32_init_19 : decode cJ32_init 19 = .ok (.putfield 22, 3) := dk_181 0 22 (dk_at dksJ32_init_0 19 rfl rfl)
theorem dJ32_init_22 : decode cJ32_init 22 = .ok (.aload_n 0, 1) := dk_42 (dk_at dksJ32_init_0 22 rfl rfl)
theorem dJ32_init_23 : decode cJ32_init 23 = .ok (.aload_n 2, 1) := dk_44 (dk_at dksJ32_init_0 23 rfl rfl)
theorem dJ32_init_24 : decode cJ32_init 24 = .ok (.putfield 26, 3) := dk_181 0 26 (dk_at dksJ32_init_1 0 rfl rfl)
theorem dJ32_init_27 : decode cJ32_init 27 = .ok (.return_, 1) := dk_177 (dk_at dksJ32_init_1 3 rfl rfl)
abbrev cJ32_hasNext : ByteArray := prog_69_method_2_code
def yJ32_hasNext : MethodName := ⟨RJ32, "hasNext", "()Z"⟩
def dkwJ32_hasNext_0 : List UInt8 := [42, 180, 0, 26, 198, 0, 7, 4, 167, 0, 4, 3, 172]
abbrev dktJ32_hasNext_0 : List UInt8 := dkwJ32_hasNext_0 ++ []
theorem dksJ32_hasNext_0 : cJ32_hasNext.data.toList.drop 0 = dktJ32_hasNext_0 := by decide +kernel
theorem dJ32_hasNext_0 : decode cJ32_hasNext 0 = .ok (.aload_n 0, 1) := dk_42 (dk_at dksJ32_hasNext_0 0 rfl rfl)
theorem dJ32_hasNext_1 : decode cJ32_hasNext 1 = .ok (.getfield 26, 3) := dk_180 0 26 (dk_at dksJ32_hasNext_0 1 rfl rfl)
theorem dJ32_hasNext_4 : decode cJ32_hasNext 4 = .ok (.ifnull 7, 3) := dk_198 0 7 (dk_at dksJ32_hasNext_0 4 rfl rfl)
theorem dJ32_hasNext_7 : decode cJ32_hasNext 7 = .ok (.iconst 1, 1) := dk_4 (dk_at dksJ32_hasNext_0 7 rfl rfl)
theorem dJ32_hasNext_8 : decode cJ32_hasNext 8 = .ok (.goto 4, 3) := dk_167 0 4 (dk_at dksJ32_hasNext_0 8 rfl rfl)
theorem dJ32_hasNext_11 : decode cJ32_hasNext 11 = .ok (.iconst 0, 1) := dk_3 (dk_at dksJ32_hasNext_0 11 rfl rfl)
theorem dJ32_hasNext_12 : decode cJ32_hasNext 12 = .ok (.ireturn, 1) := dk_172 (dk_at dksJ32_hasNext_0 12 rfl rfl)
abbrev cJ32_nextEntry : ByteArray := prog_69_method_3_code
def yJ32_nextEntry : MethodName := ⟨RJ32, "nextEntry", "()Ljava/util/TreeMap$Entry;"⟩
def dkwJ32_nextEntry_2 : List UInt8 := [43, 181, 0, 22, 43, 176]
abbrev dktJ32_nextEntry_2 : List UInt8 := dkwJ32_nextEntry_2 ++ []
def dkwJ32_nextEntry_1 : List UInt8 := [42, 180, 0, 19, 159, 0, 11, 187, 0, 32, 89, 183, 0, 34, 191, 42, 43, 184, 0, 35, 181, 0, 26, 42]
abbrev dktJ32_nextEntry_1 : List UInt8 := dkwJ32_nextEntry_1 ++ dktJ32_nextEntry_2
def dkwJ32_nextEntry_0 : List UInt8 := [42, 180, 0, 26, 76, 43, 199, 0, 11, 187, 0, 29, 89, 183, 0, 31, 191, 42, 180, 0, 1, 180, 0, 13]
abbrev dktJ32_nextEntry_0 : List UInt8 := dkwJ32_nextEntry_0 ++ dktJ32_nextEntry_1
theorem dksJ32_nextEntry_0 : cJ32_nextEntry.data.toList.drop 0 = dktJ32_nextEntry_0 := by decide +kernel
theorem dksJ32_nextEntry_1 : cJ32_nextEntry.data.toList.drop 24 = dktJ32_nextEntry_1 := dk_seg dksJ32_nextEntry_0 24 rfl rfl
theorem dksJ32_nextEntry_2 : cJ32_nextEntry.data.toList.drop 48 = dktJ32_nextEntry_2 := dk_seg dksJ32_nextEntry_1 24 rfl rfl
theorem dJ32_nextEntry_0 : decode cJ32_nextEntry 0 = .ok (.aload_n 0, 1) := dk_42 (dk_at dksJ32_nextEntry_0 0 rfl rfl)
theorem dJ32_nextEntry_1 : decode cJ32_nextEntry 1 = .ok (.getfield 26, 3) := dk_180 0 26 (dk_at dksJ32_nextEntry_0 1 rfl rfl)
theorem dJ32_nextEntry_4 : decode cJ32_nextEntry 4 = .ok (.astore_n 1, 1) := dk_76 (dk_at dksJ32_nextEntry_0 4 rfl rfl)
theorem dJ32_nextEntry_5 : decode cJ32_nextEntry 5 = .ok (.aload_n 1, 1) := dk_43 (dk_at dksJ32_nextEntry_0 5 rfl rfl)
theorem dJ32_nextEntry_6 : decode cJ32_nextEntry 6 = .ok (.ifnonnull 11, 3) := dk_199 0 11 (dk_at dksJ32_nextEntry_0 6 rfl rfl)
theorem dJ32_nextEntry_9 : decode cJ32_nextEntry 9 = .ok (.new 29, 3) := dk_187 0 29 (dk_at dksJ32_nextEntry_0 9 rfl rfl)
theorem dJ32_nextEntry_12 : decode cJ32_nextEntry 12 = .ok (.dup, 1) := dk_89 (dk_at dksJ32_nextEntry_0 12 rfl rfl)
theorem dJ32_nextEntry_13 : decode cJ32_nextEntry 13 = .ok (.invokespecial 31, 3) := dk_183 0 31 (dk_at dksJ32_nextEntry_0 13 rfl rfl)
theorem dJ32_nextEntry_16 : decode cJ32_nextEntry 16 = .ok (.athrow, 1) := dk_191 (dk_at dksJ32_nextEntry_0 16 rfl rfl)
theorem dJ32_nextEntry_17 : decode cJ32_nextEntry 17 = .ok (.aload_n 0, 1) := dk_42 (dk_at dksJ32_nextEntry_0 17 rfl rfl)
theorem dJ32_nextEntry_18 : decode cJ32_nextEntry 18 = .ok (.getfield 1, 3) := dk_180 0 1 (dk_at dksJ32_nextEntry_0 18 rfl rfl)
theorem dJ32_nextEntry_21 : decode cJ32_nextEntry 21 = .ok (.getfield 13, 3) := dk_180 0 13 (dk_at dksJ32_nextEntry_0 21 rfl rfl)
theorem dJ32_nextEntry_24 : decode cJ32_nextEntry 24 = .ok (.aload_n 0, 1) := dk_42 (dk_at dksJ32_nextEntry_1 0 rfl rfl)
theorem dJ32_nextEntry_25 : decode cJ32_nextEntry 25 = .ok (.getfield 19, 3) := dk_180 0 19 (dk_at dksJ32_nextEntry_1 1 rfl rfl)
theorem dJ32_nextEntry_28 : decode cJ32_nextEntry 28 = .ok (.if_icmp .eq 11, 3) := dk_159 0 11 (dk_at dksJ32_nextEntry_1 4 rfl rfl)
theorem dJ32_nextEntry_31 : decode cJ32_nextEntry 31 = .ok (.new 32, 3) := dk_187 0 32 (dk_at dksJ32_nextEntry_1 7 rfl rfl)
theorem dJ32_nextEntry_34 : decode cJ32_nextEntry 34 = .ok (.dup, 1) := dk_89 (dk_at dksJ32_nextEntry_1 10 rfl rfl)
theorem dJ32_nextEntry_35 : decode cJ32_nextEntry 35 = .ok (.invokespecial 34, 3) := dk_183 0 34 (dk_at dksJ32_nextEntry_1 11 rfl rfl)
theorem dJ32_nextEntry_38 : decode cJ32_nextEntry 38 = .ok (.athrow, 1) := dk_191 (dk_at dksJ32_nextEntry_1 14 rfl rfl)
theorem dJ32_nextEntry_39 : decode cJ32_nextEntry 39 = .ok (.aload_n 0, 1) := dk_42 (dk_at dksJ32_nextEntry_1 15 rfl rfl)
theorem dJ32_nextEntry_40 : decode cJ32_nextEntry 40 = .ok (.aload_n 1, 1) := dk_43 (dk_at dksJ32_nextEntry_1 16 rfl rfl)
theorem dJ32_nextEntry_41 : decode cJ32_nextEntry 41 = .ok (.invokestatic 35, 3) := dk_184 0 35 (dk_at dksJ32_nextEntry_1 17 rfl rfl)
theorem dJ32_nextEntry_44 : decode cJ32_nextEntry 44 = .ok (.putfield 26, 3) := dk_181 0 26 (dk_at dksJ32_nextEntry_1 20 rfl rfl)
theorem dJ32_nextEntry_47 : decode cJ32_nextEntry 47 = .ok (.aload_n 0, 1) := dk_42 (dk_at dksJ32_nextEntry_1 23 rfl rfl)
theorem dJ32_nextEntry_48 : decode cJ32_nextEntry 48 = .ok (.aload_n 1, 1) := dk_43 (dk_at dksJ32_nextEntry_2 0 rfl rfl)
theorem dJ32_nextEntry_49 : decode cJ32_nextEntry 49 = .ok (.putfield 22, 3) := dk_181 0 22 (dk_at dksJ32_nextEntry_2 1 rfl rfl)
theorem dJ32_nextEntry_52 : decode cJ32_nextEntry 52 = .ok (.aload_n 1, 1) := dk_43 (dk_at dksJ32_nextEntry_2 4 rfl rfl)
theorem dJ32_nextEntry_53 : decode cJ32_nextEntry 53 = .ok (.areturn, 1) := dk_176 (dk_at dksJ32_nextEntry_2 5 rfl rfl)
theorem q117 : (Jvm.Cond.initialized "java/util/TreeMap$PrivateEntryIterator") ∈ lw_all := lw_g (lw_at lw_m1 47 rfl) rfl
theorem q1585 : (Jvm.Cond.fieldLinkNest "java/util/TreeMap$PrivateEntryIterator" (13 : Nat) "java/util/TreeMap" "modCount" "I" "java/util/TreeMap") ∈ lw_tbl := lw_at lw_m7 75 rfl
theorem q1761 : (Jvm.Cond.instanceMethod ({ cls := "java/util/TreeMap$PrivateEntryIterator", name := "<init>", desc := "(Ljava/util/TreeMap;Ljava/util/TreeMap$Entry;)V" } : Jvm.MethodName)) ∈ lw_all := lw_g (lw_at lw_m8 11 rfl) rfl
theorem q1762 : (Jvm.Cond.code ({ cls := "java/util/TreeMap$PrivateEntryIterator", name := "<init>", desc := "(Ljava/util/TreeMap;Ljava/util/TreeMap$Entry;)V" } : Jvm.MethodName) prog_69_method_1_code (3 : Nat) (Option.none : Option Jvm.ClassFile.FieldType)) ∈ lw_all := lw_g (lw_at lw_m8 12 rfl) rfl
theorem q1763 : (Jvm.Cond.methodLink "java/util/TreeMap$PrivateEntryIterator" (7 : Nat) ({ cls := "java/lang/Object", name := "<init>", desc := "()V" } : Jvm.MethodName)) ∈ lw_all := lw_g (lw_at lw_m8 13 rfl) rfl
theorem q1764 : (Jvm.Cond.fieldLink "java/util/TreeMap$PrivateEntryIterator" (26 : Nat) "java/util/TreeMap$PrivateEntryIterator" "next" "Ljava/util/TreeMap$Entry;") ∈ lw_all := lw_g (lw_at lw_m8 14 rfl) rfl
theorem q1765 : (Jvm.Cond.fieldLink "java/util/TreeMap$PrivateEntryIterator" (22 : Nat) "java/util/TreeMap$PrivateEntryIterator" "lastReturned" "Ljava/util/TreeMap$Entry;") ∈ lw_all := lw_g (lw_at lw_m8 15 rfl) rfl
theorem q1766 : (Jvm.Cond.fieldLink "java/util/TreeMap$PrivateEntryIterator" (19 : Nat) "java/util/TreeMap$PrivateEntryIterator" "expectedModCount" "I") ∈ lw_all := lw_g (lw_at lw_m8 16 rfl) rfl
theorem q1767 : (Jvm.Cond.fieldLink "java/util/TreeMap$PrivateEntryIterator" (1 : Nat) "java/util/TreeMap$PrivateEntryIterator" "this$0" "Ljava/util/TreeMap;") ∈ lw_all := lw_g (lw_at lw_m8 17 rfl) rfl
theorem q1769 : (Jvm.Cond.soleField "java/util/TreeMap$PrivateEntryIterator" "next") ∈ lw_all := lw_g (lw_at lw_m8 19 rfl) rfl
theorem q1771 : (Jvm.Cond.soleField "java/util/TreeMap$PrivateEntryIterator" "lastReturned") ∈ lw_all := lw_g (lw_at lw_m8 21 rfl) rfl
theorem q1773 : (Jvm.Cond.soleField "java/util/TreeMap$PrivateEntryIterator" "expectedModCount") ∈ lw_all := lw_g (lw_at lw_m8 23 rfl) rfl
theorem q1775 : (Jvm.Cond.soleField "java/util/TreeMap$PrivateEntryIterator" "this$0") ∈ lw_all := lw_g (lw_at lw_m8 25 rfl) rfl
theorem q1792 : (Jvm.Cond.instanceMethod ({ cls := "java/util/TreeMap$PrivateEntryIterator", name := "hasNext", desc := "()Z" } : Jvm.MethodName)) ∈ lw_all := lw_g (lw_at lw_m8 42 rfl) rfl
theorem q1793 : (Jvm.Cond.publicMethod ({ cls := "java/util/TreeMap$PrivateEntryIterator", name := "hasNext", desc := "()Z" } : Jvm.MethodName)) ∈ lw_tbl := lw_at lw_m8 43 rfl
theorem q1794 : (Jvm.Cond.code ({ cls := "java/util/TreeMap$PrivateEntryIterator", name := "hasNext", desc := "()Z" } : Jvm.MethodName) prog_69_method_2_code (1 : Nat) (Option.some Jvm.ClassFile.FieldType.boolean)) ∈ lw_all := lw_g (lw_at lw_m8 44 rfl) rfl
theorem q1806 : (Jvm.Cond.declares ({ cls := "java/util/TreeMap$PrivateEntryIterator", name := "nextEntry", desc := "()Ljava/util/TreeMap$Entry;" } : Jvm.MethodName)) ∈ lw_tbl := lw_at lw_m8 56 rfl
theorem q1808 : (Jvm.Cond.instanceMethod ({ cls := "java/util/TreeMap$PrivateEntryIterator", name := "nextEntry", desc := "()Ljava/util/TreeMap$Entry;" } : Jvm.MethodName)) ∈ lw_all := lw_g (lw_at lw_m8 58 rfl) rfl
theorem q1809 : (Jvm.Cond.code ({ cls := "java/util/TreeMap$PrivateEntryIterator", name := "nextEntry", desc := "()Ljava/util/TreeMap$Entry;" } : Jvm.MethodName) prog_69_method_3_code (2 : Nat) (Option.some (Jvm.ClassFile.FieldType.object "java/util/TreeMap$Entry"))) ∈ lw_all := lw_g (lw_at lw_m8 59 rfl) rfl
theorem q1810 : (Jvm.Cond.classLink "java/util/TreeMap$PrivateEntryIterator" (29 : Nat) "java/util/NoSuchElementException") ∈ lw_all := lw_g (lw_at lw_m8 60 rfl) rfl
theorem q1811 : (Jvm.Cond.methodLink "java/util/TreeMap$PrivateEntryIterator" (31 : Nat) ({ cls := "java/util/NoSuchElementException", name := "<init>", desc := "()V" } : Jvm.MethodName)) ∈ lw_all := lw_g (lw_at lw_m8 61 rfl) rfl
theorem q1812 : (Jvm.Cond.methodLink "java/util/TreeMap$PrivateEntryIterator" (35 : Nat) ({ cls := "java/util/TreeMap", name := "successor", desc := "(Ljava/util/TreeMap$Entry;)Ljava/util/TreeMap$Entry;" } : Jvm.MethodName)) ∈ lw_all := lw_g (lw_at lw_m8 62 rfl) rfl

/-! java/util/TreeMap$KeyIterator -/
set_option maxRecDepth 100000
def RJ33 : String := "java/util/TreeMap$KeyIterator"
def TJ33 : u_T := fun k => match k with
  | 0 => ("java/util/TreeMap$PrivateEntryIterator", "next", "Ljava/util/TreeMap$Entry;", false)
  | 1 => ("java/util/TreeMap$PrivateEntryIterator", "lastReturned", "Ljava/util/TreeMap$Entry;", false)
  | 2 => ("java/util/TreeMap$PrivateEntryIterator", "expectedModCount", "I", false)
  | _ => ("java/util/TreeMap$PrivateEntryIterator", "this$0", "Ljava/util/TreeMap;", true)
def tyJ33 : Nat → FieldType := fun k => match k with
  | 0 => .object "java/util/TreeMap$Entry"
  | 1 => .object "java/util/TreeMap$Entry"
  | 2 => .int
  | _ => .object "java/util/TreeMap"
abbrev wsJ330 : List Cond := u_ws RJ33 TJ33 4
theorem nmJ33 : ∀ a, a < 4 → ∀ b, b < 4 → a ≠ b → (TJ33 a).2.1 ≠ (TJ33 b).2.1 := by decide +kernel
theorem tyJ33_ok : ∀ k, k < 4 → parseFieldDescriptor (TJ33 k).2.2.1 = some (tyJ33 k) := by decide +kernel
abbrev cJ33_init : ByteArray := prog_66_method_1_code
def yJ33_init : MethodName := ⟨RJ33, "<init>", "(Ljava/util/TreeMap;Ljava/util/TreeMap$Entry;)V"⟩
def dkwJ33_init_0 : List UInt8 := [42, 43, 44, 183, 0, 1, 177]
abbrev dktJ33_init_0 : List UInt8 := dkwJ33_init_0 ++ []
theorem dksJ33_init_0 : cJ33_init.data.toList.drop 0 = dktJ33_init_0 := by decide +kernel
theorem dJ33_init_0 : decode cJ33_init 0 = .ok (.aload_n 0, 1) := dk_42 (dk_at dksJ33_init_0 0 rfl rfl)
theorem dJ33_init_1 : decode cJ33_init 1 = .ok (.aload_n 1, 1) := dk_43 (dk_at dksJ33_init_0 1 rfl rfl)
theorem dJ33_init_2 : decode cJ33_init 2 = .ok (.aload_n 2, 1) := dk_44 (dk_at dksJ33_init_0 2 rfl rfl)
theorem dJ33_init_3 : decode cJ33_init 3 = .ok (.invokespecial 1, 3) := dk_183 0 1 (dk_at dksJ33_init_0 3 rfl rfl)
theorem dJ33_init_6 : decode cJ33_init 6 = .ok (.return_, 1) := dk_177 (dk_at dksJ33_init_0 6 rfl rfl)
abbrev cJ33_next : ByteArray := prog_66_method_2_code
def yJ33_next : MethodName := ⟨RJ33, "next", "()Ljava/lang/Object;"⟩
def dkwJ33_next_0 : List UInt8 := [42, 182, 0, 7, 180, 0, 13, 176]
abbrev dktJ33_next_0 : List UInt8 := dkwJ33_next_0 ++ []
theorem dksJ33_next_0 : cJ33_next.data.toList.drop 0 = dktJ33_next_0 := by decide +kernel
theorem dJ33_next_0 : decode cJ33_next 0 = .ok (.aload_n 0, 1) := dk_42 (dk_at dksJ33_next_0 0 rfl rfl)
theorem dJ33_next_1 : decode cJ33_next 1 = .ok (.invokevirtual 7, 3) := dk_182 0 7 (dk_at dksJ33_next_0 1 rfl rfl)
theorem dJ33_next_4 : decode cJ33_next 4 = .ok (.getfield 13, 3) := dk_180 0 13 (dk_at dksJ33_next_0 4 rfl rfl)
theorem dJ33_next_7 : decode cJ33_next 7 = .ok (.areturn, 1) := dk_176 (dk_at dksJ33_next_0 7 rfl rfl)
theorem q118 : (Jvm.Cond.initialized "java/util/TreeMap$KeyIterator") ∈ lw_all := lw_g (lw_at lw_m1 48 rfl) rfl
theorem q358 : (Jvm.Cond.selects "java/util/TreeMap$KeyIterator" ({ cls := "java/lang/Object", name := "getClass", desc := "()Ljava/lang/Class;" } : Jvm.MethodName) ({ cls := "java/lang/Object", name := "getClass", desc := "()Ljava/lang/Class;" } : Jvm.MethodName)) ∈ lw_all := lw_g (lw_at lw_m2 48 rfl) rfl
theorem q1655 : (Jvm.Cond.fieldLink "java/util/TreeMap$KeyIterator" (13 : Nat) "java/util/TreeMap$Entry" "key" "Ljava/lang/Object;") ∈ lw_all := lw_g (lw_at lw_m7 145 rfl) rfl
theorem q1752 : (Jvm.Cond.instantiable "java/util/TreeMap$KeyIterator" (4 : Nat)) ∈ lw_all := lw_g (lw_at lw_m8 2 rfl) rfl
theorem q1758 : (Jvm.Cond.instanceMethod ({ cls := "java/util/TreeMap$KeyIterator", name := "<init>", desc := "(Ljava/util/TreeMap;Ljava/util/TreeMap$Entry;)V" } : Jvm.MethodName)) ∈ lw_all := lw_g (lw_at lw_m8 8 rfl) rfl
theorem q1759 : (Jvm.Cond.code ({ cls := "java/util/TreeMap$KeyIterator", name := "<init>", desc := "(Ljava/util/TreeMap;Ljava/util/TreeMap$Entry;)V" } : Jvm.MethodName) prog_66_method_1_code (3 : Nat) (Option.none : Option Jvm.ClassFile.FieldType)) ∈ lw_all := lw_g (lw_at lw_m8 9 rfl) rfl
theorem q1760 : (Jvm.Cond.methodLink "java/util/TreeMap$KeyIterator" (1 : Nat) ({ cls := "java/util/TreeMap$PrivateEntryIterator", name := "<init>", desc := "(Ljava/util/TreeMap;Ljava/util/TreeMap$Entry;)V" } : Jvm.MethodName)) ∈ lw_all := lw_g (lw_at lw_m8 10 rfl) rfl
theorem q1768 : (Jvm.Cond.lays "java/util/TreeMap$KeyIterator" "java/util/TreeMap$PrivateEntryIterator" "next" "Ljava/util/TreeMap$Entry;") ∈ lw_all := lw_g (lw_at lw_m8 18 rfl) rfl
theorem q1770 : (Jvm.Cond.lays "java/util/TreeMap$KeyIterator" "java/util/TreeMap$PrivateEntryIterator" "lastReturned" "Ljava/util/TreeMap$Entry;") ∈ lw_all := lw_g (lw_at lw_m8 20 rfl) rfl
theorem q1772 : (Jvm.Cond.lays "java/util/TreeMap$KeyIterator" "java/util/TreeMap$PrivateEntryIterator" "expectedModCount" "I") ∈ lw_all := lw_g (lw_at lw_m8 22 rfl) rfl
theorem q1774 : (Jvm.Cond.laysFinal "java/util/TreeMap$KeyIterator" "java/util/TreeMap$PrivateEntryIterator" "this$0" "Ljava/util/TreeMap;") ∈ lw_all := lw_g (lw_at lw_m8 24 rfl) rfl
theorem q1776 : (Jvm.Cond.superclass "java/util/TreeMap$KeyIterator" "java/util/TreeMap$PrivateEntryIterator") ∈ lw_all := lw_g (lw_at lw_m8 26 rfl) rfl
theorem q1789 : (Jvm.Cond.castable "java/util/TreeMap$KeyIterator" "java/util/Iterator") ∈ lw_tbl := lw_at lw_m8 39 rfl
theorem q1790 : (Jvm.Cond.selects "java/util/TreeMap$KeyIterator" ({ cls := "java/util/Iterator", name := "hasNext", desc := "()Z" } : Jvm.MethodName) ({ cls := "java/util/TreeMap$PrivateEntryIterator", name := "hasNext", desc := "()Z" } : Jvm.MethodName)) ∈ lw_all := lw_g (lw_at lw_m8 40 rfl) rfl
theorem q1791 : (Jvm.Cond.unhidden "java/util/TreeMap$KeyIterator" "hasNext" "()Z") ∈ lw_tbl := lw_at lw_m8 41 rfl
theorem q1799 : (Jvm.Cond.selects "java/util/TreeMap$KeyIterator" ({ cls := "java/util/Iterator", name := "next", desc := "()Ljava/lang/Object;" } : Jvm.MethodName) ({ cls := "java/util/TreeMap$KeyIterator", name := "next", desc := "()Ljava/lang/Object;" } : Jvm.MethodName)) ∈ lw_all := lw_g (lw_at lw_m8 49 rfl) rfl
theorem q1800 : (Jvm.Cond.unhidden "java/util/TreeMap$KeyIterator" "next" "()Ljava/lang/Object;") ∈ lw_tbl := lw_at lw_m8 50 rfl
theorem q1801 : (Jvm.Cond.instanceMethod ({ cls := "java/util/TreeMap$KeyIterator", name := "next", desc := "()Ljava/lang/Object;" } : Jvm.MethodName)) ∈ lw_all := lw_g (lw_at lw_m8 51 rfl) rfl
theorem q1802 : (Jvm.Cond.publicMethod ({ cls := "java/util/TreeMap$KeyIterator", name := "next", desc := "()Ljava/lang/Object;" } : Jvm.MethodName)) ∈ lw_tbl := lw_at lw_m8 52 rfl
theorem q1803 : (Jvm.Cond.code ({ cls := "java/util/TreeMap$KeyIterator", name := "next", desc := "()Ljava/lang/Object;" } : Jvm.MethodName) prog_66_method_2_code (1 : Nat) (Option.some (Jvm.ClassFile.FieldType.object "java/lang/Object"))) ∈ lw_all := lw_g (lw_at lw_m8 53 rfl) rfl
theorem q1804 : (Jvm.Cond.methodLink "java/util/TreeMap$KeyIterator" (7 : Nat) ({ cls := "java/util/TreeMap$KeyIterator", name := "nextEntry", desc := "()Ljava/util/TreeMap$Entry;" } : Jvm.MethodName)) ∈ lw_all := lw_g (lw_at lw_m8 54 rfl) rfl
theorem q1805 : (Jvm.Cond.sameMethod "java/util/TreeMap$KeyIterator" "java/util/TreeMap$PrivateEntryIterator" "nextEntry" "()Ljava/util/TreeMap$Entry;") ∈ lw_all := lw_g (lw_at lw_m8 55 rfl) rfl
theorem q1807 : (Jvm.Cond.selects "java/util/TreeMap$KeyIterator" ({ cls := "java/util/TreeMap$KeyIterator", name := "nextEntry", desc := "()Ljava/util/TreeMap$Entry;" } : Jvm.MethodName) ({ cls := "java/util/TreeMap$PrivateEntryIterator", name := "nextEntry", desc := "()Ljava/util/TreeMap$Entry;" } : Jvm.MethodName)) ∈ lw_all := lw_g (lw_at lw_m8 57 rfl) rfl
theorem q2310 : (Jvm.Cond.castable "java/util/TreeMap$KeyIterator" "java/lang/Object") ∈ lw_tbl := lw_at lw_m10 80 rfl
theorem in_J33 : ∀ w ∈ wsJ330, w ∈ lw_all := lw_in wsJ330 [1768, 1770, 1772, 1774] (by decide +kernel) (by decide +kernel)
