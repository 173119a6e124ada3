/-! RobotAislesLaw -/
set_option maxRecDepth 100000
def RX0 : String := "RobotAislesLaw"
abbrev cX0_append : ByteArray := method_3_code
def yX0_append : MethodName := ⟨RX0, "append", "(LRobotAisles;C[J)I"⟩
def dkwX0_append_0 : List UInt8 := [44, 3, 42, 27, 182, 0, 7, 133, 80, 167, 0, 6, 78, 4, 172, 3, 172]
abbrev dktX0_append_0 : List UInt8 := dkwX0_append_0 ++ []
theorem dksX0_append_0 : cX0_append.data.toList.drop 0 = dktX0_append_0 := by decide +kernel
theorem dX0_append_0 : decode cX0_append 0 = .ok (.aload_n 2, 1) := dk_44 (dk_at dksX0_append_0 0 rfl rfl)
theorem dX0_append_1 : decode cX0_append 1 = .ok (.iconst 0, 1) := dk_3 (dk_at dksX0_append_0 1 rfl rfl)
theorem dX0_append_2 : decode cX0_append 2 = .ok (.aload_n 0, 1) := dk_42 (dk_at dksX0_append_0 2 rfl rfl)
theorem dX0_append_3 : decode cX0_append 3 = .ok (.iload_n 1, 1) := dk_27 (dk_at dksX0_append_0 3 rfl rfl)
theorem dX0_append_4 : decode cX0_append 4 = .ok (.invokevirtual 7, 3) := dk_182 0 7 (dk_at dksX0_append_0 4 rfl rfl)
theorem dX0_append_7 : decode cX0_append 7 = .ok (.i2l, 1) := dk_133 (dk_at dksX0_append_0 7 rfl rfl)
theorem dX0_append_8 : decode cX0_append 8 = .ok (.lastore, 1) := dk_80 (dk_at dksX0_append_0 8 rfl rfl)
theorem dX0_append_9 : decode cX0_append 9 = .ok (.goto 6, 3) := dk_167 0 6 (dk_at dksX0_append_0 9 rfl rfl)
theorem dX0_append_12 : decode cX0_append 12 = .ok (.astore_n 3, 1) := dk_78 (dk_at dksX0_append_0 12 rfl rfl)
theorem dX0_append_13 : decode cX0_append 13 = .ok (.iconst 1, 1) := dk_4 (dk_at dksX0_append_0 13 rfl rfl)
theorem dX0_append_14 : decode cX0_append 14 = .ok (.ireturn, 1) := dk_172 (dk_at dksX0_append_0 14 rfl rfl)
theorem dX0_append_15 : decode cX0_append 15 = .ok (.iconst 0, 1) := dk_3 (dk_at dksX0_append_0 15 rfl rfl)
theorem dX0_append_16 : decode cX0_append 16 = .ok (.ireturn, 1) := dk_172 (dk_at dksX0_append_0 16 rfl rfl)
abbrev cX0_layout : ByteArray := method_4_code
def yX0_layout : MethodName := ⟨RX0, "layout", "(LRobotAisles;[J)I"⟩
def dkwX0_layout_0 : List UInt8 := [43, 3, 42, 182, 0, 15, 133, 80, 167, 0, 6, 77, 4, 172, 3, 172]
abbrev dktX0_layout_0 : List UInt8 := dkwX0_layout_0 ++ []
theorem dksX0_layout_0 : cX0_layout.data.toList.drop 0 = dktX0_layout_0 := by decide +kernel
theorem dX0_layout_0 : decode cX0_layout 0 = .ok (.aload_n 1, 1) := dk_43 (dk_at dksX0_layout_0 0 rfl rfl)
theorem dX0_layout_1 : decode cX0_layout 1 = .ok (.iconst 0, 1) := dk_3 (dk_at dksX0_layout_0 1 rfl rfl)
theorem dX0_layout_2 : decode cX0_layout 2 = .ok (.aload_n 0, 1) := dk_42 (dk_at dksX0_layout_0 2 rfl rfl)
theorem dX0_layout_3 : decode cX0_layout 3 = .ok (.invokevirtual 15, 3) := dk_182 0 15 (dk_at dksX0_layout_0 3 rfl rfl)
theorem dX0_layout_6 : decode cX0_layout 6 = .ok (.i2l, 1) := dk_133 (dk_at dksX0_layout_0 6 rfl rfl)
theorem dX0_layout_7 : decode cX0_layout 7 = .ok (.lastore, 1) := dk_80 (dk_at dksX0_layout_0 7 rfl rfl)
theorem dX0_layout_8 : decode cX0_layout 8 = .ok (.goto 6, 3) := dk_167 0 6 (dk_at dksX0_layout_0 8 rfl rfl)
theorem dX0_layout_11 : decode cX0_layout 11 = .ok (.astore_n 2, 1) := dk_77 (dk_at dksX0_layout_0 11 rfl rfl)
theorem dX0_layout_12 : decode cX0_layout 12 = .ok (.iconst 1, 1) := dk_4 (dk_at dksX0_layout_0 12 rfl rfl)
theorem dX0_layout_13 : decode cX0_layout 13 = .ok (.ireturn, 1) := dk_172 (dk_at dksX0_layout_0 13 rfl rfl)
theorem dX0_layout_14 : decode cX0_layout 14 = .ok (.iconst 0, 1) := dk_3 (dk_at dksX0_layout_0 14 rfl rfl)
theorem dX0_layout_15 : decode cX0_layout 15 = .ok (.ireturn, 1) := dk_172 (dk_at dksX0_layout_0 15 rfl rfl)
abbrev cX0_add : ByteArray := method_5_code
def yX0_add : MethodName := ⟨RX0, "add", "(LRobotAisles;II[J)I"⟩
def dkwX0_add_0 : List UInt8 := [45, 3, 42, 27, 28, 182, 0, 21, 133, 80, 167, 0, 7, 58, 4, 4, 172, 3, 172]
abbrev dktX0_add_0 : List UInt8 := dkwX0_add_0 ++ []
theorem dksX0_add_0 : cX0_add.data.toList.drop 0 = dktX0_add_0 := by decide +kernel
theorem dX0_add_0 : decode cX0_add 0 = .ok (.aload_n 3, 1) := dk_45 (dk_at dksX0_add_0 0 rfl rfl)
theorem dX0_add_1 : decode cX0_add 1 = .ok (.iconst 0, 1) := dk_3 (dk_at dksX0_add_0 1 rfl rfl)
theorem dX0_add_2 : decode cX0_add 2 = .ok (.aload_n 0, 1) := dk_42 (dk_at dksX0_add_0 2 rfl rfl)
theorem dX0_add_3 : decode cX0_add 3 = .ok (.iload_n 1, 1) := dk_27 (dk_at dksX0_add_0 3 rfl rfl)
theorem dX0_add_4 : decode cX0_add 4 = .ok (.iload_n 2, 1) := dk_28 (dk_at dksX0_add_0 4 rfl rfl)
theorem dX0_add_5 : decode cX0_add 5 = .ok (.invokevirtual 21, 3) := dk_182 0 21 (dk_at dksX0_add_0 5 rfl rfl)
theorem dX0_add_8 : decode cX0_add 8 = .ok (.i2l, 1) := dk_133 (dk_at dksX0_add_0 8 rfl rfl)
theorem dX0_add_9 : decode cX0_add 9 = .ok (.lastore, 1) := dk_80 (dk_at dksX0_add_0 9 rfl rfl)
theorem dX0_add_10 : decode cX0_add 10 = .ok (.goto 7, 3) := dk_167 0 7 (dk_at dksX0_add_0 10 rfl rfl)
theorem dX0_add_13 : decode cX0_add 13 = .ok (.astore 4, 2) := dk_58 4 (dk_at dksX0_add_0 13 rfl rfl)
theorem dX0_add_15 : decode cX0_add 15 = .ok (.iconst 1, 1) := dk_4 (dk_at dksX0_add_0 15 rfl rfl)
theorem dX0_add_16 : decode cX0_add 16 = .ok (.ireturn, 1) := dk_172 (dk_at dksX0_add_0 16 rfl rfl)
theorem dX0_add_17 : decode cX0_add 17 = .ok (.iconst 0, 1) := dk_3 (dk_at dksX0_add_0 17 rfl rfl)
theorem dX0_add_18 : decode cX0_add 18 = .ok (.ireturn, 1) := dk_172 (dk_at dksX0_add_0 18 rfl rfl)
abbrev cX0_takeOff : ByteArray := method_6_code
def yX0_takeOff : MethodName := ⟨RX0, "takeOff", "(LRobotAisles;I[J)I"⟩
def dkwX0_takeOff_0 : List UInt8 := [44, 3, 42, 27, 182, 0, 27, 133, 80, 167, 0, 6, 78, 4, 172, 3, 172]
abbrev dktX0_takeOff_0 : List UInt8 := dkwX0_takeOff_0 ++ []
theorem dksX0_takeOff_0 : cX0_takeOff.data.toList.drop 0 = dktX0_takeOff_0 := by decide +kernel
theorem dX0_takeOff_0 : decode cX0_takeOff 0 = .ok (.aload_n 2, 1) := dk_44 (dk_at dksX0_takeOff_0 0 rfl rfl)
theorem dX0_takeOff_1 : decode cX0_takeOff 1 = .ok (.iconst 0, 1) := dk_3 (dk_at dksX0_takeOff_0 1 rfl rfl)
theorem dX0_takeOff_2 : decode cX0_takeOff 2 = .ok (.aload_n 0, 1) := dk_42 (dk_at dksX0_takeOff_0 2 rfl rfl)
theorem dX0_takeOff_3 : decode cX0_takeOff 3 = .ok (.iload_n 1, 1) := dk_27 (dk_at dksX0_takeOff_0 3 rfl rfl)
theorem dX0_takeOff_4 : decode cX0_takeOff 4 = .ok (.invokevirtual 27, 3) := dk_182 0 27 (dk_at dksX0_takeOff_0 4 rfl rfl)
theorem dX0_takeOff_7 : decode cX0_takeOff 7 = .ok (.i2l, 1) := dk_133 (dk_at dksX0_takeOff_0 7 rfl rfl)
theorem dX0_takeOff_8 : decode cX0_takeOff 8 = .ok (.lastore, 1) := dk_80 (dk_at dksX0_takeOff_0 8 rfl rfl)
theorem dX0_takeOff_9 : decode cX0_takeOff 9 = .ok (.goto 6, 3) := dk_167 0 6 (dk_at dksX0_takeOff_0 9 rfl rfl)
theorem dX0_takeOff_12 : decode cX0_takeOff 12 = .ok (.astore_n 3, 1) := dk_78 (dk_at dksX0_takeOff_0 12 rfl rfl)
theorem dX0_takeOff_13 : decode cX0_takeOff 13 = .ok (.iconst 1, 1) := dk_4 (dk_at dksX0_takeOff_0 13 rfl rfl)
theorem dX0_takeOff_14 : decode cX0_takeOff 14 = .ok (.ireturn, 1) := dk_172 (dk_at dksX0_takeOff_0 14 rfl rfl)
theorem dX0_takeOff_15 : decode cX0_takeOff 15 = .ok (.iconst 0, 1) := dk_3 (dk_at dksX0_takeOff_0 15 rfl rfl)
theorem dX0_takeOff_16 : decode cX0_takeOff 16 = .ok (.ireturn, 1) := dk_172 (dk_at dksX0_takeOff_0 16 rfl rfl)
abbrev cX0_order : ByteArray := method_7_code
def yX0_order : MethodName := ⟨RX0, "order", "(LRobotAisles;IIII[J)I"⟩
def dkwX0_order_0 : List UInt8 := [25, 5, 3, 42, 27, 28, 29, 21, 4, 182, 0, 31, 133, 80, 167, 0, 7, 58, 6, 4, 172, 3, 172]
abbrev dktX0_order_0 : List UInt8 := dkwX0_order_0 ++ []
theorem dksX0_order_0 : cX0_order.data.toList.drop 0 = dktX0_order_0 := by decide +kernel
theorem dX0_order_0 : decode cX0_order 0 = .ok (.aload 5, 2) := dk_25 5 (dk_at dksX0_order_0 0 rfl rfl)
theorem dX0_order_2 : decode cX0_order 2 = .ok (.iconst 0, 1) := dk_3 (dk_at dksX0_order_0 2 rfl rfl)
theorem dX0_order_3 : decode cX0_order 3 = .ok (.aload_n 0, 1) := dk_42 (dk_at dksX0_order_0 3 rfl rfl)
theorem dX0_order_4 : decode cX0_order 4 = .ok (.iload_n 1, 1) := dk_27 (dk_at dksX0_order_0 4 rfl rfl)
theorem dX0_order_5 : decode cX0_order 5 = .ok (.iload_n 2, 1) := dk_28 (dk_at dksX0_order_0 5 rfl rfl)
theorem dX0_order_6 : decode cX0_order 6 = .ok (.iload_n 3, 1) := dk_29 (dk_at dksX0_order_0 6 rfl rfl)
theorem dX0_order_7 : decode cX0_order 7 = .ok (.iload 4, 2) := dk_21 4 (dk_at dksX0_order_0 7 rfl rfl)
theorem dX0_order_9 : decode cX0_order 9 = .ok (.invokevirtual 31, 3) := dk_182 0 31 (dk_at dksX0_order_0 9 rfl rfl)
theorem dX0_order_12 : decode cX0_order 12 = .ok (.i2l, 1) := dk_133 (dk_at dksX0_order_0 12 rfl rfl)
theorem dX0_order_13 : decode cX0_order 13 = .ok (.lastore, 1) := dk_80 (dk_at dksX0_order_0 13 rfl rfl)
theorem dX0_order_14 : decode cX0_order 14 = .ok (.goto 7, 3) := dk_167 0 7 (dk_at dksX0_order_0 14 rfl rfl)
theorem dX0_order_17 : decode cX0_order 17 = .ok (.astore 6, 2) := dk_58 6 (dk_at dksX0_order_0 17 rfl rfl)
theorem dX0_order_19 : decode cX0_order 19 = .ok (.iconst 1, 1) := dk_4 (dk_at dksX0_order_0 19 rfl rfl)
theorem dX0_order_20 : decode cX0_order 20 = .ok (.ireturn, 1) := dk_172 (dk_at dksX0_order_0 20 rfl rfl)
theorem dX0_order_21 : decode cX0_order 21 = .ok (.iconst 0, 1) := dk_3 (dk_at dksX0_order_0 21 rfl rfl)
theorem dX0_order_22 : decode cX0_order 22 = .ok (.ireturn, 1) := dk_172 (dk_at dksX0_order_0 22 rfl rfl)
abbrev cX0_assign : ByteArray := method_8_code
def yX0_assign : MethodName := ⟨RX0, "assign", "(LRobotAisles;II[J)I"⟩
def dkwX0_assign_0 : List UInt8 := [45, 3, 42, 27, 28, 182, 0, 35, 133, 80, 167, 0, 7, 58, 4, 4, 172, 3, 172]
abbrev dktX0_assign_0 : List UInt8 := dkwX0_assign_0 ++ []
theorem dksX0_assign_0 : cX0_assign.data.toList.drop 0 = dktX0_assign_0 := by decide +kernel
theorem dX0_assign_0 : decode cX0_assign 0 = .ok (.aload_n 3, 1) := dk_45 (dk_at dksX0_assign_0 0 rfl rfl)
theorem dX0_assign_1 : decode cX0_assign 1 = .ok (.iconst 0, 1) := dk_3 (dk_at dksX0_assign_0 1 rfl rfl)
theorem dX0_assign_2 : decode cX0_assign 2 = .ok (.aload_n 0, 1) := dk_42 (dk_at dksX0_assign_0 2 rfl rfl)
theorem dX0_assign_3 : decode cX0_assign 3 = .ok (.iload_n 1, 1) := dk_27 (dk_at dksX0_assign_0 3 rfl rfl)
theorem dX0_assign_4 : decode cX0_assign 4 = .ok (.iload_n 2, 1) := dk_28 (dk_at dksX0_assign_0 4 rfl rfl)
theorem dX0_assign_5 : decode cX0_assign 5 = .ok (.invokevirtual 35, 3) := dk_182 0 35 (dk_at dksX0_assign_0 5 rfl rfl)
theorem dX0_assign_8 : decode cX0_assign 8 = .ok (.i2l, 1) := dk_133 (dk_at dksX0_assign_0 8 rfl rfl)
theorem dX0_assign_9 : decode cX0_assign 9 = .ok (.lastore, 1) := dk_80 (dk_at dksX0_assign_0 9 rfl rfl)
theorem dX0_assign_10 : decode cX0_assign 10 = .ok (.goto 7, 3) := dk_167 0 7 (dk_at dksX0_assign_0 10 rfl rfl)
theorem dX0_assign_13 : decode cX0_assign 13 = .ok (.astore 4, 2) := dk_58 4 (dk_at dksX0_assign_0 13 rfl rfl)
theorem dX0_assign_15 : decode cX0_assign 15 = .ok (.iconst 1, 1) := dk_4 (dk_at dksX0_assign_0 15 rfl rfl)
theorem dX0_assign_16 : decode cX0_assign 16 = .ok (.ireturn, 1) := dk_172 (dk_at dksX0_assign_0 16 rfl rfl)
theorem dX0_assign_17 : decode cX0_assign 17 = .ok (.iconst 0, 1) := dk_3 (dk_at dksX0_assign_0 17 rfl rfl)
theorem dX0_assign_18 : decode cX0_assign 18 = .ok (.ireturn, 1) := dk_172 (dk_at dksX0_assign_0 18 rfl rfl)
abbrev cX0_release : ByteArray := method_9_code
def yX0_release : MethodName := ⟨RX0, "release", "(LRobotAisles;I[J)I"⟩
def dkwX0_release_0 : List UInt8 := [44, 3, 42, 27, 182, 0, 38, 133, 80, 167, 0, 6, 78, 4, 172, 3, 172]
abbrev dktX0_release_0 : List UInt8 := dkwX0_release_0 ++ []
theorem dksX0_release_0 : cX0_release.data.toList.drop 0 = dktX0_release_0 := by decide +kernel
theorem dX0_release_0 : decode cX0_release 0 = .ok (.aload_n 2, 1) := dk_44 (dk_at dksX0_release_0 0 rfl rfl)
theorem dX0_release_1 : decode cX0_release 1 = .ok (.iconst 0, 1) := dk_3 (dk_at dksX0_release_0 1 rfl rfl)
theorem dX0_release_2 : decode cX0_release 2 = .ok (.aload_n 0, 1) := dk_42 (dk_at dksX0_release_0 2 rfl rfl)
theorem dX0_release_3 : decode cX0_release 3 = .ok (.iload_n 1, 1) := dk_27 (dk_at dksX0_release_0 3 rfl rfl)
theorem dX0_release_4 : decode cX0_release 4 = .ok (.invokevirtual 38, 3) := dk_182 0 38 (dk_at dksX0_release_0 4 rfl rfl)
theorem dX0_release_7 : decode cX0_release 7 = .ok (.i2l, 1) := dk_133 (dk_at dksX0_release_0 7 rfl rfl)
theorem dX0_release_8 : decode cX0_release 8 = .ok (.lastore, 1) := dk_80 (dk_at dksX0_release_0 8 rfl rfl)
theorem dX0_release_9 : decode cX0_release 9 = .ok (.goto 6, 3) := dk_167 0 6 (dk_at dksX0_release_0 9 rfl rfl)
theorem dX0_release_12 : decode cX0_release 12 = .ok (.astore_n 3, 1) := dk_78 (dk_at dksX0_release_0 12 rfl rfl)
theorem dX0_release_13 : decode cX0_release 13 = .ok (.iconst 1, 1) := dk_4 (dk_at dksX0_release_0 13 rfl rfl)
theorem dX0_release_14 : decode cX0_release 14 = .ok (.ireturn, 1) := dk_172 (dk_at dksX0_release_0 14 rfl rfl)
theorem dX0_release_15 : decode cX0_release 15 = .ok (.iconst 0, 1) := dk_3 (dk_at dksX0_release_0 15 rfl rfl)
theorem dX0_release_16 : decode cX0_release 16 = .ok (.ireturn, 1) := dk_172 (dk_at dksX0_release_0 16 rfl rfl)
abbrev cX0_close : ByteArray := method_10_code
def yX0_close : MethodName := ⟨RX0, "close", "(LRobotAisles;I[J)I"⟩
def dkwX0_close_0 : List UInt8 := [44, 3, 42, 27, 182, 0, 41, 133, 80, 167, 0, 6, 78, 4, 172, 3, 172]
abbrev dktX0_close_0 : List UInt8 := dkwX0_close_0 ++ []
theorem dksX0_close_0 : cX0_close.data.toList.drop 0 = dktX0_close_0 := by decide +kernel
theorem dX0_close_0 : decode cX0_close 0 = .ok (.aload_n 2, 1) := dk_44 (dk_at dksX0_close_0 0 rfl rfl)
theorem dX0_close_1 : decode cX0_close 1 = .ok (.iconst 0, 1) := dk_3 (dk_at dksX0_close_0 1 rfl rfl)
theorem dX0_close_2 : decode cX0_close 2 = .ok (.aload_n 0, 1) := dk_42 (dk_at dksX0_close_0 2 rfl rfl)
theorem dX0_close_3 : decode cX0_close 3 = .ok (.iload_n 1, 1) := dk_27 (dk_at dksX0_close_0 3 rfl rfl)
theorem dX0_close_4 : decode cX0_close 4 = .ok (.invokevirtual 41, 3) := dk_182 0 41 (dk_at dksX0_close_0 4 rfl rfl)
theorem dX0_close_7 : decode cX0_close 7 = .ok (.i2l, 1) := dk_133 (dk_at dksX0_close_0 7 rfl rfl)
theorem dX0_close_8 : decode cX0_close 8 = .ok (.lastore, 1) := dk_80 (dk_at dksX0_close_0 8 rfl rfl)
theorem dX0_close_9 : decode cX0_close 9 = .ok (.goto 6, 3) := dk_167 0 6 (dk_at dksX0_close_0 9 rfl rfl)
theorem dX0_close_12 : decode cX0_close 12 = .ok (.astore_n 3, 1) := dk_78 (dk_at dksX0_close_0 12 rfl rfl)
theorem dX0_close_13 : decode cX0_close 13 = .ok (.iconst 1, 1) := dk_4 (dk_at dksX0_close_0 13 rfl rfl)
theorem dX0_close_14 : decode cX0_close 14 = .ok (.ireturn, 1) := dk_172 (dk_at dksX0_close_0 14 rfl rfl)
theorem dX0_close_15 : decode cX0_close 15 = .ok (.iconst 0, 1) := dk_3 (dk_at dksX0_close_0 15 rfl rfl)
theorem dX0_close_16 : decode cX0_close 16 = .ok (.ireturn, 1) := dk_172 (dk_at dksX0_close_0 16 rfl rfl)
abbrev cX0_open : ByteArray := method_11_code
def yX0_open : MethodName := ⟨RX0, "open", "(LRobotAisles;I[J)I"⟩
def dkwX0_open_0 : List UInt8 := [44, 3, 42, 27, 182, 0, 44, 133, 80, 167, 0, 6, 78, 4, 172, 3, 172]
abbrev dktX0_open_0 : List UInt8 := dkwX0_open_0 ++ []
theorem dksX0_open_0 : cX0_open.data.toList.drop 0 = dktX0_open_0 := by decide +kernel
theorem dX0_open_0 : decode cX0_open 0 = .ok (.aload_n 2, 1) := dk_44 (dk_at dksX0_open_0 0 rfl rfl)
theorem dX0_open_1 : decode cX0_open 1 = .ok (.iconst 0, 1) := dk_3 (dk_at dksX0_open_0 1 rfl rfl)
theorem dX0_open_2 : decode cX0_open 2 = .ok (.aload_n 0, 1) := dk_42 (dk_at dksX0_open_0 2 rfl rfl)
theorem dX0_open_3 : decode cX0_open 3 = .ok (.iload_n 1, 1) := dk_27 (dk_at dksX0_open_0 3 rfl rfl)
theorem dX0_open_4 : decode cX0_open 4 = .ok (.invokevirtual 44, 3) := dk_182 0 44 (dk_at dksX0_open_0 4 rfl rfl)
theorem dX0_open_7 : decode cX0_open 7 = .ok (.i2l, 1) := dk_133 (dk_at dksX0_open_0 7 rfl rfl)
theorem dX0_open_8 : decode cX0_open 8 = .ok (.lastore, 1) := dk_80 (dk_at dksX0_open_0 8 rfl rfl)
theorem dX0_open_9 : decode cX0_open 9 = .ok (.goto 6, 3) := dk_167 0 6 (dk_at dksX0_open_0 9 rfl rfl)
theorem dX0_open_12 : decode cX0_open 12 = .ok (.astore_n 3, 1) := dk_78 (dk_at dksX0_open_0 12 rfl rfl)
theorem dX0_open_13 : decode cX0_open 13 = .ok (.iconst 1, 1) := dk_4 (dk_at dksX0_open_0 13 rfl rfl)
theorem dX0_open_14 : decode cX0_open 14 = .ok (.ireturn, 1) := dk_172 (dk_at dksX0_open_0 14 rfl rfl)
theorem dX0_open_15 : decode cX0_open 15 = .ok (.iconst 0, 1) := dk_3 (dk_at dksX0_open_0 15 rfl rfl)
theorem dX0_open_16 : decode cX0_open 16 = .ok (.ireturn, 1) := dk_172 (dk_at dksX0_open_0 16 rfl rfl)
abbrev cX0_set : ByteArray := method_12_code
def yX0_set : MethodName := ⟨RX0, "set", "(LRobotAisles;II[J)I"⟩
def dkwX0_set_0 : List UInt8 := [45, 3, 42, 27, 28, 182, 0, 47, 133, 80, 167, 0, 7, 58, 4, 4, 172, 3, 172]
abbrev dktX0_set_0 : List UInt8 := dkwX0_set_0 ++ []
theorem dksX0_set_0 : cX0_set.data.toList.drop 0 = dktX0_set_0 := by decide +kernel
theorem dX0_set_0 : decode cX0_set 0 = .ok (.aload_n 3, 1) := dk_45 (dk_at dksX0_set_0 0 rfl rfl)
theorem dX0_set_1 : decode cX0_set 1 = .ok (.iconst 0, 1) := dk_3 (dk_at dksX0_set_0 1 rfl rfl)
theorem dX0_set_2 : decode cX0_set 2 = .ok (.aload_n 0, 1) := dk_42 (dk_at dksX0_set_0 2 rfl rfl)
theorem dX0_set_3 : decode cX0_set 3 = .ok (.iload_n 1, 1) := dk_27 (dk_at dksX0_set_0 3 rfl rfl)
theorem dX0_set_4 : decode cX0_set 4 = .ok (.iload_n 2, 1) := dk_28 (dk_at dksX0_set_0 4 rfl rfl)
theorem dX0_set_5 : decode cX0_set 5 = .ok (.invokevirtual 47, 3) := dk_182 0 47 (dk_at dksX0_set_0 5 rfl rfl)
theorem dX0_set_8 : decode cX0_set 8 = .ok (.i2l, 1) := dk_133 (dk_at dksX0_set_0 8 rfl rfl)
theorem dX0_set_9 : decode cX0_set 9 = .ok (.lastore, 1) := dk_80 (dk_at dksX0_set_0 9 rfl rfl)
theorem dX0_set_10 : decode cX0_set 10 = .ok (.goto 7, 3) := dk_167 0 7 (dk_at dksX0_set_0 10 rfl rfl)
theorem dX0_set_13 : decode cX0_set 13 = .ok (.astore 4, 2) := dk_58 4 (dk_at dksX0_set_0 13 rfl rfl)
theorem dX0_set_15 : decode cX0_set 15 = .ok (.iconst 1, 1) := dk_4 (dk_at dksX0_set_0 15 rfl rfl)
theorem dX0_set_16 : decode cX0_set 16 = .ok (.ireturn, 1) := dk_172 (dk_at dksX0_set_0 16 rfl rfl)
theorem dX0_set_17 : decode cX0_set 17 = .ok (.iconst 0, 1) := dk_3 (dk_at dksX0_set_0 17 rfl rfl)
theorem dX0_set_18 : decode cX0_set 18 = .ok (.ireturn, 1) := dk_172 (dk_at dksX0_set_0 18 rfl rfl)
abbrev cX0_plan : ByteArray := method_13_code
def yX0_plan : MethodName := ⟨RX0, "plan", "(LRobotAisles;II[J)I"⟩
def dkwX0_plan_0 : List UInt8 := [45, 3, 42, 27, 28, 182, 0, 50, 133, 80, 167, 0, 7, 58, 4, 4, 172, 3, 172]
abbrev dktX0_plan_0 : List UInt8 := dkwX0_plan_0 ++ []
theorem dksX0_plan_0 : cX0_plan.data.toList.drop 0 = dktX0_plan_0 := by decide +kernel
theorem dX0_plan_0 : decode cX0_plan 0 = .ok (.aload_n 3, 1) := dk_45 (dk_at dksX0_plan_0 0 rfl rfl)
theorem dX0_plan_1 : decode cX0_plan 1 = .ok (.iconst 0, 1) := dk_3 (dk_at dksX0_plan_0 1 rfl rfl)
theorem dX0_plan_2 : decode cX0_plan 2 = .ok (.aload_n 0, 1) := dk_42 (dk_at dksX0_plan_0 2 rfl rfl)
theorem dX0_plan_3 : decode cX0_plan 3 = .ok (.iload_n 1, 1) := dk_27 (dk_at dksX0_plan_0 3 rfl rfl)
theorem dX0_plan_4 : decode cX0_plan 4 = .ok (.iload_n 2, 1) := dk_28 (dk_at dksX0_plan_0 4 rfl rfl)
theorem dX0_plan_5 : decode cX0_plan 5 = .ok (.invokevirtual 50, 3) := dk_182 0 50 (dk_at dksX0_plan_0 5 rfl rfl)
theorem dX0_plan_8 : decode cX0_plan 8 = .ok (.i2l, 1) := dk_133 (dk_at dksX0_plan_0 8 rfl rfl)
theorem dX0_plan_9 : decode cX0_plan 9 = .ok (.lastore, 1) := dk_80 (dk_at dksX0_plan_0 9 rfl rfl)
theorem dX0_plan_10 : decode cX0_plan 10 = .ok (.goto 7, 3) := dk_167 0 7 (dk_at dksX0_plan_0 10 rfl rfl)
theorem dX0_plan_13 : decode cX0_plan 13 = .ok (.astore 4, 2) := dk_58 4 (dk_at dksX0_plan_0 13 rfl rfl)
theorem dX0_plan_15 : decode cX0_plan 15 = .ok (.iconst 1, 1) := dk_4 (dk_at dksX0_plan_0 15 rfl rfl)
theorem dX0_plan_16 : decode cX0_plan 16 = .ok (.ireturn, 1) := dk_172 (dk_at dksX0_plan_0 16 rfl rfl)
theorem dX0_plan_17 : decode cX0_plan 17 = .ok (.iconst 0, 1) := dk_3 (dk_at dksX0_plan_0 17 rfl rfl)
theorem dX0_plan_18 : decode cX0_plan 18 = .ok (.ireturn, 1) := dk_172 (dk_at dksX0_plan_0 18 rfl rfl)
abbrev cX0_cancel : ByteArray := method_14_code
def yX0_cancel : MethodName := ⟨RX0, "cancel", "(LRobotAisles;I[J)I"⟩
def dkwX0_cancel_0 : List UInt8 := [44, 3, 42, 27, 182, 0, 53, 133, 80, 167, 0, 6, 78, 4, 172, 3, 172]
abbrev dktX0_cancel_0 : List UInt8 := dkwX0_cancel_0 ++ []
theorem dksX0_cancel_0 : cX0_cancel.data.toList.drop 0 = dktX0_cancel_0 := by decide +kernel
theorem dX0_cancel_0 : decode cX0_cancel 0 = .ok (.aload_n 2, 1) := dk_44 (dk_at dksX0_cancel_0 0 rfl rfl)
theorem dX0_cancel_1 : decode cX0_cancel 1 = .ok (.iconst 0, 1) := dk_3 (dk_at dksX0_cancel_0 1 rfl rfl)
theorem dX0_cancel_2 : decode cX0_cancel 2 = .ok (.aload_n 0, 1) := dk_42 (dk_at dksX0_cancel_0 2 rfl rfl)
theorem dX0_cancel_3 : decode cX0_cancel 3 = .ok (.iload_n 1, 1) := dk_27 (dk_at dksX0_cancel_0 3 rfl rfl)
theorem dX0_cancel_4 : decode cX0_cancel 4 = .ok (.invokevirtual 53, 3) := dk_182 0 53 (dk_at dksX0_cancel_0 4 rfl rfl)
theorem dX0_cancel_7 : decode cX0_cancel 7 = .ok (.i2l, 1) := dk_133 (dk_at dksX0_cancel_0 7 rfl rfl)
theorem dX0_cancel_8 : decode cX0_cancel 8 = .ok (.lastore, 1) := dk_80 (dk_at dksX0_cancel_0 8 rfl rfl)
theorem dX0_cancel_9 : decode cX0_cancel 9 = .ok (.goto 6, 3) := dk_167 0 6 (dk_at dksX0_cancel_0 9 rfl rfl)
theorem dX0_cancel_12 : decode cX0_cancel 12 = .ok (.astore_n 3, 1) := dk_78 (dk_at dksX0_cancel_0 12 rfl rfl)
theorem dX0_cancel_13 : decode cX0_cancel 13 = .ok (.iconst 1, 1) := dk_4 (dk_at dksX0_cancel_0 13 rfl rfl)
theorem dX0_cancel_14 : decode cX0_cancel 14 = .ok (.ireturn, 1) := dk_172 (dk_at dksX0_cancel_0 14 rfl rfl)
theorem dX0_cancel_15 : decode cX0_cancel 15 = .ok (.iconst 0, 1) := dk_3 (dk_at dksX0_cancel_0 15 rfl rfl)
theorem dX0_cancel_16 : decode cX0_cancel 16 = .ok (.ireturn, 1) := dk_172 (dk_at dksX0_cancel_0 16 rfl rfl)
abbrev cX0_pass : ByteArray := method_15_code
def yX0_pass : MethodName := ⟨RX0, "pass", "(LRobotAisles;I[J)I"⟩
def dkwX0_pass_0 : List UInt8 := [44, 3, 42, 27, 182, 0, 56, 133, 80, 167, 0, 6, 78, 4, 172, 3, 172]
abbrev dktX0_pass_0 : List UInt8 := dkwX0_pass_0 ++ []
theorem dksX0_pass_0 : cX0_pass.data.toList.drop 0 = dktX0_pass_0 := by decide +kernel
theorem dX0_pass_0 : decode cX0_pass 0 = .ok (.aload_n 2, 1) := dk_44 (dk_at dksX0_pass_0 0 rfl rfl)
theorem dX0_pass_1 : decode cX0_pass 1 = .ok (.iconst 0, 1) := dk_3 (dk_at dksX0_pass_0 1 rfl rfl)
theorem dX0_pass_2 : decode cX0_pass 2 = .ok (.aload_n 0, 1) := dk_42 (dk_at dksX0_pass_0 2 rfl rfl)
theorem dX0_pass_3 : decode cX0_pass 3 = .ok (.iload_n 1, 1) := dk_27 (dk_at dksX0_pass_0 3 rfl rfl)
theorem dX0_pass_4 : decode cX0_pass 4 = .ok (.invokevirtual 56, 3) := dk_182 0 56 (dk_at dksX0_pass_0 4 rfl rfl)
theorem dX0_pass_7 : decode cX0_pass 7 = .ok (.i2l, 1) := dk_133 (dk_at dksX0_pass_0 7 rfl rfl)
theorem dX0_pass_8 : decode cX0_pass 8 = .ok (.lastore, 1) := dk_80 (dk_at dksX0_pass_0 8 rfl rfl)
theorem dX0_pass_9 : decode cX0_pass 9 = .ok (.goto 6, 3) := dk_167 0 6 (dk_at dksX0_pass_0 9 rfl rfl)
theorem dX0_pass_12 : decode cX0_pass 12 = .ok (.astore_n 3, 1) := dk_78 (dk_at dksX0_pass_0 12 rfl rfl)
theorem dX0_pass_13 : decode cX0_pass 13 = .ok (.iconst 1, 1) := dk_4 (dk_at dksX0_pass_0 13 rfl rfl)
theorem dX0_pass_14 : decode cX0_pass 14 = .ok (.ireturn, 1) := dk_172 (dk_at dksX0_pass_0 14 rfl rfl)
theorem dX0_pass_15 : decode cX0_pass 15 = .ok (.iconst 0, 1) := dk_3 (dk_at dksX0_pass_0 15 rfl rfl)
theorem dX0_pass_16 : decode cX0_pass 16 = .ok (.ireturn, 1) := dk_172 (dk_at dksX0_pass_0 16 rfl rfl)
abbrev cX0_cell : ByteArray := method_16_code
def yX0_cell : MethodName := ⟨RX0, "cell", "(LRobotAisles;II[J)I"⟩
def dkwX0_cell_0 : List UInt8 := [45, 3, 42, 27, 28, 182, 0, 59, 133, 80, 167, 0, 11, 58, 4, 4, 172, 58, 4, 5, 172, 3, 172]
abbrev dktX0_cell_0 : List UInt8 := dkwX0_cell_0 ++ []
theorem dksX0_cell_0 : cX0_cell.data.toList.drop 0 = dktX0_cell_0 := by decide +kernel
theorem dX0_cell_0 : decode cX0_cell 0 = .ok (.aload_n 3, 1) := dk_45 (dk_at dksX0_cell_0 0 rfl rfl)
theorem dX0_cell_1 : decode cX0_cell 1 = .ok (.iconst 0, 1) := dk_3 (dk_at dksX0_cell_0 1 rfl rfl)
theorem dX0_cell_2 : decode cX0_cell 2 = .ok (.aload_n 0, 1) := dk_42 (dk_at dksX0_cell_0 2 rfl rfl)
theorem dX0_cell_3 : decode cX0_cell 3 = .ok (.iload_n 1, 1) := dk_27 (dk_at dksX0_cell_0 3 rfl rfl)
theorem dX0_cell_4 : decode cX0_cell 4 = .ok (.iload_n 2, 1) := dk_28 (dk_at dksX0_cell_0 4 rfl rfl)
theorem dX0_cell_5 : decode cX0_cell 5 = .ok (.invokevirtual 59, 3) := dk_182 0 59 (dk_at dksX0_cell_0 5 rfl rfl)
theorem dX0_cell_8 : decode cX0_cell 8 = .ok (.i2l, 1) := dk_133 (dk_at dksX0_cell_0 8 rfl rfl)
theorem dX0_cell_9 : decode cX0_cell 9 = .ok (.lastore, 1) := dk_80 (dk_at dksX0_cell_0 9 rfl rfl)
theorem dX0_cell_10 : decode cX0_cell 10 = .ok (.goto 11, 3) := dk_167 0 11 (dk_at dksX0_cell_0 10 rfl rfl)
theorem dX0_cell_13 : decode cX0_cell 13 = .ok (.astore 4, 2) := dk_58 4 (dk_at dksX0_cell_0 13 rfl rfl)
theorem dX0_cell_15 : decode cX0_cell 15 = .ok (.iconst 1, 1) := dk_4 (dk_at dksX0_cell_0 15 rfl rfl)
theorem dX0_cell_16 : decode cX0_cell 16 = .ok (.ireturn, 1) := dk_172 (dk_at dksX0_cell_0 16 rfl rfl)
theorem dX0_cell_17 : decode cX0_cell 17 = .ok (.astore 4, 2) := dk_58 4 (dk_at dksX0_cell_0 17 rfl rfl)
theorem dX0_cell_19 : decode cX0_cell 19 = .ok (.iconst 2, 1) := dk_5 (dk_at dksX0_cell_0 19 rfl rfl)
theorem dX0_cell_20 : decode cX0_cell 20 = .ok (.ireturn, 1) := dk_172 (dk_at dksX0_cell_0 20 rfl rfl)
theorem dX0_cell_21 : decode cX0_cell 21 = .ok (.iconst 0, 1) := dk_3 (dk_at dksX0_cell_0 21 rfl rfl)
theorem dX0_cell_22 : decode cX0_cell 22 = .ok (.ireturn, 1) := dk_172 (dk_at dksX0_cell_0 22 rfl rfl)
abbrev cX0_letter : ByteArray := method_17_code
def yX0_letter : MethodName := ⟨RX0, "letter", "(LRobotAisles;I[J)I"⟩
def dkwX0_letter_0 : List UInt8 := [44, 3, 42, 27, 182, 0, 64, 133, 80, 167, 0, 6, 78, 4, 172, 3, 172]
abbrev dktX0_letter_0 : List UInt8 := dkwX0_letter_0 ++ []
theorem dksX0_letter_0 : cX0_letter.data.toList.drop 0 = dktX0_letter_0 := by decide +kernel
theorem dX0_letter_0 : decode cX0_letter 0 = .ok (.aload_n 2, 1) := dk_44 (dk_at dksX0_letter_0 0 rfl rfl)
theorem dX0_letter_1 : decode cX0_letter 1 = .ok (.iconst 0, 1) := dk_3 (dk_at dksX0_letter_0 1 rfl rfl)
theorem dX0_letter_2 : decode cX0_letter 2 = .ok (.aload_n 0, 1) := dk_42 (dk_at dksX0_letter_0 2 rfl rfl)
theorem dX0_letter_3 : decode cX0_letter 3 = .ok (.iload_n 1, 1) := dk_27 (dk_at dksX0_letter_0 3 rfl rfl)
theorem dX0_letter_4 : decode cX0_letter 4 = .ok (.invokevirtual 64, 3) := dk_182 0 64 (dk_at dksX0_letter_0 4 rfl rfl)
theorem dX0_letter_7 : decode cX0_letter 7 = .ok (.i2l, 1) := dk_133 (dk_at dksX0_letter_0 7 rfl rfl)
theorem dX0_letter_8 : decode cX0_letter 8 = .ok (.lastore, 1) := dk_80 (dk_at dksX0_letter_0 8 rfl rfl)
theorem dX0_letter_9 : decode cX0_letter 9 = .ok (.goto 6, 3) := dk_167 0 6 (dk_at dksX0_letter_0 9 rfl rfl)
theorem dX0_letter_12 : decode cX0_letter 12 = .ok (.astore_n 3, 1) := dk_78 (dk_at dksX0_letter_0 12 rfl rfl)
theorem dX0_letter_13 : decode cX0_letter 13 = .ok (.iconst 1, 1) := dk_4 (dk_at dksX0_letter_0 13 rfl rfl)
theorem dX0_letter_14 : decode cX0_letter 14 = .ok (.ireturn, 1) := dk_172 (dk_at dksX0_letter_0 14 rfl rfl)
theorem dX0_letter_15 : decode cX0_letter 15 = .ok (.iconst 0, 1) := dk_3 (dk_at dksX0_letter_0 15 rfl rfl)
theorem dX0_letter_16 : decode cX0_letter 16 = .ok (.ireturn, 1) := dk_172 (dk_at dksX0_letter_0 16 rfl rfl)
abbrev cX0_distance : ByteArray := method_18_code
def yX0_distance : MethodName := ⟨RX0, "distance", "(LRobotAisles;II[J)I"⟩
def dkwX0_distance_0 : List UInt8 := [45, 3, 42, 27, 28, 182, 0, 68, 133, 80, 167, 0, 11, 58, 4, 4, 172, 58, 4, 5, 172, 3, 172]
abbrev dktX0_distance_0 : List UInt8 := dkwX0_distance_0 ++ []
theorem dksX0_distance_0 : cX0_distance.data.toList.drop 0 = dktX0_distance_0 := by decide +kernel
theorem dX0_distance_0 : decode cX0_distance 0 = .ok (.aload_n 3, 1) := dk_45 (dk_at dksX0_distance_0 0 rfl rfl)
theorem dX0_distance_1 : decode cX0_distance 1 = .ok (.iconst 0, 1) := dk_3 (dk_at dksX0_distance_0 1 rfl rfl)
theorem dX0_distance_2 : decode cX0_distance 2 = .ok (.aload_n 0, 1) := dk_42 (dk_at dksX0_distance_0 2 rfl rfl)
theorem dX0_distance_3 : decode cX0_distance 3 = .ok (.iload_n 1, 1) := dk_27 (dk_at dksX0_distance_0 3 rfl rfl)
theorem dX0_distance_4 : decode cX0_distance 4 = .ok (.iload_n 2, 1) := dk_28 (dk_at dksX0_distance_0 4 rfl rfl)
theorem dX0_distance_5 : decode cX0_distance 5 = .ok (.invokevirtual 68, 3) := dk_182 0 68 (dk_at dksX0_distance_0 5 rfl rfl)
theorem dX0_distance_8 : decode cX0_distance 8 = .ok (.i2l, 1) := dk_133 (dk_at dksX0_distance_0 8 rfl rfl)
theorem dX0_distance_9 : decode cX0_distance 9 = .ok (.lastore, 1) := dk_80 (dk_at dksX0_distance_0 9 rfl rfl)
theorem dX0_distance_10 : decode cX0_distance 10 = .ok (.goto 11, 3) := dk_167 0 11 (dk_at dksX0_distance_0 10 rfl rfl)
theorem dX0_distance_13 : decode cX0_distance 13 = .ok (.astore 4, 2) := dk_58 4 (dk_at dksX0_distance_0 13 rfl rfl)
theorem dX0_distance_15 : decode cX0_distance 15 = .ok (.iconst 1, 1) := dk_4 (dk_at dksX0_distance_0 15 rfl rfl)
theorem dX0_distance_16 : decode cX0_distance 16 = .ok (.ireturn, 1) := dk_172 (dk_at dksX0_distance_0 16 rfl rfl)
theorem dX0_distance_17 : decode cX0_distance 17 = .ok (.astore 4, 2) := dk_58 4 (dk_at dksX0_distance_0 17 rfl rfl)
theorem dX0_distance_19 : decode cX0_distance 19 = .ok (.iconst 2, 1) := dk_5 (dk_at dksX0_distance_0 19 rfl rfl)
theorem dX0_distance_20 : decode cX0_distance 20 = .ok (.ireturn, 1) := dk_172 (dk_at dksX0_distance_0 20 rfl rfl)
theorem dX0_distance_21 : decode cX0_distance 21 = .ok (.iconst 0, 1) := dk_3 (dk_at dksX0_distance_0 21 rfl rfl)
theorem dX0_distance_22 : decode cX0_distance 22 = .ok (.ireturn, 1) := dk_172 (dk_at dksX0_distance_0 22 rfl rfl)
abbrev cX0_distanceAgain : ByteArray := method_19_code
def yX0_distanceAgain : MethodName := ⟨RX0, "distanceAgain", "(LRobotAisles;II[J)I"⟩
def dkwX0_distanceAgain_0 : List UInt8 := [45, 3, 42, 27, 28, 182, 0, 73, 133, 80, 167, 0, 11, 58, 4, 4, 172, 58, 4, 5, 172, 3, 172]
abbrev dktX0_distanceAgain_0 : List UInt8 := dkwX0_distanceAgain_0 ++ []
theorem dksX0_distanceAgain_0 : cX0_distanceAgain.data.toList.drop 0 = dktX0_distanceAgain_0 := by decide +kernel
theorem dX0_distanceAgain_0 : decode cX0_distanceAgain 0 = .ok (.aload_n 3, 1) := dk_45 (dk_at dksX0_distanceAgain_0 0 rfl rfl)
theorem dX0_distanceAgain_1 : decode cX0_distanceAgain 1 = .ok (.iconst 0, 1) := dk_3 (dk_at dksX0_distanceAgain_0 1 rfl rfl)
theorem dX0_distanceAgain_2 : decode cX0_distanceAgain 2 = .ok (.aload_n 0, 1) := dk_42 (dk_at dksX0_distanceAgain_0 2 rfl rfl)
theorem dX0_distanceAgain_3 : decode cX0_distanceAgain 3 = .ok (.iload_n 1, 1) := dk_27 (dk_at dksX0_distanceAgain_0 3 rfl rfl)
theorem dX0_distanceAgain_4 : decode cX0_distanceAgain 4 = .ok (.iload_n 2, 1) := dk_28 (dk_at dksX0_distanceAgain_0 4 rfl rfl)
theorem dX0_distanceAgain_5 : decode cX0_distanceAgain 5 = .ok (.invokevirtual 73, 3) := dk_182 0 73 (dk_at dksX0_distanceAgain_0 5 rfl rfl)
theorem dX0_distanceAgain_8 : decode cX0_distanceAgain 8 = .ok (.i2l, 1) := dk_133 (dk_at dksX0_distanceAgain_0 8 rfl rfl)
theorem dX0_distanceAgain_9 : decode cX0_distanceAgain 9 = .ok (.lastore, 1) := dk_80 (dk_at dksX0_distanceAgain_0 9 rfl rfl)
theorem dX0_distanceAgain_10 : decode cX0_distanceAgain 10 = .ok (.goto 11, 3) := dk_167 0 11 (dk_at dksX0_distanceAgain_0 10 rfl rfl)
theorem dX0_distanceAgain_13 : decode cX0_distanceAgain 13 = .ok (.astore 4, 2) := dk_58 4 (dk_at dksX0_distanceAgain_0 13 rfl rfl)
theorem dX0_distanceAgain_15 : decode cX0_distanceAgain 15 = .ok (.iconst 1, 1) := dk_4 (dk_at dksX0_distanceAgain_0 15 rfl rfl)
theorem dX0_distanceAgain_16 : decode cX0_distanceAgain 16 = .ok (.ireturn, 1) := dk_172 (dk_at dksX0_distanceAgain_0 16 rfl rfl)
theorem dX0_distanceAgain_17 : decode cX0_distanceAgain 17 = .ok (.astore 4, 2) := dk_58 4 (dk_at dksX0_distanceAgain_0 17 rfl rfl)
theorem dX0_distanceAgain_19 : decode cX0_distanceAgain 19 = .ok (.iconst 2, 1) := dk_5 (dk_at dksX0_distanceAgain_0 19 rfl rfl)
theorem dX0_distanceAgain_20 : decode cX0_distanceAgain 20 = .ok (.ireturn, 1) := dk_172 (dk_at dksX0_distanceAgain_0 20 rfl rfl)
theorem dX0_distanceAgain_21 : decode cX0_distanceAgain 21 = .ok (.iconst 0, 1) := dk_3 (dk_at dksX0_distanceAgain_0 21 rfl rfl)
theorem dX0_distanceAgain_22 : decode cX0_distanceAgain 22 = .ok (.ireturn, 1) := dk_172 (dk_at dksX0_distanceAgain_0 22 rfl rfl)
abbrev cX0_reach : ByteArray := method_20_code
def yX0_reach : MethodName := ⟨RX0, "reach", "(LRobotAisles;I[J)I"⟩
def dkwX0_reach_0 : List UInt8 := [44, 3, 42, 27, 182, 0, 76, 133, 80, 167, 0, 6, 78, 4, 172, 3, 172]
abbrev dktX0_reach_0 : List UInt8 := dkwX0_reach_0 ++ []
theorem dksX0_reach_0 : cX0_reach.data.toList.drop 0 = dktX0_reach_0 := by decide +kernel
theorem dX0_reach_0 : decode cX0_reach 0 = .ok (.aload_n 2, 1) := dk_44 (dk_at dksX0_reach_0 0 rfl rfl)
theorem dX0_reach_1 : decode cX0_reach 1 = .ok (.iconst 0, 1) := dk_3 (dk_at dksX0_reach_0 1 rfl rfl)
theorem dX0_reach_2 : decode cX0_reach 2 = .ok (.aload_n 0, 1) := dk_42 (dk_at dksX0_reach_0 2 rfl rfl)
theorem dX0_reach_3 : decode cX0_reach 3 = .ok (.iload_n 1, 1) := dk_27 (dk_at dksX0_reach_0 3 rfl rfl)
theorem dX0_reach_4 : decode cX0_reach 4 = .ok (.invokevirtual 76, 3) := dk_182 0 76 (dk_at dksX0_reach_0 4 rfl rfl)
theorem dX0_reach_7 : decode cX0_reach 7 = .ok (.i2l, 1) := dk_133 (dk_at dksX0_reach_0 7 rfl rfl)
theorem dX0_reach_8 : decode cX0_reach 8 = .ok (.lastore, 1) := dk_80 (dk_at dksX0_reach_0 8 rfl rfl)
theorem dX0_reach_9 : decode cX0_reach 9 = .ok (.goto 6, 3) := dk_167 0 6 (dk_at dksX0_reach_0 9 rfl rfl)
theorem dX0_reach_12 : decode cX0_reach 12 = .ok (.astore_n 3, 1) := dk_78 (dk_at dksX0_reach_0 12 rfl rfl)
theorem dX0_reach_13 : decode cX0_reach 13 = .ok (.iconst 1, 1) := dk_4 (dk_at dksX0_reach_0 13 rfl rfl)
theorem dX0_reach_14 : decode cX0_reach 14 = .ok (.ireturn, 1) := dk_172 (dk_at dksX0_reach_0 14 rfl rfl)
theorem dX0_reach_15 : decode cX0_reach 15 = .ok (.iconst 0, 1) := dk_3 (dk_at dksX0_reach_0 15 rfl rfl)
theorem dX0_reach_16 : decode cX0_reach 16 = .ok (.ireturn, 1) := dk_172 (dk_at dksX0_reach_0 16 rfl rfl)
abbrev cX0_farthest : ByteArray := method_21_code
def yX0_farthest : MethodName := ⟨RX0, "farthest", "(LRobotAisles;I[J)I"⟩
def dkwX0_farthest_0 : List UInt8 := [44, 3, 42, 27, 182, 0, 79, 133, 80, 167, 0, 6, 78, 4, 172, 3, 172]
abbrev dktX0_farthest_0 : List UInt8 := dkwX0_farthest_0 ++ []
theorem dksX0_farthest_0 : cX0_farthest.data.toList.drop 0 = dktX0_farthest_0 := by decide +kernel
theorem dX0_farthest_0 : decode cX0_farthest 0 = .ok (.aload_n 2, 1) := dk_44 (dk_at dksX0_farthest_0 0 rfl rfl)
theorem dX0_farthest_1 : decode cX0_farthest 1 = .ok (.iconst 0, 1) := dk_3 (dk_at dksX0_farthest_0 1 rfl rfl)
theorem dX0_farthest_2 : decode cX0_farthest 2 = .ok (.aload_n 0, 1) := dk_42 (dk_at dksX0_farthest_0 2 rfl rfl)
theorem dX0_farthest_3 : decode cX0_farthest 3 = .ok (.iload_n 1, 1) := dk_27 (dk_at dksX0_farthest_0 3 rfl rfl)
theorem dX0_farthest_4 : decode cX0_farthest 4 = .ok (.invokevirtual 79, 3) := dk_182 0 79 (dk_at dksX0_farthest_0 4 rfl rfl)
theorem dX0_farthest_7 : decode cX0_farthest 7 = .ok (.i2l, 1) := dk_133 (dk_at dksX0_farthest_0 7 rfl rfl)
theorem dX0_farthest_8 : decode cX0_farthest 8 = .ok (.lastore, 1) := dk_80 (dk_at dksX0_farthest_0 8 rfl rfl)
theorem dX0_farthest_9 : decode cX0_farthest 9 = .ok (.goto 6, 3) := dk_167 0 6 (dk_at dksX0_farthest_0 9 rfl rfl)
theorem dX0_farthest_12 : decode cX0_farthest 12 = .ok (.astore_n 3, 1) := dk_78 (dk_at dksX0_farthest_0 12 rfl rfl)
theorem dX0_farthest_13 : decode cX0_farthest 13 = .ok (.iconst 1, 1) := dk_4 (dk_at dksX0_farthest_0 13 rfl rfl)
theorem dX0_farthest_14 : decode cX0_farthest 14 = .ok (.ireturn, 1) := dk_172 (dk_at dksX0_farthest_0 14 rfl rfl)
theorem dX0_farthest_15 : decode cX0_farthest 15 = .ok (.iconst 0, 1) := dk_3 (dk_at dksX0_farthest_0 15 rfl rfl)
theorem dX0_farthest_16 : decode cX0_farthest 16 = .ok (.ireturn, 1) := dk_172 (dk_at dksX0_farthest_0 16 rfl rfl)
abbrev cX0_robotOf : ByteArray := method_22_code
def yX0_robotOf : MethodName := ⟨RX0, "robotOf", "(LRobotAisles;II[J)I"⟩
def dkwX0_robotOf_0 : List UInt8 := [45, 3, 42, 27, 28, 182, 0, 82, 133, 80, 167, 0, 11, 58, 4, 4, 172, 58, 4, 5, 172, 3, 172]
abbrev dktX0_robotOf_0 : List UInt8 := dkwX0_robotOf_0 ++ []
theorem dksX0_robotOf_0 : cX0_robotOf.data.toList.drop 0 = dktX0_robotOf_0 := by decide +kernel
theorem dX0_robotOf_0 : decode cX0_robotOf 0 = .ok (.aload_n 3, 1) := dk_45 (dk_at dksX0_robotOf_0 0 rfl rfl)
theorem dX0_robotOf_1 : decode cX0_robotOf 1 = .ok (.iconst 0, 1) := dk_3 (dk_at dksX0_robotOf_0 1 rfl rfl)
theorem dX0_robotOf_2 : decode cX0_robotOf 2 = .ok (.aload_n 0, 1) := dk_42 (dk_at dksX0_robotOf_0 2 rfl rfl)
theorem dX0_robotOf_3 : decode cX0_robotOf 3 = .ok (.iload_n 1, 1) := dk_27 (dk_at dksX0_robotOf_0 3 rfl rfl)
theorem dX0_robotOf_4 : decode cX0_robotOf 4 = .ok (.iload_n 2, 1) := dk_28 (dk_at dksX0_robotOf_0 4 rfl rfl)
theorem dX0_robotOf_5 : decode cX0_robotOf 5 = .ok (.invokevirtual 82, 3) := dk_182 0 82 (dk_at dksX0_robotOf_0 5 rfl rfl)
theorem dX0_robotOf_8 : decode cX0_robotOf 8 = .ok (.i2l, 1) := dk_133 (dk_at dksX0_robotOf_0 8 rfl rfl)
theorem dX0_robotOf_9 : decode cX0_robotOf 9 = .ok (.lastore, 1) := dk_80 (dk_at dksX0_robotOf_0 9 rfl rfl)
theorem dX0_robotOf_10 : decode cX0_robotOf 10 = .ok (.goto 11, 3) := dk_167 0 11 (dk_at dksX0_robotOf_0 10 rfl rfl)
theorem dX0_robotOf_13 : decode cX0_robotOf 13 = .ok (.astore 4, 2) := dk_58 4 (dk_at dksX0_robotOf_0 13 rfl rfl)
theorem dX0_robotOf_15 : decode cX0_robotOf 15 = .ok (.iconst 1, 1) := dk_4 (dk_at dksX0_robotOf_0 15 rfl rfl)
theorem dX0_robotOf_16 : decode cX0_robotOf 16 = .ok (.ireturn, 1) := dk_172 (dk_at dksX0_robotOf_0 16 rfl rfl)
theorem dX0_robotOf_17 : decode cX0_robotOf 17 = .ok (.astore 4, 2) := dk_58 4 (dk_at dksX0_robotOf_0 17 rfl rfl)
theorem dX0_robotOf_19 : decode cX0_robotOf 19 = .ok (.iconst 2, 1) := dk_5 (dk_at dksX0_robotOf_0 19 rfl rfl)
theorem dX0_robotOf_20 : decode cX0_robotOf 20 = .ok (.ireturn, 1) := dk_172 (dk_at dksX0_robotOf_0 20 rfl rfl)
theorem dX0_robotOf_21 : decode cX0_robotOf 21 = .ok (.iconst 0, 1) := dk_3 (dk_at dksX0_robotOf_0 21 rfl rfl)
theorem dX0_robotOf_22 : decode cX0_robotOf 22 = .ok (.ireturn, 1) := dk_172 (dk_at dksX0_robotOf_0 22 rfl rfl)
abbrev cX0_planned : ByteArray := method_23_code
def yX0_planned : MethodName := ⟨RX0, "planned", "(LRobotAisles;II[J)I"⟩
def dkwX0_planned_0 : List UInt8 := [45, 3, 42, 27, 28, 182, 0, 85, 133, 80, 167, 0, 11, 58, 4, 4, 172, 58, 4, 5, 172, 3, 172]
abbrev dktX0_planned_0 : List UInt8 := dkwX0_planned_0 ++ []
theorem dksX0_planned_0 : cX0_planned.data.toList.drop 0 = dktX0_planned_0 := by decide +kernel
theorem dX0_planned_0 : decode cX0_planned 0 = .ok (.aload_n 3, 1) := dk_45 (dk_at dksX0_planned_0 0 rfl rfl)
theorem dX0_planned_1 : decode cX0_planned 1 = .ok (.iconst 0, 1) := dk_3 (dk_at dksX0_planned_0 1 rfl rfl)
theorem dX0_planned_2 : decode cX0_planned 2 = .ok (.aload_n 0, 1) := dk_42 (dk_at dksX0_planned_0 2 rfl rfl)
theorem dX0_planned_3 : decode cX0_planned 3 = .ok (.iload_n 1, 1) := dk_27 (dk_at dksX0_planned_0 3 rfl rfl)
theorem dX0_planned_4 : decode cX0_planned 4 = .ok (.iload_n 2, 1) := dk_28 (dk_at dksX0_planned_0 4 rfl rfl)
theorem dX0_planned_5 : decode cX0_planned 5 = .ok (.invokevirtual 85, 3) := dk_182 0 85 (dk_at dksX0_planned_0 5 rfl rfl)
theorem dX0_planned_8 : decode cX0_planned 8 = .ok (.i2l, 1) := dk_133 (dk_at dksX0_planned_0 8 rfl rfl)
theorem dX0_planned_9 : decode cX0_planned 9 = .ok (.lastore, 1) := dk_80 (dk_at dksX0_planned_0 9 rfl rfl)
theorem dX0_planned_10 : decode cX0_planned 10 = .ok (.goto 11, 3) := dk_167 0 11 (dk_at dksX0_planned_0 10 rfl rfl)
theorem dX0_planned_13 : decode cX0_planned 13 = .ok (.astore 4, 2) := dk_58 4 (dk_at dksX0_planned_0 13 rfl rfl)
theorem dX0_planned_15 : decode cX0_planned 15 = .ok (.iconst 1, 1) := dk_4 (dk_at dksX0_planned_0 15 rfl rfl)
theorem dX0_planned_16 : decode cX0_planned 16 = .ok (.ireturn, 1) := dk_172 (dk_at dksX0_planned_0 16 rfl rfl)
theorem dX0_planned_17 : decode cX0_planned 17 = .ok (.astore 4, 2) := dk_58 4 (dk_at dksX0_planned_0 17 rfl rfl)
theorem dX0_planned_19 : decode cX0_planned 19 = .ok (.iconst 2, 1) := dk_5 (dk_at dksX0_planned_0 19 rfl rfl)
theorem dX0_planned_20 : decode cX0_planned 20 = .ok (.ireturn, 1) := dk_172 (dk_at dksX0_planned_0 20 rfl rfl)
theorem dX0_planned_21 : decode cX0_planned 21 = .ok (.iconst 0, 1) := dk_3 (dk_at dksX0_planned_0 21 rfl rfl)
theorem dX0_planned_22 : decode cX0_planned 22 = .ok (.ireturn, 1) := dk_172 (dk_at dksX0_planned_0 22 rfl rfl)
abbrev cX0_reserved : ByteArray := method_24_code
def yX0_reserved : MethodName := ⟨RX0, "reserved", "(LRobotAisles;II[J)I"⟩
def dkwX0_reserved_0 : List UInt8 := [45, 3, 42, 27, 28, 182, 0, 88, 133, 80, 167, 0, 11, 58, 4, 4, 172, 58, 4, 5, 172, 3, 172]
abbrev dktX0_reserved_0 : List UInt8 := dkwX0_reserved_0 ++ []
theorem dksX0_reserved_0 : cX0_reserved.data.toList.drop 0 = dktX0_reserved_0 := by decide +kernel
theorem dX0_reserved_0 : decode cX0_reserved 0 = .ok (.aload_n 3, 1) := dk_45 (dk_at dksX0_reserved_0 0 rfl rfl)
theorem dX0_reserved_1 : decode cX0_reserved 1 = .ok (.iconst 0, 1) := dk_3 (dk_at dksX0_reserved_0 1 rfl rfl)
theorem dX0_reserved_2 : decode cX0_reserved 2 = .ok (.aload_n 0, 1) := dk_42 (dk_at dksX0_reserved_0 2 rfl rfl)
theorem dX0_reserved_3 : decode cX0_reserved 3 = .ok (.iload_n 1, 1) := dk_27 (dk_at dksX0_reserved_0 3 rfl rfl)
theorem dX0_reserved_4 : decode cX0_reserved 4 = .ok (.iload_n 2, 1) := dk_28 (dk_at dksX0_reserved_0 4 rfl rfl)
theorem dX0_reserved_5 : decode cX0_reserved 5 = .ok (.invokevirtual 88, 3) := dk_182 0 88 (dk_at dksX0_reserved_0 5 rfl rfl)
theorem dX0_reserved_8 : decode cX0_reserved 8 = .ok (.i2l, 1) := dk_133 (dk_at dksX0_reserved_0 8 rfl rfl)
theorem dX0_reserved_9 : decode cX0_reserved 9 = .ok (.lastore, 1) := dk_80 (dk_at dksX0_reserved_0 9 rfl rfl)
theorem dX0_reserved_10 : decode cX0_reserved 10 = .ok (.goto 11, 3) := dk_167 0 11 (dk_at dksX0_reserved_0 10 rfl rfl)
theorem dX0_reserved_13 : decode cX0_reserved 13 = .ok (.astore 4, 2) := dk_58 4 (dk_at dksX0_reserved_0 13 rfl rfl)
theorem dX0_reserved_15 : decode cX0_reserved 15 = .ok (.iconst 1, 1) := dk_4 (dk_at dksX0_reserved_0 15 rfl rfl)
theorem dX0_reserved_16 : decode cX0_reserved 16 = .ok (.ireturn, 1) := dk_172 (dk_at dksX0_reserved_0 16 rfl rfl)
theorem dX0_reserved_17 : decode cX0_reserved 17 = .ok (.astore 4, 2) := dk_58 4 (dk_at dksX0_reserved_0 17 rfl rfl)
theorem dX0_reserved_19 : decode cX0_reserved 19 = .ok (.iconst 2, 1) := dk_5 (dk_at dksX0_reserved_0 19 rfl rfl)
theorem dX0_reserved_20 : decode cX0_reserved 20 = .ok (.ireturn, 1) := dk_172 (dk_at dksX0_reserved_0 20 rfl rfl)
theorem dX0_reserved_21 : decode cX0_reserved 21 = .ok (.iconst 0, 1) := dk_3 (dk_at dksX0_reserved_0 21 rfl rfl)
theorem dX0_reserved_22 : decode cX0_reserved 22 = .ok (.ireturn, 1) := dk_172 (dk_at dksX0_reserved_0 22 rfl rfl)
abbrev cX0_arrival : ByteArray := method_25_code
def yX0_arrival : MethodName := ⟨RX0, "arrival", "(LRobotAisles;II[J)I"⟩
def dkwX0_arrival_0 : List UInt8 := [45, 3, 42, 27, 28, 182, 0, 91, 133, 80, 167, 0, 11, 58, 4, 4, 172, 58, 4, 5, 172, 3, 172]
abbrev dktX0_arrival_0 : List UInt8 := dkwX0_arrival_0 ++ []
theorem dksX0_arrival_0 : cX0_arrival.data.toList.drop 0 = dktX0_arrival_0 := by decide +kernel
theorem dX0_arrival_0 : decode cX0_arrival 0 = .ok (.aload_n 3, 1) := dk_45 (dk_at dksX0_arrival_0 0 rfl rfl)
theorem dX0_arrival_1 : decode cX0_arrival 1 = .ok (.iconst 0, 1) := dk_3 (dk_at dksX0_arrival_0 1 rfl rfl)
theorem dX0_arrival_2 : decode cX0_arrival 2 = .ok (.aload_n 0, 1) := dk_42 (dk_at dksX0_arrival_0 2 rfl rfl)
theorem dX0_arrival_3 : decode cX0_arrival 3 = .ok (.iload_n 1, 1) := dk_27 (dk_at dksX0_arrival_0 3 rfl rfl)
theorem dX0_arrival_4 : decode cX0_arrival 4 = .ok (.iload_n 2, 1) := dk_28 (dk_at dksX0_arrival_0 4 rfl rfl)
theorem dX0_arrival_5 : decode cX0_arrival 5 = .ok (.invokevirtual 91, 3) := dk_182 0 91 (dk_at dksX0_arrival_0 5 rfl rfl)
theorem dX0_arrival_8 : decode cX0_arrival 8 = .ok (.i2l, 1) := dk_133 (dk_at dksX0_arrival_0 8 rfl rfl)
theorem dX0_arrival_9 : decode cX0_arrival 9 = .ok (.lastore, 1) := dk_80 (dk_at dksX0_arrival_0 9 rfl rfl)
theorem dX0_arrival_10 : decode cX0_arrival 10 = .ok (.goto 11, 3) := dk_167 0 11 (dk_at dksX0_arrival_0 10 rfl rfl)
theorem dX0_arrival_13 : decode cX0_arrival 13 = .ok (.astore 4, 2) := dk_58 4 (dk_at dksX0_arrival_0 13 rfl rfl)
theorem dX0_arrival_15 : decode cX0_arrival 15 = .ok (.iconst 1, 1) := dk_4 (dk_at dksX0_arrival_0 15 rfl rfl)
theorem dX0_arrival_16 : decode cX0_arrival 16 = .ok (.ireturn, 1) := dk_172 (dk_at dksX0_arrival_0 16 rfl rfl)
theorem dX0_arrival_17 : decode cX0_arrival 17 = .ok (.astore 4, 2) := dk_58 4 (dk_at dksX0_arrival_0 17 rfl rfl)
theorem dX0_arrival_19 : decode cX0_arrival 19 = .ok (.iconst 2, 1) := dk_5 (dk_at dksX0_arrival_0 19 rfl rfl)
theorem dX0_arrival_20 : decode cX0_arrival 20 = .ok (.ireturn, 1) := dk_172 (dk_at dksX0_arrival_0 20 rfl rfl)
theorem dX0_arrival_21 : decode cX0_arrival 21 = .ok (.iconst 0, 1) := dk_3 (dk_at dksX0_arrival_0 21 rfl rfl)
theorem dX0_arrival_22 : decode cX0_arrival 22 = .ok (.ireturn, 1) := dk_172 (dk_at dksX0_arrival_0 22 rfl rfl)
abbrev cX0_arrivalAgain : ByteArray := method_26_code
def yX0_arrivalAgain : MethodName := ⟨RX0, "arrivalAgain", "(LRobotAisles;II[J)I"⟩
def dkwX0_arrivalAgain_0 : List UInt8 := [45, 3, 42, 27, 28, 182, 0, 94, 133, 80, 167, 0, 11, 58, 4, 4, 172, 58, 4, 5, 172, 3, 172]
abbrev dktX0_arrivalAgain_0 : List UInt8 := dkwX0_arrivalAgain_0 ++ []
theorem dksX0_arrivalAgain_0 : cX0_arrivalAgain.data.toList.drop 0 = dktX0_arrivalAgain_0 := by decide +kernel
theorem dX0_arrivalAgain_0 : decode cX0_arrivalAgain 0 = .ok (.aload_n 3, 1) := dk_45 (dk_at dksX0_arrivalAgain_0 0 rfl rfl)
theorem dX0_arrivalAgain_1 : decode cX0_arrivalAgain 1 = .ok (.iconst 0, 1) := dk_3 (dk_at dksX0_arrivalAgain_0 1 rfl rfl)
theorem dX0_arrivalAgain_2 : decode cX0_arrivalAgain 2 = .ok (.aload_n 0, 1) := dk_42 (dk_at dksX0_arrivalAgain_0 2 rfl rfl)
theorem dX0_arrivalAgain_3 : decode cX0_arrivalAgain 3 = .ok (.iload_n 1, 1) := dk_27 (dk_at dksX0_arrivalAgain_0 3 rfl rfl)
theorem dX0_arrivalAgain_4 : decode cX0_arrivalAgain 4 = .ok (.iload_n 2, 1) := dk_28 (dk_at dksX0_arrivalAgain_0 4 rfl rfl)
theorem dX0_arrivalAgain_5 : decode cX0_arrivalAgain 5 = .ok (.invokevirtual 94, 3) := dk_182 0 94 (dk_at dksX0_arrivalAgain_0 5 rfl rfl)
theorem dX0_arrivalAgain_8 : decode cX0_arrivalAgain 8 = .ok (.i2l, 1) := dk_133 (dk_at dksX0_arrivalAgain_0 8 rfl rfl)
theorem dX0_arrivalAgain_9 : decode cX0_arrivalAgain 9 = .ok (.lastore, 1) := dk_80 (dk_at dksX0_arrivalAgain_0 9 rfl rfl)
theorem dX0_arrivalAgain_10 : decode cX0_arrivalAgain 10 = .ok (.goto 11, 3) := dk_167 0 11 (dk_at dksX0_arrivalAgain_0 10 rfl rfl)
theorem dX0_arrivalAgain_13 : decode cX0_arrivalAgain 13 = .ok (.astore 4, 2) := dk_58 4 (dk_at dksX0_arrivalAgain_0 13 rfl rfl)
theorem dX0_arrivalAgain_15 : decode cX0_arrivalAgain 15 = .ok (.iconst 1, 1) := dk_4 (dk_at dksX0_arrivalAgain_0 15 rfl rfl)
theorem dX0_arrivalAgain_16 : decode cX0_arrivalAgain 16 = .ok (.ireturn, 1) := dk_172 (dk_at dksX0_arrivalAgain_0 16 rfl rfl)
theorem dX0_arrivalAgain_17 : decode cX0_arrivalAgain 17 = .ok (.astore 4, 2) := dk_58 4 (dk_at dksX0_arrivalAgain_0 17 rfl rfl)
theorem dX0_arrivalAgain_19 : decode cX0_arrivalAgain 19 = .ok (.iconst 2, 1) := dk_5 (dk_at dksX0_arrivalAgain_0 19 rfl rfl)
theorem dX0_arrivalAgain_20 : decode cX0_arrivalAgain 20 = .ok (.ireturn, 1) := dk_172 (dk_at dksX0_arrivalAgain_0 20 rfl rfl)
theorem dX0_arrivalAgain_21 : decode cX0_arrivalAgain 21 = .ok (.iconst 0, 1) := dk_3 (dk_at dksX0_arrivalAgain_0 21 rfl rfl)
theorem dX0_arrivalAgain_22 : decode cX0_arrivalAgain 22 = .ok (.ireturn, 1) := dk_172 (dk_at dksX0_arrivalAgain_0 22 rfl rfl)
abbrev cX0_orderOf : ByteArray := method_27_code
def yX0_orderOf : MethodName := ⟨RX0, "orderOf", "(LRobotAisles;II[J)I"⟩
def dkwX0_orderOf_0 : List UInt8 := [45, 3, 42, 27, 28, 182, 0, 97, 133, 80, 167, 0, 11, 58, 4, 4, 172, 58, 4, 5, 172, 3, 172]
abbrev dktX0_orderOf_0 : List UInt8 := dkwX0_orderOf_0 ++ []
theorem dksX0_orderOf_0 : cX0_orderOf.data.toList.drop 0 = dktX0_orderOf_0 := by decide +kernel
theorem dX0_orderOf_0 : decode cX0_orderOf 0 = .ok (.aload_n 3, 1) := dk_45 (dk_at dksX0_orderOf_0 0 rfl rfl)
theorem dX0_orderOf_1 : decode cX0_orderOf 1 = .ok (.iconst 0, 1) := dk_3 (dk_at dksX0_orderOf_0 1 rfl rfl)
theorem dX0_orderOf_2 : decode cX0_orderOf 2 = .ok (.aload_n 0, 1) := dk_42 (dk_at dksX0_orderOf_0 2 rfl rfl)
theorem dX0_orderOf_3 : decode cX0_orderOf 3 = .ok (.iload_n 1, 1) := dk_27 (dk_at dksX0_orderOf_0 3 rfl rfl)
theorem dX0_orderOf_4 : decode cX0_orderOf 4 = .ok (.iload_n 2, 1) := dk_28 (dk_at dksX0_orderOf_0 4 rfl rfl)
theorem dX0_orderOf_5 : decode cX0_orderOf 5 = .ok (.invokevirtual 97, 3) := dk_182 0 97 (dk_at dksX0_orderOf_0 5 rfl rfl)
theorem dX0_orderOf_8 : decode cX0_orderOf 8 = .ok (.i2l, 1) := dk_133 (dk_at dksX0_orderOf_0 8 rfl rfl)
theorem dX0_orderOf_9 : decode cX0_orderOf 9 = .ok (.lastore, 1) := dk_80 (dk_at dksX0_orderOf_0 9 rfl rfl)
theorem dX0_orderOf_10 : decode cX0_orderOf 10 = .ok (.goto 11, 3) := dk_167 0 11 (dk_at dksX0_orderOf_0 10 rfl rfl)
theorem dX0_orderOf_13 : decode cX0_orderOf 13 = .ok (.astore 4, 2) := dk_58 4 (dk_at dksX0_orderOf_0 13 rfl rfl)
theorem dX0_orderOf_15 : decode cX0_orderOf 15 = .ok (.iconst 1, 1) := dk_4 (dk_at dksX0_orderOf_0 15 rfl rfl)
theorem dX0_orderOf_16 : decode cX0_orderOf 16 = .ok (.ireturn, 1) := dk_172 (dk_at dksX0_orderOf_0 16 rfl rfl)
theorem dX0_orderOf_17 : decode cX0_orderOf 17 = .ok (.astore 4, 2) := dk_58 4 (dk_at dksX0_orderOf_0 17 rfl rfl)
theorem dX0_orderOf_19 : decode cX0_orderOf 19 = .ok (.iconst 2, 1) := dk_5 (dk_at dksX0_orderOf_0 19 rfl rfl)
theorem dX0_orderOf_20 : decode cX0_orderOf 20 = .ok (.ireturn, 1) := dk_172 (dk_at dksX0_orderOf_0 20 rfl rfl)
theorem dX0_orderOf_21 : decode cX0_orderOf 21 = .ok (.iconst 0, 1) := dk_3 (dk_at dksX0_orderOf_0 21 rfl rfl)
theorem dX0_orderOf_22 : decode cX0_orderOf 22 = .ok (.ireturn, 1) := dk_172 (dk_at dksX0_orderOf_0 22 rfl rfl)
abbrev cX0_line : ByteArray := method_28_code
def yX0_line : MethodName := ⟨RX0, "line", "(LRobotAisles;II[J)I"⟩
def dkwX0_line_0 : List UInt8 := [45, 3, 42, 27, 28, 182, 0, 100, 133, 80, 167, 0, 7, 58, 4, 4, 172, 3, 172]
abbrev dktX0_line_0 : List UInt8 := dkwX0_line_0 ++ []
theorem dksX0_line_0 : cX0_line.data.toList.drop 0 = dktX0_line_0 := by decide +kernel
theorem dX0_line_0 : decode cX0_line 0 = .ok (.aload_n 3, 1) := dk_45 (dk_at dksX0_line_0 0 rfl rfl)
theorem dX0_line_1 : decode cX0_line 1 = .ok (.iconst 0, 1) := dk_3 (dk_at dksX0_line_0 1 rfl rfl)
theorem dX0_line_2 : decode cX0_line 2 = .ok (.aload_n 0, 1) := dk_42 (dk_at dksX0_line_0 2 rfl rfl)
theorem dX0_line_3 : decode cX0_line 3 = .ok (.iload_n 1, 1) := dk_27 (dk_at dksX0_line_0 3 rfl rfl)
theorem dX0_line_4 : decode cX0_line 4 = .ok (.iload_n 2, 1) := dk_28 (dk_at dksX0_line_0 4 rfl rfl)
theorem dX0_line_5 : decode cX0_line 5 = .ok (.invokevirtual 100, 3) := dk_182 0 100 (dk_at dksX0_line_0 5 rfl rfl)
theorem dX0_line_8 : decode cX0_line 8 = .ok (.i2l, 1) := dk_133 (dk_at dksX0_line_0 8 rfl rfl)
theorem dX0_line_9 : decode cX0_line 9 = .ok (.lastore, 1) := dk_80 (dk_at dksX0_line_0 9 rfl rfl)
theorem dX0_line_10 : decode cX0_line 10 = .ok (.goto 7, 3) := dk_167 0 7 (dk_at dksX0_line_0 10 rfl rfl)
theorem dX0_line_13 : decode cX0_line 13 = .ok (.astore 4, 2) := dk_58 4 (dk_at dksX0_line_0 13 rfl rfl)
theorem dX0_line_15 : decode cX0_line 15 = .ok (.iconst 1, 1) := dk_4 (dk_at dksX0_line_0 15 rfl rfl)
theorem dX0_line_16 : decode cX0_line 16 = .ok (.ireturn, 1) := dk_172 (dk_at dksX0_line_0 16 rfl rfl)
theorem dX0_line_17 : decode cX0_line 17 = .ok (.iconst 0, 1) := dk_3 (dk_at dksX0_line_0 17 rfl rfl)
theorem dX0_line_18 : decode cX0_line 18 = .ok (.ireturn, 1) := dk_172 (dk_at dksX0_line_0 18 rfl rfl)
abbrev cX0_waiting : ByteArray := method_29_code
def yX0_waiting : MethodName := ⟨RX0, "waiting", "(LRobotAisles;I[J)I"⟩
def dkwX0_waiting_0 : List UInt8 := [44, 3, 42, 27, 182, 0, 103, 133, 80, 167, 0, 6, 78, 4, 172, 3, 172]
abbrev dktX0_waiting_0 : List UInt8 := dkwX0_waiting_0 ++ []
theorem dksX0_waiting_0 : cX0_waiting.data.toList.drop 0 = dktX0_waiting_0 := by decide +kernel
theorem dX0_waiting_0 : decode cX0_waiting 0 = .ok (.aload_n 2, 1) := dk_44 (dk_at dksX0_waiting_0 0 rfl rfl)
theorem dX0_waiting_1 : decode cX0_waiting 1 = .ok (.iconst 0, 1) := dk_3 (dk_at dksX0_waiting_0 1 rfl rfl)
theorem dX0_waiting_2 : decode cX0_waiting 2 = .ok (.aload_n 0, 1) := dk_42 (dk_at dksX0_waiting_0 2 rfl rfl)
theorem dX0_waiting_3 : decode cX0_waiting 3 = .ok (.iload_n 1, 1) := dk_27 (dk_at dksX0_waiting_0 3 rfl rfl)
theorem dX0_waiting_4 : decode cX0_waiting 4 = .ok (.invokevirtual 103, 3) := dk_182 0 103 (dk_at dksX0_waiting_0 4 rfl rfl)
theorem dX0_waiting_7 : decode cX0_waiting 7 = .ok (.i2l, 1) := dk_133 (dk_at dksX0_waiting_0 7 rfl rfl)
theorem dX0_waiting_8 : decode cX0_waiting 8 = .ok (.lastore, 1) := dk_80 (dk_at dksX0_waiting_0 8 rfl rfl)
theorem dX0_waiting_9 : decode cX0_waiting 9 = .ok (.goto 6, 3) := dk_167 0 6 (dk_at dksX0_waiting_0 9 rfl rfl)
theorem dX0_waiting_12 : decode cX0_waiting 12 = .ok (.astore_n 3, 1) := dk_78 (dk_at dksX0_waiting_0 12 rfl rfl)
theorem dX0_waiting_13 : decode cX0_waiting 13 = .ok (.iconst 1, 1) := dk_4 (dk_at dksX0_waiting_0 13 rfl rfl)
theorem dX0_waiting_14 : decode cX0_waiting 14 = .ok (.ireturn, 1) := dk_172 (dk_at dksX0_waiting_0 14 rfl rfl)
theorem dX0_waiting_15 : decode cX0_waiting 15 = .ok (.iconst 0, 1) := dk_3 (dk_at dksX0_waiting_0 15 rfl rfl)
theorem dX0_waiting_16 : decode cX0_waiting 16 = .ok (.ireturn, 1) := dk_172 (dk_at dksX0_waiting_0 16 rfl rfl)
abbrev cX0_suited : ByteArray := method_30_code
def yX0_suited : MethodName := ⟨RX0, "suited", "(LRobotAisles;I[J)I"⟩
def dkwX0_suited_0 : List UInt8 := [44, 3, 42, 27, 182, 0, 106, 133, 80, 167, 0, 9, 78, 4, 172, 78, 5, 172, 3, 172]
abbrev dktX0_suited_0 : List UInt8 := dkwX0_suited_0 ++ []
theorem dksX0_suited_0 : cX0_suited.data.toList.drop 0 = dktX0_suited_0 := by decide +kernel
theorem dX0_suited_0 : decode cX0_suited 0 = .ok (.aload_n 2, 1) := dk_44 (dk_at dksX0_suited_0 0 rfl rfl)
theorem dX0_suited_1 : decode cX0_suited 1 = .ok (.iconst 0, 1) := dk_3 (dk_at dksX0_suited_0 1 rfl rfl)
theorem dX0_suited_2 : decode cX0_suited 2 = .ok (.aload_n 0, 1) := dk_42 (dk_at dksX0_suited_0 2 rfl rfl)
theorem dX0_suited_3 : decode cX0_suited 3 = .ok (.iload_n 1, 1) := dk_27 (dk_at dksX0_suited_0 3 rfl rfl)
theorem dX0_suited_4 : decode cX0_suited 4 = .ok (.invokevirtual 106, 3) := dk_182 0 106 (dk_at dksX0_suited_0 4 rfl rfl)
theorem dX0_suited_7 : decode cX0_suited 7 = .ok (.i2l, 1) := dk_133 (dk_at dksX0_suited_0 7 rfl rfl)
theorem dX0_suited_8 : decode cX0_suited 8 = .ok (.lastore, 1) := dk_80 (dk_at dksX0_suited_0 8 rfl rfl)
theorem dX0_suited_9 : decode cX0_suited 9 = .ok (.goto 9, 3) := dk_167 0 9 (dk_at dksX0_suited_0 9 rfl rfl)
theorem dX0_suited_12 : decode cX0_suited 12 = .ok (.astore_n 3, 1) := dk_78 (dk_at dksX0_suited_0 12 rfl rfl)
theorem dX0_suited_13 : decode cX0_suited 13 = .ok (.iconst 1, 1) := dk_4 (dk_at dksX0_suited_0 13 rfl rfl)
theorem dX0_suited_14 : decode cX0_suited 14 = .ok (.ireturn, 1) := dk_172 (dk_at dksX0_suited_0 14 rfl rfl)
theorem dX0_suited_15 : decode cX0_suited 15 = .ok (.astore_n 3, 1) := dk_78 (dk_at dksX0_suited_0 15 rfl rfl)
theorem dX0_suited_16 : decode cX0_suited 16 = .ok (.iconst 2, 1) := dk_5 (dk_at dksX0_suited_0 16 rfl rfl)
theorem dX0_suited_17 : decode cX0_suited 17 = .ok (.ireturn, 1) := dk_172 (dk_at dksX0_suited_0 17 rfl rfl)
theorem dX0_suited_18 : decode cX0_suited 18 = .ok (.iconst 0, 1) := dk_3 (dk_at dksX0_suited_0 18 rfl rfl)
theorem dX0_suited_19 : decode cX0_suited 19 = .ok (.ireturn, 1) := dk_172 (dk_at dksX0_suited_0 19 rfl rfl)
abbrev cX0_tour : ByteArray := method_31_code
def yX0_tour : MethodName := ⟨RX0, "tour", "(LRobotAisles;I[J)I"⟩
def dkwX0_tour_0 : List UInt8 := [44, 3, 42, 27, 182, 0, 109, 133, 80, 167, 0, 9, 78, 4, 172, 78, 5, 172, 3, 172]
abbrev dktX0_tour_0 : List UInt8 := dkwX0_tour_0 ++ []
theorem dksX0_tour_0 : cX0_tour.data.toList.drop 0 = dktX0_tour_0 := by decide +kernel
theorem dX0_tour_0 : decode cX0_tour 0 = .ok (.aload_n 2, 1) := dk_44 (dk_at dksX0_tour_0 0 rfl rfl)
theorem dX0_tour_1 : decode cX0_tour 1 = .ok (.iconst 0, 1) := dk_3 (dk_at dksX0_tour_0 1 rfl rfl)
theorem dX0_tour_2 : decode cX0_tour 2 = .ok (.aload_n 0, 1) := dk_42 (dk_at dksX0_tour_0 2 rfl rfl)
theorem dX0_tour_3 : decode cX0_tour 3 = .ok (.iload_n 1, 1) := dk_27 (dk_at dksX0_tour_0 3 rfl rfl)
theorem dX0_tour_4 : decode cX0_tour 4 = .ok (.invokevirtual 109, 3) := dk_182 0 109 (dk_at dksX0_tour_0 4 rfl rfl)
theorem dX0_tour_7 : decode cX0_tour 7 = .ok (.i2l, 1) := dk_133 (dk_at dksX0_tour_0 7 rfl rfl)
theorem dX0_tour_8 : decode cX0_tour 8 = .ok (.lastore, 1) := dk_80 (dk_at dksX0_tour_0 8 rfl rfl)
theorem dX0_tour_9 : decode cX0_tour 9 = .ok (.goto 9, 3) := dk_167 0 9 (dk_at dksX0_tour_0 9 rfl rfl)
theorem dX0_tour_12 : decode cX0_tour 12 = .ok (.astore_n 3, 1) := dk_78 (dk_at dksX0_tour_0 12 rfl rfl)
theorem dX0_tour_13 : decode cX0_tour 13 = .ok (.iconst 1, 1) := dk_4 (dk_at dksX0_tour_0 13 rfl rfl)
theorem dX0_tour_14 : decode cX0_tour 14 = .ok (.ireturn, 1) := dk_172 (dk_at dksX0_tour_0 14 rfl rfl)
theorem dX0_tour_15 : decode cX0_tour 15 = .ok (.astore_n 3, 1) := dk_78 (dk_at dksX0_tour_0 15 rfl rfl)
theorem dX0_tour_16 : decode cX0_tour 16 = .ok (.iconst 2, 1) := dk_5 (dk_at dksX0_tour_0 16 rfl rfl)
theorem dX0_tour_17 : decode cX0_tour 17 = .ok (.ireturn, 1) := dk_172 (dk_at dksX0_tour_0 17 rfl rfl)
theorem dX0_tour_18 : decode cX0_tour 18 = .ok (.iconst 0, 1) := dk_3 (dk_at dksX0_tour_0 18 rfl rfl)
theorem dX0_tour_19 : decode cX0_tour 19 = .ok (.ireturn, 1) := dk_172 (dk_at dksX0_tour_0 19 rfl rfl)
abbrev cX0_loaded : ByteArray := method_32_code
def yX0_loaded : MethodName := ⟨RX0, "loaded", "(LRobotAisles;[D)I"⟩
def dkwX0_loaded_0 : List UInt8 := [43, 3, 42, 182, 0, 112, 141, 82, 167, 0, 6, 77, 4, 172, 3, 172]
abbrev dktX0_loaded_0 : List UInt8 := dkwX0_loaded_0 ++ []
theorem dksX0_loaded_0 : cX0_loaded.data.toList.drop 0 = dktX0_loaded_0 := by decide +kernel
theorem dX0_loaded_0 : decode cX0_loaded 0 = .ok (.aload_n 1, 1) := dk_43 (dk_at dksX0_loaded_0 0 rfl rfl)
theorem dX0_loaded_1 : decode cX0_loaded 1 = .ok (.iconst 0, 1) := dk_3 (dk_at dksX0_loaded_0 1 rfl rfl)
theorem dX0_loaded_2 : decode cX0_loaded 2 = .ok (.aload_n 0, 1) := dk_42 (dk_at dksX0_loaded_0 2 rfl rfl)
theorem dX0_loaded_3 : decode cX0_loaded 3 = .ok (.invokevirtual 112, 3) := dk_182 0 112 (dk_at dksX0_loaded_0 3 rfl rfl)
theorem dX0_loaded_6 : decode cX0_loaded 6 = .ok (.f2d, 1) := dk_141 (dk_at dksX0_loaded_0 6 rfl rfl)
theorem dX0_loaded_7 : decode cX0_loaded 7 = .ok (.dastore, 1) := dk_82 (dk_at dksX0_loaded_0 7 rfl rfl)
theorem dX0_loaded_8 : decode cX0_loaded 8 = .ok (.goto 6, 3) := dk_167 0 6 (dk_at dksX0_loaded_0 8 rfl rfl)
theorem dX0_loaded_11 : decode cX0_loaded 11 = .ok (.astore_n 2, 1) := dk_77 (dk_at dksX0_loaded_0 11 rfl rfl)
theorem dX0_loaded_12 : decode cX0_loaded 12 = .ok (.iconst 1, 1) := dk_4 (dk_at dksX0_loaded_0 12 rfl rfl)
theorem dX0_loaded_13 : decode cX0_loaded 13 = .ok (.ireturn, 1) := dk_172 (dk_at dksX0_loaded_0 13 rfl rfl)
theorem dX0_loaded_14 : decode cX0_loaded 14 = .ok (.iconst 0, 1) := dk_3 (dk_at dksX0_loaded_0 14 rfl rfl)
theorem dX0_loaded_15 : decode cX0_loaded 15 = .ok (.ireturn, 1) := dk_172 (dk_at dksX0_loaded_0 15 rfl rfl)
abbrev cX0_lateness : ByteArray := method_33_code
def yX0_lateness : MethodName := ⟨RX0, "lateness", "(LRobotAisles;[D)I"⟩
def dkwX0_lateness_0 : List UInt8 := [43, 3, 42, 182, 0, 118, 82, 167, 0, 6, 77, 4, 172, 3, 172]
abbrev dktX0_lateness_0 : List UInt8 := dkwX0_lateness_0 ++ []
theorem dksX0_lateness_0 : cX0_lateness.data.toList.drop 0 = dktX0_lateness_0 := by decide +kernel
theorem dX0_lateness_0 : decode cX0_lateness 0 = .ok (.aload_n 1, 1) := dk_43 (dk_at dksX0_lateness_0 0 rfl rfl)
theorem dX0_lateness_1 : decode cX0_lateness 1 = .ok (.iconst 0, 1) := dk_3 (dk_at dksX0_lateness_0 1 rfl rfl)
theorem dX0_lateness_2 : decode cX0_lateness 2 = .ok (.aload_n 0, 1) := dk_42 (dk_at dksX0_lateness_0 2 rfl rfl)
theorem dX0_lateness_3 : decode cX0_lateness 3 = .ok (.invokevirtual 118, 3) := dk_182 0 118 (dk_at dksX0_lateness_0 3 rfl rfl)
theorem dX0_lateness_6 : decode cX0_lateness 6 = .ok (.dastore, 1) := dk_82 (dk_at dksX0_lateness_0 6 rfl rfl)
theorem dX0_lateness_7 : decode cX0_lateness 7 = .ok (.goto 6, 3) := dk_167 0 6 (dk_at dksX0_lateness_0 7 rfl rfl)
theorem dX0_lateness_10 : decode cX0_lateness 10 = .ok (.astore_n 2, 1) := dk_77 (dk_at dksX0_lateness_0 10 rfl rfl)
theorem dX0_lateness_11 : decode cX0_lateness 11 = .ok (.iconst 1, 1) := dk_4 (dk_at dksX0_lateness_0 11 rfl rfl)
theorem dX0_lateness_12 : decode cX0_lateness 12 = .ok (.ireturn, 1) := dk_172 (dk_at dksX0_lateness_0 12 rfl rfl)
theorem dX0_lateness_13 : decode cX0_lateness 13 = .ok (.iconst 0, 1) := dk_3 (dk_at dksX0_lateness_0 13 rfl rfl)
theorem dX0_lateness_14 : decode cX0_lateness 14 = .ok (.ireturn, 1) := dk_172 (dk_at dksX0_lateness_0 14 rfl rfl)
abbrev cX0_reason : ByteArray := method_34_code
def yX0_reason : MethodName := ⟨RX0, "reason", "(LRobotAisles;Z[J)I"⟩
def dkwX0_reason_0 : List UInt8 := [44, 3, 42, 27, 182, 0, 122, 133, 80, 167, 0, 6, 78, 4, 172, 3, 172]
abbrev dktX0_reason_0 : List UInt8 := dkwX0_reason_0 ++ []
theorem dksX0_reason_0 : cX0_reason.data.toList.drop 0 = dktX0_reason_0 := by decide +kernel
theorem dX0_reason_0 : decode cX0_reason 0 = .ok (.aload_n 2, 1) := dk_44 (dk_at dksX0_reason_0 0 rfl rfl)
theorem dX0_reason_1 : decode cX0_reason 1 = .ok (.iconst 0, 1) := dk_3 (dk_at dksX0_reason_0 1 rfl rfl)
theorem dX0_reason_2 : decode cX0_reason 2 = .ok (.aload_n 0, 1) := dk_42 (dk_at dksX0_reason_0 2 rfl rfl)
theorem dX0_reason_3 : decode cX0_reason 3 = .ok (.iload_n 1, 1) := dk_27 (dk_at dksX0_reason_0 3 rfl rfl)
theorem dX0_reason_4 : decode cX0_reason 4 = .ok (.invokevirtual 122, 3) := dk_182 0 122 (dk_at dksX0_reason_0 4 rfl rfl)
theorem dX0_reason_7 : decode cX0_reason 7 = .ok (.i2l, 1) := dk_133 (dk_at dksX0_reason_0 7 rfl rfl)
theorem dX0_reason_8 : decode cX0_reason 8 = .ok (.lastore, 1) := dk_80 (dk_at dksX0_reason_0 8 rfl rfl)
theorem dX0_reason_9 : decode cX0_reason 9 = .ok (.goto 6, 3) := dk_167 0 6 (dk_at dksX0_reason_0 9 rfl rfl)
theorem dX0_reason_12 : decode cX0_reason 12 = .ok (.astore_n 3, 1) := dk_78 (dk_at dksX0_reason_0 12 rfl rfl)
theorem dX0_reason_13 : decode cX0_reason 13 = .ok (.iconst 1, 1) := dk_4 (dk_at dksX0_reason_0 13 rfl rfl)
theorem dX0_reason_14 : decode cX0_reason 14 = .ok (.ireturn, 1) := dk_172 (dk_at dksX0_reason_0 14 rfl rfl)
theorem dX0_reason_15 : decode cX0_reason 15 = .ok (.iconst 0, 1) := dk_3 (dk_at dksX0_reason_0 15 rfl rfl)
theorem dX0_reason_16 : decode cX0_reason 16 = .ok (.ireturn, 1) := dk_172 (dk_at dksX0_reason_0 16 rfl rfl)
abbrev cX0_account : ByteArray := method_35_code
def yX0_account : MethodName := ⟨RX0, "account", "(LRobotAisles;I[J)I"⟩
def dkwX0_account_0 : List UInt8 := [44, 3, 42, 27, 182, 0, 126, 133, 80, 167, 0, 6, 78, 4, 172, 3, 172]
abbrev dktX0_account_0 : List UInt8 := dkwX0_account_0 ++ []
theorem dksX0_account_0 : cX0_account.data.toList.drop 0 = dktX0_account_0 := by decide +kernel
theorem dX0_account_0 : decode cX0_account 0 = .ok (.aload_n 2, 1) := dk_44 (dk_at dksX0_account_0 0 rfl rfl)
theorem dX0_account_1 : decode cX0_account 1 = .ok (.iconst 0, 1) := dk_3 (dk_at dksX0_account_0 1 rfl rfl)
theorem dX0_account_2 : decode cX0_account 2 = .ok (.aload_n 0, 1) := dk_42 (dk_at dksX0_account_0 2 rfl rfl)
theorem dX0_account_3 : decode cX0_account 3 = .ok (.iload_n 1, 1) := dk_27 (dk_at dksX0_account_0 3 rfl rfl)
theorem dX0_account_4 : decode cX0_account 4 = .ok (.invokevirtual 126, 3) := dk_182 0 126 (dk_at dksX0_account_0 4 rfl rfl)
theorem dX0_account_7 : decode cX0_account 7 = .ok (.i2l, 1) := dk_133 (dk_at dksX0_account_0 7 rfl rfl)
theorem dX0_account_8 : decode cX0_account 8 = .ok (.lastore, 1) := dk_80 (dk_at dksX0_account_0 8 rfl rfl)
theorem dX0_account_9 : decode cX0_account 9 = .ok (.goto 6, 3) := dk_167 0 6 (dk_at dksX0_account_0 9 rfl rfl)
theorem dX0_account_12 : decode cX0_account 12 = .ok (.astore_n 3, 1) := dk_78 (dk_at dksX0_account_0 12 rfl rfl)
theorem dX0_account_13 : decode cX0_account 13 = .ok (.iconst 1, 1) := dk_4 (dk_at dksX0_account_0 13 rfl rfl)
theorem dX0_account_14 : decode cX0_account 14 = .ok (.ireturn, 1) := dk_172 (dk_at dksX0_account_0 14 rfl rfl)
theorem dX0_account_15 : decode cX0_account 15 = .ok (.iconst 0, 1) := dk_3 (dk_at dksX0_account_0 15 rfl rfl)
theorem dX0_account_16 : decode cX0_account 16 = .ok (.ireturn, 1) := dk_172 (dk_at dksX0_account_0 16 rfl rfl)
abbrev cX0_undo : ByteArray := method_36_code
def yX0_undo : MethodName := ⟨RX0, "undo", "(LRobotAisles;[J)I"⟩
def dkwX0_undo_0 : List UInt8 := [43, 3, 42, 182, 0, 129, 133, 80, 167, 0, 6, 77, 4, 172, 3, 172]
abbrev dktX0_undo_0 : List UInt8 := dkwX0_undo_0 ++ []
theorem dksX0_undo_0 : cX0_undo.data.toList.drop 0 = dktX0_undo_0 := by decide +kernel
theorem dX0_undo_0 : decode cX0_undo 0 = .ok (.aload_n 1, 1) := dk_43 (dk_at dksX0_undo_0 0 rfl rfl)
theorem dX0_undo_1 : decode cX0_undo 1 = .ok (.iconst 0, 1) := dk_3 (dk_at dksX0_undo_0 1 rfl rfl)
theorem dX0_undo_2 : decode cX0_undo 2 = .ok (.aload_n 0, 1) := dk_42 (dk_at dksX0_undo_0 2 rfl rfl)
theorem dX0_undo_3 : decode cX0_undo 3 = .ok (.invokevirtual 129, 3) := dk_182 0 129 (dk_at dksX0_undo_0 3 rfl rfl)
theorem dX0_undo_6 : decode cX0_undo 6 = .ok (.i2l, 1) := dk_133 (dk_at dksX0_undo_0 6 rfl rfl)
theorem dX0_undo_7 : decode cX0_undo 7 = .ok (.lastore, 1) := dk_80 (dk_at dksX0_undo_0 7 rfl rfl)
theorem dX0_undo_8 : decode cX0_undo 8 = .ok (.goto 6, 3) := dk_167 0 6 (dk_at dksX0_undo_0 8 rfl rfl)
theorem dX0_undo_11 : decode cX0_undo 11 = .ok (.astore_n 2, 1) := dk_77 (dk_at dksX0_undo_0 11 rfl rfl)
theorem dX0_undo_12 : decode cX0_undo 12 = .ok (.iconst 1, 1) := dk_4 (dk_at dksX0_undo_0 12 rfl rfl)
theorem dX0_undo_13 : decode cX0_undo 13 = .ok (.ireturn, 1) := dk_172 (dk_at dksX0_undo_0 13 rfl rfl)
theorem dX0_undo_14 : decode cX0_undo 14 = .ok (.iconst 0, 1) := dk_3 (dk_at dksX0_undo_0 14 rfl rfl)
theorem dX0_undo_15 : decode cX0_undo 15 = .ok (.ireturn, 1) := dk_172 (dk_at dksX0_undo_0 15 rfl rfl)
abbrev cX0_restore : ByteArray := method_37_code
def yX0_restore : MethodName := ⟨RX0, "restore", "(LRobotAisles;[J)I"⟩
def dkwX0_restore_0 : List UInt8 := [43, 3, 42, 182, 0, 132, 133, 80, 167, 0, 6, 77, 4, 172, 3, 172]
abbrev dktX0_restore_0 : List UInt8 := dkwX0_restore_0 ++ []
theorem dksX0_restore_0 : cX0_restore.data.toList.drop 0 = dktX0_restore_0 := by decide +kernel
theorem dX0_restore_0 : decode cX0_restore 0 = .ok (.aload_n 1, 1) := dk_43 (dk_at dksX0_restore_0 0 rfl rfl)
theorem dX0_restore_1 : decode cX0_restore 1 = .ok (.iconst 0, 1) := dk_3 (dk_at dksX0_restore_0 1 rfl rfl)
theorem dX0_restore_2 : decode cX0_restore 2 = .ok (.aload_n 0, 1) := dk_42 (dk_at dksX0_restore_0 2 rfl rfl)
theorem dX0_restore_3 : decode cX0_restore 3 = .ok (.invokevirtual 132, 3) := dk_182 0 132 (dk_at dksX0_restore_0 3 rfl rfl)
theorem dX0_restore_6 : decode cX0_restore 6 = .ok (.i2l, 1) := dk_133 (dk_at dksX0_restore_0 6 rfl rfl)
theorem dX0_restore_7 : decode cX0_restore 7 = .ok (.lastore, 1) := dk_80 (dk_at dksX0_restore_0 7 rfl rfl)
theorem dX0_restore_8 : decode cX0_restore 8 = .ok (.goto 6, 3) := dk_167 0 6 (dk_at dksX0_restore_0 8 rfl rfl)
theorem dX0_restore_11 : decode cX0_restore 11 = .ok (.astore_n 2, 1) := dk_77 (dk_at dksX0_restore_0 11 rfl rfl)
theorem dX0_restore_12 : decode cX0_restore 12 = .ok (.iconst 1, 1) := dk_4 (dk_at dksX0_restore_0 12 rfl rfl)
theorem dX0_restore_13 : decode cX0_restore 13 = .ok (.ireturn, 1) := dk_172 (dk_at dksX0_restore_0 13 rfl rfl)
theorem dX0_restore_14 : decode cX0_restore 14 = .ok (.iconst 0, 1) := dk_3 (dk_at dksX0_restore_0 14 rfl rfl)
theorem dX0_restore_15 : decode cX0_restore 15 = .ok (.ireturn, 1) := dk_172 (dk_at dksX0_restore_0 15 rfl rfl)
theorem q70 : (Jvm.Cond.initialized "RobotAislesLaw") ∈ lw_all := lw_g (lw_at lw_m1 0 rfl) rfl
theorem q120 : (Jvm.Cond.classLink "RobotAislesLaw" (8 : Nat) "RobotAisles") ∈ lw_all := lw_g (lw_at lw_m1 50 rfl) rfl
theorem q122 : (Jvm.Cond.methodLink "RobotAislesLaw" (135 : Nat) ({ cls := "RobotAisles", name := "<init>", desc := "()V" } : Jvm.MethodName)) ∈ lw_all := lw_g (lw_at lw_m1 52 rfl) rfl
theorem q227 : (Jvm.Cond.methodLink "RobotAislesLaw" (152 : Nat) ({ cls := "RobotAisles", name := "faultPosition", desc := "()I" } : Jvm.MethodName)) ∈ lw_all := lw_g (lw_at lw_m1 157 rfl) rfl
theorem q231 : (Jvm.Cond.methodLink "RobotAislesLaw" (257 : Nat) ({ cls := "RobotAisles", name := "save", desc := "()I" } : Jvm.MethodName)) ∈ lw_all := lw_g (lw_at lw_m1 161 rfl) rfl
theorem q419 : (Jvm.Cond.methodLink "RobotAislesLaw" (139 : Nat) ({ cls := "RobotAislesLaw", name := "append", desc := "(LRobotAisles;C[J)I" } : Jvm.MethodName)) ∈ lw_all := lw_g (lw_at lw_m2 109 rfl) rfl
theorem q420 : (Jvm.Cond.static ({ cls := "RobotAislesLaw", name := "append", desc := "(LRobotAisles;C[J)I" } : Jvm.MethodName)) ∈ lw_all := lw_g (lw_at lw_m2 110 rfl) rfl
theorem q421 : (Jvm.Cond.codeWith ({ cls := "RobotAislesLaw", name := "append", desc := "(LRobotAisles;C[J)I" } : Jvm.MethodName) method_3_code (4 : Nat) (Option.some Jvm.ClassFile.FieldType.int) [((0 : Nat), (9 : Nat), (12 : Nat), (13 : Nat))]) ∈ lw_all := lw_g (lw_at lw_m2 111 rfl) rfl
theorem q422 : (Jvm.Cond.classLink "RobotAislesLaw" (13 : Nat) "java/lang/IllegalStateException") ∈ lw_all := lw_g (lw_at lw_m2 112 rfl) rfl
theorem q423 : (Jvm.Cond.methodLink "RobotAislesLaw" (7 : Nat) ({ cls := "RobotAisles", name := "append", desc := "(C)I" } : Jvm.MethodName)) ∈ lw_all := lw_g (lw_at lw_m2 113 rfl) rfl
theorem q500 : (Jvm.Cond.methodLink "RobotAislesLaw" (148 : Nat) ({ cls := "RobotAislesLaw", name := "layout", desc := "(LRobotAisles;[J)I" } : Jvm.MethodName)) ∈ lw_all := lw_g (lw_at lw_m2 190 rfl) rfl
theorem q501 : (Jvm.Cond.static ({ cls := "RobotAislesLaw", name := "layout", desc := "(LRobotAisles;[J)I" } : Jvm.MethodName)) ∈ lw_all := lw_g (lw_at lw_m2 191 rfl) rfl
theorem q502 : (Jvm.Cond.codeWith ({ cls := "RobotAislesLaw", name := "layout", desc := "(LRobotAisles;[J)I" } : Jvm.MethodName) method_4_code (3 : Nat) (Option.some Jvm.ClassFile.FieldType.int) [((0 : Nat), (8 : Nat), (11 : Nat), (19 : Nat))]) ∈ lw_all := lw_g (lw_at lw_m2 192 rfl) rfl
theorem q503 : (Jvm.Cond.classLink "RobotAislesLaw" (19 : Nat) "java/lang/IllegalArgumentException") ∈ lw_all := lw_g (lw_at lw_m2 193 rfl) rfl
theorem q504 : (Jvm.Cond.methodLink "RobotAislesLaw" (15 : Nat) ({ cls := "RobotAisles", name := "layout", desc := "()I" } : Jvm.MethodName)) ∈ lw_all := lw_g (lw_at lw_m2 194 rfl) rfl
theorem q689 : (Jvm.Cond.methodLink "RobotAislesLaw" (156 : Nat) ({ cls := "RobotAislesLaw", name := "add", desc := "(LRobotAisles;II[J)I" } : Jvm.MethodName)) ∈ lw_all := lw_g (lw_at lw_m3 139 rfl) rfl
theorem q690 : (Jvm.Cond.static ({ cls := "RobotAislesLaw", name := "add", desc := "(LRobotAisles;II[J)I" } : Jvm.MethodName)) ∈ lw_all := lw_g (lw_at lw_m3 140 rfl) rfl
theorem q691 : (Jvm.Cond.codeWith ({ cls := "RobotAislesLaw", name := "add", desc := "(LRobotAisles;II[J)I" } : Jvm.MethodName) method_5_code (5 : Nat) (Option.some Jvm.ClassFile.FieldType.int) [((0 : Nat), (10 : Nat), (13 : Nat), (25 : Nat))]) ∈ lw_all := lw_g (lw_at lw_m3 141 rfl) rfl
theorem q692 : (Jvm.Cond.classLink "RobotAislesLaw" (25 : Nat) "java/lang/UnsupportedOperationException") ∈ lw_all := lw_g (lw_at lw_m3 142 rfl) rfl
theorem q693 : (Jvm.Cond.methodLink "RobotAislesLaw" (21 : Nat) ({ cls := "RobotAisles", name := "add", desc := "(II)I" } : Jvm.MethodName)) ∈ lw_all := lw_g (lw_at lw_m3 143 rfl) rfl
theorem q784 : (Jvm.Cond.methodLink "RobotAislesLaw" (160 : Nat) ({ cls := "RobotAislesLaw", name := "takeOff", desc := "(LRobotAisles;I[J)I" } : Jvm.MethodName)) ∈ lw_all := lw_g (lw_at lw_m3 234 rfl) rfl
theorem q785 : (Jvm.Cond.static ({ cls := "RobotAislesLaw", name := "takeOff", desc := "(LRobotAisles;I[J)I" } : Jvm.MethodName)) ∈ lw_all := lw_g (lw_at lw_m3 235 rfl) rfl
theorem q786 : (Jvm.Cond.codeWith ({ cls := "RobotAislesLaw", name := "takeOff", desc := "(LRobotAisles;I[J)I" } : Jvm.MethodName) method_6_code (4 : Nat) (Option.some Jvm.ClassFile.FieldType.int) [((0 : Nat), (9 : Nat), (12 : Nat), (25 : Nat))]) ∈ lw_all := lw_g (lw_at lw_m3 236 rfl) rfl
theorem q787 : (Jvm.Cond.methodLink "RobotAislesLaw" (27 : Nat) ({ cls := "RobotAisles", name := "takeOff", desc := "(I)I" } : Jvm.MethodName)) ∈ lw_all := lw_g (lw_at lw_m3 237 rfl) rfl
theorem q800 : (Jvm.Cond.methodLink "RobotAislesLaw" (164 : Nat) ({ cls := "RobotAislesLaw", name := "order", desc := "(LRobotAisles;IIII[J)I" } : Jvm.MethodName)) ∈ lw_all := lw_g (lw_at lw_m4 10 rfl) rfl
theorem q801 : (Jvm.Cond.static ({ cls := "RobotAislesLaw", name := "order", desc := "(LRobotAisles;IIII[J)I" } : Jvm.MethodName)) ∈ lw_all := lw_g (lw_at lw_m4 11 rfl) rfl
theorem q802 : (Jvm.Cond.codeWith ({ cls := "RobotAislesLaw", name := "order", desc := "(LRobotAisles;IIII[J)I" } : Jvm.MethodName) method_7_code (7 : Nat) (Option.some Jvm.ClassFile.FieldType.int) [((0 : Nat), (14 : Nat), (17 : Nat), (25 : Nat))]) ∈ lw_all := lw_g (lw_at lw_m4 12 rfl) rfl
theorem q803 : (Jvm.Cond.methodLink "RobotAislesLaw" (31 : Nat) ({ cls := "RobotAisles", name := "order", desc := "(IIII)I" } : Jvm.MethodName)) ∈ lw_all := lw_g (lw_at lw_m4 13 rfl) rfl
theorem q817 : (Jvm.Cond.methodLink "RobotAislesLaw" (168 : Nat) ({ cls := "RobotAislesLaw", name := "assign", desc := "(LRobotAisles;II[J)I" } : Jvm.MethodName)) ∈ lw_all := lw_g (lw_at lw_m4 27 rfl) rfl
theorem q818 : (Jvm.Cond.static ({ cls := "RobotAislesLaw", name := "assign", desc := "(LRobotAisles;II[J)I" } : Jvm.MethodName)) ∈ lw_all := lw_g (lw_at lw_m4 28 rfl) rfl
theorem q819 : (Jvm.Cond.codeWith ({ cls := "RobotAislesLaw", name := "assign", desc := "(LRobotAisles;II[J)I" } : Jvm.MethodName) method_8_code (5 : Nat) (Option.some Jvm.ClassFile.FieldType.int) [((0 : Nat), (10 : Nat), (13 : Nat), (25 : Nat))]) ∈ lw_all := lw_g (lw_at lw_m4 29 rfl) rfl
theorem q820 : (Jvm.Cond.methodLink "RobotAislesLaw" (35 : Nat) ({ cls := "RobotAisles", name := "assign", desc := "(II)I" } : Jvm.MethodName)) ∈ lw_all := lw_g (lw_at lw_m4 30 rfl) rfl
theorem q836 : (Jvm.Cond.methodLink "RobotAislesLaw" (171 : Nat) ({ cls := "RobotAislesLaw", name := "release", desc := "(LRobotAisles;I[J)I" } : Jvm.MethodName)) ∈ lw_all := lw_g (lw_at lw_m4 46 rfl) rfl
theorem q837 : (Jvm.Cond.static ({ cls := "RobotAislesLaw", name := "release", desc := "(LRobotAisles;I[J)I" } : Jvm.MethodName)) ∈ lw_all := lw_g (lw_at lw_m4 47 rfl) rfl
theorem q838 : (Jvm.Cond.codeWith ({ cls := "RobotAislesLaw", name := "release", desc := "(LRobotAisles;I[J)I" } : Jvm.MethodName) method_9_code (4 : Nat) (Option.some Jvm.ClassFile.FieldType.int) [((0 : Nat), (9 : Nat), (12 : Nat), (25 : Nat))]) ∈ lw_all := lw_g (lw_at lw_m4 48 rfl) rfl
theorem q839 : (Jvm.Cond.methodLink "RobotAislesLaw" (38 : Nat) ({ cls := "RobotAisles", name := "release", desc := "(I)I" } : Jvm.MethodName)) ∈ lw_all := lw_g (lw_at lw_m4 49 rfl) rfl
theorem q847 : (Jvm.Cond.methodLink "RobotAislesLaw" (174 : Nat) ({ cls := "RobotAislesLaw", name := "close", desc := "(LRobotAisles;I[J)I" } : Jvm.MethodName)) ∈ lw_all := lw_g (lw_at lw_m4 57 rfl) rfl
theorem q848 : (Jvm.Cond.static ({ cls := "RobotAislesLaw", name := "close", desc := "(LRobotAisles;I[J)I" } : Jvm.MethodName)) ∈ lw_all := lw_g (lw_at lw_m4 58 rfl) rfl
theorem q849 : (Jvm.Cond.codeWith ({ cls := "RobotAislesLaw", name := "close", desc := "(LRobotAisles;I[J)I" } : Jvm.MethodName) method_10_code (4 : Nat) (Option.some Jvm.ClassFile.FieldType.int) [((0 : Nat), (9 : Nat), (12 : Nat), (25 : Nat))]) ∈ lw_all := lw_g (lw_at lw_m4 59 rfl) rfl
theorem q850 : (Jvm.Cond.methodLink "RobotAislesLaw" (41 : Nat) ({ cls := "RobotAisles", name := "close", desc := "(I)I" } : Jvm.MethodName)) ∈ lw_all := lw_g (lw_at lw_m4 60 rfl) rfl
theorem q864 : (Jvm.Cond.methodLink "RobotAislesLaw" (177 : Nat) ({ cls := "RobotAislesLaw", name := "open", desc := "(LRobotAisles;I[J)I" } : Jvm.MethodName)) ∈ lw_all := lw_g (lw_at lw_m4 74 rfl) rfl
theorem q865 : (Jvm.Cond.static ({ cls := "RobotAislesLaw", name := "open", desc := "(LRobotAisles;I[J)I" } : Jvm.MethodName)) ∈ lw_all := lw_g (lw_at lw_m4 75 rfl) rfl
theorem q866 : (Jvm.Cond.codeWith ({ cls := "RobotAislesLaw", name := "open", desc := "(LRobotAisles;I[J)I" } : Jvm.MethodName) method_11_code (4 : Nat) (Option.some Jvm.ClassFile.FieldType.int) [((0 : Nat), (9 : Nat), (12 : Nat), (25 : Nat))]) ∈ lw_all := lw_g (lw_at lw_m4 76 rfl) rfl
theorem q867 : (Jvm.Cond.methodLink "RobotAislesLaw" (44 : Nat) ({ cls := "RobotAisles", name := "open", desc := "(I)I" } : Jvm.MethodName)) ∈ lw_all := lw_g (lw_at lw_m4 77 rfl) rfl
theorem q876 : (Jvm.Cond.methodLink "RobotAislesLaw" (180 : Nat) ({ cls := "RobotAislesLaw", name := "set", desc := "(LRobotAisles;II[J)I" } : Jvm.MethodName)) ∈ lw_all := lw_g (lw_at lw_m4 86 rfl) rfl
theorem q877 : (Jvm.Cond.static ({ cls := "RobotAislesLaw", name := "set", desc := "(LRobotAisles;II[J)I" } : Jvm.MethodName)) ∈ lw_all := lw_g (lw_at lw_m4 87 rfl) rfl
theorem q878 : (Jvm.Cond.codeWith ({ cls := "RobotAislesLaw", name := "set", desc := "(LRobotAisles;II[J)I" } : Jvm.MethodName) method_12_code (5 : Nat) (Option.some Jvm.ClassFile.FieldType.int) [((0 : Nat), (10 : Nat), (13 : Nat), (25 : Nat))]) ∈ lw_all := lw_g (lw_at lw_m4 88 rfl) rfl
theorem q879 : (Jvm.Cond.methodLink "RobotAislesLaw" (47 : Nat) ({ cls := "RobotAisles", name := "set", desc := "(II)I" } : Jvm.MethodName)) ∈ lw_all := lw_g (lw_at lw_m4 89 rfl) rfl
theorem q887 : (Jvm.Cond.methodLink "RobotAislesLaw" (183 : Nat) ({ cls := "RobotAislesLaw", name := "plan", desc := "(LRobotAisles;II[J)I" } : Jvm.MethodName)) ∈ lw_all := lw_g (lw_at lw_m4 97 rfl) rfl
theorem q888 : (Jvm.Cond.static ({ cls := "RobotAislesLaw", name := "plan", desc := "(LRobotAisles;II[J)I" } : Jvm.MethodName)) ∈ lw_all := lw_g (lw_at lw_m4 98 rfl) rfl
theorem q889 : (Jvm.Cond.codeWith ({ cls := "RobotAislesLaw", name := "plan", desc := "(LRobotAisles;II[J)I" } : Jvm.MethodName) method_13_code (5 : Nat) (Option.some Jvm.ClassFile.FieldType.int) [((0 : Nat), (10 : Nat), (13 : Nat), (25 : Nat))]) ∈ lw_all := lw_g (lw_at lw_m4 99 rfl) rfl
theorem q890 : (Jvm.Cond.methodLink "RobotAislesLaw" (50 : Nat) ({ cls := "RobotAisles", name := "plan", desc := "(II)I" } : Jvm.MethodName)) ∈ lw_all := lw_g (lw_at lw_m4 100 rfl) rfl
theorem q991 : (Jvm.Cond.methodLink "RobotAislesLaw" (186 : Nat) ({ cls := "RobotAislesLaw", name := "cancel", desc := "(LRobotAisles;I[J)I" } : Jvm.MethodName)) ∈ lw_all := lw_g (lw_at lw_m4 201 rfl) rfl
theorem q992 : (Jvm.Cond.static ({ cls := "RobotAislesLaw", name := "cancel", desc := "(LRobotAisles;I[J)I" } : Jvm.MethodName)) ∈ lw_all := lw_g (lw_at lw_m4 202 rfl) rfl
theorem q993 : (Jvm.Cond.codeWith ({ cls := "RobotAislesLaw", name := "cancel", desc := "(LRobotAisles;I[J)I" } : Jvm.MethodName) method_14_code (4 : Nat) (Option.some Jvm.ClassFile.FieldType.int) [((0 : Nat), (9 : Nat), (12 : Nat), (25 : Nat))]) ∈ lw_all := lw_g (lw_at lw_m4 203 rfl) rfl
theorem q994 : (Jvm.Cond.methodLink "RobotAislesLaw" (53 : Nat) ({ cls := "RobotAisles", name := "cancel", desc := "(I)I" } : Jvm.MethodName)) ∈ lw_all := lw_g (lw_at lw_m4 204 rfl) rfl
theorem q1006 : (Jvm.Cond.methodLink "RobotAislesLaw" (189 : Nat) ({ cls := "RobotAislesLaw", name := "pass", desc := "(LRobotAisles;I[J)I" } : Jvm.MethodName)) ∈ lw_all := lw_g (lw_at lw_m4 216 rfl) rfl
theorem q1007 : (Jvm.Cond.static ({ cls := "RobotAislesLaw", name := "pass", desc := "(LRobotAisles;I[J)I" } : Jvm.MethodName)) ∈ lw_all := lw_g (lw_at lw_m4 217 rfl) rfl
theorem q1008 : (Jvm.Cond.codeWith ({ cls := "RobotAislesLaw", name := "pass", desc := "(LRobotAisles;I[J)I" } : Jvm.MethodName) method_15_code (4 : Nat) (Option.some Jvm.ClassFile.FieldType.int) [((0 : Nat), (9 : Nat), (12 : Nat), (25 : Nat))]) ∈ lw_all := lw_g (lw_at lw_m4 218 rfl) rfl
theorem q1009 : (Jvm.Cond.methodLink "RobotAislesLaw" (56 : Nat) ({ cls := "RobotAisles", name := "pass", desc := "(I)I" } : Jvm.MethodName)) ∈ lw_all := lw_g (lw_at lw_m4 219 rfl) rfl
theorem q1034 : (Jvm.Cond.methodLink "RobotAislesLaw" (192 : Nat) ({ cls := "RobotAislesLaw", name := "cell", desc := "(LRobotAisles;II[J)I" } : Jvm.MethodName)) ∈ lw_all := lw_g (lw_at lw_m5 4 rfl) rfl
theorem q1035 : (Jvm.Cond.static ({ cls := "RobotAislesLaw", name := "cell", desc := "(LRobotAisles;II[J)I" } : Jvm.MethodName)) ∈ lw_all := lw_g (lw_at lw_m5 5 rfl) rfl
theorem q1036 : (Jvm.Cond.codeWith ({ cls := "RobotAislesLaw", name := "cell", desc := "(LRobotAisles;II[J)I" } : Jvm.MethodName) method_16_code (5 : Nat) (Option.some Jvm.ClassFile.FieldType.int) [((0 : Nat), (10 : Nat), (13 : Nat), (62 : Nat)), ((0 : Nat), (10 : Nat), (17 : Nat), (19 : Nat))]) ∈ lw_all := lw_g (lw_at lw_m5 6 rfl) rfl
theorem q1037 : (Jvm.Cond.classLink "RobotAislesLaw" (62 : Nat) "java/lang/IndexOutOfBoundsException") ∈ lw_all := lw_g (lw_at lw_m5 7 rfl) rfl
theorem q1069 : (Jvm.Cond.methodLink "RobotAislesLaw" (59 : Nat) ({ cls := "RobotAisles", name := "cell", desc := "(II)I" } : Jvm.MethodName)) ∈ lw_all := lw_g (lw_at lw_m5 39 rfl) rfl
theorem q1106 : (Jvm.Cond.methodLink "RobotAislesLaw" (195 : Nat) ({ cls := "RobotAislesLaw", name := "letter", desc := "(LRobotAisles;I[J)I" } : Jvm.MethodName)) ∈ lw_all := lw_g (lw_at lw_m5 76 rfl) rfl
theorem q1107 : (Jvm.Cond.static ({ cls := "RobotAislesLaw", name := "letter", desc := "(LRobotAisles;I[J)I" } : Jvm.MethodName)) ∈ lw_all := lw_g (lw_at lw_m5 77 rfl) rfl
theorem q1108 : (Jvm.Cond.codeWith ({ cls := "RobotAislesLaw", name := "letter", desc := "(LRobotAisles;I[J)I" } : Jvm.MethodName) method_17_code (4 : Nat) (Option.some Jvm.ClassFile.FieldType.int) [((0 : Nat), (9 : Nat), (12 : Nat), (62 : Nat))]) ∈ lw_all := lw_g (lw_at lw_m5 78 rfl) rfl
theorem q1109 : (Jvm.Cond.methodLink "RobotAislesLaw" (64 : Nat) ({ cls := "RobotAisles", name := "letter", desc := "(I)C" } : Jvm.MethodName)) ∈ lw_all := lw_g (lw_at lw_m5 79 rfl) rfl
theorem q1133 : (Jvm.Cond.methodLink "RobotAislesLaw" (198 : Nat) ({ cls := "RobotAislesLaw", name := "distance", desc := "(LRobotAisles;II[J)I" } : Jvm.MethodName)) ∈ lw_all := lw_g (lw_at lw_m5 103 rfl) rfl
theorem q1134 : (Jvm.Cond.static ({ cls := "RobotAislesLaw", name := "distance", desc := "(LRobotAisles;II[J)I" } : Jvm.MethodName)) ∈ lw_all := lw_g (lw_at lw_m5 104 rfl) rfl
theorem q1135 : (Jvm.Cond.codeWith ({ cls := "RobotAislesLaw", name := "distance", desc := "(LRobotAisles;II[J)I" } : Jvm.MethodName) method_18_code (5 : Nat) (Option.some Jvm.ClassFile.FieldType.int) [((0 : Nat), (10 : Nat), (13 : Nat), (62 : Nat)), ((0 : Nat), (10 : Nat), (17 : Nat), (71 : Nat))]) ∈ lw_all := lw_g (lw_at lw_m5 105 rfl) rfl
theorem q1136 : (Jvm.Cond.classLink "RobotAislesLaw" (71 : Nat) "java/util/NoSuchElementException") ∈ lw_all := lw_g (lw_at lw_m5 106 rfl) rfl
theorem q1137 : (Jvm.Cond.methodLink "RobotAislesLaw" (68 : Nat) ({ cls := "RobotAisles", name := "distance", desc := "(II)I" } : Jvm.MethodName)) ∈ lw_all := lw_g (lw_at lw_m5 107 rfl) rfl
theorem q1163 : (Jvm.Cond.methodLink "RobotAislesLaw" (201 : Nat) ({ cls := "RobotAislesLaw", name := "distanceAgain", desc := "(LRobotAisles;II[J)I" } : Jvm.MethodName)) ∈ lw_all := lw_g (lw_at lw_m5 133 rfl) rfl
theorem q1164 : (Jvm.Cond.static ({ cls := "RobotAislesLaw", name := "distanceAgain", desc := "(LRobotAisles;II[J)I" } : Jvm.MethodName)) ∈ lw_all := lw_g (lw_at lw_m5 134 rfl) rfl
theorem q1165 : (Jvm.Cond.codeWith ({ cls := "RobotAislesLaw", name := "distanceAgain", desc := "(LRobotAisles;II[J)I" } : Jvm.MethodName) method_19_code (5 : Nat) (Option.some Jvm.ClassFile.FieldType.int) [((0 : Nat), (10 : Nat), (13 : Nat), (62 : Nat)), ((0 : Nat), (10 : Nat), (17 : Nat), (71 : Nat))]) ∈ lw_all := lw_g (lw_at lw_m5 135 rfl) rfl
theorem q1166 : (Jvm.Cond.methodLink "RobotAislesLaw" (73 : Nat) ({ cls := "RobotAisles", name := "distanceAgain", desc := "(II)I" } : Jvm.MethodName)) ∈ lw_all := lw_g (lw_at lw_m5 136 rfl) rfl
theorem q1173 : (Jvm.Cond.methodLink "RobotAislesLaw" (204 : Nat) ({ cls := "RobotAislesLaw", name := "reach", desc := "(LRobotAisles;I[J)I" } : Jvm.MethodName)) ∈ lw_all := lw_g (lw_at lw_m5 143 rfl) rfl
theorem q1174 : (Jvm.Cond.static ({ cls := "RobotAislesLaw", name := "reach", desc := "(LRobotAisles;I[J)I" } : Jvm.MethodName)) ∈ lw_all := lw_g (lw_at lw_m5 144 rfl) rfl
theorem q1175 : (Jvm.Cond.codeWith ({ cls := "RobotAislesLaw", name := "reach", desc := "(LRobotAisles;I[J)I" } : Jvm.MethodName) method_20_code (4 : Nat) (Option.some Jvm.ClassFile.FieldType.int) [((0 : Nat), (9 : Nat), (12 : Nat), (62 : Nat))]) ∈ lw_all := lw_g (lw_at lw_m5 145 rfl) rfl
theorem q1176 : (Jvm.Cond.methodLink "RobotAislesLaw" (76 : Nat) ({ cls := "RobotAisles", name := "reach", desc := "(I)I" } : Jvm.MethodName)) ∈ lw_all := lw_g (lw_at lw_m5 146 rfl) rfl
theorem q1180 : (Jvm.Cond.methodLink "RobotAislesLaw" (207 : Nat) ({ cls := "RobotAislesLaw", name := "farthest", desc := "(LRobotAisles;I[J)I" } : Jvm.MethodName)) ∈ lw_all := lw_g (lw_at lw_m5 150 rfl) rfl
theorem q1181 : (Jvm.Cond.static ({ cls := "RobotAislesLaw", name := "farthest", desc := "(LRobotAisles;I[J)I" } : Jvm.MethodName)) ∈ lw_all := lw_g (lw_at lw_m5 151 rfl) rfl
theorem q1182 : (Jvm.Cond.codeWith ({ cls := "RobotAislesLaw", name := "farthest", desc := "(LRobotAisles;I[J)I" } : Jvm.MethodName) method_21_code (4 : Nat) (Option.some Jvm.ClassFile.FieldType.int) [((0 : Nat), (9 : Nat), (12 : Nat), (62 : Nat))]) ∈ lw_all := lw_g (lw_at lw_m5 152 rfl) rfl
theorem q1183 : (Jvm.Cond.methodLink "RobotAislesLaw" (79 : Nat) ({ cls := "RobotAisles", name := "farthest", desc := "(I)I" } : Jvm.MethodName)) ∈ lw_all := lw_g (lw_at lw_m5 153 rfl) rfl
theorem q1187 : (Jvm.Cond.methodLink "RobotAislesLaw" (210 : Nat) ({ cls := "RobotAislesLaw", name := "robotOf", desc := "(LRobotAisles;II[J)I" } : Jvm.MethodName)) ∈ lw_all := lw_g (lw_at lw_m5 157 rfl) rfl
theorem q1188 : (Jvm.Cond.static ({ cls := "RobotAislesLaw", name := "robotOf", desc := "(LRobotAisles;II[J)I" } : Jvm.MethodName)) ∈ lw_all := lw_g (lw_at lw_m5 158 rfl) rfl
theorem q1189 : (Jvm.Cond.codeWith ({ cls := "RobotAislesLaw", name := "robotOf", desc := "(LRobotAisles;II[J)I" } : Jvm.MethodName) method_22_code (5 : Nat) (Option.some Jvm.ClassFile.FieldType.int) [((0 : Nat), (10 : Nat), (13 : Nat), (62 : Nat)), ((0 : Nat), (10 : Nat), (17 : Nat), (19 : Nat))]) ∈ lw_all := lw_g (lw_at lw_m5 159 rfl) rfl
theorem q1190 : (Jvm.Cond.methodLink "RobotAislesLaw" (82 : Nat) ({ cls := "RobotAisles", name := "robotOf", desc := "(II)I" } : Jvm.MethodName)) ∈ lw_all := lw_g (lw_at lw_m5 160 rfl) rfl
theorem q1204 : (Jvm.Cond.methodLink "RobotAislesLaw" (213 : Nat) ({ cls := "RobotAislesLaw", name := "planned", desc := "(LRobotAisles;II[J)I" } : Jvm.MethodName)) ∈ lw_all := lw_g (lw_at lw_m5 174 rfl) rfl
theorem q1205 : (Jvm.Cond.static ({ cls := "RobotAislesLaw", name := "planned", desc := "(LRobotAisles;II[J)I" } : Jvm.MethodName)) ∈ lw_all := lw_g (lw_at lw_m5 175 rfl) rfl
theorem q1206 : (Jvm.Cond.codeWith ({ cls := "RobotAislesLaw", name := "planned", desc := "(LRobotAisles;II[J)I" } : Jvm.MethodName) method_23_code (5 : Nat) (Option.some Jvm.ClassFile.FieldType.int) [((0 : Nat), (10 : Nat), (13 : Nat), (62 : Nat)), ((0 : Nat), (10 : Nat), (17 : Nat), (19 : Nat))]) ∈ lw_all := lw_g (lw_at lw_m5 176 rfl) rfl
theorem q1207 : (Jvm.Cond.methodLink "RobotAislesLaw" (85 : Nat) ({ cls := "RobotAisles", name := "planned", desc := "(II)I" } : Jvm.MethodName)) ∈ lw_all := lw_g (lw_at lw_m5 177 rfl) rfl
theorem q1212 : (Jvm.Cond.methodLink "RobotAislesLaw" (216 : Nat) ({ cls := "RobotAislesLaw", name := "reserved", desc := "(LRobotAisles;II[J)I" } : Jvm.MethodName)) ∈ lw_all := lw_g (lw_at lw_m5 182 rfl) rfl
theorem q1213 : (Jvm.Cond.static ({ cls := "RobotAislesLaw", name := "reserved", desc := "(LRobotAisles;II[J)I" } : Jvm.MethodName)) ∈ lw_all := lw_g (lw_at lw_m5 183 rfl) rfl
theorem q1214 : (Jvm.Cond.codeWith ({ cls := "RobotAislesLaw", name := "reserved", desc := "(LRobotAisles;II[J)I" } : Jvm.MethodName) method_24_code (5 : Nat) (Option.some Jvm.ClassFile.FieldType.int) [((0 : Nat), (10 : Nat), (13 : Nat), (62 : Nat)), ((0 : Nat), (10 : Nat), (17 : Nat), (19 : Nat))]) ∈ lw_all := lw_g (lw_at lw_m5 184 rfl) rfl
theorem q1215 : (Jvm.Cond.methodLink "RobotAislesLaw" (88 : Nat) ({ cls := "RobotAisles", name := "reserved", desc := "(II)I" } : Jvm.MethodName)) ∈ lw_all := lw_g (lw_at lw_m5 185 rfl) rfl
theorem q1219 : (Jvm.Cond.methodLink "RobotAislesLaw" (219 : Nat) ({ cls := "RobotAislesLaw", name := "arrival", desc := "(LRobotAisles;II[J)I" } : Jvm.MethodName)) ∈ lw_all := lw_g (lw_at lw_m5 189 rfl) rfl
theorem q1220 : (Jvm.Cond.static ({ cls := "RobotAislesLaw", name := "arrival", desc := "(LRobotAisles;II[J)I" } : Jvm.MethodName)) ∈ lw_all := lw_g (lw_at lw_m5 190 rfl) rfl
theorem q1221 : (Jvm.Cond.codeWith ({ cls := "RobotAislesLaw", name := "arrival", desc := "(LRobotAisles;II[J)I" } : Jvm.MethodName) method_25_code (5 : Nat) (Option.some Jvm.ClassFile.FieldType.int) [((0 : Nat), (10 : Nat), (13 : Nat), (62 : Nat)), ((0 : Nat), (10 : Nat), (17 : Nat), (71 : Nat))]) ∈ lw_all := lw_g (lw_at lw_m5 191 rfl) rfl
theorem q1222 : (Jvm.Cond.methodLink "RobotAislesLaw" (91 : Nat) ({ cls := "RobotAisles", name := "arrival", desc := "(II)I" } : Jvm.MethodName)) ∈ lw_all := lw_g (lw_at lw_m5 192 rfl) rfl
theorem q1529 : (Jvm.Cond.methodLink "RobotAislesLaw" (222 : Nat) ({ cls := "RobotAislesLaw", name := "arrivalAgain", desc := "(LRobotAisles;II[J)I" } : Jvm.MethodName)) ∈ lw_all := lw_g (lw_at lw_m7 19 rfl) rfl
theorem q1530 : (Jvm.Cond.static ({ cls := "RobotAislesLaw", name := "arrivalAgain", desc := "(LRobotAisles;II[J)I" } : Jvm.MethodName)) ∈ lw_all := lw_g (lw_at lw_m7 20 rfl) rfl
theorem q1531 : (Jvm.Cond.codeWith ({ cls := "RobotAislesLaw", name := "arrivalAgain", desc := "(LRobotAisles;II[J)I" } : Jvm.MethodName) method_26_code (5 : Nat) (Option.some Jvm.ClassFile.FieldType.int) [((0 : Nat), (10 : Nat), (13 : Nat), (62 : Nat)), ((0 : Nat), (10 : Nat), (17 : Nat), (71 : Nat))]) ∈ lw_all := lw_g (lw_at lw_m7 21 rfl) rfl
theorem q1532 : (Jvm.Cond.methodLink "RobotAislesLaw" (94 : Nat) ({ cls := "RobotAisles", name := "arrivalAgain", desc := "(II)I" } : Jvm.MethodName)) ∈ lw_all := lw_g (lw_at lw_m7 22 rfl) rfl
theorem q1536 : (Jvm.Cond.methodLink "RobotAislesLaw" (225 : Nat) ({ cls := "RobotAislesLaw", name := "orderOf", desc := "(LRobotAisles;II[J)I" } : Jvm.MethodName)) ∈ lw_all := lw_g (lw_at lw_m7 26 rfl) rfl
theorem q1537 : (Jvm.Cond.static ({ cls := "RobotAislesLaw", name := "orderOf", desc := "(LRobotAisles;II[J)I" } : Jvm.MethodName)) ∈ lw_all := lw_g (lw_at lw_m7 27 rfl) rfl
theorem q1538 : (Jvm.Cond.codeWith ({ cls := "RobotAislesLaw", name := "orderOf", desc := "(LRobotAisles;II[J)I" } : Jvm.MethodName) method_27_code (5 : Nat) (Option.some Jvm.ClassFile.FieldType.int) [((0 : Nat), (10 : Nat), (13 : Nat), (62 : Nat)), ((0 : Nat), (10 : Nat), (17 : Nat), (19 : Nat))]) ∈ lw_all := lw_g (lw_at lw_m7 28 rfl) rfl
theorem q1539 : (Jvm.Cond.methodLink "RobotAislesLaw" (97 : Nat) ({ cls := "RobotAisles", name := "orderOf", desc := "(II)I" } : Jvm.MethodName)) ∈ lw_all := lw_g (lw_at lw_m7 29 rfl) rfl
theorem q1553 : (Jvm.Cond.methodLink "RobotAislesLaw" (228 : Nat) ({ cls := "RobotAislesLaw", name := "line", desc := "(LRobotAisles;II[J)I" } : Jvm.MethodName)) ∈ lw_all := lw_g (lw_at lw_m7 43 rfl) rfl
theorem q1554 : (Jvm.Cond.static ({ cls := "RobotAislesLaw", name := "line", desc := "(LRobotAisles;II[J)I" } : Jvm.MethodName)) ∈ lw_all := lw_g (lw_at lw_m7 44 rfl) rfl
theorem q1555 : (Jvm.Cond.codeWith ({ cls := "RobotAislesLaw", name := "line", desc := "(LRobotAisles;II[J)I" } : Jvm.MethodName) method_28_code (5 : Nat) (Option.some Jvm.ClassFile.FieldType.int) [((0 : Nat), (10 : Nat), (13 : Nat), (62 : Nat))]) ∈ lw_all := lw_g (lw_at lw_m7 45 rfl) rfl
theorem q1556 : (Jvm.Cond.methodLink "RobotAislesLaw" (100 : Nat) ({ cls := "RobotAisles", name := "line", desc := "(II)I" } : Jvm.MethodName)) ∈ lw_all := lw_g (lw_at lw_m7 46 rfl) rfl
theorem q1560 : (Jvm.Cond.methodLink "RobotAislesLaw" (231 : Nat) ({ cls := "RobotAislesLaw", name := "waiting", desc := "(LRobotAisles;I[J)I" } : Jvm.MethodName)) ∈ lw_all := lw_g (lw_at lw_m7 50 rfl) rfl
theorem q1561 : (Jvm.Cond.static ({ cls := "RobotAislesLaw", name := "waiting", desc := "(LRobotAisles;I[J)I" } : Jvm.MethodName)) ∈ lw_all := lw_g (lw_at lw_m7 51 rfl) rfl
theorem q1562 : (Jvm.Cond.codeWith ({ cls := "RobotAislesLaw", name := "waiting", desc := "(LRobotAisles;I[J)I" } : Jvm.MethodName) method_29_code (4 : Nat) (Option.some Jvm.ClassFile.FieldType.int) [((0 : Nat), (9 : Nat), (12 : Nat), (71 : Nat))]) ∈ lw_all := lw_g (lw_at lw_m7 52 rfl) rfl
theorem q1563 : (Jvm.Cond.methodLink "RobotAislesLaw" (103 : Nat) ({ cls := "RobotAisles", name := "waiting", desc := "(I)I" } : Jvm.MethodName)) ∈ lw_all := lw_g (lw_at lw_m7 53 rfl) rfl
theorem q1815 : (Jvm.Cond.methodLink "RobotAislesLaw" (234 : Nat) ({ cls := "RobotAislesLaw", name := "suited", desc := "(LRobotAisles;I[J)I" } : Jvm.MethodName)) ∈ lw_all := lw_g (lw_at lw_m8 65 rfl) rfl
theorem q1816 : (Jvm.Cond.static ({ cls := "RobotAislesLaw", name := "suited", desc := "(LRobotAisles;I[J)I" } : Jvm.MethodName)) ∈ lw_all := lw_g (lw_at lw_m8 66 rfl) rfl
theorem q1817 : (Jvm.Cond.codeWith ({ cls := "RobotAislesLaw", name := "suited", desc := "(LRobotAisles;I[J)I" } : Jvm.MethodName) method_30_code (4 : Nat) (Option.some Jvm.ClassFile.FieldType.int) [((0 : Nat), (9 : Nat), (12 : Nat), (62 : Nat)), ((0 : Nat), (9 : Nat), (15 : Nat), (71 : Nat))]) ∈ lw_all := lw_g (lw_at lw_m8 67 rfl) rfl
theorem q1818 : (Jvm.Cond.methodLink "RobotAislesLaw" (106 : Nat) ({ cls := "RobotAisles", name := "suited", desc := "(I)I" } : Jvm.MethodName)) ∈ lw_all := lw_g (lw_at lw_m8 68 rfl) rfl
theorem q1826 : (Jvm.Cond.methodLink "RobotAislesLaw" (237 : Nat) ({ cls := "RobotAislesLaw", name := "tour", desc := "(LRobotAisles;I[J)I" } : Jvm.MethodName)) ∈ lw_all := lw_g (lw_at lw_m8 76 rfl) rfl
theorem q1827 : (Jvm.Cond.static ({ cls := "RobotAislesLaw", name := "tour", desc := "(LRobotAisles;I[J)I" } : Jvm.MethodName)) ∈ lw_all := lw_g (lw_at lw_m8 77 rfl) rfl
theorem q1828 : (Jvm.Cond.codeWith ({ cls := "RobotAislesLaw", name := "tour", desc := "(LRobotAisles;I[J)I" } : Jvm.MethodName) method_31_code (4 : Nat) (Option.some Jvm.ClassFile.FieldType.int) [((0 : Nat), (9 : Nat), (12 : Nat), (62 : Nat)), ((0 : Nat), (9 : Nat), (15 : Nat), (71 : Nat))]) ∈ lw_all := lw_g (lw_at lw_m8 78 rfl) rfl
theorem q1829 : (Jvm.Cond.methodLink "RobotAislesLaw" (109 : Nat) ({ cls := "RobotAisles", name := "tour", desc := "(I)I" } : Jvm.MethodName)) ∈ lw_all := lw_g (lw_at lw_m8 79 rfl) rfl
theorem q1838 : (Jvm.Cond.methodLink "RobotAislesLaw" (240 : Nat) ({ cls := "RobotAislesLaw", name := "loaded", desc := "(LRobotAisles;[D)I" } : Jvm.MethodName)) ∈ lw_all := lw_g (lw_at lw_m8 88 rfl) rfl
theorem q1839 : (Jvm.Cond.static ({ cls := "RobotAislesLaw", name := "loaded", desc := "(LRobotAisles;[D)I" } : Jvm.MethodName)) ∈ lw_all := lw_g (lw_at lw_m8 89 rfl) rfl
theorem q1840 : (Jvm.Cond.codeWith ({ cls := "RobotAislesLaw", name := "loaded", desc := "(LRobotAisles;[D)I" } : Jvm.MethodName) method_32_code (3 : Nat) (Option.some Jvm.ClassFile.FieldType.int) [((0 : Nat), (8 : Nat), (11 : Nat), (116 : Nat))]) ∈ lw_all := lw_g (lw_at lw_m8 90 rfl) rfl
theorem q1841 : (Jvm.Cond.classLink "RobotAislesLaw" (116 : Nat) "java/lang/ArithmeticException") ∈ lw_all := lw_g (lw_at lw_m8 91 rfl) rfl
theorem q1855 : (Jvm.Cond.methodLink "RobotAislesLaw" (112 : Nat) ({ cls := "RobotAisles", name := "loaded", desc := "()F" } : Jvm.MethodName)) ∈ lw_all := lw_g (lw_at lw_m8 105 rfl) rfl
theorem q1867 : (Jvm.Cond.methodLink "RobotAislesLaw" (244 : Nat) ({ cls := "RobotAislesLaw", name := "lateness", desc := "(LRobotAisles;[D)I" } : Jvm.MethodName)) ∈ lw_all := lw_g (lw_at lw_m8 117 rfl) rfl
theorem q1868 : (Jvm.Cond.static ({ cls := "RobotAislesLaw", name := "lateness", desc := "(LRobotAisles;[D)I" } : Jvm.MethodName)) ∈ lw_all := lw_g (lw_at lw_m8 118 rfl) rfl
theorem q1869 : (Jvm.Cond.codeWith ({ cls := "RobotAislesLaw", name := "lateness", desc := "(LRobotAisles;[D)I" } : Jvm.MethodName) method_33_code (3 : Nat) (Option.some Jvm.ClassFile.FieldType.int) [((0 : Nat), (7 : Nat), (10 : Nat), (116 : Nat))]) ∈ lw_all := lw_g (lw_at lw_m8 119 rfl) rfl
theorem q1870 : (Jvm.Cond.methodLink "RobotAislesLaw" (118 : Nat) ({ cls := "RobotAisles", name := "lateness", desc := "()D" } : Jvm.MethodName)) ∈ lw_all := lw_g (lw_at lw_m8 120 rfl) rfl
theorem q1878 : (Jvm.Cond.methodLink "RobotAislesLaw" (247 : Nat) ({ cls := "RobotAislesLaw", name := "reason", desc := "(LRobotAisles;Z[J)I" } : Jvm.MethodName)) ∈ lw_all := lw_g (lw_at lw_m8 128 rfl) rfl
theorem q1879 : (Jvm.Cond.static ({ cls := "RobotAislesLaw", name := "reason", desc := "(LRobotAisles;Z[J)I" } : Jvm.MethodName)) ∈ lw_all := lw_g (lw_at lw_m8 129 rfl) rfl
theorem q1880 : (Jvm.Cond.codeWith ({ cls := "RobotAislesLaw", name := "reason", desc := "(LRobotAisles;Z[J)I" } : Jvm.MethodName) method_34_code (4 : Nat) (Option.some Jvm.ClassFile.FieldType.int) [((0 : Nat), (9 : Nat), (12 : Nat), (71 : Nat))]) ∈ lw_all := lw_g (lw_at lw_m8 130 rfl) rfl
theorem q1881 : (Jvm.Cond.methodLink "RobotAislesLaw" (122 : Nat) ({ cls := "RobotAisles", name := "reason", desc := "(Z)I" } : Jvm.MethodName)) ∈ lw_all := lw_g (lw_at lw_m8 131 rfl) rfl
theorem q1885 : (Jvm.Cond.methodLink "RobotAislesLaw" (251 : Nat) ({ cls := "RobotAislesLaw", name := "account", desc := "(LRobotAisles;I[J)I" } : Jvm.MethodName)) ∈ lw_all := lw_g (lw_at lw_m8 135 rfl) rfl
theorem q1886 : (Jvm.Cond.static ({ cls := "RobotAislesLaw", name := "account", desc := "(LRobotAisles;I[J)I" } : Jvm.MethodName)) ∈ lw_all := lw_g (lw_at lw_m8 136 rfl) rfl
theorem q1887 : (Jvm.Cond.codeWith ({ cls := "RobotAislesLaw", name := "account", desc := "(LRobotAisles;I[J)I" } : Jvm.MethodName) method_35_code (4 : Nat) (Option.some Jvm.ClassFile.FieldType.int) [((0 : Nat), (9 : Nat), (12 : Nat), (19 : Nat))]) ∈ lw_all := lw_g (lw_at lw_m8 137 rfl) rfl
theorem q1888 : (Jvm.Cond.methodLink "RobotAislesLaw" (126 : Nat) ({ cls := "RobotAisles", name := "account", desc := "(I)I" } : Jvm.MethodName)) ∈ lw_all := lw_g (lw_at lw_m8 138 rfl) rfl
theorem q1901 : (Jvm.Cond.methodLink "RobotAislesLaw" (254 : Nat) ({ cls := "RobotAislesLaw", name := "undo", desc := "(LRobotAisles;[J)I" } : Jvm.MethodName)) ∈ lw_all := lw_g (lw_at lw_m8 151 rfl) rfl
theorem q1902 : (Jvm.Cond.static ({ cls := "RobotAislesLaw", name := "undo", desc := "(LRobotAisles;[J)I" } : Jvm.MethodName)) ∈ lw_all := lw_g (lw_at lw_m8 152 rfl) rfl
theorem q1903 : (Jvm.Cond.codeWith ({ cls := "RobotAislesLaw", name := "undo", desc := "(LRobotAisles;[J)I" } : Jvm.MethodName) method_36_code (3 : Nat) (Option.some Jvm.ClassFile.FieldType.int) [((0 : Nat), (8 : Nat), (11 : Nat), (13 : Nat))]) ∈ lw_all := lw_g (lw_at lw_m8 153 rfl) rfl
theorem q1904 : (Jvm.Cond.methodLink "RobotAislesLaw" (129 : Nat) ({ cls := "RobotAisles", name := "undo", desc := "()I" } : Jvm.MethodName)) ∈ lw_all := lw_g (lw_at lw_m8 154 rfl) rfl
theorem q1912 : (Jvm.Cond.methodLink "RobotAislesLaw" (261 : Nat) ({ cls := "RobotAislesLaw", name := "restore", desc := "(LRobotAisles;[J)I" } : Jvm.MethodName)) ∈ lw_all := lw_g (lw_at lw_m8 162 rfl) rfl
theorem q1913 : (Jvm.Cond.static ({ cls := "RobotAislesLaw", name := "restore", desc := "(LRobotAisles;[J)I" } : Jvm.MethodName)) ∈ lw_all := lw_g (lw_at lw_m8 163 rfl) rfl
theorem q1914 : (Jvm.Cond.codeWith ({ cls := "RobotAislesLaw", name := "restore", desc := "(LRobotAisles;[J)I" } : Jvm.MethodName) method_37_code (3 : Nat) (Option.some Jvm.ClassFile.FieldType.int) [((0 : Nat), (8 : Nat), (11 : Nat), (13 : Nat))]) ∈ lw_all := lw_g (lw_at lw_m8 164 rfl) rfl
theorem q1915 : (Jvm.Cond.methodLink "RobotAislesLaw" (132 : Nat) ({ cls := "RobotAisles", name := "restore", desc := "()I" } : Jvm.MethodName)) ∈ lw_all := lw_g (lw_at lw_m8 165 rfl) rfl
theorem q1923 : (Jvm.Cond.classLink "RobotAislesLaw" (136 : Nat) "RobotAislesModel") ∈ lw_all := lw_g (lw_at lw_m8 173 rfl) rfl
theorem q1925 : (Jvm.Cond.methodLink "RobotAislesLaw" (138 : Nat) ({ cls := "RobotAislesModel", name := "<init>", desc := "()V" } : Jvm.MethodName)) ∈ lw_all := lw_g (lw_at lw_m8 175 rfl) rfl
theorem q1991 : (Jvm.Cond.methodLink "RobotAislesLaw" (145 : Nat) ({ cls := "RobotAislesModel", name := "thrown", desc := "()I" } : Jvm.MethodName)) ∈ lw_all := lw_g (lw_at lw_m9 1 rfl) rfl
theorem q1995 : (Jvm.Cond.methodLink "RobotAislesLaw" (159 : Nat) ({ cls := "RobotAislesModel", name := "add", desc := "(II)I" } : Jvm.MethodName)) ∈ lw_all := lw_g (lw_at lw_m9 5 rfl) rfl
theorem q2038 : (Jvm.Cond.methodLink "RobotAislesLaw" (163 : Nat) ({ cls := "RobotAislesModel", name := "takeOff", desc := "(I)I" } : Jvm.MethodName)) ∈ lw_all := lw_g (lw_at lw_m9 48 rfl) rfl
theorem q2049 : (Jvm.Cond.methodLink "RobotAislesLaw" (167 : Nat) ({ cls := "RobotAislesModel", name := "order", desc := "(IIII)I" } : Jvm.MethodName)) ∈ lw_all := lw_g (lw_at lw_m9 59 rfl) rfl
theorem q2053 : (Jvm.Cond.methodLink "RobotAislesLaw" (170 : Nat) ({ cls := "RobotAislesModel", name := "assign", desc := "(II)I" } : Jvm.MethodName)) ∈ lw_all := lw_g (lw_at lw_m9 63 rfl) rfl
theorem q2069 : (Jvm.Cond.methodLink "RobotAislesLaw" (173 : Nat) ({ cls := "RobotAislesModel", name := "release", desc := "(I)I" } : Jvm.MethodName)) ∈ lw_all := lw_g (lw_at lw_m9 79 rfl) rfl
theorem q2073 : (Jvm.Cond.methodLink "RobotAislesLaw" (176 : Nat) ({ cls := "RobotAislesModel", name := "close", desc := "(I)I" } : Jvm.MethodName)) ∈ lw_all := lw_g (lw_at lw_m9 83 rfl) rfl
theorem q2081 : (Jvm.Cond.methodLink "RobotAislesLaw" (179 : Nat) ({ cls := "RobotAislesModel", name := "open", desc := "(I)I" } : Jvm.MethodName)) ∈ lw_all := lw_g (lw_at lw_m9 91 rfl) rfl
theorem q2085 : (Jvm.Cond.methodLink "RobotAislesLaw" (182 : Nat) ({ cls := "RobotAislesModel", name := "set", desc := "(II)I" } : Jvm.MethodName)) ∈ lw_all := lw_g (lw_at lw_m9 95 rfl) rfl
theorem q2092 : (Jvm.Cond.methodLink "RobotAislesLaw" (185 : Nat) ({ cls := "RobotAislesModel", name := "plan", desc := "(II)I" } : Jvm.MethodName)) ∈ lw_all := lw_g (lw_at lw_m9 102 rfl) rfl
theorem q2128 : (Jvm.Cond.methodLink "RobotAislesLaw" (188 : Nat) ({ cls := "RobotAislesModel", name := "cancel", desc := "(I)I" } : Jvm.MethodName)) ∈ lw_all := lw_g (lw_at lw_m9 138 rfl) rfl
theorem q2132 : (Jvm.Cond.methodLink "RobotAislesLaw" (191 : Nat) ({ cls := "RobotAislesModel", name := "pass", desc := "(I)I" } : Jvm.MethodName)) ∈ lw_all := lw_g (lw_at lw_m9 142 rfl) rfl
theorem q2145 : (Jvm.Cond.methodLink "RobotAislesLaw" (200 : Nat) ({ cls := "RobotAislesModel", name := "distance", desc := "(II)I" } : Jvm.MethodName)) ∈ lw_all := lw_g (lw_at lw_m9 155 rfl) rfl
theorem q2157 : (Jvm.Cond.methodLink "RobotAislesLaw" (203 : Nat) ({ cls := "RobotAislesModel", name := "distanceAgain", desc := "(II)I" } : Jvm.MethodName)) ∈ lw_all := lw_g (lw_at lw_m9 167 rfl) rfl
theorem q2161 : (Jvm.Cond.methodLink "RobotAislesLaw" (206 : Nat) ({ cls := "RobotAislesModel", name := "reach", desc := "(I)I" } : Jvm.MethodName)) ∈ lw_all := lw_g (lw_at lw_m9 171 rfl) rfl
theorem q2165 : (Jvm.Cond.methodLink "RobotAislesLaw" (209 : Nat) ({ cls := "RobotAislesModel", name := "farthest", desc := "(I)I" } : Jvm.MethodName)) ∈ lw_all := lw_g (lw_at lw_m9 175 rfl) rfl
theorem q2169 : (Jvm.Cond.methodLink "RobotAislesLaw" (194 : Nat) ({ cls := "RobotAislesModel", name := "cell", desc := "(II)I" } : Jvm.MethodName)) ∈ lw_all := lw_g (lw_at lw_m9 179 rfl) rfl
theorem q2177 : (Jvm.Cond.methodLink "RobotAislesLaw" (197 : Nat) ({ cls := "RobotAislesModel", name := "letter", desc := "(I)C" } : Jvm.MethodName)) ∈ lw_all := lw_g (lw_at lw_m9 187 rfl) rfl
theorem q2183 : (Jvm.Cond.methodLink "RobotAislesLaw" (212 : Nat) ({ cls := "RobotAislesModel", name := "robotOf", desc := "(II)I" } : Jvm.MethodName)) ∈ lw_all := lw_g (lw_at lw_m9 193 rfl) rfl
theorem q2187 : (Jvm.Cond.methodLink "RobotAislesLaw" (215 : Nat) ({ cls := "RobotAislesModel", name := "planned", desc := "(II)I" } : Jvm.MethodName)) ∈ lw_all := lw_g (lw_at lw_m9 197 rfl) rfl
theorem q2191 : (Jvm.Cond.methodLink "RobotAislesLaw" (218 : Nat) ({ cls := "RobotAislesModel", name := "reserved", desc := "(II)I" } : Jvm.MethodName)) ∈ lw_all := lw_g (lw_at lw_m9 201 rfl) rfl
theorem q2195 : (Jvm.Cond.methodLink "RobotAislesLaw" (221 : Nat) ({ cls := "RobotAislesModel", name := "arrival", desc := "(II)I" } : Jvm.MethodName)) ∈ lw_all := lw_g (lw_at lw_m9 205 rfl) rfl
theorem q2199 : (Jvm.Cond.methodLink "RobotAislesLaw" (224 : Nat) ({ cls := "RobotAislesModel", name := "arrivalAgain", desc := "(II)I" } : Jvm.MethodName)) ∈ lw_all := lw_g (lw_at lw_m9 209 rfl) rfl
theorem q2204 : (Jvm.Cond.methodLink "RobotAislesLaw" (227 : Nat) ({ cls := "RobotAislesModel", name := "orderOf", desc := "(II)I" } : Jvm.MethodName)) ∈ lw_all := lw_g (lw_at lw_m9 214 rfl) rfl
theorem q2208 : (Jvm.Cond.methodLink "RobotAislesLaw" (230 : Nat) ({ cls := "RobotAislesModel", name := "line", desc := "(II)I" } : Jvm.MethodName)) ∈ lw_all := lw_g (lw_at lw_m9 218 rfl) rfl
theorem q2212 : (Jvm.Cond.methodLink "RobotAislesLaw" (233 : Nat) ({ cls := "RobotAislesModel", name := "waiting", desc := "(I)I" } : Jvm.MethodName)) ∈ lw_all := lw_g (lw_at lw_m9 222 rfl) rfl
theorem q2220 : (Jvm.Cond.methodLink "RobotAislesLaw" (236 : Nat) ({ cls := "RobotAislesModel", name := "suited", desc := "(I)I" } : Jvm.MethodName)) ∈ lw_all := lw_g (lw_at lw_m9 230 rfl) rfl
theorem q2224 : (Jvm.Cond.methodLink "RobotAislesLaw" (239 : Nat) ({ cls := "RobotAislesModel", name := "tour", desc := "(I)I" } : Jvm.MethodName)) ∈ lw_all := lw_g (lw_at lw_m9 234 rfl) rfl
theorem q2228 : (Jvm.Cond.methodLink "RobotAislesLaw" (243 : Nat) ({ cls := "RobotAislesModel", name := "loaded", desc := "()F" } : Jvm.MethodName)) ∈ lw_all := lw_g (lw_at lw_m9 238 rfl) rfl
theorem q2232 : (Jvm.Cond.methodLink "RobotAislesLaw" (246 : Nat) ({ cls := "RobotAislesModel", name := "lateness", desc := "()D" } : Jvm.MethodName)) ∈ lw_all := lw_g (lw_at lw_m10 2 rfl) rfl
theorem q2236 : (Jvm.Cond.methodLink "RobotAislesLaw" (250 : Nat) ({ cls := "RobotAislesModel", name := "reason", desc := "(Z)I" } : Jvm.MethodName)) ∈ lw_all := lw_g (lw_at lw_m10 6 rfl) rfl
theorem q2240 : (Jvm.Cond.methodLink "RobotAislesLaw" (253 : Nat) ({ cls := "RobotAislesModel", name := "account", desc := "(I)I" } : Jvm.MethodName)) ∈ lw_all := lw_g (lw_at lw_m10 10 rfl) rfl
theorem q2252 : (Jvm.Cond.methodLink "RobotAislesLaw" (144 : Nat) ({ cls := "RobotAislesModel", name := "append", desc := "(C)I" } : Jvm.MethodName)) ∈ lw_all := lw_g (lw_at lw_m10 22 rfl) rfl
theorem q2256 : (Jvm.Cond.methodLink "RobotAislesLaw" (151 : Nat) ({ cls := "RobotAislesModel", name := "layout", desc := "()I" } : Jvm.MethodName)) ∈ lw_all := lw_g (lw_at lw_m10 26 rfl) rfl
theorem q2265 : (Jvm.Cond.methodLink "RobotAislesLaw" (155 : Nat) ({ cls := "RobotAislesModel", name := "faultPosition", desc := "()I" } : Jvm.MethodName)) ∈ lw_all := lw_g (lw_at lw_m10 35 rfl) rfl
theorem q2269 : (Jvm.Cond.methodLink "RobotAislesLaw" (256 : Nat) ({ cls := "RobotAislesModel", name := "undo", desc := "()I" } : Jvm.MethodName)) ∈ lw_all := lw_g (lw_at lw_m10 39 rfl) rfl
theorem q2273 : (Jvm.Cond.methodLink "RobotAislesLaw" (260 : Nat) ({ cls := "RobotAislesModel", name := "save", desc := "()I" } : Jvm.MethodName)) ∈ lw_all := lw_g (lw_at lw_m10 43 rfl) rfl
theorem q2277 : (Jvm.Cond.methodLink "RobotAislesLaw" (263 : Nat) ({ cls := "RobotAislesModel", name := "restore", desc := "()I" } : Jvm.MethodName)) ∈ lw_all := lw_g (lw_at lw_m10 47 rfl) rfl

/-! RobotAisles -/
set_option maxRecDepth 100000
def RX1 : String := "RobotAisles"
def TX1 : u_T := fun k => match k with
  | 0 => ("RobotAisles", "core", "LRobotAisles$Core;", false)
  | 1 => ("RobotAisles", "before", "Ljava/util/ArrayList;", true)
  | 2 => ("RobotAisles", "saved", "LRobotAisles$Core;", false)
  | 3 => ("RobotAisles", "reason", "I", false)
  | 4 => ("RobotAisles", "detail", "I", false)
  | 5 => ("RobotAisles", "text", "[C", true)
  | 6 => ("RobotAisles", "textLength", "I", false)
  | _ => ("RobotAisles", "fault", "I", false)
def tyX1 : Nat → FieldType := fun k => match k with
  | 0 => .object "RobotAisles$Core"
  | 1 => .object "java/util/ArrayList"
  | 2 => .object "RobotAisles$Core"
  | 3 => .int
  | 4 => .int
  | 5 => .array .char
  | 6 => .int
  | _ => .int
abbrev wsX10 : List Cond := u_ws RX1 TX1 8
theorem nmX1 : ∀ a, a < 8 → ∀ b, b < 8 → a ≠ b → (TX1 a).2.1 ≠ (TX1 b).2.1 := by decide +kernel
theorem tyX1_ok : ∀ k, k < 8 → parseFieldDescriptor (TX1 k).2.2.1 = some (tyX1 k) := by decide +kernel
abbrev cX1_init : ByteArray := prog_1_method_1_code
def yX1_init : MethodName := ⟨RX1, "<init>", "()V"⟩
def dkwX1_init_1 : List UInt8 := [89, 183, 0, 20, 181, 0, 21, 42, 16, 60, 188, 5, 181, 0, 25, 42, 2, 181, 0, 29, 177]
abbrev dktX1_init_1 : List UInt8 := dkwX1_init_1 ++ []
def dkwX1_init_0 : List UInt8 := [42, 183, 0, 3, 42, 187, 0, 9, 89, 4, 5, 5, 188, 10, 183, 0, 11, 181, 0, 14, 42, 187, 0, 18]
abbrev dktX1_init_0 : List UInt8 := dkwX1_init_0 ++ dktX1_init_1
theorem dksX1_init_0 : cX1_init.data.toList.drop 0 = dktX1_init_0 := by decide +kernel
theorem dksX1_init_1 : cX1_init.data.toList.drop 24 = dktX1_init_1 := dk_seg dksX1_init_0 24 rfl rfl
theorem dX1_init_0 : decode cX1_init 0 = .ok (.aload_n 0, 1) := dk_42 (dk_at dksX1_init_0 0 rfl rfl)
theorem dX1_init_1 : decode cX1_init 1 = .ok (.invokespecial 3, 3) := dk_183 0 3 (dk_at dksX1_init_0 1 rfl rfl)
theorem dX1_init_4 : decode cX1_init 4 = .ok (.aload_n 0, 1) := dk_42 (dk_at dksX1_init_0 4 rfl rfl)
theorem dX1_init_5 : decode cX1_init 5 = .ok (.new 9, 3) := dk_187 0 9 (dk_at dksX1_init_0 5 rfl rfl)
theorem dX1_init_8 : decode cX1_init 8 = .ok (.dup, 1) := dk_89 (dk_at dksX1_init_0 8 rfl rfl)
theorem dX1_init_9 : decode cX1_init 9 = .ok (.iconst 1, 1) := dk_4 (dk_at dksX1_init_0 9 rfl rfl)
theorem dX1_init_10 : decode cX1_init 10 = .ok (.iconst 2, 1) := dk_5 (dk_at dksX1_init_0 10 rfl rfl)
theorem dX1_init_11 : decode cX1_init 11 = .ok (.iconst 2, 1) := dk_5 (dk_at dksX1_init_0 11 rfl rfl)
theorem dX1_init_12 : decode cX1_init 12 = .ok (.newarray .int, 2) := dk_188_10 (dk_at dksX1_init_0 12 rfl rfl)
theorem dX1_init_14 : decode cX1_init 14 = .ok (.invokespecial 11, 3) := dk_183 0 11 (dk_at dksX1_init_0 14 rfl rfl)
theorem dX1_init_17 : decode cX1_init 17 = .ok (.putfield 14, 3) := dk_181 0 14 (dk_at dksX1_init_0 17 rfl rfl)
theorem dX1_init_20 : decode cX1_init 20 = .ok (.aload_n 0, 1) := dk_42 (dk_at dksX1_init_0 20 rfl rfl)
theorem dX1_init_21 : decode cX1_init 21 = .ok (.new 18, 3) := dk_187 0 18 (dk_at dksX1_init_0 21 rfl rfl)
theorem dX1_init_24 : decode cX1_init 24 = .ok (.dup, 1) := dk_89 (dk_at dksX1_init_1 0 rfl rfl)
theorem dX1_init_25 : decode cX1_init 25 = .ok (.invokespecial 20, 3) := dk_183 0 20 (dk_at dksX1_init_1 1 rfl rfl)
theorem dX1_init_28 : decode cX1_init 28 = .ok (.putfield 21, 3) := dk_181 0 21 (dk_at dksX1_init_1 4 rfl rfl)
theorem dX1_init_31 : decode cX1_init 31 = .ok (.aload_n 0, 1) := dk_42 (dk_at dksX1_init_1 7 rfl rfl)
theorem dX1_init_32 : decode cX1_init 32 = .ok (.bipush 60, 2) := dk_16 60 (dk_at dksX1_init_1 8 rfl rfl)
theorem dX1_init_34 : decode cX1_init 34 = .ok (.newarray .char, 2) := dk_188_5 (dk_at dksX1_init_1 10 rfl rfl)
theorem dX1_init_36 : decode cX1_init 36 = .ok (.putfield 25, 3) := dk_181 0 25 (dk_at dksX1_init_1 12 rfl rfl)
theorem dX1_init_39 : decode cX1_init 39 = .ok (.aload_n 0, 1) := dk_42 (dk_at dksX1_init_1 15 rfl rfl)
theorem dX1_init_40 : decode cX1_init 40 = .ok (.iconst (-1), 1) := dk_2 (dk_at dksX1_init_1 16 rfl rfl)
theorem dX1_init_41 : decode cX1_init 41 = .ok (.putfield 29, 3) := dk_181 0 29 (dk_at dksX1_init_1 17 rfl rfl)
theorem dX1_init_44 : decode cX1_init 44 = .ok (.return_, 1) := dk_177 (dk_at dksX1_init_1 20 rfl rfl)
abbrev cX1_faultPosition : ByteArray := prog_1_method_26_code
def yX1_faultPosition : MethodName := ⟨RX1, "faultPosition", "()I"⟩
theorem dX1_faultPosition_0 : decode cX1_faultPosition 0 = .ok (.aload_n 0, 1) := by decide +kernel
theorem dX1_faultPosition_1 : decode cX1_faultPosition 1 = .ok (.getfield 29, 3) := by decide +kernel
theorem dX1_faultPosition_4 : decode cX1_faultPosition 4 = .ok (.ireturn, 1) := by decide +kernel
abbrev cX1_save : ByteArray := prog_1_method_60_code
def yX1_save : MethodName := ⟨RX1, "save", "()I"⟩
def dkwX1_save_0 : List UInt8 := [42, 42, 180, 0, 14, 182, 0, 80, 181, 1, 124, 42, 180, 0, 14, 180, 0, 227, 182, 0, 68, 172]
abbrev dktX1_save_0 : List UInt8 := dkwX1_save_0 ++ []
theorem dksX1_save_0 : cX1_save.data.toList.drop 0 = dktX1_save_0 := by decide +kernel
theorem dX1_save_0 : decode cX1_save 0 = .ok (.aload_n 0, 1) := dk_42 (dk_at dksX1_save_0 0 rfl rfl)
theorem dX1_save_1 : decode cX1_save 1 = .ok (.aload_n 0, 1) := dk_42 (dk_at dksX1_save_0 1 rfl rfl)
theorem dX1_save_2 : decode cX1_save 2 = .ok (.getfield 14, 3) := dk_180 0 14 (dk_at dksX1_save_0 2 rfl rfl)
theorem dX1_save_5 : decode cX1_save 5 = .ok (.invokevirtual 80, 3) := dk_182 0 80 (dk_at dksX1_save_0 5 rfl rfl)
theorem dX1_save_8 : decode cX1_save 8 = .ok (.putfield 380, 3) := dk_181 1 124 (dk_at dksX1_save_0 8 rfl rfl)
theorem dX1_save_11 : decode cX1_save 11 = .ok (.aload_n 0, 1) := dk_42 (dk_at dksX1_save_0 11 rfl rfl)
theorem dX1_save_12 : decode cX1_save 12 = .ok (.getfield 14, 3) := dk_180 0 14 (dk_at dksX1_save_0 12 rfl rfl)
theorem dX1_save_15 : decode cX1_save 15 = .ok (.getfield 227, 3) := dk_180 0 227 (dk_at dksX1_save_0 15 rfl rfl)
theorem dX1_save_18 : decode cX1_save 18 = .ok (.invokevirtual 68, 3) := dk_182 0 68 (dk_at dksX1_save_0 18 rfl rfl)
theorem dX1_save_21 : decode cX1_save 21 = .ok (.ireturn, 1) := dk_172 (dk_at dksX1_save_0 21 rfl rfl)
abbrev cX1_append : ByteArray := prog_1_method_24_code
def yX1_append : MethodName := ⟨RX1, "append", "(C)I"⟩
def dkwX1_append_1 : List UInt8 := [180, 0, 138, 27, 85, 42, 89, 180, 0, 138, 4, 96, 181, 0, 138, 42, 180, 0, 138, 172]
abbrev dktX1_append_1 : List UInt8 := dkwX1_append_1 ++ []
def dkwX1_append_0 : List UInt8 := [42, 180, 0, 138, 16, 60, 162, 0, 7, 4, 167, 0, 4, 3, 184, 0, 141, 42, 180, 0, 25, 42]
abbrev dktX1_append_0 : List UInt8 := dkwX1_append_0 ++ dktX1_append_1
theorem dksX1_append_0 : cX1_append.data.toList.drop 0 = dktX1_append_0 := by decide +kernel
theorem dksX1_append_1 : cX1_append.data.toList.drop 22 = dktX1_append_1 := dk_seg dksX1_append_0 22 rfl rfl
theorem dX1_append_0 : decode cX1_append 0 = .ok (.aload_n 0, 1) := dk_42 (dk_at dksX1_append_0 0 rfl rfl)
theorem dX1_append_1 : decode cX1_append 1 = .ok (.getfield 138, 3) := dk_180 0 138 (dk_at dksX1_append_0 1 rfl rfl)
theorem dX1_append_4 : decode cX1_append 4 = .ok (.bipush 60, 2) := dk_16 60 (dk_at dksX1_append_0 4 rfl rfl)
theorem dX1_append_6 : decode cX1_append 6 = .ok (.if_icmp .ge 7, 3) := dk_162 0 7 (dk_at dksX1_append_0 6 rfl rfl)
theorem dX1_append_9 : decode cX1_append 9 = .ok (.iconst 1, 1) := dk_4 (dk_at dksX1_append_0 9 rfl rfl)
theorem dX1_append_10 : decode cX1_append 10 = .ok (.goto 4, 3) := dk_167 0 4 (dk_at dksX1_append_0 10 rfl rfl)
theorem dX1_append_13 : decode cX1_append 13 = .ok (.iconst 0, 1) := dk_3 (dk_at dksX1_append_0 13 rfl rfl)
theorem dX1_append_14 : decode cX1_append 14 = .ok (.invokestatic 141, 3) := dk_184 0 141 (dk_at dksX1_append_0 14 rfl rfl)
theorem dX1_append_17 : decode cX1_append 17 = .ok (.aload_n 0, 1) := dk_42 (dk_at dksX1_append_0 17 rfl rfl)
theorem dX1_append_18 : decode cX1_append 18 = .ok (.getfield 25, 3) := dk_180 0 25 (dk_at dksX1_append_0 18 rfl rfl)
theorem dX1_append_21 : decode cX1_append 21 = .ok (.aload_n 0, 1) := dk_42 (dk_at dksX1_append_0 21 rfl rfl)
theorem dX1_append_22 : decode cX1_append 22 = .ok (.getfield 138, 3) := dk_180 0 138 (dk_at dksX1_append_1 0 rfl rfl)
theorem dX1_append_25 : decode cX1_append 25 = .ok (.iload_n 1, 1) := dk_27 (dk_at dksX1_append_1 3 rfl rfl)
theorem dX1_append_26 : decode cX1_append 26 = .ok (.castore, 1) := dk_85 (dk_at dksX1_append_1 4 rfl rfl)
theorem dX1_append_27 : decode cX1_append 27 = .ok (.aload_n 0, 1) := dk_42 (dk_at dksX1_append_1 5 rfl rfl)
theorem dX1_append_28 : decode cX1_append 28 = .ok (.dup, 1) := dk_89 (dk_at dksX1_append_1 6 rfl rfl)
theorem dX1_append_29 : decode cX1_append 29 = .ok (.getfield 138, 3) := dk_180 0 138 (dk_at dksX1_append_1 7 rfl rfl)
theorem dX1_append_32 : decode cX1_append 32 = .ok (.iconst 1, 1) := dk_4 (dk_at dksX1_append_1 10 rfl rfl)
theorem dX1_append_33 : decode cX1_append 33 = .ok (.iadd, 1) := dk_96 (dk_at dksX1_append_1 11 rfl rfl)
theorem dX1_append_34 : decode cX1_append 34 = .ok (.putfield 138, 3) := dk_181 0 138 (dk_at dksX1_append_1 12 rfl rfl)
theorem dX1_append_37 : decode cX1_append 37 = .ok (.aload_n 0, 1) := dk_42 (dk_at dksX1_append_1 15 rfl rfl)
theorem dX1_append_38 : decode cX1_append 38 = .ok (.getfield 138, 3) := dk_180 0 138 (dk_at dksX1_append_1 16 rfl rfl)
theorem dX1_append_41 : decode cX1_append 41 = .ok (.ireturn, 1) := dk_172 (dk_at dksX1_append_1 19 rfl rfl)
abbrev cX1_requireState : ByteArray := prog_1_method_5_code
def yX1_requireState : MethodName := ⟨RX1, "requireState", "(Z)V"⟩
def dkwX1_requireState_0 : List UInt8 := [26, 154, 0, 11, 187, 0, 39, 89, 183, 0, 41, 191, 177]
abbrev dktX1_requireState_0 : List UInt8 := dkwX1_requireState_0 ++ []
theorem dksX1_requireState_0 : cX1_requireState.data.toList.drop 0 = dktX1_requireState_0 := by decide +kernel
theorem dX1_requireState_0 : decode cX1_requireState 0 = .ok (.iload_n 0, 1) := dk_26 (dk_at dksX1_requireState_0 0 rfl rfl)
theorem dX1_requireState_1 : decode cX1_requireState 1 = .ok (.ifCond .ne 11, 3) := dk_154 0 11 (dk_at dksX1_requireState_0 1 rfl rfl)
theorem dX1_requireState_4 : decode cX1_requireState 4 = .ok (.new 39, 3) := dk_187 0 39 (dk_at dksX1_requireState_0 4 rfl rfl)
theorem dX1_requireState_7 : decode cX1_requireState 7 = .ok (.dup, 1) := dk_89 (dk_at dksX1_requireState_0 7 rfl rfl)
theorem dX1_requireState_8 : decode cX1_requireState 8 = .ok (.invokespecial 41, 3) := dk_183 0 41 (dk_at dksX1_requireState_0 8 rfl rfl)
theorem dX1_requireState_11 : decode cX1_requireState 11 = .ok (.athrow, 1) := dk_191 (dk_at dksX1_requireState_0 11 rfl rfl)
theorem dX1_requireState_12 : decode cX1_requireState 12 = .ok (.return_, 1) := dk_177 (dk_at dksX1_requireState_0 12 rfl rfl)
abbrev cX1_layout : ByteArray := prog_1_method_25_code
def yX1_layout : MethodName := ⟨RX1, "layout", "()I"⟩
def dkwX1_layout_2 : List UInt8 := [43, 180, 0, 166, 181, 0, 29, 187, 0, 36, 89, 183, 0, 38, 191, 78, 42, 3, 181, 0, 138, 45, 191]
abbrev dktX1_layout_2 : List UInt8 := dkwX1_layout_2 ++ []
def dkwX1_layout_1 : List UInt8 := [3, 6, 184, 0, 157, 42, 43, 43, 182, 0, 163, 182, 0, 87, 61, 42, 3, 181, 0, 138, 28, 172, 76, 42]
abbrev dktX1_layout_1 : List UInt8 := dkwX1_layout_1 ++ dktX1_layout_2
def dkwX1_layout_0 : List UInt8 := [187, 0, 145, 89, 42, 183, 0, 147, 182, 0, 150, 76, 42, 180, 0, 14, 180, 0, 153, 3, 43, 180, 0, 153]
abbrev dktX1_layout_0 : List UInt8 := dkwX1_layout_0 ++ dktX1_layout_1
theorem dksX1_layout_0 : cX1_layout.data.toList.drop 0 = dktX1_layout_0 := by decide +kernel
theorem dksX1_layout_1 : cX1_layout.data.toList.drop 24 = dktX1_layout_1 := dk_seg dksX1_layout_0 24 rfl rfl
theorem dksX1_layout_2 : cX1_layout.data.toList.drop 48 = dktX1_layout_2 := dk_seg dksX1_layout_1 24 rfl rfl
theorem dX1_layout_0 : decode cX1_layout 0 = .ok (.new 145, 3) := dk_187 0 145 (dk_at dksX1_layout_0 0 rfl rfl)
theorem dX1_layout_3 : decode cX1_layout 3 = .ok (.dup, 1) := dk_89 (dk_at dksX1_layout_0 3 rfl rfl)
theorem dX1_layout_4 : decode cX1_layout 4 = .ok (.aload_n 0, 1) := dk_42 (dk_at dksX1_layout_0 4 rfl rfl)
theorem dX1_layout_5 : decode cX1_layout 5 = .ok (.invokespecial 147, 3) := dk_183 0 147 (dk_at dksX1_layout_0 5 rfl rfl)
theorem dX1_layout_8 : decode cX1_layout 8 = .ok (.invokevirtual 150, 3) := dk_182 0 150 (dk_at dksX1_layout_0 8 rfl rfl)
theorem dX1_layout_11 : decode cX1_layout 11 = .ok (.astore_n 1, 1) := dk_76 (dk_at dksX1_layout_0 11 rfl rfl)
theorem dX1_layout_12 : decode cX1_layout 12 = .ok (.aload_n 0, 1) := dk_42 (dk_at dksX1_layout_0 12 rfl rfl)
theorem dX1_layout_13 : decode cX1_layout 13 = .ok (.getfield 14, 3) := dk_180 0 14 (dk_at dksX1_layout_0 13 rfl rfl)
theorem dX1_layout_16 : decode cX1_layout 16 = .ok (.getfield 153, 3) := dk_180 0 153 (dk_at dksX1_layout_0 16 rfl rfl)
theorem dX1_layout_19 : decode cX1_layout 19 = .ok (.iconst 0, 1) := dk_3 (dk_at dksX1_layout_0 19 rfl rfl)
theorem dX1_layout_20 : decode cX1_layout 20 = .ok (.aload_n 1, 1) := dk_43 (dk_at dksX1_layout_0 20 rfl rfl)
theorem dX1_layout_21 : decode cX1_layout 21 = .ok (.getfield 153, 3) := dk_180 0 153 (dk_at dksX1_layout_0 21 rfl rfl)
theorem dX1_layout_24 : decode cX1_layout 24 = .ok (.iconst 0, 1) := dk_3 (dk_at dksX1_layout_1 0 rfl rfl)
theorem dX1_layout_25 : decode cX1_layout 25 = .ok (.iconst 3, 1) := dk_6 (dk_at dksX1_layout_1 1 rfl rfl)
theorem dX1_layout_26 : decode cX1_layout 26 = .ok (.invokestatic 157, 3) := dk_184 0 157 (dk_at dksX1_layout_1 2 rfl rfl)
theorem dX1_layout_29 : decode cX1_layout 29 = .ok (.aload_n 0, 1) := dk_42 (dk_at dksX1_layout_1 5 rfl rfl)
theorem dX1_layout_30 : decode cX1_layout 30 = .ok (.aload_n 1, 1) := dk_43 (dk_at dksX1_layout_1 6 rfl rfl)
theorem dX1_layout_31 : decode cX1_layout 31 = .ok (.aload_n 1, 1) := dk_43 (dk_at dksX1_layout_1 7 rfl rfl)
theorem dX1_layout_32 : decode cX1_layout 32 = .ok (.invokevirtual 163, 3) := dk_182 0 163 (dk_at dksX1_layout_1 8 rfl rfl)
theorem dX1_layout_35 : decode cX1_layout 35 = .ok (.invokevirtual 87, 3) := dk_182 0 87 (dk_at dksX1_layout_1 11 rfl rfl)
theorem dX1_layout_38 : decode cX1_layout 38 = .ok (.istore_n 2, 1) := dk_61 (dk_at dksX1_layout_1 14 rfl rfl)
theorem dX1_layout_39 : decode cX1_layout 39 = .ok (.aload_n 0, 1) := dk_42 (dk_at dksX1_layout_1 15 rfl rfl)
theorem dX1_layout_40 : decode cX1_layout 40 = .ok (.iconst 0, 1) := dk_3 (dk_at dksX1_layout_1 16 rfl rfl)
theorem dX1_layout_41 : decode cX1_layout 41 = .ok (.putfield 138, 3) := dk_181 0 138 (dk_at dksX1_layout_1 17 rfl rfl)
theorem dX1_layout_44 : decode cX1_layout 44 = .ok (.iload_n 2, 1) := dk_28 (dk_at dksX1_layout_1 20 rfl rfl)
theorem dX1_layout_45 : decode cX1_layout 45 = .ok (.ireturn, 1) := dk_172 (dk_at dksX1_layout_1 21 rfl rfl)
theorem dX1_layout_46 : decode cX1_layout 46 = .ok (.astore_n 1, 1) := dk_76 (dk_at dksX1_layout_1 22 rfl rfl)
theorem dX1_layout_47 : decode cX1_layout 47 = .ok (.aload_n 0, 1) := dk_42 (dk_at dksX1_layout_1 23 rfl rfl)
theorem dX1_layout_48 : decode cX1_layout 48 = .ok (.aload_n 1, 1) := dk_43 (dk_at dksX1_layout_2 0 rfl rfl)
theorem dX1_layout_49 : decode cX1_layout 49 = .ok (.getfield 166, 3) := dk_180 0 166 (dk_at dksX1_layout_2 1 rfl rfl)
theorem dX1_layout_52 : decode cX1_layout 52 = .ok (.putfield 29, 3) := dk_181 0 29 (dk_at dksX1_layout_2 4 rfl rfl)
theorem dX1_layout_55 : decode cX1_layout 55 = .ok (.new 36, 3) := dk_187 0 36 (dk_at dksX1_layout_2 7 rfl rfl)
theorem dX1_layout_58 : decode cX1_layout 58 = .ok (.dup, 1) := dk_89 (dk_at dksX1_layout_2 10 rfl rfl)
theorem dX1_layout_59 : decode cX1_layout 59 = .ok (.invokespecial 38, 3) := dk_183 0 38 (dk_at dksX1_layout_2 11 rfl rfl)
theorem dX1_layout_62 : decode cX1_layout 62 = .ok (.athrow, 1) := dk_191 (dk_at dksX1_layout_2 14 rfl rfl)
theorem dX1_layout_63 : decode cX1_layout 63 = .ok (.astore_n 3, 1) := dk_78 (dk_at dksX1_layout_2 15 rfl rfl)
theorem dX1_layout_64 : decode cX1_layout 64 = .ok (.aload_n 0, 1) := dk_42 (dk_at dksX1_layout_2 16 rfl rfl)
theorem dX1_layout_65 : decode cX1_layout 65 = .ok (.iconst 0, 1) := dk_3 (dk_at dksX1_layout_2 17 rfl rfl)
theorem dX1_layout_66 : decode cX1_layout 66 = .ok (.putfield 138, 3) := dk_181 0 138 (dk_at dksX1_layout_2 18 rfl rfl)
theorem dX1_layout_69 : decode cX1_layout 69 = .ok (.aload_n 3, 1) := dk_45 (dk_at dksX1_layout_2 21 rfl rfl)
theorem dX1_layout_70 : decode cX1_layout 70 = .ok (.athrow, 1) := dk_191 (dk_at dksX1_layout_2 22 rfl rfl)
abbrev cX1_come : ByteArray := prog_1_method_11_code
def yX1_come : MethodName := ⟨RX1, "come", "(LRobotAisles$Core;I)I"⟩
def dkwX1_come_1 : List UInt8 := [180, 0, 21, 42, 180, 0, 14, 182, 0, 76, 87, 42, 43, 181, 0, 14, 28, 172]
abbrev dktX1_come_1 : List UInt8 := dkwX1_come_1 ++ []
def dkwX1_come_0 : List UInt8 := [42, 180, 0, 21, 182, 0, 68, 16, 8, 160, 0, 12, 42, 180, 0, 21, 3, 182, 0, 72, 87, 42]
abbrev dktX1_come_0 : List UInt8 := dkwX1_come_0 ++ dktX1_come_1
theorem dksX1_come_0 : cX1_come.data.toList.drop 0 = dktX1_come_0 := by decide +kernel
theorem dksX1_come_1 : cX1_come.data.toList.drop 22 = dktX1_come_1 := dk_seg dksX1_come_0 22 rfl rfl
theorem dX1_come_0 : decode cX1_come 0 = .ok (.aload_n 0, 1) := dk_42 (dk_at dksX1_come_0 0 rfl rfl)
theorem dX1_come_1 : decode cX1_come 1 = .ok (.getfield 21, 3) := dk_180 0 21 (dk_at dksX1_come_0 1 rfl rfl)
theorem dX1_come_4 : decode cX1_come 4 = .ok (.invokevirtual 68, 3) := dk_182 0 68 (dk_at dksX1_come_0 4 rfl rfl)
theorem dX1_come_7 : decode cX1_come 7 = .ok (.bipush 8, 2) := dk_16 8 (dk_at dksX1_come_0 7 rfl rfl)
theorem dX1_come_9 : decode cX1_come 9 = .ok (.if_icmp .ne 12, 3) := dk_160 0 12 (dk_at dksX1_come_0 9 rfl rfl)
theorem dX1_come_12 : decode cX1_come 12 = .ok (.aload_n 0, 1) := dk_42 (dk_at dksX1_come_0 12 rfl rfl)
theorem dX1_come_13 : decode cX1_come 13 = .ok (.getfield 21, 3) := dk_180 0 21 (dk_at dksX1_come_0 13 rfl rfl)
theorem dX1_come_16 : decode cX1_come 16 = .ok (.iconst 0, 1) := dk_3 (dk_at dksX1_come_0 16 rfl rfl)
theorem dX1_come_17 : decode cX1_come 17 = .ok (.invokevirtual 72, 3) := dk_182 0 72 (dk_at dksX1_come_0 17 rfl rfl)
theorem dX1_come_20 : decode cX1_come 20 = .ok (.pop, 1) := dk_87 (dk_at dksX1_come_0 20 rfl rfl)
theorem dX1_come_21 : decode cX1_come 21 = .ok (.aload_n 0, 1) := dk_42 (dk_at dksX1_come_0 21 rfl rfl)
theorem dX1_come_22 : decode cX1_come 22 = .ok (.getfield 21, 3) := dk_180 0 21 (dk_at dksX1_come_1 0 rfl rfl)
theorem dX1_come_25 : decode cX1_come 25 = .ok (.aload_n 0, 1) := dk_42 (dk_at dksX1_come_1 3 rfl rfl)
theorem dX1_come_26 : decode cX1_come 26 = .ok (.getfield 14, 3) := dk_180 0 14 (dk_at dksX1_come_1 4 rfl rfl)
theorem dX1_come_29 : decode cX1_come 29 = .ok (.invokevirtual 76, 3) := dk_182 0 76 (dk_at dksX1_come_1 7 rfl rfl)
theorem dX1_come_32 : decode cX1_come 32 = .ok (.pop, 1) := dk_87 (dk_at dksX1_come_1 10 rfl rfl)
theorem dX1_come_33 : decode cX1_come 33 = .ok (.aload_n 0, 1) := dk_42 (dk_at dksX1_come_1 11 rfl rfl)
theorem dX1_come_34 : decode cX1_come 34 = .ok (.aload_n 1, 1) := dk_43 (dk_at dksX1_come_1 12 rfl rfl)
theorem dX1_come_35 : decode cX1_come 35 = .ok (.putfield 14, 3) := dk_181 0 14 (dk_at dksX1_come_1 13 rfl rfl)
theorem dX1_come_38 : decode cX1_come 38 = .ok (.iload_n 2, 1) := dk_28 (dk_at dksX1_come_1 16 rfl rfl)
theorem dX1_come_39 : decode cX1_come 39 = .ok (.ireturn, 1) := dk_172 (dk_at dksX1_come_1 17 rfl rfl)
abbrev cX1_add : ByteArray := prog_1_method_12_code
def yX1_add : MethodName := ⟨RX1, "add", "(II)I"⟩
def dkwX1_add_1 : List UInt8 := [182, 0, 91, 191]
abbrev dktX1_add_1 : List UInt8 := dkwX1_add_1 ++ []
def dkwX1_add_0 : List UInt8 := [42, 180, 0, 14, 182, 0, 80, 78, 42, 45, 45, 27, 28, 182, 0, 84, 182, 0, 87, 172, 78, 42, 45]
abbrev dktX1_add_0 : List UInt8 := dkwX1_add_0 ++ dktX1_add_1
theorem dksX1_add_0 : cX1_add.data.toList.drop 0 = dktX1_add_0 := by decide +kernel
theorem dksX1_add_1 : cX1_add.data.toList.drop 23 = dktX1_add_1 := dk_seg dksX1_add_0 23 rfl rfl
theorem dX1_add_0 : decode cX1_add 0 = .ok (.aload_n 0, 1) := dk_42 (dk_at dksX1_add_0 0 rfl rfl)
theorem dX1_add_1 : decode cX1_add 1 = .ok (.getfield 14, 3) := dk_180 0 14 (dk_at dksX1_add_0 1 rfl rfl)
theorem dX1_add_4 : decode cX1_add 4 = .ok (.invokevirtual 80, 3) := dk_182 0 80 (dk_at dksX1_add_0 4 rfl rfl)
theorem dX1_add_7 : decode cX1_add 7 = .ok (.astore_n 3, 1) := dk_78 (dk_at dksX1_add_0 7 rfl rfl)
theorem dX1_add_8 : decode cX1_add 8 = .ok (.aload_n 0, 1) := dk_42 (dk_at dksX1_add_0 8 rfl rfl)
theorem dX1_add_9 : decode cX1_add 9 = .ok (.aload_n 3, 1) := dk_45 (dk_at dksX1_add_0 9 rfl rfl)
theorem dX1_add_10 : decode cX1_add 10 = .ok (.aload_n 3, 1) := dk_45 (dk_at dksX1_add_0 10 rfl rfl)
theorem dX1_add_11 : decode cX1_add 11 = .ok (.iload_n 1, 1) := dk_27 (dk_at dksX1_add_0 11 rfl rfl)
theorem dX1_add_12 : decode cX1_add 12 = .ok (.iload_n 2, 1) := dk_28 (dk_at dksX1_add_0 12 rfl rfl)
theorem dX1_add_13 : decode cX1_add 13 = .ok (.invokevirtual 84, 3) := dk_182 0 84 (dk_at dksX1_add_0 13 rfl rfl)
theorem dX1_add_16 : decode cX1_add 16 = .ok (.invokevirtual 87, 3) := dk_182 0 87 (dk_at dksX1_add_0 16 rfl rfl)
theorem dX1_add_19 : decode cX1_add 19 = .ok (.ireturn, 1) := dk_172 (dk_at dksX1_add_0 19 rfl rfl)
theorem dX1_add_20 : decode cX1_add 20 = .ok (.astore_n 3, 1) := dk_78 (dk_at dksX1_add_0 20 rfl rfl)
theorem dX1_add_21 : decode cX1_add 21 = .ok (.aload_n 0, 1) := dk_42 (dk_at dksX1_add_0 21 rfl rfl)
theorem dX1_add_22 : decode cX1_add 22 = .ok (.aload_n 3, 1) := dk_45 (dk_at dksX1_add_0 22 rfl rfl)
theorem dX1_add_23 : decode cX1_add 23 = .ok (.invokevirtual 91, 3) := dk_182 0 91 (dk_at dksX1_add_1 0 rfl rfl)
theorem dX1_add_26 : decode cX1_add 26 = .ok (.athrow, 1) := dk_191 (dk_at dksX1_add_1 3 rfl rfl)
abbrev cX1_isBetween : ByteArray := prog_1_method_2_code
def yX1_isBetween : MethodName := ⟨RX1, "isBetween", "(III)Z"⟩
def dkwX1_isBetween_0 : List UInt8 := [26, 27, 161, 0, 12, 26, 28, 163, 0, 7, 4, 167, 0, 4, 3, 172]
abbrev dktX1_isBetween_0 : List UInt8 := dkwX1_isBetween_0 ++ []
theorem dksX1_isBetween_0 : cX1_isBetween.data.toList.drop 0 = dktX1_isBetween_0 := by decide +kernel
theorem dX1_isBetween_0 : decode cX1_isBetween 0 = .ok (.iload_n 0, 1) := dk_26 (dk_at dksX1_isBetween_0 0 rfl rfl)
theorem dX1_isBetween_1 : decode cX1_isBetween 1 = .ok (.iload_n 1, 1) := dk_27 (dk_at dksX1_isBetween_0 1 rfl rfl)
theorem dX1_isBetween_2 : decode cX1_isBetween 2 = .ok (.if_icmp .lt 12, 3) := dk_161 0 12 (dk_at dksX1_isBetween_0 2 rfl rfl)
theorem dX1_isBetween_5 : decode cX1_isBetween 5 = .ok (.iload_n 0, 1) := dk_26 (dk_at dksX1_isBetween_0 5 rfl rfl)
theorem dX1_isBetween_6 : decode cX1_isBetween 6 = .ok (.iload_n 2, 1) := dk_28 (dk_at dksX1_isBetween_0 6 rfl rfl)
theorem dX1_isBetween_7 : decode cX1_isBetween 7 = .ok (.if_icmp .gt 7, 3) := dk_163 0 7 (dk_at dksX1_isBetween_0 7 rfl rfl)
theorem dX1_isBetween_10 : decode cX1_isBetween 10 = .ok (.iconst 1, 1) := dk_4 (dk_at dksX1_isBetween_0 10 rfl rfl)
theorem dX1_isBetween_11 : decode cX1_isBetween 11 = .ok (.goto 4, 3) := dk_167 0 4 (dk_at dksX1_isBetween_0 11 rfl rfl)
theorem dX1_isBetween_14 : decode cX1_isBetween 14 = .ok (.iconst 0, 1) := dk_3 (dk_at dksX1_isBetween_0 14 rfl rfl)
theorem dX1_isBetween_15 : decode cX1_isBetween 15 = .ok (.ireturn, 1) := dk_172 (dk_at dksX1_isBetween_0 15 rfl rfl)
abbrev cX1_refuse : ByteArray := prog_1_method_9_code
def yX1_refuse : MethodName := ⟨RX1, "refuse", "(ZI)V"⟩
def dkwX1_refuse_0 : List UInt8 := [26, 27, 3, 184, 0, 53, 177]
abbrev dktX1_refuse_0 : List UInt8 := dkwX1_refuse_0 ++ []
theorem dksX1_refuse_0 : cX1_refuse.data.toList.drop 0 = dktX1_refuse_0 := by decide +kernel
theorem dX1_refuse_0 : decode cX1_refuse 0 = .ok (.iload_n 0, 1) := dk_26 (dk_at dksX1_refuse_0 0 rfl rfl)
theorem dX1_refuse_1 : decode cX1_refuse 1 = .ok (.iload_n 1, 1) := dk_27 (dk_at dksX1_refuse_0 1 rfl rfl)
theorem dX1_refuse_2 : decode cX1_refuse 2 = .ok (.iconst 0, 1) := dk_3 (dk_at dksX1_refuse_0 2 rfl rfl)
theorem dX1_refuse_3 : decode cX1_refuse 3 = .ok (.invokestatic 53, 3) := dk_184 0 53 (dk_at dksX1_refuse_0 3 rfl rfl)
theorem dX1_refuse_6 : decode cX1_refuse 6 = .ok (.return_, 1) := dk_177 (dk_at dksX1_refuse_0 6 rfl rfl)
abbrev cX1_refuse_2 : ByteArray := prog_1_method_8_code
def yX1_refuse_2 : MethodName := ⟨RX1, "refuse", "(ZII)V"⟩
def dkwX1_refuse_2_0 : List UInt8 := [26, 153, 0, 13, 187, 0, 48, 89, 27, 28, 183, 0, 50, 191, 177]
abbrev dktX1_refuse_2_0 : List UInt8 := dkwX1_refuse_2_0 ++ []
theorem dksX1_refuse_2_0 : cX1_refuse_2.data.toList.drop 0 = dktX1_refuse_2_0 := by decide +kernel
theorem dX1_refuse_2_0 : decode cX1_refuse_2 0 = .ok (.iload_n 0, 1) := dk_26 (dk_at dksX1_refuse_2_0 0 rfl rfl)
theorem dX1_refuse_2_1 : decode cX1_refuse_2 1 = .ok (.ifCond .eq 13, 3) := dk_153 0 13 (dk_at dksX1_refuse_2_0 1 rfl rfl)
theorem dX1_refuse_2_4 : decode cX1_refuse_2 4 = .ok (.new 48, 3) := dk_187 0 48 (dk_at dksX1_refuse_2_0 4 rfl rfl)
theorem dX1_refuse_2_7 : decode cX1_refuse_2 7 = .ok (.dup, 1) := dk_89 (dk_at dksX1_refuse_2_0 7 rfl rfl)
theorem dX1_refuse_2_8 : decode cX1_refuse_2 8 = .ok (.iload_n 1, 1) := dk_27 (dk_at dksX1_refuse_2_0 8 rfl rfl)
theorem dX1_refuse_2_9 : decode cX1_refuse_2 9 = .ok (.iload_n 2, 1) := dk_28 (dk_at dksX1_refuse_2_0 9 rfl rfl)
theorem dX1_refuse_2_10 : decode cX1_refuse_2 10 = .ok (.invokespecial 50, 3) := dk_183 0 50 (dk_at dksX1_refuse_2_0 10 rfl rfl)
theorem dX1_refuse_2_13 : decode cX1_refuse_2 13 = .ok (.athrow, 1) := dk_191 (dk_at dksX1_refuse_2_0 13 rfl rfl)
theorem dX1_refuse_2_14 : decode cX1_refuse_2 14 = .ok (.return_, 1) := dk_177 (dk_at dksX1_refuse_2_0 14 rfl rfl)
abbrev cX1_keep : ByteArray := prog_1_method_10_code
def yX1_keep : MethodName := ⟨RX1, "keep", "(LRobotAisles$RefusedException;)Ljava/lang/UnsupportedOperationException;"⟩
def dkwX1_keep_0 : List UInt8 := [42, 43, 180, 0, 57, 181, 0, 60, 42, 43, 180, 0, 61, 181, 0, 64, 187, 0, 65, 89, 183, 0, 67, 176]
abbrev dktX1_keep_0 : List UInt8 := dkwX1_keep_0 ++ []
theorem dksX1_keep_0 : cX1_keep.data.toList.drop 0 = dktX1_keep_0 := by decide +kernel
theorem dX1_keep_0 : decode cX1_keep 0 = .ok (.aload_n 0, 1) := dk_42 (dk_at dksX1_keep_0 0 rfl rfl)
theorem dX1_keep_1 : decode cX1_keep 1 = .ok (.aload_n 1, 1) := dk_43 (dk_at dksX1_keep_0 1 rfl rfl)
theorem dX1_keep_2 : decode cX1_keep 2 = .ok (.getfield 57, 3) := dk_180 0 57 (dk_at dksX1_keep_0 2 rfl rfl)
theorem dX1_keep_5 : decode cX1_keep 5 = .ok (.putfield 60, 3) := dk_181 0 60 (dk_at dksX1_keep_0 5 rfl rfl)
theorem dX1_keep_8 : decode cX1_keep 8 = .ok (.aload_n 0, 1) := dk_42 (dk_at dksX1_keep_0 8 rfl rfl)
theorem dX1_keep_9 : decode cX1_keep 9 = .ok (.aload_n 1, 1) := dk_43 (dk_at dksX1_keep_0 9 rfl rfl)
theorem dX1_keep_10 : decode cX1_keep 10 = .ok (.getfield 61, 3) := dk_180 0 61 (dk_at dksX1_keep_0 10 rfl rfl)
theorem dX1_keep_13 : decode cX1_keep 13 = .ok (.putfield 64, 3) := dk_181 0 64 (dk_at dksX1_keep_0 13 rfl rfl)
theorem dX1_keep_16 : decode cX1_keep 16 = .ok (.new 65, 3) := dk_187 0 65 (dk_at dksX1_keep_0 16 rfl rfl)
theorem dX1_keep_19 : decode cX1_keep 19 = .ok (.dup, 1) := dk_89 (dk_at dksX1_keep_0 19 rfl rfl)
theorem dX1_keep_20 : decode cX1_keep 20 = .ok (.invokespecial 67, 3) := dk_183 0 67 (dk_at dksX1_keep_0 20 rfl rfl)
theorem dX1_keep_23 : decode cX1_keep 23 = .ok (.areturn, 1) := dk_176 (dk_at dksX1_keep_0 23 rfl rfl)
abbrev cX1_takeOff : ByteArray := prog_1_method_13_code
def yX1_takeOff : MethodName := ⟨RX1, "takeOff", "(I)I"⟩
def dkwX1_takeOff_1 : List UInt8 := [182, 0, 91, 191]
abbrev dktX1_takeOff_1 : List UInt8 := dkwX1_takeOff_1 ++ []
def dkwX1_takeOff_0 : List UInt8 := [42, 180, 0, 14, 182, 0, 80, 77, 42, 44, 44, 27, 182, 0, 95, 182, 0, 87, 172, 77, 42, 44]
abbrev dktX1_takeOff_0 : List UInt8 := dkwX1_takeOff_0 ++ dktX1_takeOff_1
theorem dksX1_takeOff_0 : cX1_takeOff.data.toList.drop 0 = dktX1_takeOff_0 := by decide +kernel
theorem dksX1_takeOff_1 : cX1_takeOff.data.toList.drop 22 = dktX1_takeOff_1 := dk_seg dksX1_takeOff_0 22 rfl rfl
theorem dX1_takeOff_0 : decode cX1_takeOff 0 = .ok (.aload_n 0, 1) := dk_42 (dk_at dksX1_takeOff_0 0 rfl rfl)
theorem dX1_takeOff_1 : decode cX1_takeOff 1 = .ok (.getfield 14, 3) := dk_180 0 14 (dk_at dksX1_takeOff_0 1 rfl rfl)
theorem dX1_takeOff_4 : decode cX1_takeOff 4 = .ok (.invokevirtual 80, 3) := dk_182 0 80 (dk_at dksX1_takeOff_0 4 rfl rfl)
theorem dX1_takeOff_7 : decode cX1_takeOff 7 = .ok (.astore_n 2, 1) := dk_77 (dk_at dksX1_takeOff_0 7 rfl rfl)
theorem dX1_takeOff_8 : decode cX1_takeOff 8 = .ok (.aload_n 0, 1) := dk_42 (dk_at dksX1_takeOff_0 8 rfl rfl)
theorem dX1_takeOff_9 : decode cX1_takeOff 9 = .ok (.aload_n 2, 1) := dk_44 (dk_at dksX1_takeOff_0 9 rfl rfl)
theorem dX1_takeOff_10 : decode cX1_takeOff 10 = .ok (.aload_n 2, 1) := dk_44 (dk_at dksX1_takeOff_0 10 rfl rfl)
theorem dX1_takeOff_11 : decode cX1_takeOff 11 = .ok (.iload_n 1, 1) := dk_27 (dk_at dksX1_takeOff_0 11 rfl rfl)
theorem dX1_takeOff_12 : decode cX1_takeOff 12 = .ok (.invokevirtual 95, 3) := dk_182 0 95 (dk_at dksX1_takeOff_0 12 rfl rfl)
theorem dX1_takeOff_15 : decode cX1_takeOff 15 = .ok (.invokevirtual 87, 3) := dk_182 0 87 (dk_at dksX1_takeOff_0 15 rfl rfl)
theorem dX1_takeOff_18 : decode cX1_takeOff 18 = .ok (.ireturn, 1) := dk_172 (dk_at dksX1_takeOff_0 18 rfl rfl)
theorem dX1_takeOff_19 : decode cX1_takeOff 19 = .ok (.astore_n 2, 1) := dk_77 (dk_at dksX1_takeOff_0 19 rfl rfl)
theorem dX1_takeOff_20 : decode cX1_takeOff 20 = .ok (.aload_n 0, 1) := dk_42 (dk_at dksX1_takeOff_0 20 rfl rfl)
theorem dX1_takeOff_21 : decode cX1_takeOff 21 = .ok (.aload_n 2, 1) := dk_44 (dk_at dksX1_takeOff_0 21 rfl rfl)
theorem dX1_takeOff_22 : decode cX1_takeOff 22 = .ok (.invokevirtual 91, 3) := dk_182 0 91 (dk_at dksX1_takeOff_1 0 rfl rfl)
theorem dX1_takeOff_25 : decode cX1_takeOff 25 = .ok (.athrow, 1) := dk_191 (dk_at dksX1_takeOff_1 3 rfl rfl)
abbrev cX1_order : ByteArray := prog_1_method_15_code
def yX1_order : MethodName := ⟨RX1, "order", "(IIII)I"⟩
def dkwX1_order_4 : List UInt8 := [182, 0, 91, 191]
abbrev dktX1_order_4 : List UInt8 := dkwX1_order_4 ++ []
def dkwX1_order_3 : List UInt8 := [58, 7, 42, 25, 7, 25, 7, 27, 25, 6, 182, 0, 110, 182, 0, 87, 172, 58, 5, 42, 25, 5]
abbrev dktX1_order_3 : List UInt8 := dkwX1_order_3 ++ dktX1_order_4
def dkwX1_order_2 : List UInt8 := [167, 0, 4, 3, 4, 184, 0, 99, 28, 29, 21, 4, 184, 0, 106, 58, 6, 42, 180, 0, 14, 182, 0, 80]
abbrev dktX1_order_2 : List UInt8 := dkwX1_order_2 ++ dktX1_order_3
def dkwX1_order_1 : List UInt8 := [182, 0, 102, 153, 0, 20, 21, 5, 153, 0, 19, 42, 180, 0, 14, 21, 4, 182, 0, 102, 154, 0, 7, 4]
abbrev dktX1_order_1 : List UInt8 := dkwX1_order_1 ++ dktX1_order_2
def dkwX1_order_0 : List UInt8 := [29, 2, 160, 0, 13, 21, 4, 2, 159, 0, 7, 4, 167, 0, 4, 3, 54, 5, 42, 180, 0, 14, 28]
abbrev dktX1_order_0 : List UInt8 := dkwX1_order_0 ++ dktX1_order_1
theorem dksX1_order_0 : cX1_order.data.toList.drop 0 = dktX1_order_0 := by decide +kernel
theorem dksX1_order_1 : cX1_order.data.toList.drop 23 = dktX1_order_1 := dk_seg dksX1_order_0 23 rfl rfl
theorem dksX1_order_2 : cX1_order.data.toList.drop 47 = dktX1_order_2 := dk_seg dksX1_order_1 24 rfl rfl
theorem dksX1_order_3 : cX1_order.data.toList.drop 71 = dktX1_order_3 := dk_seg dksX1_order_2 24 rfl rfl
theorem dksX1_order_4 : cX1_order.data.toList.drop 93 = dktX1_order_4 := dk_seg dksX1_order_3 22 rfl rfl
theorem dX1_order_0 : decode cX1_order 0 = .ok (.iload_n 3, 1) := dk_29 (dk_at dksX1_order_0 0 rfl rfl)
theorem dX1_order_1 : decode cX1_order 1 = .ok (.iconst (-1), 1) := dk_2 (dk_at dksX1_order_0 1 rfl rfl)
theorem dX1_order_2 : decode cX1_order 2 = .ok (.if_icmp .ne 13, 3) := dk_160 0 13 (dk_at dksX1_order_0 2 rfl rfl)
theorem dX1_order_5 : decode cX1_order 5 = .ok (.iload 4, 2) := dk_21 4 (dk_at dksX1_order_0 5 rfl rfl)
theorem dX1_order_7 : decode cX1_order 7 = .ok (.iconst (-1), 1) := dk_2 (dk_at dksX1_order_0 7 rfl rfl)
theorem dX1_order_8 : decode cX1_order 8 = .ok (.if_icmp .eq 7, 3) := dk_159 0 7 (dk_at dksX1_order_0 8 rfl rfl)
theorem dX1_order_11 : decode cX1_order 11 = .ok (.iconst 1, 1) := dk_4 (dk_at dksX1_order_0 11 rfl rfl)
theorem dX1_order_12 : decode cX1_order 12 = .ok (.goto 4, 3) := dk_167 0 4 (dk_at dksX1_order_0 12 rfl rfl)
theorem dX1_order_15 : decode cX1_order 15 = .ok (.iconst 0, 1) := dk_3 (dk_at dksX1_order_0 15 rfl rfl)
theorem dX1_order_16 : decode cX1_order 16 = .ok (.istore 5, 2) := dk_54 5 (dk_at dksX1_order_0 16 rfl rfl)
theorem dX1_order_18 : decode cX1_order 18 = .ok (.aload_n 0, 1) := dk_42 (dk_at dksX1_order_0 18 rfl rfl)
theorem dX1_order_19 : decode cX1_order 19 = .ok (.getfield 14, 3) := dk_180 0 14 (dk_at dksX1_order_0 19 rfl rfl)
theorem dX1_order_22 : decode cX1_order 22 = .ok (.iload_n 2, 1) := dk_28 (dk_at dksX1_order_0 22 rfl rfl)
theorem dX1_order_23 : decode cX1_order 23 = .ok (.invokevirtual 102, 3) := dk_182 0 102 (dk_at dksX1_order_1 0 rfl rfl)
theorem dX1_order_26 : decode cX1_order 26 = .ok (.ifCond .eq 20, 3) := dk_153 0 20 (dk_at dksX1_order_1 3 rfl rfl)
theorem dX1_order_29 : decode cX1_order 29 = .ok (.iload 5, 2) := dk_21 5 (dk_at dksX1_order_1 6 rfl rfl)
theorem dX1_order_31 : decode cX1_order 31 = .ok (.ifCond .eq 19, 3) := dk_153 0 19 (dk_at dksX1_order_1 8 rfl rfl)
theorem dX1_order_34 : decode cX1_order 34 = .ok (.aload_n 0, 1) := dk_42 (dk_at dksX1_order_1 11 rfl rfl)
theorem dX1_order_35 : decode cX1_order 35 = .ok (.getfield 14, 3) := dk_180 0 14 (dk_at dksX1_order_1 12 rfl rfl)
theorem dX1_order_38 : decode cX1_order 38 = .ok (.iload 4, 2) := dk_21 4 (dk_at dksX1_order_1 15 rfl rfl)
theorem dX1_order_40 : decode cX1_order 40 = .ok (.invokevirtual 102, 3) := dk_182 0 102 (dk_at dksX1_order_1 17 rfl rfl)
theorem dX1_order_43 : decode cX1_order 43 = .ok (.ifCond .ne 7, 3) := dk_154 0 7 (dk_at dksX1_order_1 20 rfl rfl)
theorem dX1_order_46 : decode cX1_order 46 = .ok (.iconst 1, 1) := dk_4 (dk_at dksX1_order_1 23 rfl rfl)
theorem dX1_order_47 : decode cX1_order 47 = .ok (.goto 4, 3) := dk_167 0 4 (dk_at dksX1_order_2 0 rfl rfl)
theorem dX1_order_50 : decode cX1_order 50 = .ok (.iconst 0, 1) := dk_3 (dk_at dksX1_order_2 3 rfl rfl)
theorem dX1_order_51 : decode cX1_order 51 = .ok (.iconst 1, 1) := dk_4 (dk_at dksX1_order_2 4 rfl rfl)
theorem dX1_order_52 : decode cX1_order 52 = .ok (.invokestatic 99, 3) := dk_184 0 99 (dk_at dksX1_order_2 5 rfl rfl)
theorem dX1_order_55 : decode cX1_order 55 = .ok (.iload_n 2, 1) := dk_28 (dk_at dksX1_order_2 8 rfl rfl)
theorem dX1_order_56 : decode cX1_order 56 = .ok (.iload_n 3, 1) := dk_29 (dk_at dksX1_order_2 9 rfl rfl)
theorem dX1_order_57 : decode cX1_order 57 = .ok (.iload 4, 2) := dk_21 4 (dk_at dksX1_order_2 10 rfl rfl)
theorem dX1_order_59 : decode cX1_order 59 = .ok (.invokestatic 106, 3) := dk_184 0 106 (dk_at dksX1_order_2 12 rfl rfl)
theorem dX1_order_62 : decode cX1_order 62 = .ok (.astore 6, 2) := dk_58 6 (dk_at dksX1_order_2 15 rfl rfl)
theorem dX1_order_64 : decode cX1_order 64 = .ok (.aload_n 0, 1) := dk_42 (dk_at dksX1_order_2 17 rfl rfl)
theorem dX1_order_65 : decode cX1_order 65 = .ok (.getfield 14, 3) := dk_180 0 14 (dk_at dksX1_order_2 18 rfl rfl)
theorem dX1_order_68 : decode cX1_order 68 = .ok (.invokevirtual 80, 3) := dk_182 0 80 (dk_at dksX1_order_2 21 rfl rfl)
theorem dX1_order_71 : decode cX1_order 71 = .ok (.astore 7, 2) := dk_58 7 (dk_at dksX1_order_3 0 rfl rfl)
theorem dX1_order_73 : decode cX1_order 73 = .ok (.aload_n 0, 1) := dk_42 (dk_at dksX1_order_3 2 rfl rfl)
theorem dX1_order_74 : decode cX1_order 74 = .ok (.aload 7, 2) := dk_25 7 (dk_at dksX1_order_3 3 rfl rfl)
theorem dX1_order_76 : decode cX1_order 76 = .ok (.aload 7, 2) := dk_25 7 (dk_at dksX1_order_3 5 rfl rfl)
theorem dX1_order_78 : decode cX1_order 78 = .ok (.iload_n 1, 1) := dk_27 (dk_at dksX1_order_3 7 rfl rfl)
theorem dX1_order_79 : decode cX1_order 79 = .ok (.aload 6, 2) := dk_25 6 (dk_at dksX1_order_3 8 rfl rfl)
theorem dX1_order_81 : decode cX1_order 81 = .ok (.invokevirtual 110, 3) := dk_182 0 110 (dk_at dksX1_order_3 10 rfl rfl)
theorem dX1_order_84 : decode cX1_order 84 = .ok (.invokevirtual 87, 3) := dk_182 0 87 (dk_at dksX1_order_3 13 rfl rfl)
theorem dX1_order_87 : decode cX1_order 87 = .ok (.ireturn, 1) := dk_172 (dk_at dksX1_order_3 16 rfl rfl)
theorem dX1_order_88 : decode cX1_order 88 = .ok (.astore 5, 2) := dk_58 5 (dk_at dksX1_order_3 17 rfl rfl)
theorem dX1_order_90 : decode cX1_order 90 = .ok (.aload_n 0, 1) := dk_42 (dk_at dksX1_order_3 19 rfl rfl)
theorem dX1_order_91 : decode cX1_order 91 = .ok (.aload 5, 2) := dk_25 5 (dk_at dksX1_order_3 20 rfl rfl)
theorem dX1_order_93 : decode cX1_order 93 = .ok (.invokevirtual 91, 3) := dk_182 0 91 (dk_at dksX1_order_4 0 rfl rfl)
theorem dX1_order_96 : decode cX1_order 96 = .ok (.athrow, 1) := dk_191 (dk_at dksX1_order_4 3 rfl rfl)
abbrev cX1_linesOf : ByteArray := prog_1_method_14_code
def yX1_linesOf : MethodName := ⟨RX1, "linesOf", "(III)[I"⟩
def dkwX1_linesOf_2 : List UInt8 := [164, 0, 7, 45, 4, 27, 79, 45, 190, 5, 164, 0, 7, 45, 5, 28, 79, 45, 176]
abbrev dktX1_linesOf_2 : List UInt8 := dkwX1_linesOf_2 ++ []
def dkwX1_linesOf_1 : List UInt8 := [4, 167, 0, 13, 28, 2, 160, 0, 7, 5, 167, 0, 4, 6, 188, 10, 78, 45, 3, 26, 79, 45, 190, 4]
abbrev dktX1_linesOf_1 : List UInt8 := dkwX1_linesOf_1 ++ dktX1_linesOf_2
def dkwX1_linesOf_0 : List UInt8 := [27, 2, 160, 0, 12, 28, 2, 159, 0, 7, 4, 167, 0, 4, 3, 5, 184, 0, 99, 27, 2, 160, 0, 7]
abbrev dktX1_linesOf_0 : List UInt8 := dkwX1_linesOf_0 ++ dktX1_linesOf_1
theorem dksX1_linesOf_0 : cX1_linesOf.data.toList.drop 0 = dktX1_linesOf_0 := by decide +kernel
theorem dksX1_linesOf_1 : cX1_linesOf.data.toList.drop 24 = dktX1_linesOf_1 := dk_seg dksX1_linesOf_0 24 rfl rfl
theorem dksX1_linesOf_2 : cX1_linesOf.data.toList.drop 48 = dktX1_linesOf_2 := dk_seg dksX1_linesOf_1 24 rfl rfl
theorem dX1_linesOf_0 : decode cX1_linesOf 0 = .ok (.iload_n 1, 1) := dk_27 (dk_at dksX1_linesOf_0 0 rfl rfl)
theorem dX1_linesOf_1 : decode cX1_linesOf 1 = .ok (.iconst (-1), 1) := dk_2 (dk_at dksX1_linesOf_0 1 rfl rfl)
theorem dX1_linesOf_2 : decode cX1_linesOf 2 = .ok (.if_icmp .ne 12, 3) := dk_160 0 12 (dk_at dksX1_linesOf_0 2 rfl rfl)
theorem dX1_linesOf_5 : decode cX1_linesOf 5 = .ok (.iload_n 2, 1) := dk_28 (dk_at dksX1_linesOf_0 5 rfl rfl)
theorem dX1_linesOf_6 : decode cX1_linesOf 6 = .ok (.iconst (-1), 1) := dk_2 (dk_at dksX1_linesOf_0 6 rfl rfl)
theorem dX1_linesOf_7 : decode cX1_linesOf 7 = .ok (.if_icmp .eq 7, 3) := dk_159 0 7 (dk_at dksX1_linesOf_0 7 rfl rfl)
theorem dX1_linesOf_10 : decode cX1_linesOf 10 = .ok (.iconst 1, 1) := dk_4 (dk_at dksX1_linesOf_0 10 rfl rfl)
theorem dX1_linesOf_11 : decode cX1_linesOf 11 = .ok (.goto 4, 3) := dk_167 0 4 (dk_at dksX1_linesOf_0 11 rfl rfl)
theorem dX1_linesOf_14 : decode cX1_linesOf 14 = .ok (.iconst 0, 1) := dk_3 (dk_at dksX1_linesOf_0 14 rfl rfl)
theorem dX1_linesOf_15 : decode cX1_linesOf 15 = .ok (.iconst 2, 1) := dk_5 (dk_at dksX1_linesOf_0 15 rfl rfl)
theorem dX1_linesOf_16 : decode cX1_linesOf 16 = .ok (.invokestatic 99, 3) := dk_184 0 99 (dk_at dksX1_linesOf_0 16 rfl rfl)
theorem dX1_linesOf_19 : decode cX1_linesOf 19 = .ok (.iload_n 1, 1) := dk_27 (dk_at dksX1_linesOf_0 19 rfl rfl)
theorem dX1_linesOf_20 : decode cX1_linesOf 20 = .ok (.iconst (-1), 1) := dk_2 (dk_at dksX1_linesOf_0 20 rfl rfl)
theorem dX1_linesOf_21 : decode cX1_linesOf 21 = .ok (.if_icmp .ne 7, 3) := dk_160 0 7 (dk_at dksX1_linesOf_0 21 rfl rfl)
theorem dX1_linesOf_24 : decode cX1_linesOf 24 = .ok (.iconst 1, 1) := dk_4 (dk_at dksX1_linesOf_1 0 rfl rfl)
theorem dX1_linesOf_25 : decode cX1_linesOf 25 = .ok (.goto 13, 3) := dk_167 0 13 (dk_at dksX1_linesOf_1 1 rfl rfl)
theorem dX1_linesOf_28 : decode cX1_linesOf 28 = .ok (.iload_n 2, 1) := dk_28 (dk_at dksX1_linesOf_1 4 rfl rfl)
theorem dX1_linesOf_29 : decode cX1_linesOf 29 = .ok (.iconst (-1), 1) := dk_2 (dk_at dksX1_linesOf_1 5 rfl rfl)
theorem dX1_linesOf_30 : decode cX1_linesOf 30 = .ok (.if_icmp .ne 7, 3) := dk_160 0 7 (dk_at dksX1_linesOf_1 6 rfl rfl)
theorem dX1_linesOf_33 : decode cX1_linesOf 33 = .ok (.iconst 2, 1) := dk_5 (dk_at dksX1_linesOf_1 9 rfl rfl)
theorem dX1_linesOf_34 : decode cX1_linesOf 34 = .ok (.goto 4, 3) := dk_167 0 4 (dk_at dksX1_linesOf_1 10 rfl rfl)
theorem dX1_linesOf_37 : decode cX1_linesOf 37 = .ok (.iconst 3, 1) := dk_6 (dk_at dksX1_linesOf_1 13 rfl rfl)
theorem dX1_linesOf_38 : decode cX1_linesOf 38 = .ok (.newarray .int, 2) := dk_188_10 (dk_at dksX1_linesOf_1 14 rfl rfl)
theorem dX1_linesOf_40 : decode cX1_linesOf 40 = .ok (.astore_n 3, 1) := dk_78 (dk_at dksX1_linesOf_1 16 rfl rfl)
theorem dX1_linesOf_41 : decode cX1_linesOf 41 = .ok (.aload_n 3, 1) := dk_45 (dk_at dksX1_linesOf_1 17 rfl rfl)
theorem dX1_linesOf_42 : decode cX1_linesOf 42 = .ok (.iconst 0, 1) := dk_3 (dk_at dksX1_linesOf_1 18 rfl rfl)
theorem dX1_linesOf_43 : decode cX1_linesOf 43 = .ok (.iload_n 0, 1) := dk_26 (dk_at dksX1_linesOf_1 19 rfl rfl)
theorem dX1_linesOf_44 : decode cX1_linesOf 44 = .ok (.iastore, 1) := dk_79 (dk_at dksX1_linesOf_1 20 rfl rfl)
theorem dX1_linesOf_45 : decode cX1_linesOf 45 = .ok (.aload_n 3, 1) := dk_45 (dk_at dksX1_linesOf_1 21 rfl rfl)
theorem dX1_linesOf_46 : decode cX1_linesOf 46 = .ok (.arraylength, 1) := dk_190 (dk_at dksX1_linesOf_1 22 rfl rfl)
theorem dX1_linesOf_47 : decode cX1_linesOf 47 = .ok (.iconst 1, 1) := dk_4 (dk_at dksX1_linesOf_1 23 rfl rfl)
theorem dX1_linesOf_48 : decode cX1_linesOf 48 = .ok (.if_icmp .le 7, 3) := dk_164 0 7 (dk_at dksX1_linesOf_2 0 rfl rfl)
theorem dX1_linesOf_51 : decode cX1_linesOf 51 = .ok (.aload_n 3, 1) := dk_45 (dk_at dksX1_linesOf_2 3 rfl rfl)
theorem dX1_linesOf_52 : decode cX1_linesOf 52 = .ok (.iconst 1, 1) := dk_4 (dk_at dksX1_linesOf_2 4 rfl rfl)
theorem dX1_linesOf_53 : decode cX1_linesOf 53 = .ok (.iload_n 1, 1) := dk_27 (dk_at dksX1_linesOf_2 5 rfl rfl)
theorem dX1_linesOf_54 : decode cX1_linesOf 54 = .ok (.iastore, 1) := dk_79 (dk_at dksX1_linesOf_2 6 rfl rfl)
theorem dX1_linesOf_55 : decode cX1_linesOf 55 = .ok (.aload_n 3, 1) := dk_45 (dk_at dksX1_linesOf_2 7 rfl rfl)
theorem dX1_linesOf_56 : decode cX1_linesOf 56 = .ok (.arraylength, 1) := dk_190 (dk_at dksX1_linesOf_2 8 rfl rfl)
theorem dX1_linesOf_57 : decode cX1_linesOf 57 = .ok (.iconst 2, 1) := dk_5 (dk_at dksX1_linesOf_2 9 rfl rfl)
theorem dX1_linesOf_58 : decode cX1_linesOf 58 = .ok (.if_icmp .le 7, 3) := dk_164 0 7 (dk_at dksX1_linesOf_2 10 rfl rfl)
theorem dX1_linesOf_61 : decode cX1_linesOf 61 = .ok (.aload_n 3, 1) := dk_45 (dk_at dksX1_linesOf_2 13 rfl rfl)
theorem dX1_linesOf_62 : decode cX1_linesOf 62 = .ok (.iconst 2, 1) := dk_5 (dk_at dksX1_linesOf_2 14 rfl rfl)
theorem dX1_linesOf_63 : decode cX1_linesOf 63 = .ok (.iload_n 2, 1) := dk_28 (dk_at dksX1_linesOf_2 15 rfl rfl)
theorem dX1_linesOf_64 : decode cX1_linesOf 64 = .ok (.iastore, 1) := dk_79 (dk_at dksX1_linesOf_2 16 rfl rfl)
theorem dX1_linesOf_65 : decode cX1_linesOf 65 = .ok (.aload_n 3, 1) := dk_45 (dk_at dksX1_linesOf_2 17 rfl rfl)
theorem dX1_linesOf_66 : decode cX1_linesOf 66 = .ok (.areturn, 1) := dk_176 (dk_at dksX1_linesOf_2 18 rfl rfl)
abbrev cX1_assign : ByteArray := prog_1_method_16_code
def yX1_assign : MethodName := ⟨RX1, "assign", "(II)I"⟩
def dkwX1_assign_1 : List UInt8 := [182, 0, 91, 191]
abbrev dktX1_assign_1 : List UInt8 := dkwX1_assign_1 ++ []
def dkwX1_assign_0 : List UInt8 := [42, 180, 0, 14, 182, 0, 80, 78, 42, 45, 45, 27, 28, 182, 0, 114, 182, 0, 87, 172, 78, 42, 45]
abbrev dktX1_assign_0 : List UInt8 := dkwX1_assign_0 ++ dktX1_assign_1
theorem dksX1_assign_0 : cX1_assign.data.toList.drop 0 = dktX1_assign_0 := by decide +kernel
theorem dksX1_assign_1 : cX1_assign.data.toList.drop 23 = dktX1_assign_1 := dk_seg dksX1_assign_0 23 rfl rfl
theorem dX1_assign_0 : decode cX1_assign 0 = .ok (.aload_n 0, 1) := dk_42 (dk_at dksX1_assign_0 0 rfl rfl)
theorem dX1_assign_1 : decode cX1_assign 1 = .ok (.getfield 14, 3) := dk_180 0 14 (dk_at dksX1_assign_0 1 rfl rfl)
theorem dX1_assign_4 : decode cX1_assign 4 = .ok (.invokevirtual 80, 3) := dk_182 0 80 (dk_at dksX1_assign_0 4 rfl rfl)
theorem dX1_assign_7 : decode cX1_assign 7 = .ok (.astore_n 3, 1) := dk_78 (dk_at dksX1_assign_0 7 rfl rfl)
theorem dX1_assign_8 : decode cX1_assign 8 = .ok (.aload_n 0, 1) := dk_42 (dk_at dksX1_assign_0 8 rfl rfl)
theorem dX1_assign_9 : decode cX1_assign 9 = .ok (.aload_n 3, 1) := dk_45 (dk_at dksX1_assign_0 9 rfl rfl)
theorem dX1_assign_10 : decode cX1_assign 10 = .ok (.aload_n 3, 1) := dk_45 (dk_at dksX1_assign_0 10 rfl rfl)
theorem dX1_assign_11 : decode cX1_assign 11 = .ok (.iload_n 1, 1) := dk_27 (dk_at dksX1_assign_0 11 rfl rfl)
theorem dX1_assign_12 : decode cX1_assign 12 = .ok (.iload_n 2, 1) := dk_28 (dk_at dksX1_assign_0 12 rfl rfl)
theorem dX1_assign_13 : decode cX1_assign 13 = .ok (.invokevirtual 114, 3) := dk_182 0 114 (dk_at dksX1_assign_0 13 rfl rfl)
theorem dX1_assign_16 : decode cX1_assign 16 = .ok (.invokevirtual 87, 3) := dk_182 0 87 (dk_at dksX1_assign_0 16 rfl rfl)
theorem dX1_assign_19 : decode cX1_assign 19 = .ok (.ireturn, 1) := dk_172 (dk_at dksX1_assign_0 19 rfl rfl)
theorem dX1_assign_20 : decode cX1_assign 20 = .ok (.astore_n 3, 1) := dk_78 (dk_at dksX1_assign_0 20 rfl rfl)
theorem dX1_assign_21 : decode cX1_assign 21 = .ok (.aload_n 0, 1) := dk_42 (dk_at dksX1_assign_0 21 rfl rfl)
theorem dX1_assign_22 : decode cX1_assign 22 = .ok (.aload_n 3, 1) := dk_45 (dk_at dksX1_assign_0 22 rfl rfl)
theorem dX1_assign_23 : decode cX1_assign 23 = .ok (.invokevirtual 91, 3) := dk_182 0 91 (dk_at dksX1_assign_1 0 rfl rfl)
theorem dX1_assign_26 : decode cX1_assign 26 = .ok (.athrow, 1) := dk_191 (dk_at dksX1_assign_1 3 rfl rfl)
abbrev cX1_release : ByteArray := prog_1_method_17_code
def yX1_release : MethodName := ⟨RX1, "release", "(I)I"⟩
def dkwX1_release_1 : List UInt8 := [182, 0, 91, 191]
abbrev dktX1_release_1 : List UInt8 := dkwX1_release_1 ++ []
def dkwX1_release_0 : List UInt8 := [42, 180, 0, 14, 182, 0, 80, 77, 42, 44, 44, 27, 182, 0, 117, 182, 0, 87, 172, 77, 42, 44]
abbrev dktX1_release_0 : List UInt8 := dkwX1_release_0 ++ dktX1_release_1
theorem dksX1_release_0 : cX1_release.data.toList.drop 0 = dktX1_release_0 := by decide +kernel
theorem dksX1_release_1 : cX1_release.data.toList.drop 22 = dktX1_release_1 := dk_seg dksX1_release_0 22 rfl rfl
theorem dX1_release_0 : decode cX1_release 0 = .ok (.aload_n 0, 1) := dk_42 (dk_at dksX1_release_0 0 rfl rfl)
theorem dX1_release_1 : decode cX1_release 1 = .ok (.getfield 14, 3) := dk_180 0 14 (dk_at dksX1_release_0 1 rfl rfl)
theorem dX1_release_4 : decode cX1_release 4 = .ok (.invokevirtual 80, 3) := dk_182 0 80 (dk_at dksX1_release_0 4 rfl rfl)
theorem dX1_release_7 : decode cX1_release 7 = .ok (.astore_n 2, 1) := dk_77 (dk_at dksX1_release_0 7 rfl rfl)
theorem dX1_release_8 : decode cX1_release 8 = .ok (.aload_n 0, 1) := dk_42 (dk_at dksX1_release_0 8 rfl rfl)
theorem dX1_release_9 : decode cX1_release 9 = .ok (.aload_n 2, 1) := dk_44 (dk_at dksX1_release_0 9 rfl rfl)
theorem dX1_release_10 : decode cX1_release 10 = .ok (.aload_n 2, 1) := dk_44 (dk_at dksX1_release_0 10 rfl rfl)
theorem dX1_release_11 : decode cX1_release 11 = .ok (.iload_n 1, 1) := dk_27 (dk_at dksX1_release_0 11 rfl rfl)
theorem dX1_release_12 : decode cX1_release 12 = .ok (.invokevirtual 117, 3) := dk_182 0 117 (dk_at dksX1_release_0 12 rfl rfl)
theorem dX1_release_15 : decode cX1_release 15 = .ok (.invokevirtual 87, 3) := dk_182 0 87 (dk_at dksX1_release_0 15 rfl rfl)
theorem dX1_release_18 : decode cX1_release 18 = .ok (.ireturn, 1) := dk_172 (dk_at dksX1_release_0 18 rfl rfl)
theorem dX1_release_19 : decode cX1_release 19 = .ok (.astore_n 2, 1) := dk_77 (dk_at dksX1_release_0 19 rfl rfl)
theorem dX1_release_20 : decode cX1_release 20 = .ok (.aload_n 0, 1) := dk_42 (dk_at dksX1_release_0 20 rfl rfl)
theorem dX1_release_21 : decode cX1_release 21 = .ok (.aload_n 2, 1) := dk_44 (dk_at dksX1_release_0 21 rfl rfl)
theorem dX1_release_22 : decode cX1_release 22 = .ok (.invokevirtual 91, 3) := dk_182 0 91 (dk_at dksX1_release_1 0 rfl rfl)
theorem dX1_release_25 : decode cX1_release 25 = .ok (.athrow, 1) := dk_191 (dk_at dksX1_release_1 3 rfl rfl)
abbrev cX1_close : ByteArray := prog_1_method_18_code
def yX1_close : MethodName := ⟨RX1, "close", "(I)I"⟩
def dkwX1_close_1 : List UInt8 := [182, 0, 91, 191]
abbrev dktX1_close_1 : List UInt8 := dkwX1_close_1 ++ []
def dkwX1_close_0 : List UInt8 := [42, 180, 0, 14, 182, 0, 80, 77, 42, 44, 44, 27, 182, 0, 120, 182, 0, 87, 172, 77, 42, 44]
abbrev dktX1_close_0 : List UInt8 := dkwX1_close_0 ++ dktX1_close_1
theorem dksX1_close_0 : cX1_close.data.toList.drop 0 = dktX1_close_0 := by decide +kernel
theorem dksX1_close_1 : cX1_close.data.toList.drop 22 = dktX1_close_1 := dk_seg dksX1_close_0 22 rfl rfl
theorem dX1_close_0 : decode cX1_close 0 = .ok (.aload_n 0, 1) := dk_42 (dk_at dksX1_close_0 0 rfl rfl)
theorem dX1_close_1 : decode cX1_close 1 = .ok (.getfield 14, 3) := dk_180 0 14 (dk_at dksX1_close_0 1 rfl rfl)
theorem dX1_close_4 : decode cX1_close 4 = .ok (.invokevirtual 80, 3) := dk_182 0 80 (dk_at dksX1_close_0 4 rfl rfl)
theorem dX1_close_7 : decode cX1_close 7 = .ok (.astore_n 2, 1) := dk_77 (dk_at dksX1_close_0 7 rfl rfl)
theorem dX1_close_8 : decode cX1_close 8 = .ok (.aload_n 0, 1) := dk_42 (dk_at dksX1_close_0 8 rfl rfl)
theorem dX1_close_9 : decode cX1_close 9 = .ok (.aload_n 2, 1) := dk_44 (dk_at dksX1_close_0 9 rfl rfl)
theorem dX1_close_10 : decode cX1_close 10 = .ok (.aload_n 2, 1) := dk_44 (dk_at dksX1_close_0 10 rfl rfl)
theorem dX1_close_11 : decode cX1_close 11 = .ok (.iload_n 1, 1) := dk_27 (dk_at dksX1_close_0 11 rfl rfl)
theorem dX1_close_12 : decode cX1_close 12 = .ok (.invokevirtual 120, 3) := dk_182 0 120 (dk_at dksX1_close_0 12 rfl rfl)
theorem dX1_close_15 : decode cX1_close 15 = .ok (.invokevirtual 87, 3) := dk_182 0 87 (dk_at dksX1_close_0 15 rfl rfl)
theorem dX1_close_18 : decode cX1_close 18 = .ok (.ireturn, 1) := dk_172 (dk_at dksX1_close_0 18 rfl rfl)
theorem dX1_close_19 : decode cX1_close 19 = .ok (.astore_n 2, 1) := dk_77 (dk_at dksX1_close_0 19 rfl rfl)
theorem dX1_close_20 : decode cX1_close 20 = .ok (.aload_n 0, 1) := dk_42 (dk_at dksX1_close_0 20 rfl rfl)
theorem dX1_close_21 : decode cX1_close 21 = .ok (.aload_n 2, 1) := dk_44 (dk_at dksX1_close_0 21 rfl rfl)
theorem dX1_close_22 : decode cX1_close 22 = .ok (.invokevirtual 91, 3) := dk_182 0 91 (dk_at dksX1_close_1 0 rfl rfl)
theorem dX1_close_25 : decode cX1_close 25 = .ok (.athrow, 1) := dk_191 (dk_at dksX1_close_1 3 rfl rfl)
abbrev cX1_open : ByteArray := prog_1_method_19_code
def yX1_open : MethodName := ⟨RX1, "open", "(I)I"⟩
def dkwX1_open_1 : List UInt8 := [182, 0, 91, 191]
abbrev dktX1_open_1 : List UInt8 := dkwX1_open_1 ++ []
def dkwX1_open_0 : List UInt8 := [42, 180, 0, 14, 182, 0, 80, 77, 42, 44, 44, 27, 182, 0, 123, 182, 0, 87, 172, 77, 42, 44]
abbrev dktX1_open_0 : List UInt8 := dkwX1_open_0 ++ dktX1_open_1
theorem dksX1_open_0 : cX1_open.data.toList.drop 0 = dktX1_open_0 := by decide +kernel
theorem dksX1_open_1 : cX1_open.data.toList.drop 22 = dktX1_open_1 := dk_seg dksX1_open_0 22 rfl rfl
theorem dX1_open_0 : decode cX1_open 0 = .ok (.aload_n 0, 1) := dk_42 (dk_at dksX1_open_0 0 rfl rfl)
theorem dX1_open_1 : decode cX1_open 1 = .ok (.getfield 14, 3) := dk_180 0 14 (dk_at dksX1_open_0 1 rfl rfl)
theorem dX1_open_4 : decode cX1_open 4 = .ok (.invokevirtual 80, 3) := dk_182 0 80 (dk_at dksX1_open_0 4 rfl rfl)
theorem dX1_open_7 : decode cX1_open 7 = .ok (.astore_n 2, 1) := dk_77 (dk_at dksX1_open_0 7 rfl rfl)
theorem dX1_open_8 : decode cX1_open 8 = .ok (.aload_n 0, 1) := dk_42 (dk_at dksX1_open_0 8 rfl rfl)
theorem dX1_open_9 : decode cX1_open 9 = .ok (.aload_n 2, 1) := dk_44 (dk_at dksX1_open_0 9 rfl rfl)
theorem dX1_open_10 : decode cX1_open 10 = .ok (.aload_n 2, 1) := dk_44 (dk_at dksX1_open_0 10 rfl rfl)
theorem dX1_open_11 : decode cX1_open 11 = .ok (.iload_n 1, 1) := dk_27 (dk_at dksX1_open_0 11 rfl rfl)
theorem dX1_open_12 : decode cX1_open 12 = .ok (.invokevirtual 123, 3) := dk_182 0 123 (dk_at dksX1_open_0 12 rfl rfl)
theorem dX1_open_15 : decode cX1_open 15 = .ok (.invokevirtual 87, 3) := dk_182 0 87 (dk_at dksX1_open_0 15 rfl rfl)
theorem dX1_open_18 : decode cX1_open 18 = .ok (.ireturn, 1) := dk_172 (dk_at dksX1_open_0 18 rfl rfl)
theorem dX1_open_19 : decode cX1_open 19 = .ok (.astore_n 2, 1) := dk_77 (dk_at dksX1_open_0 19 rfl rfl)
theorem dX1_open_20 : decode cX1_open 20 = .ok (.aload_n 0, 1) := dk_42 (dk_at dksX1_open_0 20 rfl rfl)
theorem dX1_open_21 : decode cX1_open 21 = .ok (.aload_n 2, 1) := dk_44 (dk_at dksX1_open_0 21 rfl rfl)
theorem dX1_open_22 : decode cX1_open 22 = .ok (.invokevirtual 91, 3) := dk_182 0 91 (dk_at dksX1_open_1 0 rfl rfl)
theorem dX1_open_25 : decode cX1_open 25 = .ok (.athrow, 1) := dk_191 (dk_at dksX1_open_1 3 rfl rfl)
abbrev cX1_set : ByteArray := prog_1_method_20_code
def yX1_set : MethodName := ⟨RX1, "set", "(II)I"⟩
def dkwX1_set_1 : List UInt8 := [182, 0, 91, 191]
abbrev dktX1_set_1 : List UInt8 := dkwX1_set_1 ++ []
def dkwX1_set_0 : List UInt8 := [42, 180, 0, 14, 182, 0, 80, 78, 42, 45, 45, 27, 28, 182, 0, 126, 182, 0, 87, 172, 78, 42, 45]
abbrev dktX1_set_0 : List UInt8 := dkwX1_set_0 ++ dktX1_set_1
theorem dksX1_set_0 : cX1_set.data.toList.drop 0 = dktX1_set_0 := by decide +kernel
theorem dksX1_set_1 : cX1_set.data.toList.drop 23 = dktX1_set_1 := dk_seg dksX1_set_0 23 rfl rfl
theorem dX1_set_0 : decode cX1_set 0 = .ok (.aload_n 0, 1) := dk_42 (dk_at dksX1_set_0 0 rfl rfl)
theorem dX1_set_1 : decode cX1_set 1 = .ok (.getfield 14, 3) := dk_180 0 14 (dk_at dksX1_set_0 1 rfl rfl)
theorem dX1_set_4 : decode cX1_set 4 = .ok (.invokevirtual 80, 3) := dk_182 0 80 (dk_at dksX1_set_0 4 rfl rfl)
theorem dX1_set_7 : decode cX1_set 7 = .ok (.astore_n 3, 1) := dk_78 (dk_at dksX1_set_0 7 rfl rfl)
theorem dX1_set_8 : decode cX1_set 8 = .ok (.aload_n 0, 1) := dk_42 (dk_at dksX1_set_0 8 rfl rfl)
theorem dX1_set_9 : decode cX1_set 9 = .ok (.aload_n 3, 1) := dk_45 (dk_at dksX1_set_0 9 rfl rfl)
theorem dX1_set_10 : decode cX1_set 10 = .ok (.aload_n 3, 1) := dk_45 (dk_at dksX1_set_0 10 rfl rfl)
theorem dX1_set_11 : decode cX1_set 11 = .ok (.iload_n 1, 1) := dk_27 (dk_at dksX1_set_0 11 rfl rfl)
theorem dX1_set_12 : decode cX1_set 12 = .ok (.iload_n 2, 1) := dk_28 (dk_at dksX1_set_0 12 rfl rfl)
theorem dX1_set_13 : decode cX1_set 13 = .ok (.invokevirtual 126, 3) := dk_182 0 126 (dk_at dksX1_set_0 13 rfl rfl)
theorem dX1_set_16 : decode cX1_set 16 = .ok (.invokevirtual 87, 3) := dk_182 0 87 (dk_at dksX1_set_0 16 rfl rfl)
theorem dX1_set_19 : decode cX1_set 19 = .ok (.ireturn, 1) := dk_172 (dk_at dksX1_set_0 19 rfl rfl)
theorem dX1_set_20 : decode cX1_set 20 = .ok (.astore_n 3, 1) := dk_78 (dk_at dksX1_set_0 20 rfl rfl)
theorem dX1_set_21 : decode cX1_set 21 = .ok (.aload_n 0, 1) := dk_42 (dk_at dksX1_set_0 21 rfl rfl)
theorem dX1_set_22 : decode cX1_set 22 = .ok (.aload_n 3, 1) := dk_45 (dk_at dksX1_set_0 22 rfl rfl)
theorem dX1_set_23 : decode cX1_set 23 = .ok (.invokevirtual 91, 3) := dk_182 0 91 (dk_at dksX1_set_1 0 rfl rfl)
theorem dX1_set_26 : decode cX1_set 26 = .ok (.athrow, 1) := dk_191 (dk_at dksX1_set_1 3 rfl rfl)
abbrev cX1_plan : ByteArray := prog_1_method_21_code
def yX1_plan : MethodName := ⟨RX1, "plan", "(II)I"⟩
def dkwX1_plan_1 : List UInt8 := [182, 0, 91, 191]
abbrev dktX1_plan_1 : List UInt8 := dkwX1_plan_1 ++ []
def dkwX1_plan_0 : List UInt8 := [42, 180, 0, 14, 182, 0, 80, 78, 42, 45, 45, 27, 28, 182, 0, 129, 182, 0, 87, 172, 78, 42, 45]
abbrev dktX1_plan_0 : List UInt8 := dkwX1_plan_0 ++ dktX1_plan_1
theorem dksX1_plan_0 : cX1_plan.data.toList.drop 0 = dktX1_plan_0 := by decide +kernel
theorem dksX1_plan_1 : cX1_plan.data.toList.drop 23 = dktX1_plan_1 := dk_seg dksX1_plan_0 23 rfl rfl
theorem dX1_plan_0 : decode cX1_plan 0 = .ok (.aload_n 0, 1) := dk_42 (dk_at dksX1_plan_0 0 rfl rfl)
theorem dX1_plan_1 : decode cX1_plan 1 = .ok (.getfield 14, 3) := dk_180 0 14 (dk_at dksX1_plan_0 1 rfl rfl)
theorem dX1_plan_4 : decode cX1_plan 4 = .ok (.invokevirtual 80, 3) := dk_182 0 80 (dk_at dksX1_plan_0 4 rfl rfl)
theorem dX1_plan_7 : decode cX1_plan 7 = .ok (.astore_n 3, 1) := dk_78 (dk_at dksX1_plan_0 7 rfl rfl)
theorem dX1_plan_8 : decode cX1_plan 8 = .ok (.aload_n 0, 1) := dk_42 (dk_at dksX1_plan_0 8 rfl rfl)
theorem dX1_plan_9 : decode cX1_plan 9 = .ok (.aload_n 3, 1) := dk_45 (dk_at dksX1_plan_0 9 rfl rfl)
theorem dX1_plan_10 : decode cX1_plan 10 = .ok (.aload_n 3, 1) := dk_45 (dk_at dksX1_plan_0 10 rfl rfl)
theorem dX1_plan_11 : decode cX1_plan 11 = .ok (.iload_n 1, 1) := dk_27 (dk_at dksX1_plan_0 11 rfl rfl)
theorem dX1_plan_12 : decode cX1_plan 12 = .ok (.iload_n 2, 1) := dk_28 (dk_at dksX1_plan_0 12 rfl rfl)
theorem dX1_plan_13 : decode cX1_plan 13 = .ok (.invokevirtual 129, 3) := dk_182 0 129 (dk_at dksX1_plan_0 13 rfl rfl)
theorem dX1_plan_16 : decode cX1_plan 16 = .ok (.invokevirtual 87, 3) := dk_182 0 87 (dk_at dksX1_plan_0 16 rfl rfl)
theorem dX1_plan_19 : decode cX1_plan 19 = .ok (.ireturn, 1) := dk_172 (dk_at dksX1_plan_0 19 rfl rfl)
theorem dX1_plan_20 : decode cX1_plan 20 = .ok (.astore_n 3, 1) := dk_78 (dk_at dksX1_plan_0 20 rfl rfl)
theorem dX1_plan_21 : decode cX1_plan 21 = .ok (.aload_n 0, 1) := dk_42 (dk_at dksX1_plan_0 21 rfl rfl)
theorem dX1_plan_22 : decode cX1_plan 22 = .ok (.aload_n 3, 1) := dk_45 (dk_at dksX1_plan_0 22 rfl rfl)
theorem dX1_plan_23 : decode cX1_plan 23 = .ok (.invokevirtual 91, 3) := dk_182 0 91 (dk_at dksX1_plan_1 0 rfl rfl)
theorem dX1_plan_26 : decode cX1_plan 26 = .ok (.athrow, 1) := dk_191 (dk_at dksX1_plan_1 3 rfl rfl)
abbrev cX1_cancel : ByteArray := prog_1_method_22_code
def yX1_cancel : MethodName := ⟨RX1, "cancel", "(I)I"⟩
def dkwX1_cancel_1 : List UInt8 := [182, 0, 91, 191]
abbrev dktX1_cancel_1 : List UInt8 := dkwX1_cancel_1 ++ []
def dkwX1_cancel_0 : List UInt8 := [42, 180, 0, 14, 182, 0, 80, 77, 42, 44, 44, 27, 182, 0, 132, 182, 0, 87, 172, 77, 42, 44]
abbrev dktX1_cancel_0 : List UInt8 := dkwX1_cancel_0 ++ dktX1_cancel_1
theorem dksX1_cancel_0 : cX1_cancel.data.toList.drop 0 = dktX1_cancel_0 := by decide +kernel
theorem dksX1_cancel_1 : cX1_cancel.data.toList.drop 22 = dktX1_cancel_1 := dk_seg dksX1_cancel_0 22 rfl rfl
theorem dX1_cancel_0 : decode cX1_cancel 0 = .ok (.aload_n 0, 1) := dk_42 (dk_at dksX1_cancel_0 0 rfl rfl)
theorem dX1_cancel_1 : decode cX1_cancel 1 = .ok (.getfield 14, 3) := dk_180 0 14 (dk_at dksX1_cancel_0 1 rfl rfl)
theorem dX1_cancel_4 : decode cX1_cancel 4 = .ok (.invokevirtual 80, 3) := dk_182 0 80 (dk_at dksX1_cancel_0 4 rfl rfl)
theorem dX1_cancel_7 : decode cX1_cancel 7 = .ok (.astore_n 2, 1) := dk_77 (dk_at dksX1_cancel_0 7 rfl rfl)
theorem dX1_cancel_8 : decode cX1_cancel 8 = .ok (.aload_n 0, 1) := dk_42 (dk_at dksX1_cancel_0 8 rfl rfl)
theorem dX1_cancel_9 : decode cX1_cancel 9 = .ok (.aload_n 2, 1) := dk_44 (dk_at dksX1_cancel_0 9 rfl rfl)
theorem dX1_cancel_10 : decode cX1_cancel 10 = .ok (.aload_n 2, 1) := dk_44 (dk_at dksX1_cancel_0 10 rfl rfl)
theorem dX1_cancel_11 : decode cX1_cancel 11 = .ok (.iload_n 1, 1) := dk_27 (dk_at dksX1_cancel_0 11 rfl rfl)
theorem dX1_cancel_12 : decode cX1_cancel 12 = .ok (.invokevirtual 132, 3) := dk_182 0 132 (dk_at dksX1_cancel_0 12 rfl rfl)
theorem dX1_cancel_15 : decode cX1_cancel 15 = .ok (.invokevirtual 87, 3) := dk_182 0 87 (dk_at dksX1_cancel_0 15 rfl rfl)
theorem dX1_cancel_18 : decode cX1_cancel 18 = .ok (.ireturn, 1) := dk_172 (dk_at dksX1_cancel_0 18 rfl rfl)
theorem dX1_cancel_19 : decode cX1_cancel 19 = .ok (.astore_n 2, 1) := dk_77 (dk_at dksX1_cancel_0 19 rfl rfl)
theorem dX1_cancel_20 : decode cX1_cancel 20 = .ok (.aload_n 0, 1) := dk_42 (dk_at dksX1_cancel_0 20 rfl rfl)
theorem dX1_cancel_21 : decode cX1_cancel 21 = .ok (.aload_n 2, 1) := dk_44 (dk_at dksX1_cancel_0 21 rfl rfl)
theorem dX1_cancel_22 : decode cX1_cancel 22 = .ok (.invokevirtual 91, 3) := dk_182 0 91 (dk_at dksX1_cancel_1 0 rfl rfl)
theorem dX1_cancel_25 : decode cX1_cancel 25 = .ok (.athrow, 1) := dk_191 (dk_at dksX1_cancel_1 3 rfl rfl)
abbrev cX1_pass : ByteArray := prog_1_method_23_code
def yX1_pass : MethodName := ⟨RX1, "pass", "(I)I"⟩
def dkwX1_pass_1 : List UInt8 := [182, 0, 91, 191]
abbrev dktX1_pass_1 : List UInt8 := dkwX1_pass_1 ++ []
def dkwX1_pass_0 : List UInt8 := [42, 180, 0, 14, 182, 0, 80, 77, 42, 44, 44, 27, 182, 0, 135, 182, 0, 87, 172, 77, 42, 44]
abbrev dktX1_pass_0 : List UInt8 := dkwX1_pass_0 ++ dktX1_pass_1
theorem dksX1_pass_0 : cX1_pass.data.toList.drop 0 = dktX1_pass_0 := by decide +kernel
theorem dksX1_pass_1 : cX1_pass.data.toList.drop 22 = dktX1_pass_1 := dk_seg dksX1_pass_0 22 rfl rfl
theorem dX1_pass_0 : decode cX1_pass 0 = .ok (.aload_n 0, 1) := dk_42 (dk_at dksX1_pass_0 0 rfl rfl)
theorem dX1_pass_1 : decode cX1_pass 1 = .ok (.getfield 14, 3) := dk_180 0 14 (dk_at dksX1_pass_0 1 rfl rfl)
theorem dX1_pass_4 : decode cX1_pass 4 = .ok (.invokevirtual 80, 3) := dk_182 0 80 (dk_at dksX1_pass_0 4 rfl rfl)
theorem dX1_pass_7 : decode cX1_pass 7 = .ok (.astore_n 2, 1) := dk_77 (dk_at dksX1_pass_0 7 rfl rfl)
theorem dX1_pass_8 : decode cX1_pass 8 = .ok (.aload_n 0, 1) := dk_42 (dk_at dksX1_pass_0 8 rfl rfl)
theorem dX1_pass_9 : decode cX1_pass 9 = .ok (.aload_n 2, 1) := dk_44 (dk_at dksX1_pass_0 9 rfl rfl)
theorem dX1_pass_10 : decode cX1_pass 10 = .ok (.aload_n 2, 1) := dk_44 (dk_at dksX1_pass_0 10 rfl rfl)
theorem dX1_pass_11 : decode cX1_pass 11 = .ok (.iload_n 1, 1) := dk_27 (dk_at dksX1_pass_0 11 rfl rfl)
theorem dX1_pass_12 : decode cX1_pass 12 = .ok (.invokevirtual 135, 3) := dk_182 0 135 (dk_at dksX1_pass_0 12 rfl rfl)
theorem dX1_pass_15 : decode cX1_pass 15 = .ok (.invokevirtual 87, 3) := dk_182 0 87 (dk_at dksX1_pass_0 15 rfl rfl)
theorem dX1_pass_18 : decode cX1_pass 18 = .ok (.ireturn, 1) := dk_172 (dk_at dksX1_pass_0 18 rfl rfl)
theorem dX1_pass_19 : decode cX1_pass 19 = .ok (.astore_n 2, 1) := dk_77 (dk_at dksX1_pass_0 19 rfl rfl)
theorem dX1_pass_20 : decode cX1_pass 20 = .ok (.aload_n 0, 1) := dk_42 (dk_at dksX1_pass_0 20 rfl rfl)
theorem dX1_pass_21 : decode cX1_pass 21 = .ok (.aload_n 2, 1) := dk_44 (dk_at dksX1_pass_0 21 rfl rfl)
theorem dX1_pass_22 : decode cX1_pass 22 = .ok (.invokevirtual 91, 3) := dk_182 0 91 (dk_at dksX1_pass_1 0 rfl rfl)
theorem dX1_pass_25 : decode cX1_pass 25 = .ok (.athrow, 1) := dk_191 (dk_at dksX1_pass_1 3 rfl rfl)
abbrev cX1_cell : ByteArray := prog_1_method_30_code
def yX1_cell : MethodName := ⟨RX1, "cell", "(II)I"⟩
def dkwX1_cell_3 : List UInt8 := [167, 0, 4, 3, 172, 42, 180, 0, 14, 27, 3, 2, 182, 0, 195, 172, 42, 27, 182, 0, 199, 172]
abbrev dktX1_cell_3 : List UInt8 := dkwX1_cell_3 ++ []
def dkwX1_cell_2 : List UInt8 := [42, 180, 0, 14, 180, 0, 189, 27, 46, 172, 42, 180, 0, 14, 27, 182, 0, 192, 153, 0, 7, 4]
abbrev dktX1_cell_2 : List UInt8 := dkwX1_cell_2 ++ dktX1_cell_3
def dkwX1_cell_1 : List UInt8 := [170, 0, 0, 0, 63, 0, 0, 0, 0, 0, 0, 0, 2, 0, 0, 0, 25, 0, 0, 0, 35, 0, 0, 0, 52]
abbrev dktX1_cell_1 : List UInt8 := dkwX1_cell_1 ++ dktX1_cell_2
def dkwX1_cell_0 : List UInt8 := [42, 27, 182, 0, 178, 28, 3, 6, 184, 0, 182, 184, 0, 186, 28]
abbrev dktX1_cell_0 : List UInt8 := dkwX1_cell_0 ++ dktX1_cell_1
theorem dksX1_cell_0 : cX1_cell.data.toList.drop 0 = dktX1_cell_0 := by decide +kernel
theorem dksX1_cell_1 : cX1_cell.data.toList.drop 15 = dktX1_cell_1 := dk_seg dksX1_cell_0 15 rfl rfl
theorem dksX1_cell_2 : cX1_cell.data.toList.drop 40 = dktX1_cell_2 := dk_seg dksX1_cell_1 25 rfl rfl
theorem dksX1_cell_3 : cX1_cell.data.toList.drop 62 = dktX1_cell_3 := dk_seg dksX1_cell_2 22 rfl rfl
theorem dX1_cell_0 : decode cX1_cell 0 = .ok (.aload_n 0, 1) := dk_42 (dk_at dksX1_cell_0 0 rfl rfl)
theorem dX1_cell_1 : decode cX1_cell 1 = .ok (.iload_n 1, 1) := dk_27 (dk_at dksX1_cell_0 1 rfl rfl)
theorem dX1_cell_2 : decode cX1_cell 2 = .ok (.invokevirtual 178, 3) := dk_182 0 178 (dk_at dksX1_cell_0 2 rfl rfl)
theorem dX1_cell_5 : decode cX1_cell 5 = .ok (.iload_n 2, 1) := dk_28 (dk_at dksX1_cell_0 5 rfl rfl)
theorem dX1_cell_6 : decode cX1_cell 6 = .ok (.iconst 0, 1) := dk_3 (dk_at dksX1_cell_0 6 rfl rfl)
theorem dX1_cell_7 : decode cX1_cell 7 = .ok (.iconst 3, 1) := dk_6 (dk_at dksX1_cell_0 7 rfl rfl)
theorem dX1_cell_8 : decode cX1_cell 8 = .ok (.invokestatic 182, 3) := dk_184 0 182 (dk_at dksX1_cell_0 8 rfl rfl)
theorem dX1_cell_11 : decode cX1_cell 11 = .ok (.invokestatic 186, 3) := dk_184 0 186 (dk_at dksX1_cell_0 11 rfl rfl)
theorem dX1_cell_14 : decode cX1_cell 14 = .ok (.iload_n 2, 1) := dk_28 (dk_at dksX1_cell_0 14 rfl rfl)
theorem dX1_cell_15 : decode cX1_cell 15 = .ok (.tableswitch 63 0 2 #[25, 35, 52], 25) := by decide +kernel
theorem dX1_cell_40 : decode cX1_cell 40 = .ok (.aload_n 0, 1) := dk_42 (dk_at dksX1_cell_2 0 rfl rfl)
theorem dX1_cell_41 : decode cX1_cell 41 = .ok (.getfield 14, 3) := dk_180 0 14 (dk_at dksX1_cell_2 1 rfl rfl)
theorem dX1_cell_44 : decode cX1_cell 44 = .ok (.getfield 189, 3) := dk_180 0 189 (dk_at dksX1_cell_2 4 rfl rfl)
theorem dX1_cell_47 : decode cX1_cell 47 = .ok (.iload_n 1, 1) := dk_27 (dk_at dksX1_cell_2 7 rfl rfl)
theorem dX1_cell_48 : decode cX1_cell 48 = .ok (.iaload, 1) := dk_46 (dk_at dksX1_cell_2 8 rfl rfl)
theorem dX1_cell_49 : decode cX1_cell 49 = .ok (.ireturn, 1) := dk_172 (dk_at dksX1_cell_2 9 rfl rfl)
theorem dX1_cell_50 : decode cX1_cell 50 = .ok (.aload_n 0, 1) := dk_42 (dk_at dksX1_cell_2 10 rfl rfl)
theorem dX1_cell_51 : decode cX1_cell 51 = .ok (.getfield 14, 3) := dk_180 0 14 (dk_at dksX1_cell_2 11 rfl rfl)
theorem dX1_cell_54 : decode cX1_cell 54 = .ok (.iload_n 1, 1) := dk_27 (dk_at dksX1_cell_2 14 rfl rfl)
theorem dX1_cell_55 : decode cX1_cell 55 = .ok (.invokevirtual 192, 3) := dk_182 0 192 (dk_at dksX1_cell_2 15 rfl rfl)
theorem dX1_cell_58 : decode cX1_cell 58 = .ok (.ifCond .eq 7, 3) := dk_153 0 7 (dk_at dksX1_cell_2 18 rfl rfl)
theorem dX1_cell_61 : decode cX1_cell 61 = .ok (.iconst 1, 1) := dk_4 (dk_at dksX1_cell_2 21 rfl rfl)
theorem dX1_cell_62 : decode cX1_cell 62 = .ok (.goto 4, 3) := dk_167 0 4 (dk_at dksX1_cell_3 0 rfl rfl)
theorem dX1_cell_65 : decode cX1_cell 65 = .ok (.iconst 0, 1) := dk_3 (dk_at dksX1_cell_3 3 rfl rfl)
theorem dX1_cell_66 : decode cX1_cell 66 = .ok (.ireturn, 1) := dk_172 (dk_at dksX1_cell_3 4 rfl rfl)
theorem dX1_cell_67 : decode cX1_cell 67 = .ok (.aload_n 0, 1) := dk_42 (dk_at dksX1_cell_3 5 rfl rfl)
theorem dX1_cell_68 : decode cX1_cell 68 = .ok (.getfield 14, 3) := dk_180 0 14 (dk_at dksX1_cell_3 6 rfl rfl)
theorem dX1_cell_71 : decode cX1_cell 71 = .ok (.iload_n 1, 1) := dk_27 (dk_at dksX1_cell_3 9 rfl rfl)
theorem dX1_cell_72 : decode cX1_cell 72 = .ok (.iconst 0, 1) := dk_3 (dk_at dksX1_cell_3 10 rfl rfl)
theorem dX1_cell_73 : decode cX1_cell 73 = .ok (.iconst (-1), 1) := dk_2 (dk_at dksX1_cell_3 11 rfl rfl)
theorem dX1_cell_74 : decode cX1_cell 74 = .ok (.invokevirtual 195, 3) := dk_182 0 195 (dk_at dksX1_cell_3 12 rfl rfl)
theorem dX1_cell_77 : decode cX1_cell 77 = .ok (.ireturn, 1) := dk_172 (dk_at dksX1_cell_3 15 rfl rfl)
theorem dX1_cell_78 : decode cX1_cell 78 = .ok (.aload_n 0, 1) := dk_42 (dk_at dksX1_cell_3 16 rfl rfl)
theorem dX1_cell_79 : decode cX1_cell 79 = .ok (.iload_n 1, 1) := dk_27 (dk_at dksX1_cell_3 17 rfl rfl)
theorem dX1_cell_80 : decode cX1_cell 80 = .ok (.invokevirtual 199, 3) := dk_182 0 199 (dk_at dksX1_cell_3 18 rfl rfl)
theorem dX1_cell_83 : decode cX1_cell 83 = .ok (.ireturn, 1) := dk_172 (dk_at dksX1_cell_3 21 rfl rfl)
abbrev cX1_requireCell : ByteArray := prog_1_method_28_code
def yX1_requireCell : MethodName := ⟨RX1, "requireCell", "(I)V"⟩
def dkwX1_requireCell_0 : List UInt8 := [42, 180, 0, 14, 27, 182, 0, 102, 184, 0, 172, 177]
abbrev dktX1_requireCell_0 : List UInt8 := dkwX1_requireCell_0 ++ []
theorem dksX1_requireCell_0 : cX1_requireCell.data.toList.drop 0 = dktX1_requireCell_0 := by decide +kernel
theorem dX1_requireCell_0 : decode cX1_requireCell 0 = .ok (.aload_n 0, 1) := dk_42 (dk_at dksX1_requireCell_0 0 rfl rfl)
theorem dX1_requireCell_1 : decode cX1_requireCell 1 = .ok (.getfield 14, 3) := dk_180 0 14 (dk_at dksX1_requireCell_0 1 rfl rfl)
theorem dX1_requireCell_4 : decode cX1_requireCell 4 = .ok (.iload_n 1, 1) := dk_27 (dk_at dksX1_requireCell_0 4 rfl rfl)
theorem dX1_requireCell_5 : decode cX1_requireCell 5 = .ok (.invokevirtual 102, 3) := dk_182 0 102 (dk_at dksX1_requireCell_0 5 rfl rfl)
theorem dX1_requireCell_8 : decode cX1_requireCell 8 = .ok (.invokestatic 172, 3) := dk_184 0 172 (dk_at dksX1_requireCell_0 8 rfl rfl)
theorem dX1_requireCell_11 : decode cX1_requireCell 11 = .ok (.return_, 1) := dk_177 (dk_at dksX1_requireCell_0 11 rfl rfl)
abbrev cX1_requireIndex : ByteArray := prog_1_method_3_code
def yX1_requireIndex : MethodName := ⟨RX1, "requireIndex", "(Z)V"⟩
def dkwX1_requireIndex_0 : List UInt8 := [26, 154, 0, 11, 187, 0, 33, 89, 183, 0, 35, 191, 177]
abbrev dktX1_requireIndex_0 : List UInt8 := dkwX1_requireIndex_0 ++ []
theorem dksX1_requireIndex_0 : cX1_requireIndex.data.toList.drop 0 = dktX1_requireIndex_0 := by decide +kernel
theorem dX1_requireIndex_0 : decode cX1_requireIndex 0 = .ok (.iload_n 0, 1) := dk_26 (dk_at dksX1_requireIndex_0 0 rfl rfl)
theorem dX1_requireIndex_1 : decode cX1_requireIndex 1 = .ok (.ifCond .ne 11, 3) := dk_154 0 11 (dk_at dksX1_requireIndex_0 1 rfl rfl)
theorem dX1_requireIndex_4 : decode cX1_requireIndex 4 = .ok (.new 33, 3) := dk_187 0 33 (dk_at dksX1_requireIndex_0 4 rfl rfl)
theorem dX1_requireIndex_7 : decode cX1_requireIndex 7 = .ok (.dup, 1) := dk_89 (dk_at dksX1_requireIndex_0 7 rfl rfl)
theorem dX1_requireIndex_8 : decode cX1_requireIndex 8 = .ok (.invokespecial 35, 3) := dk_183 0 35 (dk_at dksX1_requireIndex_0 8 rfl rfl)
theorem dX1_requireIndex_11 : decode cX1_requireIndex 11 = .ok (.athrow, 1) := dk_191 (dk_at dksX1_requireIndex_0 11 rfl rfl)
theorem dX1_requireIndex_12 : decode cX1_requireIndex 12 = .ok (.return_, 1) := dk_177 (dk_at dksX1_requireIndex_0 12 rfl rfl)
abbrev cX1_requireArgument : ByteArray := prog_1_method_4_code
def yX1_requireArgument : MethodName := ⟨RX1, "requireArgument", "(Z)V"⟩
def dkwX1_requireArgument_0 : List UInt8 := [26, 154, 0, 11, 187, 0, 36, 89, 183, 0, 38, 191, 177]
abbrev dktX1_requireArgument_0 : List UInt8 := dkwX1_requireArgument_0 ++ []
theorem dksX1_requireArgument_0 : cX1_requireArgument.data.toList.drop 0 = dktX1_requireArgument_0 := by decide +kernel
theorem dX1_requireArgument_0 : decode cX1_requireArgument 0 = .ok (.iload_n 0, 1) := dk_26 (dk_at dksX1_requireArgument_0 0 rfl rfl)
theorem dX1_requireArgument_1 : decode cX1_requireArgument 1 = .ok (.ifCond .ne 11, 3) := dk_154 0 11 (dk_at dksX1_requireArgument_0 1 rfl rfl)
theorem dX1_requireArgument_4 : decode cX1_requireArgument 4 = .ok (.new 36, 3) := dk_187 0 36 (dk_at dksX1_requireArgument_0 4 rfl rfl)
theorem dX1_requireArgument_7 : decode cX1_requireArgument 7 = .ok (.dup, 1) := dk_89 (dk_at dksX1_requireArgument_0 7 rfl rfl)
theorem dX1_requireArgument_8 : decode cX1_requireArgument 8 = .ok (.invokespecial 38, 3) := dk_183 0 38 (dk_at dksX1_requireArgument_0 8 rfl rfl)
theorem dX1_requireArgument_11 : decode cX1_requireArgument 11 = .ok (.athrow, 1) := dk_191 (dk_at dksX1_requireArgument_0 11 rfl rfl)
theorem dX1_requireArgument_12 : decode cX1_requireArgument 12 = .ok (.return_, 1) := dk_177 (dk_at dksX1_requireArgument_0 12 rfl rfl)
abbrev cX1_neighbors : ByteArray := prog_1_method_29_code
def yX1_neighbors : MethodName := ⟨RX1, "neighbors", "(I)I"⟩
def dkwX1_neighbors_1 : List UInt8 := [167, 0, 4, 3, 96, 61, 132, 3, 1, 167, 255, 227, 28, 172]
abbrev dktX1_neighbors_1 : List UInt8 := dkwX1_neighbors_1 ++ []
def dkwX1_neighbors_0 : List UInt8 := [3, 61, 3, 62, 29, 7, 162, 0, 30, 28, 42, 180, 0, 14, 27, 29, 182, 0, 175, 2, 159, 0, 7, 4]
abbrev dktX1_neighbors_0 : List UInt8 := dkwX1_neighbors_0 ++ dktX1_neighbors_1
theorem dksX1_neighbors_0 : cX1_neighbors.data.toList.drop 0 = dktX1_neighbors_0 := by decide +kernel
theorem dksX1_neighbors_1 : cX1_neighbors.data.toList.drop 24 = dktX1_neighbors_1 := dk_seg dksX1_neighbors_0 24 rfl rfl
theorem dX1_neighbors_0 : decode cX1_neighbors 0 = .ok (.iconst 0, 1) := dk_3 (dk_at dksX1_neighbors_0 0 rfl rfl)
theorem dX1_neighbors_1 : decode cX1_neighbors 1 = .ok (.istore_n 2, 1) := dk_61 (dk_at dksX1_neighbors_0 1 rfl rfl)
theorem dX1_neighbors_2 : decode cX1_neighbors 2 = .ok (.iconst 0, 1) := dk_3 (dk_at dksX1_neighbors_0 2 rfl rfl)
theorem dX1_neighbors_3 : decode cX1_neighbors 3 = .ok (.istore_n 3, 1) := dk_62 (dk_at dksX1_neighbors_0 3 rfl rfl)
theorem dX1_neighbors_4 : decode cX1_neighbors 4 = .ok (.iload_n 3, 1) := dk_29 (dk_at dksX1_neighbors_0 4 rfl rfl)
theorem dX1_neighbors_5 : decode cX1_neighbors 5 = .ok (.iconst 4, 1) := dk_7 (dk_at dksX1_neighbors_0 5 rfl rfl)
theorem dX1_neighbors_6 : decode cX1_neighbors 6 = .ok (.if_icmp .ge 30, 3) := dk_162 0 30 (dk_at dksX1_neighbors_0 6 rfl rfl)
theorem dX1_neighbors_9 : decode cX1_neighbors 9 = .ok (.iload_n 2, 1) := dk_28 (dk_at dksX1_neighbors_0 9 rfl rfl)
theorem dX1_neighbors_10 : decode cX1_neighbors 10 = .ok (.aload_n 0, 1) := dk_42 (dk_at dksX1_neighbors_0 10 rfl rfl)
theorem dX1_neighbors_11 : decode cX1_neighbors 11 = .ok (.getfield 14, 3) := dk_180 0 14 (dk_at dksX1_neighbors_0 11 rfl rfl)
theorem dX1_neighbors_14 : decode cX1_neighbors 14 = .ok (.iload_n 1, 1) := dk_27 (dk_at dksX1_neighbors_0 14 rfl rfl)
theorem dX1_neighbors_15 : decode cX1_neighbors 15 = .ok (.iload_n 3, 1) := dk_29 (dk_at dksX1_neighbors_0 15 rfl rfl)
theorem dX1_neighbors_16 : decode cX1_neighbors 16 = .ok (.invokevirtual 175, 3) := dk_182 0 175 (dk_at dksX1_neighbors_0 16 rfl rfl)
theorem dX1_neighbors_19 : decode cX1_neighbors 19 = .ok (.iconst (-1), 1) := dk_2 (dk_at dksX1_neighbors_0 19 rfl rfl)
theorem dX1_neighbors_20 : decode cX1_neighbors 20 = .ok (.if_icmp .eq 7, 3) := dk_159 0 7 (dk_at dksX1_neighbors_0 20 rfl rfl)
theorem dX1_neighbors_23 : decode cX1_neighbors 23 = .ok (.iconst 1, 1) := dk_4 (dk_at dksX1_neighbors_0 23 rfl rfl)
theorem dX1_neighbors_24 : decode cX1_neighbors 24 = .ok (.goto 4, 3) := dk_167 0 4 (dk_at dksX1_neighbors_1 0 rfl rfl)
theorem dX1_neighbors_27 : decode cX1_neighbors 27 = .ok (.iconst 0, 1) := dk_3 (dk_at dksX1_neighbors_1 3 rfl rfl)
theorem dX1_neighbors_28 : decode cX1_neighbors 28 = .ok (.iadd, 1) := dk_96 (dk_at dksX1_neighbors_1 4 rfl rfl)
theorem dX1_neighbors_29 : decode cX1_neighbors 29 = .ok (.istore_n 2, 1) := dk_61 (dk_at dksX1_neighbors_1 5 rfl rfl)
theorem dX1_neighbors_30 : decode cX1_neighbors 30 = .ok (.iinc 3 1, 3) := dk_132 3 1 (dk_at dksX1_neighbors_1 6 rfl rfl)
theorem dX1_neighbors_33 : decode cX1_neighbors 33 = .ok (.goto (-29), 3) := dk_167 255 227 (dk_at dksX1_neighbors_1 9 rfl rfl)
theorem dX1_neighbors_36 : decode cX1_neighbors 36 = .ok (.iload_n 2, 1) := dk_28 (dk_at dksX1_neighbors_1 12 rfl rfl)
theorem dX1_neighbors_37 : decode cX1_neighbors 37 = .ok (.ireturn, 1) := dk_172 (dk_at dksX1_neighbors_1 13 rfl rfl)
abbrev cX1_letter : ByteArray := prog_1_method_31_code
def yX1_letter : MethodName := ⟨RX1, "letter", "(I)C"⟩
def dkwX1_letter_2 : List UInt8 := [180, 0, 14, 180, 0, 189, 27, 46, 182, 0, 207, 172]
abbrev dktX1_letter_2 : List UInt8 := dkwX1_letter_2 ++ []
def dkwX1_letter_1 : List UInt8 := [96, 146, 172, 42, 180, 0, 14, 27, 182, 0, 202, 153, 0, 8, 16, 120, 167, 0, 17, 18, 205, 42]
abbrev dktX1_letter_1 : List UInt8 := dkwX1_letter_1 ++ dktX1_letter_2
def dkwX1_letter_0 : List UInt8 := [42, 27, 182, 0, 178, 42, 180, 0, 14, 27, 3, 2, 182, 0, 195, 61, 28, 2, 159, 0, 9, 16, 48, 28]
abbrev dktX1_letter_0 : List UInt8 := dkwX1_letter_0 ++ dktX1_letter_1
theorem dksX1_letter_0 : cX1_letter.data.toList.drop 0 = dktX1_letter_0 := by decide +kernel
theorem dksX1_letter_1 : cX1_letter.data.toList.drop 24 = dktX1_letter_1 := dk_seg dksX1_letter_0 24 rfl rfl
theorem dksX1_letter_2 : cX1_letter.data.toList.drop 46 = dktX1_letter_2 := dk_seg dksX1_letter_1 22 rfl rfl
theorem dX1_letter_0 : decode cX1_letter 0 = .ok (.aload_n 0, 1) := dk_42 (dk_at dksX1_letter_0 0 rfl rfl)
theorem dX1_letter_1 : decode cX1_letter 1 = .ok (.iload_n 1, 1) := dk_27 (dk_at dksX1_letter_0 1 rfl rfl)
theorem dX1_letter_2 : decode cX1_letter 2 = .ok (.invokevirtual 178, 3) := dk_182 0 178 (dk_at dksX1_letter_0 2 rfl rfl)
theorem dX1_letter_5 : decode cX1_letter 5 = .ok (.aload_n 0, 1) := dk_42 (dk_at dksX1_letter_0 5 rfl rfl)
theorem dX1_letter_6 : decode cX1_letter 6 = .ok (.getfield 14, 3) := dk_180 0 14 (dk_at dksX1_letter_0 6 rfl rfl)
theorem dX1_letter_9 : decode cX1_letter 9 = .ok (.iload_n 1, 1) := dk_27 (dk_at dksX1_letter_0 9 rfl rfl)
theorem dX1_letter_10 : decode cX1_letter 10 = .ok (.iconst 0, 1) := dk_3 (dk_at dksX1_letter_0 10 rfl rfl)
theorem dX1_letter_11 : decode cX1_letter 11 = .ok (.iconst (-1), 1) := dk_2 (dk_at dksX1_letter_0 11 rfl rfl)
theorem dX1_letter_12 : decode cX1_letter 12 = .ok (.invokevirtual 195, 3) := dk_182 0 195 (dk_at dksX1_letter_0 12 rfl rfl)
theorem dX1_letter_15 : decode cX1_letter 15 = .ok (.istore_n 2, 1) := dk_61 (dk_at dksX1_letter_0 15 rfl rfl)
theorem dX1_letter_16 : decode cX1_letter 16 = .ok (.iload_n 2, 1) := dk_28 (dk_at dksX1_letter_0 16 rfl rfl)
theorem dX1_letter_17 : decode cX1_letter 17 = .ok (.iconst (-1), 1) := dk_2 (dk_at dksX1_letter_0 17 rfl rfl)
theorem dX1_letter_18 : decode cX1_letter 18 = .ok (.if_icmp .eq 9, 3) := dk_159 0 9 (dk_at dksX1_letter_0 18 rfl rfl)
theorem dX1_letter_21 : decode cX1_letter 21 = .ok (.bipush 48, 2) := dk_16 48 (dk_at dksX1_letter_0 21 rfl rfl)
theorem dX1_letter_23 : decode cX1_letter 23 = .ok (.iload_n 2, 1) := dk_28 (dk_at dksX1_letter_0 23 rfl rfl)
theorem dX1_letter_24 : decode cX1_letter 24 = .ok (.iadd, 1) := dk_96 (dk_at dksX1_letter_1 0 rfl rfl)
theorem dX1_letter_25 : decode cX1_letter 25 = .ok (.i2c, 1) := dk_146 (dk_at dksX1_letter_1 1 rfl rfl)
theorem dX1_letter_26 : decode cX1_letter 26 = .ok (.ireturn, 1) := dk_172 (dk_at dksX1_letter_1 2 rfl rfl)
theorem dX1_letter_27 : decode cX1_letter 27 = .ok (.aload_n 0, 1) := dk_42 (dk_at dksX1_letter_1 3 rfl rfl)
theorem dX1_letter_28 : decode cX1_letter 28 = .ok (.getfield 14, 3) := dk_180 0 14 (dk_at dksX1_letter_1 4 rfl rfl)
theorem dX1_letter_31 : decode cX1_letter 31 = .ok (.iload_n 1, 1) := dk_27 (dk_at dksX1_letter_1 7 rfl rfl)
theorem dX1_letter_32 : decode cX1_letter 32 = .ok (.invokevirtual 202, 3) := dk_182 0 202 (dk_at dksX1_letter_1 8 rfl rfl)
theorem dX1_letter_35 : decode cX1_letter 35 = .ok (.ifCond .eq 8, 3) := dk_153 0 8 (dk_at dksX1_letter_1 11 rfl rfl)
theorem dX1_letter_38 : decode cX1_letter 38 = .ok (.bipush 120, 2) := dk_16 120 (dk_at dksX1_letter_1 14 rfl rfl)
theorem dX1_letter_40 : decode cX1_letter 40 = .ok (.goto 17, 3) := dk_167 0 17 (dk_at dksX1_letter_1 16 rfl rfl)
theorem dX1_letter_43 : decode cX1_letter 43 = .ok (.ldc 205, 2) := dk_18 205 (dk_at dksX1_letter_1 19 rfl rfl)
theorem dX1_letter_45 : decode cX1_letter 45 = .ok (.aload_n 0, 1) := dk_42 (dk_at dksX1_letter_1 21 rfl rfl)
theorem dX1_letter_46 : decode cX1_letter 46 = .ok (.getfield 14, 3) := dk_180 0 14 (dk_at dksX1_letter_2 0 rfl rfl)
theorem dX1_letter_49 : decode cX1_letter 49 = .ok (.getfield 189, 3) := dk_180 0 189 (dk_at dksX1_letter_2 3 rfl rfl)
theorem dX1_letter_52 : decode cX1_letter 52 = .ok (.iload_n 1, 1) := dk_27 (dk_at dksX1_letter_2 6 rfl rfl)
theorem dX1_letter_53 : decode cX1_letter 53 = .ok (.iaload, 1) := dk_46 (dk_at dksX1_letter_2 7 rfl rfl)
theorem dX1_letter_54 : decode cX1_letter 54 = .ok (.invokevirtual 207, 3) := dk_182 0 207 (dk_at dksX1_letter_2 8 rfl rfl)
theorem dX1_letter_57 : decode cX1_letter 57 = .ok (.ireturn, 1) := dk_172 (dk_at dksX1_letter_2 11 rfl rfl)
abbrev cX1_distance : ByteArray := prog_1_method_33_code
def yX1_distance : MethodName := ⟨RX1, "distance", "(II)I"⟩
def dkwX1_distance_1 : List UInt8 := [167, 0, 4, 3, 184, 0, 169, 29, 172]
abbrev dktX1_distance_1 : List UInt8 := dkwX1_distance_1 ++ []
def dkwX1_distance_0 : List UInt8 := [42, 27, 182, 0, 178, 42, 28, 182, 0, 178, 42, 27, 182, 0, 213, 28, 46, 62, 29, 2, 159, 0, 7, 4]
abbrev dktX1_distance_0 : List UInt8 := dkwX1_distance_0 ++ dktX1_distance_1
theorem dksX1_distance_0 : cX1_distance.data.toList.drop 0 = dktX1_distance_0 := by decide +kernel
theorem dksX1_distance_1 : cX1_distance.data.toList.drop 24 = dktX1_distance_1 := dk_seg dksX1_distance_0 24 rfl rfl
theorem dX1_distance_0 : decode cX1_distance 0 = .ok (.aload_n 0, 1) := dk_42 (dk_at dksX1_distance_0 0 rfl rfl)
theorem dX1_distance_1 : decode cX1_distance 1 = .ok (.iload_n 1, 1) := dk_27 (dk_at dksX1_distance_0 1 rfl rfl)
theorem dX1_distance_2 : decode cX1_distance 2 = .ok (.invokevirtual 178, 3) := dk_182 0 178 (dk_at dksX1_distance_0 2 rfl rfl)
theorem dX1_distance_5 : decode cX1_distance 5 = .ok (.aload_n 0, 1) := dk_42 (dk_at dksX1_distance_0 5 rfl rfl)
theorem dX1_distance_6 : decode cX1_distance 6 = .ok (.iload_n 2, 1) := dk_28 (dk_at dksX1_distance_0 6 rfl rfl)
theorem dX1_distance_7 : decode cX1_distance 7 = .ok (.invokevirtual 178, 3) := dk_182 0 178 (dk_at dksX1_distance_0 7 rfl rfl)
theorem dX1_distance_10 : decode cX1_distance 10 = .ok (.aload_n 0, 1) := dk_42 (dk_at dksX1_distance_0 10 rfl rfl)
theorem dX1_distance_11 : decode cX1_distance 11 = .ok (.iload_n 1, 1) := dk_27 (dk_at dksX1_distance_0 11 rfl rfl)
theorem dX1_distance_12 : decode cX1_distance 12 = .ok (.invokevirtual 213, 3) := dk_182 0 213 (dk_at dksX1_distance_0 12 rfl rfl)
theorem dX1_distance_15 : decode cX1_distance 15 = .ok (.iload_n 2, 1) := dk_28 (dk_at dksX1_distance_0 15 rfl rfl)
theorem dX1_distance_16 : decode cX1_distance 16 = .ok (.iaload, 1) := dk_46 (dk_at dksX1_distance_0 16 rfl rfl)
theorem dX1_distance_17 : decode cX1_distance 17 = .ok (.istore_n 3, 1) := dk_62 (dk_at dksX1_distance_0 17 rfl rfl)
theorem dX1_distance_18 : decode cX1_distance 18 = .ok (.iload_n 3, 1) := dk_29 (dk_at dksX1_distance_0 18 rfl rfl)
theorem dX1_distance_19 : decode cX1_distance 19 = .ok (.iconst (-1), 1) := dk_2 (dk_at dksX1_distance_0 19 rfl rfl)
theorem dX1_distance_20 : decode cX1_distance 20 = .ok (.if_icmp .eq 7, 3) := dk_159 0 7 (dk_at dksX1_distance_0 20 rfl rfl)
theorem dX1_distance_23 : decode cX1_distance 23 = .ok (.iconst 1, 1) := dk_4 (dk_at dksX1_distance_0 23 rfl rfl)
theorem dX1_distance_24 : decode cX1_distance 24 = .ok (.goto 4, 3) := dk_167 0 4 (dk_at dksX1_distance_1 0 rfl rfl)
theorem dX1_distance_27 : decode cX1_distance 27 = .ok (.iconst 0, 1) := dk_3 (dk_at dksX1_distance_1 3 rfl rfl)
theorem dX1_distance_28 : decode cX1_distance 28 = .ok (.invokestatic 169, 3) := dk_184 0 169 (dk_at dksX1_distance_1 4 rfl rfl)
theorem dX1_distance_31 : decode cX1_distance 31 = .ok (.iload_n 3, 1) := dk_29 (dk_at dksX1_distance_1 7 rfl rfl)
theorem dX1_distance_32 : decode cX1_distance 32 = .ok (.ireturn, 1) := dk_172 (dk_at dksX1_distance_1 8 rfl rfl)
abbrev cX1_distancesFrom : ByteArray := prog_1_method_32_code
def yX1_distancesFrom : MethodName := ⟨RX1, "distancesFrom", "(I)[I"⟩
def dkwX1_distancesFrom_5 : List UInt8 := [132, 4, 1, 132, 6, 1, 167, 255, 197, 132, 5, 1, 167, 255, 181, 44, 176]
abbrev dktX1_distancesFrom_5 : List UInt8 := dkwX1_distancesFrom_5 ++ []
def dkwX1_distancesFrom_4 : List UInt8 := [46, 2, 160, 0, 24, 44, 21, 7, 44, 45, 21, 5, 46, 46, 4, 96, 79, 45, 21, 4, 21, 7, 79]
abbrev dktX1_distancesFrom_4 : List UInt8 := dkwX1_distancesFrom_4 ++ dktX1_distancesFrom_5
def dkwX1_distancesFrom_3 : List UInt8 := [42, 180, 0, 14, 45, 21, 5, 46, 21, 6, 182, 0, 175, 54, 7, 21, 7, 2, 159, 0, 32, 44, 21, 7]
abbrev dktX1_distancesFrom_3 : List UInt8 := dkwX1_distancesFrom_3 ++ dktX1_distancesFrom_4
def dkwX1_distancesFrom_2 : List UInt8 := [27, 79, 4, 54, 4, 3, 54, 5, 21, 5, 21, 4, 162, 0, 74, 3, 54, 6, 21, 6, 7, 162, 0, 59]
abbrev dktX1_distancesFrom_2 : List UInt8 := dkwX1_distancesFrom_2 ++ dktX1_distancesFrom_3
def dkwX1_distancesFrom_1 : List UInt8 := [21, 4, 44, 190, 162, 0, 14, 44, 21, 4, 2, 79, 132, 4, 1, 167, 255, 241, 44, 27, 3, 79, 45, 3]
abbrev dktX1_distancesFrom_1 : List UInt8 := dkwX1_distancesFrom_1 ++ dktX1_distancesFrom_2
def dkwX1_distancesFrom_0 : List UInt8 := [42, 180, 0, 14, 182, 0, 163, 188, 10, 77, 42, 180, 0, 14, 182, 0, 163, 188, 10, 78, 3, 54, 4]
abbrev dktX1_distancesFrom_0 : List UInt8 := dkwX1_distancesFrom_0 ++ dktX1_distancesFrom_1
theorem dksX1_distancesFrom_0 : cX1_distancesFrom.data.toList.drop 0 = dktX1_distancesFrom_0 := by decide +kernel
theorem dksX1_distancesFrom_1 : cX1_distancesFrom.data.toList.drop 23 = dktX1_distancesFrom_1 := dk_seg dksX1_distancesFrom_0 23 rfl rfl
theorem dksX1_distancesFrom_2 : cX1_distancesFrom.data.toList.drop 47 = dktX1_distancesFrom_2 := dk_seg dksX1_distancesFrom_1 24 rfl rfl
theorem dksX1_distancesFrom_3 : cX1_distancesFrom.data.toList.drop 71 = dktX1_distancesFrom_3 := dk_seg dksX1_distancesFrom_2 24 rfl rfl
theorem dksX1_distancesFrom_4 : cX1_distancesFrom.data.toList.drop 95 = dktX1_distancesFrom_4 := dk_seg dksX1_distancesFrom_3 24 rfl rfl
theorem dksX1_distancesFrom_5 : cX1_distancesFrom.data.toList.drop 118 = dktX1_distancesFrom_5 := dk_seg dksX1_distancesFrom_4 23 rfl rfl
theorem dX1_distancesFrom_0 : decode cX1_distancesFrom 0 = .ok (.aload_n 0, 1) := dk_42 (dk_at dksX1_distancesFrom_0 0 rfl rfl)
theorem dX1_distancesFrom_1 : decode cX1_distancesFrom 1 = .ok (.getfield 14, 3) := dk_180 0 14 (dk_at dksX1_distancesFrom_0 1 rfl rfl)
theorem dX1_distancesFrom_4 : decode cX1_distancesFrom 4 = .ok (.invokevirtual 163, 3) := dk_182 0 163 (dk_at dksX1_distancesFrom_0 4 rfl rfl)
theorem dX1_distancesFrom_7 : decode cX1_distancesFrom 7 = .ok (.newarray .int, 2) := dk_188_10 (dk_at dksX1_distancesFrom_0 7 rfl rfl)
theorem dX1_distancesFrom_9 : decode cX1_distancesFrom 9 = .ok (.astore_n 2, 1) := dk_77 (dk_at dksX1_distancesFrom_0 9 rfl rfl)
theorem dX1_distancesFrom_10 : decode cX1_distancesFrom 10 = .ok (.aload_n 0, 1) := dk_42 (dk_at dksX1_distancesFrom_0 10 rfl rfl)
theorem dX1_distancesFrom_11 : decode cX1_distancesFrom 11 = .ok (.getfield 14, 3) := dk_180 0 14 (dk_at dksX1_distancesFrom_0 11 rfl rfl)
theorem dX1_distancesFrom_14 : decode cX1_distancesFrom 14 = .ok (.invokevirtual 163, 3) := dk_182 0 163 (dk_at dksX1_distancesFrom_0 14 rfl rfl)
theorem dX1_distancesFrom_17 : decode cX1_distancesFrom 17 = .ok (.newarray .int, 2) := dk_188_10 (dk_at dksX1_distancesFrom_0 17 rfl rfl)
theorem dX1_distancesFrom_19 : decode cX1_distancesFrom 19 = .ok (.astore_n 3, 1) := dk_78 (dk_at dksX1_distancesFrom_0 19 rfl rfl)
theorem dX1_distancesFrom_20 : decode cX1_distancesFrom 20 = .ok (.iconst 0, 1) := dk_3 (dk_at dksX1_distancesFrom_0 20 rfl rfl)
theorem dX1_distancesFrom_21 : decode cX1_distancesFrom 21 = .ok (.istore 4, 2) := dk_54 4 (dk_at dksX1_distancesFrom_0 21 rfl rfl)
theorem dX1_distancesFrom_23 : decode cX1_distancesFrom 23 = .ok (.iload 4, 2) := dk_21 4 (dk_at dksX1_distancesFrom_1 0 rfl rfl)
theorem dX1_distancesFrom_25 : decode cX1_distancesFrom 25 = .ok (.aload_n 2, 1) := dk_44 (dk_at dksX1_distancesFrom_1 2 rfl rfl)
theorem dX1_distancesFrom_26 : decode cX1_distancesFrom 26 = .ok (.arraylength, 1) := dk_190 (dk_at dksX1_distancesFrom_1 3 rfl rfl)
theorem dX1_distancesFrom_27 : decode cX1_distancesFrom 27 = .ok (.if_icmp .ge 14, 3) := dk_162 0 14 (dk_at dksX1_distancesFrom_1 4 rfl rfl)
theorem dX1_distancesFrom_30 : decode cX1_distancesFrom 30 = .ok (.aload_n 2, 1) := dk_44 (dk_at dksX1_distancesFrom_1 7 rfl rfl)
theorem dX1_distancesFrom_31 : decode cX1_distancesFrom 31 = .ok (.iload 4, 2) := dk_21 4 (dk_at dksX1_distancesFrom_1 8 rfl rfl)
theorem dX1_distancesFrom_33 : decode cX1_distancesFrom 33 = .ok (.iconst (-1), 1) := dk_2 (dk_at dksX1_distancesFrom_1 10 rfl rfl)
theorem dX1_distancesFrom_34 : decode cX1_distancesFrom 34 = .ok (.iastore, 1) := dk_79 (dk_at dksX1_distancesFrom_1 11 rfl rfl)
theorem dX1_distancesFrom_35 : decode cX1_distancesFrom 35 = .ok (.iinc 4 1, 3) := dk_132 4 1 (dk_at dksX1_distancesFrom_1 12 rfl rfl)
theorem dX1_distancesFrom_38 : decode cX1_distancesFrom 38 = .ok (.goto (-15), 3) := dk_167 255 241 (dk_at dksX1_distancesFrom_1 15 rfl rfl)
theorem dX1_distancesFrom_41 : decode cX1_distancesFrom 41 = .ok (.aload_n 2, 1) := dk_44 (dk_at dksX1_distancesFrom_1 18 rfl rfl)
theorem dX1_distancesFrom_42 : decode cX1_distancesFrom 42 = .ok (.iload_n 1, 1) := dk_27 (dk_at dksX1_distancesFrom_1 19 rfl rfl)
theorem dX1_distancesFrom_43 : decode cX1_distancesFrom 43 = .ok (.iconst 0, 1) := dk_3 (dk_at dksX1_distancesFrom_1 20 rfl rfl)
theorem dX1_distancesFrom_44 : decode cX1_distancesFrom 44 = .ok (.iastore, 1) := dk_79 (dk_at dksX1_distancesFrom_1 21 rfl rfl)
theorem dX1_distancesFrom_45 : decode cX1_distancesFrom 45 = .ok (.aload_n 3, 1) := dk_45 (dk_at dksX1_distancesFrom_1 22 rfl rfl)
theorem dX1_distancesFrom_46 : decode cX1_distancesFrom 46 = .ok (.iconst 0, 1) := dk_3 (dk_at dksX1_distancesFrom_1 23 rfl rfl)
theorem dX1_distancesFrom_47 : decode cX1_distancesFrom 47 = .ok (.iload_n 1, 1) := dk_27 (dk_at dksX1_distancesFrom_2 0 rfl rfl)
theorem dX1_distancesFrom_48 : decode cX1_distancesFrom 48 = .ok (.iastore, 1) := dk_79 (dk_at dksX1_distancesFrom_2 1 rfl rfl)
theorem dX1_distancesFrom_49 : decode cX1_distancesFrom 49 = .ok (.iconst 1, 1) := dk_4 (dk_at dksX1_distancesFrom_2 2 rfl rfl)
theorem dX1_distancesFrom_50 : decode cX1_distancesFrom 50 = .ok (.istore 4, 2) := dk_54 4 (dk_at dksX1_distancesFrom_2 3 rfl rfl)
theorem dX1_distancesFrom_52 : decode cX1_distancesFrom 52 = .ok (.iconst 0, 1) := dk_3 (dk_at dksX1_distancesFrom_2 5 rfl rfl)
theorem dX1_distancesFrom_53 : decode cX1_distancesFrom 53 = .ok (.istore 5, 2) := dk_54 5 (dk_at dksX1_distancesFrom_2 6 rfl rfl)
theorem dX1_distancesFrom_55 : decode cX1_distancesFrom 55 = .ok (.iload 5, 2) := dk_21 5 (dk_at dksX1_distancesFrom_2 8 rfl rfl)
theorem dX1_distancesFrom_57 : decode cX1_distancesFrom 57 = .ok (.iload 4, 2) := dk_21 4 (dk_at dksX1_distancesFrom_2 10 rfl rfl)
theorem dX1_distancesFrom_59 : decode cX1_distancesFrom 59 = .ok (.if_icmp .ge 74, 3) := dk_162 0 74 (dk_at dksX1_distancesFrom_2 12 rfl rfl)
theorem dX1_distancesFrom_62 : decode cX1_distancesFrom 62 = .ok (.iconst 0, 1) := dk_3 (dk_at dksX1_distancesFrom_2 15 rfl rfl)
theorem dX1_distancesFrom_63 : decode cX1_distancesFrom 63 = .ok (.istore 6, 2) := dk_54 6 (dk_at dksX1_distancesFrom_2 16 rfl rfl)
theorem dX1_distancesFrom_65 : decode cX1_distancesFrom 65 = .ok (.iload 6, 2) := dk_21 6 (dk_at dksX1_distancesFrom_2 18 rfl rfl)
theorem dX1_distancesFrom_67 : decode cX1_distancesFrom 67 = .ok (.iconst 4, 1) := dk_7 (dk_at dksX1_distancesFrom_2 20 rfl rfl)
theorem dX1_distancesFrom_68 : decode cX1_distancesFrom 68 = .ok (.if_icmp .ge 59, 3) := dk_162 0 59 (dk_at dksX1_distancesFrom_2 21 rfl rfl)
theorem dX1_distancesFrom_71 : decode cX1_distancesFrom 71 = .ok (.aload_n 0, 1) := dk_42 (dk_at dksX1_distancesFrom_3 0 rfl rfl)
theorem dX1_distancesFrom_72 : decode cX1_distancesFrom 72 = .ok (.getfield 14, 3) := dk_180 0 14 (dk_at dksX1_distancesFrom_3 1 rfl rfl)
theorem dX1_distancesFrom_75 : decode cX1_distancesFrom 75 = .ok (.aload_n 3, 1) := dk_45 (dk_at dksX1_distancesFrom_3 4 rfl rfl)
theorem dX1_distancesFrom_76 : decode cX1_distancesFrom 76 = .ok (.iload 5, 2) := dk_21 5 (dk_at dksX1_distancesFrom_3 5 rfl rfl)
theorem dX1_distancesFrom_78 : decode cX1_distancesFrom 78 = .ok (.iaload, 1) := dk_46 (dk_at dksX1_distancesFrom_3 7 rfl rfl)
theorem dX1_distancesFrom_79 : decode cX1_distancesFrom 79 = .ok (.iload 6, 2) := dk_21 6 (dk_at dksX1_distancesFrom_3 8 rfl rfl)
theorem dX1_distancesFrom_81 : decode cX1_distancesFrom 81 = .ok (.invokevirtual 175, 3) := dk_182 0 175 (dk_at dksX1_distancesFrom_3 10 rfl rfl)
theorem dX1_distancesFrom_84 : decode cX1_distancesFrom 84 = .ok (.istore 7, 2) := dk_54 7 (dk_at dksX1_distancesFrom_3 13 rfl rfl)
theorem dX1_distancesFrom_86 : decode cX1_distancesFrom 86 = .ok (.iload 7, 2) := dk_21 7 (dk_at dksX1_distancesFrom_3 15 rfl rfl)
theorem dX1_distancesFrom_88 : decode cX1_distancesFrom 88 = .ok (.iconst (-1), 1) := dk_2 (dk_at dksX1_distancesFrom_3 17 rfl rfl)
theorem dX1_distancesFrom_89 : decode cX1_distancesFrom 89 = .ok (.if_icmp .eq 32, 3) := dk_159 0 32 (dk_at dksX1_distancesFrom_3 18 rfl rfl)
theorem dX1_distancesFrom_92 : decode cX1_distancesFrom 92 = .ok (.aload_n 2, 1) := dk_44 (dk_at dksX1_distancesFrom_3 21 rfl rfl)
theorem dX1_distancesFrom_93 : decode cX1_distancesFrom 93 = .ok (.iload 7, 2) := dk_21 7 (dk_at dksX1_distancesFrom_3 22 rfl rfl)
theorem dX1_distancesFrom_95 : decode cX1_distancesFrom 95 = .ok (.iaload, 1) := dk_46 (dk_at dksX1_distancesFrom_4 0 rfl rfl)
theorem dX1_distancesFrom_96 : decode cX1_distancesFrom 96 = .ok (.iconst (-1), 1) := dk_2 (dk_at dksX1_distancesFrom_4 1 rfl rfl)
theorem dX1_distancesFrom_97 : decode cX1_distancesFrom 97 = .ok (.if_icmp .ne 24, 3) := dk_160 0 24 (dk_at dksX1_distancesFrom_4 2 rfl rfl)
theorem dX1_distancesFrom_100 : decode cX1_distancesFrom 100 = .ok (.aload_n 2, 1) := dk_44 (dk_at dksX1_distancesFrom_4 5 rfl rfl)
theorem dX1_distancesFrom_101 : decode cX1_distancesFrom 101 = .ok (.iload 7, 2) := dk_21 7 (dk_at dksX1_distancesFrom_4 6 rfl rfl)
theorem dX1_distancesFrom_103 : decode cX1_distancesFrom 103 = .ok (.aload_n 2, 1) := dk_44 (dk_at dksX1_distancesFrom_4 8 rfl rfl)
theorem dX1_distancesFrom_104 : decode cX1_distancesFrom 104 = .ok (.aload_n 3, 1) := dk_45 (dk_at dksX1_distancesFrom_4 9 rfl rfl)
theorem dX1_distancesFrom_105 : decode cX1_distancesFrom 105 = .ok (.iload 5, 2) := dk_21 5 (dk_at dksX1_distancesFrom_4 10 rfl rfl)
theorem dX1_distancesFrom_107 : decode cX1_distancesFrom 107 = .ok (.iaload, 1) := dk_46 (dk_at dksX1_distancesFrom_4 12 rfl rfl)
theorem dX1_distancesFrom_108 : decode cX1_distancesFrom 108 = .ok (.iaload, 1) := dk_46 (dk_at dksX1_distancesFrom_4 13 rfl rfl)
theorem dX1_distancesFrom_109 : decode cX1_distancesFrom 109 = .ok (.iconst 1, 1) := dk_4 (dk_at dksX1_distancesFrom_4 14 rfl rfl)
theorem dX1_distancesFrom_110 : decode cX1_distancesFrom 110 = .ok (.iadd, 1) := dk_96 (dk_at dksX1_distancesFrom_4 15 rfl rfl)
theorem dX1_distancesFrom_111 : decode cX1_distancesFrom 111 = .ok (.iastore, 1) := dk_79 (dk_at dksX1_distancesFrom_4 16 rfl rfl)
theorem dX1_distancesFrom_112 : decode cX1_distancesFrom 112 = .ok (.aload_n 3, 1) := dk_45 (dk_at dksX1_distancesFrom_4 17 rfl rfl)
theorem dX1_distancesFrom_113 : decode cX1_distancesFrom 113 = .ok (.iload 4, 2) := dk_21 4 (dk_at dksX1_distancesFrom_4 18 rfl rfl)
theorem dX1_distancesFrom_115 : decode cX1_distancesFrom 115 = .ok (.iload 7, 2) := dk_21 7 (dk_at dksX1_distancesFrom_4 20 rfl rfl)
theorem dX1_distancesFrom_117 : decode cX1_distancesFrom 117 = .ok (.iastore, 1) := dk_79 (dk_at dksX1_distancesFrom_4 22 rfl rfl)
theorem dX1_distancesFrom_118 : decode cX1_distancesFrom 118 = .ok (.iinc 4 1, 3) := dk_132 4 1 (dk_at dksX1_distancesFrom_5 0 rfl rfl)
theorem dX1_distancesFrom_121 : decode cX1_distancesFrom 121 = .ok (.iinc 6 1, 3) := dk_132 6 1 (dk_at dksX1_distancesFrom_5 3 rfl rfl)
theorem dX1_distancesFrom_124 : decode cX1_distancesFrom 124 = .ok (.goto (-59), 3) := dk_167 255 197 (dk_at dksX1_distancesFrom_5 6 rfl rfl)
theorem dX1_distancesFrom_127 : decode cX1_distancesFrom 127 = .ok (.iinc 5 1, 3) := dk_132 5 1 (dk_at dksX1_distancesFrom_5 9 rfl rfl)
theorem dX1_distancesFrom_130 : decode cX1_distancesFrom 130 = .ok (.goto (-75), 3) := dk_167 255 181 (dk_at dksX1_distancesFrom_5 12 rfl rfl)
theorem dX1_distancesFrom_133 : decode cX1_distancesFrom 133 = .ok (.aload_n 2, 1) := dk_44 (dk_at dksX1_distancesFrom_5 15 rfl rfl)
theorem dX1_distancesFrom_134 : decode cX1_distancesFrom 134 = .ok (.areturn, 1) := dk_176 (dk_at dksX1_distancesFrom_5 16 rfl rfl)
abbrev cX1_requireElement : ByteArray := prog_1_method_6_code
def yX1_requireElement : MethodName := ⟨RX1, "requireElement", "(Z)V"⟩
def dkwX1_requireElement_0 : List UInt8 := [26, 154, 0, 11, 187, 0, 42, 89, 183, 0, 44, 191, 177]
abbrev dktX1_requireElement_0 : List UInt8 := dkwX1_requireElement_0 ++ []
theorem dksX1_requireElement_0 : cX1_requireElement.data.toList.drop 0 = dktX1_requireElement_0 := by decide +kernel
theorem dX1_requireElement_0 : decode cX1_requireElement 0 = .ok (.iload_n 0, 1) := dk_26 (dk_at dksX1_requireElement_0 0 rfl rfl)
theorem dX1_requireElement_1 : decode cX1_requireElement 1 = .ok (.ifCond .ne 11, 3) := dk_154 0 11 (dk_at dksX1_requireElement_0 1 rfl rfl)
theorem dX1_requireElement_4 : decode cX1_requireElement 4 = .ok (.new 42, 3) := dk_187 0 42 (dk_at dksX1_requireElement_0 4 rfl rfl)
theorem dX1_requireElement_7 : decode cX1_requireElement 7 = .ok (.dup, 1) := dk_89 (dk_at dksX1_requireElement_0 7 rfl rfl)
theorem dX1_requireElement_8 : decode cX1_requireElement 8 = .ok (.invokespecial 44, 3) := dk_183 0 44 (dk_at dksX1_requireElement_0 8 rfl rfl)
theorem dX1_requireElement_11 : decode cX1_requireElement 11 = .ok (.athrow, 1) := dk_191 (dk_at dksX1_requireElement_0 11 rfl rfl)
theorem dX1_requireElement_12 : decode cX1_requireElement 12 = .ok (.return_, 1) := dk_177 (dk_at dksX1_requireElement_0 12 rfl rfl)
abbrev cX1_distanceAgain : ByteArray := prog_1_method_34_code
def yX1_distanceAgain : MethodName := ⟨RX1, "distanceAgain", "(II)I"⟩
def dkwX1_distanceAgain_9 : List UInt8 := [167, 0, 4, 3, 184, 0, 169, 25, 4, 27, 50, 28, 46, 172]
abbrev dktX1_distanceAgain_9 : List UInt8 := dkwX1_distanceAgain_9 ++ []
def dkwX1_distanceAgain_8 : List UInt8 := [132, 6, 1, 167, 255, 196, 132, 5, 1, 167, 255, 181, 25, 4, 27, 50, 28, 46, 29, 162, 0, 7, 4]
abbrev dktX1_distanceAgain_8 : List UInt8 := dkwX1_distanceAgain_8 ++ dktX1_distanceAgain_9
def dkwX1_distanceAgain_7 : List UInt8 := [21, 5, 46, 25, 4, 21, 5, 50, 21, 7, 46, 96, 184, 0, 219, 79, 132, 7, 1, 167, 255, 211]
abbrev dktX1_distanceAgain_7 : List UInt8 := dkwX1_distanceAgain_7 ++ dktX1_distanceAgain_8
def dkwX1_distanceAgain_6 : List UInt8 := [162, 0, 45, 25, 4, 21, 6, 50, 21, 7, 25, 4, 21, 6, 50, 21, 7, 46, 25, 4, 21, 6, 50]
abbrev dktX1_distanceAgain_6 : List UInt8 := dkwX1_distanceAgain_6 ++ dktX1_distanceAgain_7
def dkwX1_distanceAgain_5 : List UInt8 := [3, 54, 5, 21, 5, 29, 162, 0, 75, 3, 54, 6, 21, 6, 29, 162, 0, 60, 3, 54, 7, 21, 7, 29]
abbrev dktX1_distanceAgain_5 : List UInt8 := dkwX1_distanceAgain_5 ++ dktX1_distanceAgain_6
def dkwX1_distanceAgain_4 : List UInt8 := [159, 0, 12, 25, 4, 21, 5, 50, 21, 7, 4, 79, 132, 6, 1, 167, 255, 219, 132, 5, 1, 167, 255, 169]
abbrev dktX1_distanceAgain_4 : List UInt8 := dkwX1_distanceAgain_4 ++ dktX1_distanceAgain_5
def dkwX1_distanceAgain_3 : List UInt8 := [54, 6, 21, 6, 7, 162, 0, 37, 42, 180, 0, 14, 21, 5, 21, 6, 182, 0, 175, 54, 7, 21, 7, 2]
abbrev dktX1_distanceAgain_3 : List UInt8 := dkwX1_distanceAgain_3 ++ dktX1_distanceAgain_4
def dkwX1_distanceAgain_2 : List UInt8 := [50, 21, 6, 21, 5, 21, 6, 160, 0, 7, 3, 167, 0, 4, 29, 79, 132, 6, 1, 167, 255, 227, 3]
abbrev dktX1_distanceAgain_2 : List UInt8 := dkwX1_distanceAgain_2 ++ dktX1_distanceAgain_3
def dkwX1_distanceAgain_1 : List UInt8 := [58, 4, 3, 54, 5, 21, 5, 29, 162, 0, 87, 3, 54, 6, 21, 6, 29, 162, 0, 29, 25, 4, 21, 5]
abbrev dktX1_distanceAgain_1 : List UInt8 := dkwX1_distanceAgain_1 ++ dktX1_distanceAgain_2
def dkwX1_distanceAgain_0 : List UInt8 := [42, 27, 182, 0, 178, 42, 28, 182, 0, 178, 42, 180, 0, 14, 182, 0, 163, 62, 29, 29, 197, 0, 217, 2]
abbrev dktX1_distanceAgain_0 : List UInt8 := dkwX1_distanceAgain_0 ++ dktX1_distanceAgain_1
theorem dksX1_distanceAgain_0 : cX1_distanceAgain.data.toList.drop 0 = dktX1_distanceAgain_0 := by decide +kernel
theorem dksX1_distanceAgain_1 : cX1_distanceAgain.data.toList.drop 24 = dktX1_distanceAgain_1 := dk_seg dksX1_distanceAgain_0 24 rfl rfl
theorem dksX1_distanceAgain_2 : cX1_distanceAgain.data.toList.drop 48 = dktX1_distanceAgain_2 := dk_seg dksX1_distanceAgain_1 24 rfl rfl
theorem dksX1_distanceAgain_3 : cX1_distanceAgain.data.toList.drop 71 = dktX1_distanceAgain_3 := dk_seg dksX1_distanceAgain_2 23 rfl rfl
theorem dksX1_distanceAgain_4 : cX1_distanceAgain.data.toList.drop 95 = dktX1_distanceAgain_4 := dk_seg dksX1_distanceAgain_3 24 rfl rfl
theorem dksX1_distanceAgain_5 : cX1_distanceAgain.data.toList.drop 119 = dktX1_distanceAgain_5 := dk_seg dksX1_distanceAgain_4 24 rfl rfl
theorem dksX1_distanceAgain_6 : cX1_distanceAgain.data.toList.drop 143 = dktX1_distanceAgain_6 := dk_seg dksX1_distanceAgain_5 24 rfl rfl
theorem dksX1_distanceAgain_7 : cX1_distanceAgain.data.toList.drop 166 = dktX1_distanceAgain_7 := dk_seg dksX1_distanceAgain_6 23 rfl rfl
theorem dksX1_distanceAgain_8 : cX1_distanceAgain.data.toList.drop 188 = dktX1_distanceAgain_8 := dk_seg dksX1_distanceAgain_7 22 rfl rfl
theorem dksX1_distanceAgain_9 : cX1_distanceAgain.data.toList.drop 211 = dktX1_distanceAgain_9 := dk_seg dksX1_distanceAgain_8 23 rfl rfl
theorem dX1_distanceAgain_0 : decode cX1_distanceAgain 0 = .ok (.aload_n 0, 1) := dk_42 (dk_at dksX1_distanceAgain_0 0 rfl rfl)
theorem dX1_distanceAgain_1 : decode cX1_distanceAgain 1 = .ok (.iload_n 1, 1) := dk_27 (dk_at dksX1_distanceAgain_0 1 rfl rfl)
theorem dX1_distanceAgain_2 : decode cX1_distanceAgain 2 = .ok (.invokevirtual 178, 3) := dk_182 0 178 (dk_at dksX1_distanceAgain_0 2 rfl rfl)
theorem dX1_distanceAgain_5 : decode cX1_distanceAgain 5 = .ok (.aload_n 0, 1) := dk_42 (dk_at dksX1_distanceAgain_0 5 rfl rfl)
theorem dX1_distanceAgain_6 : decode cX1_distanceAgain 6 = .ok (.iload_n 2, 1) := dk_28 (dk_at dksX1_distanceAgain_0 6 rfl rfl)
theorem dX1_distanceAgain_7 : decode cX1_distanceAgain 7 = .ok (.invokevirtual 178, 3) := dk_182 0 178 (dk_at dksX1_distanceAgain_0 7 rfl rfl)
theorem dX1_distanceAgain_10 : decode cX1_distanceAgain 10 = .ok (.aload_n 0, 1) := dk_42 (dk_at dksX1_distanceAgain_0 10 rfl rfl)
theorem dX1_distanceAgain_11 : decode cX1_distanceAgain 11 = .ok (.getfield 14, 3) := dk_180 0 14 (dk_at dksX1_distanceAgain_0 11 rfl rfl)
theorem dX1_distanceAgain_14 : decode cX1_distanceAgain 14 = .ok (.invokevirtual 163, 3) := dk_182 0 163 (dk_at dksX1_distanceAgain_0 14 rfl rfl)
theorem dX1_distanceAgain_17 : decode cX1_distanceAgain 17 = .ok (.istore_n 3, 1) := dk_62 (dk_at dksX1_distanceAgain_0 17 rfl rfl)
theorem dX1_distanceAgain_18 : decode cX1_distanceAgain 18 = .ok (.iload_n 3, 1) := dk_29 (dk_at dksX1_distanceAgain_0 18 rfl rfl)
theorem dX1_distanceAgain_19 : decode cX1_distanceAgain 19 = .ok (.iload_n 3, 1) := dk_29 (dk_at dksX1_distanceAgain_0 19 rfl rfl)
theorem dX1_distanceAgain_20 : decode cX1_distanceAgain 20 = .ok (.multianewarray 217 2, 4) := by decide +kernel
theorem dX1_distanceAgain_24 : decode cX1_distanceAgain 24 = .ok (.astore 4, 2) := dk_58 4 (dk_at dksX1_distanceAgain_1 0 rfl rfl)
theorem dX1_distanceAgain_26 : decode cX1_distanceAgain 26 = .ok (.iconst 0, 1) := dk_3 (dk_at dksX1_distanceAgain_1 2 rfl rfl)
theorem dX1_distanceAgain_27 : decode cX1_distanceAgain 27 = .ok (.istore 5, 2) := dk_54 5 (dk_at dksX1_distanceAgain_1 3 rfl rfl)
theorem dX1_distanceAgain_29 : decode cX1_distanceAgain 29 = .ok (.iload 5, 2) := dk_21 5 (dk_at dksX1_distanceAgain_1 5 rfl rfl)
theorem dX1_distanceAgain_31 : decode cX1_distanceAgain 31 = .ok (.iload_n 3, 1) := dk_29 (dk_at dksX1_distanceAgain_1 7 rfl rfl)
theorem dX1_distanceAgain_32 : decode cX1_distanceAgain 32 = .ok (.if_icmp .ge 87, 3) := dk_162 0 87 (dk_at dksX1_distanceAgain_1 8 rfl rfl)
theorem dX1_distanceAgain_35 : decode cX1_distanceAgain 35 = .ok (.iconst 0, 1) := dk_3 (dk_at dksX1_distanceAgain_1 11 rfl rfl)
theorem dX1_distanceAgain_36 : decode cX1_distanceAgain 36 = .ok (.istore 6, 2) := dk_54 6 (dk_at dksX1_distanceAgain_1 12 rfl rfl)
theorem dX1_distanceAgain_38 : decode cX1_distanceAgain 38 = .ok (.iload 6, 2) := dk_21 6 (dk_at dksX1_distanceAgain_1 14 rfl rfl)
theorem dX1_distanceAgain_40 : decode cX1_distanceAgain 40 = .ok (.iload_n 3, 1) := dk_29 (dk_at dksX1_distanceAgain_1 16 rfl rfl)
theorem dX1_distanceAgain_41 : decode cX1_distanceAgain 41 = .ok (.if_icmp .ge 29, 3) := dk_162 0 29 (dk_at dksX1_distanceAgain_1 17 rfl rfl)
theorem dX1_distanceAgain_44 : decode cX1_distanceAgain 44 = .ok (.aload 4, 2) := dk_25 4 (dk_at dksX1_distanceAgain_1 20 rfl rfl)
theorem dX1_distanceAgain_46 : decode cX1_distanceAgain 46 = .ok (.iload 5, 2) := dk_21 5 (dk_at dksX1_distanceAgain_1 22 rfl rfl)
theorem dX1_distanceAgain_48 : decode cX1_distanceAgain 48 = .ok (.aaload, 1) := dk_50 (dk_at dksX1_distanceAgain_2 0 rfl rfl)
theorem dX1_distanceAgain_49 : decode cX1_distanceAgain 49 = .ok (.iload 6, 2) := dk_21 6 (dk_at dksX1_distanceAgain_2 1 rfl rfl)
theorem dX1_distanceAgain_51 : decode cX1_distanceAgain 51 = .ok (.iload 5, 2) := dk_21 5 (dk_at dksX1_distanceAgain_2 3 rfl rfl)
theorem dX1_distanceAgain_53 : decode cX1_distanceAgain 53 = .ok (.iload 6, 2) := dk_21 6 (dk_at dksX1_distanceAgain_2 5 rfl rfl)
theorem dX1_distanceAgain_55 : decode cX1_distanceAgain 55 = .ok (.if_icmp .ne 7, 3) := dk_160 0 7 (dk_at dksX1_distanceAgain_2 7 rfl rfl)
theorem dX1_distanceAgain_58 : decode cX1_distanceAgain 58 = .ok (.iconst 0, 1) := dk_3 (dk_at dksX1_distanceAgain_2 10 rfl rfl)
theorem dX1_distanceAgain_59 : decode cX1_distanceAgain 59 = .ok (.goto 4, 3) := dk_167 0 4 (dk_at dksX1_distanceAgain_2 11 rfl rfl)
theorem dX1_distanceAgain_62 : decode cX1_distanceAgain 62 = .ok (.iload_n 3, 1) := dk_29 (dk_at dksX1_distanceAgain_2 14 rfl rfl)
theorem dX1_distanceAgain_63 : decode cX1_distanceAgain 63 = .ok (.iastore, 1) := dk_79 (dk_at dksX1_distanceAgain_2 15 rfl rfl)
theorem dX1_distanceAgain_64 : decode cX1_distanceAgain 64 = .ok (.iinc 6 1, 3) := dk_132 6 1 (dk_at dksX1_distanceAgain_2 16 rfl rfl)
theorem dX1_distanceAgain_67 : decode cX1_distanceAgain 67 = .ok (.goto (-29), 3) := dk_167 255 227 (dk_at dksX1_distanceAgain_2 19 rfl rfl)
theorem dX1_distanceAgain_70 : decode cX1_distanceAgain 70 = .ok (.iconst 0, 1) := dk_3 (dk_at dksX1_distanceAgain_2 22 rfl rfl)
theorem dX1_distanceAgain_71 : decode cX1_distanceAgain 71 = .ok (.istore 6, 2) := dk_54 6 (dk_at dksX1_distanceAgain_3 0 rfl rfl)
theorem dX1_distanceAgain_73 : decode cX1_distanceAgain 73 = .ok (.iload 6, 2) := dk_21 6 (dk_at dksX1_distanceAgain_3 2 rfl rfl)
theorem dX1_distanceAgain_75 : decode cX1_distanceAgain 75 = .ok (.iconst 4, 1) := dk_7 (dk_at dksX1_distanceAgain_3 4 rfl rfl)
theorem dX1_distanceAgain_76 : decode cX1_distanceAgain 76 = .ok (.if_icmp .ge 37, 3) := dk_162 0 37 (dk_at dksX1_distanceAgain_3 5 rfl rfl)
theorem dX1_distanceAgain_79 : decode cX1_distanceAgain 79 = .ok (.aload_n 0, 1) := dk_42 (dk_at dksX1_distanceAgain_3 8 rfl rfl)
theorem dX1_distanceAgain_80 : decode cX1_distanceAgain 80 = .ok (.getfield 14, 3) := dk_180 0 14 (dk_at dksX1_distanceAgain_3 9 rfl rfl)
theorem dX1_distanceAgain_83 : decode cX1_distanceAgain 83 = .ok (.iload 5, 2) := dk_21 5 (dk_at dksX1_distanceAgain_3 12 rfl rfl)
theorem dX1_distanceAgain_85 : decode cX1_distanceAgain 85 = .ok (.iload 6, 2) := dk_21 6 (dk_at dksX1_distanceAgain_3 14 rfl rfl)
theorem dX1_distanceAgain_87 : decode cX1_distanceAgain 87 = .ok (.invokevirtual 175, 3) := dk_182 0 175 (dk_at dksX1_distanceAgain_3 16 rfl rfl)
theorem dX1_distanceAgain_90 : decode cX1_distanceAgain 90 = .ok (.istore 7, 2) := dk_54 7 (dk_at dksX1_distanceAgain_3 19 rfl rfl)
theorem dX1_distanceAgain_92 : decode cX1_distanceAgain 92 = .ok (.iload 7, 2) := dk_21 7 (dk_at dksX1_distanceAgain_3 21 rfl rfl)
theorem dX1_distanceAgain_94 : decode cX1_distanceAgain 94 = .ok (.iconst (-1), 1) := dk_2 (dk_at dksX1_distanceAgain_3 23 rfl rfl)
theorem dX1_distanceAgain_95 : decode cX1_distanceAgain 95 = .ok (.if_icmp .eq 12, 3) := dk_159 0 12 (dk_at dksX1_distanceAgain_4 0 rfl rfl)
theorem dX1_distanceAgain_98 : decode cX1_distanceAgain 98 = .ok (.aload 4, 2) := dk_25 4 (dk_at dksX1_distanceAgain_4 3 rfl rfl)
theorem dX1_distanceAgain_100 : decode cX1_distanceAgain 100 = .ok (.iload 5, 2) := dk_21 5 (dk_at dksX1_distanceAgain_4 5 rfl rfl)
theorem dX1_distanceAgain_102 : decode cX1_distanceAgain 102 = .ok (.aaload, 1) := dk_50 (dk_at dksX1_distanceAgain_4 7 rfl rfl)
theorem dX1_distanceAgain_103 : decode cX1_distanceAgain 103 = .ok (.iload 7, 2) := dk_21 7 (dk_at dksX1_distanceAgain_4 8 rfl rfl)
theorem dX1_distanceAgain_105 : decode cX1_distanceAgain 105 = .ok (.iconst 1, 1) := dk_4 (dk_at dksX1_distanceAgain_4 10 rfl rfl)
theorem dX1_distanceAgain_106 : decode cX1_distanceAgain 106 = .ok (.iastore, 1) := dk_79 (dk_at dksX1_distanceAgain_4 11 rfl rfl)
theorem dX1_distanceAgain_107 : decode cX1_distanceAgain 107 = .ok (.iinc 6 1, 3) := dk_132 6 1 (dk_at dksX1_distanceAgain_4 12 rfl rfl)
theorem dX1_distanceAgain_110 : decode cX1_distanceAgain 110 = .ok (.goto (-37), 3) := dk_167 255 219 (dk_at dksX1_distanceAgain_4 15 rfl rfl)
theorem dX1_distanceAgain_113 : decode cX1_distanceAgain 113 = .ok (.iinc 5 1, 3) := dk_132 5 1 (dk_at dksX1_distanceAgain_4 18 rfl rfl)
theorem dX1_distanceAgain_116 : decode cX1_distanceAgain 116 = .ok (.goto (-87), 3) := dk_167 255 169 (dk_at dksX1_distanceAgain_4 21 rfl rfl)
theorem dX1_distanceAgain_119 : decode cX1_distanceAgain 119 = .ok (.iconst 0, 1) := dk_3 (dk_at dksX1_distanceAgain_5 0 rfl rfl)
theorem dX1_distanceAgain_120 : decode cX1_distanceAgain 120 = .ok (.istore 5, 2) := dk_54 5 (dk_at dksX1_distanceAgain_5 1 rfl rfl)
theorem dX1_distanceAgain_122 : decode cX1_distanceAgain 122 = .ok (.iload 5, 2) := dk_21 5 (dk_at dksX1_distanceAgain_5 3 rfl rfl)
theorem dX1_distanceAgain_124 : decode cX1_distanceAgain 124 = .ok (.iload_n 3, 1) := dk_29 (dk_at dksX1_distanceAgain_5 5 rfl rfl)
theorem dX1_distanceAgain_125 : decode cX1_distanceAgain 125 = .ok (.if_icmp .ge 75, 3) := dk_162 0 75 (dk_at dksX1_distanceAgain_5 6 rfl rfl)
theorem dX1_distanceAgain_128 : decode cX1_distanceAgain 128 = .ok (.iconst 0, 1) := dk_3 (dk_at dksX1_distanceAgain_5 9 rfl rfl)
theorem dX1_distanceAgain_129 : decode cX1_distanceAgain 129 = .ok (.istore 6, 2) := dk_54 6 (dk_at dksX1_distanceAgain_5 10 rfl rfl)
theorem dX1_distanceAgain_131 : decode cX1_distanceAgain 131 = .ok (.iload 6, 2) := dk_21 6 (dk_at dksX1_distanceAgain_5 12 rfl rfl)
theorem dX1_distanceAgain_133 : decode cX1_distanceAgain 133 = .ok (.iload_n 3, 1) := dk_29 (dk_at dksX1_distanceAgain_5 14 rfl rfl)
theorem dX1_distanceAgain_134 : decode cX1_distanceAgain 134 = .ok (.if_icmp .ge 60, 3) := dk_162 0 60 (dk_at dksX1_distanceAgain_5 15 rfl rfl)
theorem dX1_distanceAgain_137 : decode cX1_distanceAgain 137 = .ok (.iconst 0, 1) := dk_3 (dk_at dksX1_distanceAgain_5 18 rfl rfl)
theorem dX1_distanceAgain_138 : decode cX1_distanceAgain 138 = .ok (.istore 7, 2) := dk_54 7 (dk_at dksX1_distanceAgain_5 19 rfl rfl)
theorem dX1_distanceAgain_140 : decode cX1_distanceAgain 140 = .ok (.iload 7, 2) := dk_21 7 (dk_at dksX1_distanceAgain_5 21 rfl rfl)
theorem dX1_distanceAgain_142 : decode cX1_distanceAgain 142 = .ok (.iload_n 3, 1) := dk_29 (dk_at dksX1_distanceAgain_5 23 rfl rfl)
theorem dX1_distanceAgain_143 : decode cX1_distanceAgain 143 = .ok (.if_icmp .ge 45, 3) := dk_162 0 45 (dk_at dksX1_distanceAgain_6 0 rfl rfl)
theorem dX1_distanceAgain_146 : decode cX1_distanceAgain 146 = .ok (.aload 4, 2) := dk_25 4 (dk_at dksX1_distanceAgain_6 3 rfl rfl)
theorem dX1_distanceAgain_148 : decode cX1_distanceAgain 148 = .ok (.iload 6, 2) := dk_21 6 (dk_at dksX1_distanceAgain_6 5 rfl rfl)
theorem dX1_distanceAgain_150 : decode cX1_distanceAgain 150 = .ok (.aaload, 1) := dk_50 (dk_at dksX1_distanceAgain_6 7 rfl rfl)
theorem dX1_distanceAgain_151 : decode cX1_distanceAgain 151 = .ok (.iload 7, 2) := dk_21 7 (dk_at dksX1_distanceAgain_6 8 rfl rfl)
theorem dX1_distanceAgain_153 : decode cX1_distanceAgain 153 = .ok (.aload 4, 2) := dk_25 4 (dk_at dksX1_distanceAgain_6 10 rfl rfl)
theorem dX1_distanceAgain_155 : decode cX1_distanceAgain 155 = .ok (.iload 6, 2) := dk_21 6 (dk_at dksX1_distanceAgain_6 12 rfl rfl)
theorem dX1_distanceAgain_157 : decode cX1_distanceAgain 157 = .ok (.aaload, 1) := dk_50 (dk_at dksX1_distanceAgain_6 14 rfl rfl)
theorem dX1_distanceAgain_158 : decode cX1_distanceAgain 158 = .ok (.iload 7, 2) := dk_21 7 (dk_at dksX1_distanceAgain_6 15 rfl rfl)
theorem dX1_distanceAgain_160 : decode cX1_distanceAgain 160 = .ok (.iaload, 1) := dk_46 (dk_at dksX1_distanceAgain_6 17 rfl rfl)
theorem dX1_distanceAgain_161 : decode cX1_distanceAgain 161 = .ok (.aload 4, 2) := dk_25 4 (dk_at dksX1_distanceAgain_6 18 rfl rfl)
theorem dX1_distanceAgain_163 : decode cX1_distanceAgain 163 = .ok (.iload 6, 2) := dk_21 6 (dk_at dksX1_distanceAgain_6 20 rfl rfl)
theorem dX1_distanceAgain_165 : decode cX1_distanceAgain 165 = .ok (.aaload, 1) := dk_50 (dk_at dksX1_distanceAgain_6 22 rfl rfl)
theorem dX1_distanceAgain_166 : decode cX1_distanceAgain 166 = .ok (.iload 5, 2) := dk_21 5 (dk_at dksX1_distanceAgain_7 0 rfl rfl)
theorem dX1_distanceAgain_168 : decode cX1_distanceAgain 168 = .ok (.iaload, 1) := dk_46 (dk_at dksX1_distanceAgain_7 2 rfl rfl)
theorem dX1_distanceAgain_169 : decode cX1_distanceAgain 169 = .ok (.aload 4, 2) := dk_25 4 (dk_at dksX1_distanceAgain_7 3 rfl rfl)
theorem dX1_distanceAgain_171 : decode cX1_distanceAgain 171 = .ok (.iload 5, 2) := dk_21 5 (dk_at dksX1_distanceAgain_7 5 rfl rfl)
theorem dX1_distanceAgain_173 : decode cX1_distanceAgain 173 = .ok (.aaload, 1) := dk_50 (dk_at dksX1_distanceAgain_7 7 rfl rfl)
theorem dX1_distanceAgain_174 : decode cX1_distanceAgain 174 = .ok (.iload 7, 2) := dk_21 7 (dk_at dksX1_distanceAgain_7 8 rfl rfl)
theorem dX1_distanceAgain_176 : decode cX1_distanceAgain 176 = .ok (.iaload, 1) := dk_46 (dk_at dksX1_distanceAgain_7 10 rfl rfl)
theorem dX1_distanceAgain_177 : decode cX1_distanceAgain 177 = .ok (.iadd, 1) := dk_96 (dk_at dksX1_distanceAgain_7 11 rfl rfl)
theorem dX1_distanceAgain_178 : decode cX1_distanceAgain 178 = .ok (.invokestatic 219, 3) := dk_184 0 219 (dk_at dksX1_distanceAgain_7 12 rfl rfl)
theorem dX1_distanceAgain_181 : decode cX1_distanceAgain 181 = .ok (.iastore, 1) := dk_79 (dk_at dksX1_distanceAgain_7 15 rfl rfl)
theorem dX1_distanceAgain_182 : decode cX1_distanceAgain 182 = .ok (.iinc 7 1, 3) := dk_132 7 1 (dk_at dksX1_distanceAgain_7 16 rfl rfl)
theorem dX1_distanceAgain_185 : decode cX1_distanceAgain 185 = .ok (.goto (-45), 3) := dk_167 255 211 (dk_at dksX1_distanceAgain_7 19 rfl rfl)
theorem dX1_distanceAgain_188 : decode cX1_distanceAgain 188 = .ok (.iinc 6 1, 3) := dk_132 6 1 (dk_at dksX1_distanceAgain_8 0 rfl rfl)
theorem dX1_distanceAgain_191 : decode cX1_distanceAgain 191 = .ok (.goto (-60), 3) := dk_167 255 196 (dk_at dksX1_distanceAgain_8 3 rfl rfl)
theorem dX1_distanceAgain_194 : decode cX1_distanceAgain 194 = .ok (.iinc 5 1, 3) := dk_132 5 1 (dk_at dksX1_distanceAgain_8 6 rfl rfl)
theorem dX1_distanceAgain_197 : decode cX1_distanceAgain 197 = .ok (.goto (-75), 3) := dk_167 255 181 (dk_at dksX1_distanceAgain_8 9 rfl rfl)
theorem dX1_distanceAgain_200 : decode cX1_distanceAgain 200 = .ok (.aload 4, 2) := dk_25 4 (dk_at dksX1_distanceAgain_8 12 rfl rfl)
theorem dX1_distanceAgain_202 : decode cX1_distanceAgain 202 = .ok (.iload_n 1, 1) := dk_27 (dk_at dksX1_distanceAgain_8 14 rfl rfl)
theorem dX1_distanceAgain_203 : decode cX1_distanceAgain 203 = .ok (.aaload, 1) := dk_50 (dk_at dksX1_distanceAgain_8 15 rfl rfl)
theorem dX1_distanceAgain_204 : decode cX1_distanceAgain 204 = .ok (.iload_n 2, 1) := dk_28 (dk_at dksX1_distanceAgain_8 16 rfl rfl)
theorem dX1_distanceAgain_205 : decode cX1_distanceAgain 205 = .ok (.iaload, 1) := dk_46 (dk_at dksX1_distanceAgain_8 17 rfl rfl)
theorem dX1_distanceAgain_206 : decode cX1_distanceAgain 206 = .ok (.iload_n 3, 1) := dk_29 (dk_at dksX1_distanceAgain_8 18 rfl rfl)
theorem dX1_distanceAgain_207 : decode cX1_distanceAgain 207 = .ok (.if_icmp .ge 7, 3) := dk_162 0 7 (dk_at dksX1_distanceAgain_8 19 rfl rfl)
theorem dX1_distanceAgain_210 : decode cX1_distanceAgain 210 = .ok (.iconst 1, 1) := dk_4 (dk_at dksX1_distanceAgain_8 22 rfl rfl)
theorem dX1_distanceAgain_211 : decode cX1_distanceAgain 211 = .ok (.goto 4, 3) := dk_167 0 4 (dk_at dksX1_distanceAgain_9 0 rfl rfl)
theorem dX1_distanceAgain_214 : decode cX1_distanceAgain 214 = .ok (.iconst 0, 1) := dk_3 (dk_at dksX1_distanceAgain_9 3 rfl rfl)
theorem dX1_distanceAgain_215 : decode cX1_distanceAgain 215 = .ok (.invokestatic 169, 3) := dk_184 0 169 (dk_at dksX1_distanceAgain_9 4 rfl rfl)
theorem dX1_distanceAgain_218 : decode cX1_distanceAgain 218 = .ok (.aload 4, 2) := dk_25 4 (dk_at dksX1_distanceAgain_9 7 rfl rfl)
theorem dX1_distanceAgain_220 : decode cX1_distanceAgain 220 = .ok (.iload_n 1, 1) := dk_27 (dk_at dksX1_distanceAgain_9 9 rfl rfl)
theorem dX1_distanceAgain_221 : decode cX1_distanceAgain 221 = .ok (.aaload, 1) := dk_50 (dk_at dksX1_distanceAgain_9 10 rfl rfl)
theorem dX1_distanceAgain_222 : decode cX1_distanceAgain 222 = .ok (.iload_n 2, 1) := dk_28 (dk_at dksX1_distanceAgain_9 11 rfl rfl)
theorem dX1_distanceAgain_223 : decode cX1_distanceAgain 223 = .ok (.iaload, 1) := dk_46 (dk_at dksX1_distanceAgain_9 12 rfl rfl)
theorem dX1_distanceAgain_224 : decode cX1_distanceAgain 224 = .ok (.ireturn, 1) := dk_172 (dk_at dksX1_distanceAgain_9 13 rfl rfl)
abbrev cX1_reach : ByteArray := prog_1_method_35_code
def yX1_reach : MethodName := ⟨RX1, "reach", "(I)I"⟩
def dkwX1_reach_1 : List UInt8 := [44, 21, 4, 46, 2, 159, 0, 7, 4, 167, 0, 4, 3, 96, 62, 132, 4, 1, 167, 255, 230, 29, 172]
abbrev dktX1_reach_1 : List UInt8 := dkwX1_reach_1 ++ []
def dkwX1_reach_0 : List UInt8 := [42, 27, 182, 0, 178, 42, 27, 182, 0, 213, 77, 3, 62, 3, 54, 4, 21, 4, 44, 190, 162, 0, 25, 29]
abbrev dktX1_reach_0 : List UInt8 := dkwX1_reach_0 ++ dktX1_reach_1
theorem dksX1_reach_0 : cX1_reach.data.toList.drop 0 = dktX1_reach_0 := by decide +kernel
theorem dksX1_reach_1 : cX1_reach.data.toList.drop 24 = dktX1_reach_1 := dk_seg dksX1_reach_0 24 rfl rfl
theorem dX1_reach_0 : decode cX1_reach 0 = .ok (.aload_n 0, 1) := dk_42 (dk_at dksX1_reach_0 0 rfl rfl)
theorem dX1_reach_1 : decode cX1_reach 1 = .ok (.iload_n 1, 1) := dk_27 (dk_at dksX1_reach_0 1 rfl rfl)
theorem dX1_reach_2 : decode cX1_reach 2 = .ok (.invokevirtual 178, 3) := dk_182 0 178 (dk_at dksX1_reach_0 2 rfl rfl)
theorem dX1_reach_5 : decode cX1_reach 5 = .ok (.aload_n 0, 1) := dk_42 (dk_at dksX1_reach_0 5 rfl rfl)
theorem dX1_reach_6 : decode cX1_reach 6 = .ok (.iload_n 1, 1) := dk_27 (dk_at dksX1_reach_0 6 rfl rfl)
theorem dX1_reach_7 : decode cX1_reach 7 = .ok (.invokevirtual 213, 3) := dk_182 0 213 (dk_at dksX1_reach_0 7 rfl rfl)
theorem dX1_reach_10 : decode cX1_reach 10 = .ok (.astore_n 2, 1) := dk_77 (dk_at dksX1_reach_0 10 rfl rfl)
theorem dX1_reach_11 : decode cX1_reach 11 = .ok (.iconst 0, 1) := dk_3 (dk_at dksX1_reach_0 11 rfl rfl)
theorem dX1_reach_12 : decode cX1_reach 12 = .ok (.istore_n 3, 1) := dk_62 (dk_at dksX1_reach_0 12 rfl rfl)
theorem dX1_reach_13 : decode cX1_reach 13 = .ok (.iconst 0, 1) := dk_3 (dk_at dksX1_reach_0 13 rfl rfl)
theorem dX1_reach_14 : decode cX1_reach 14 = .ok (.istore 4, 2) := dk_54 4 (dk_at dksX1_reach_0 14 rfl rfl)
theorem dX1_reach_16 : decode cX1_reach 16 = .ok (.iload 4, 2) := dk_21 4 (dk_at dksX1_reach_0 16 rfl rfl)
theorem dX1_reach_18 : decode cX1_reach 18 = .ok (.aload_n 2, 1) := dk_44 (dk_at dksX1_reach_0 18 rfl rfl)
theorem dX1_reach_19 : decode cX1_reach 19 = .ok (.arraylength, 1) := dk_190 (dk_at dksX1_reach_0 19 rfl rfl)
theorem dX1_reach_20 : decode cX1_reach 20 = .ok (.if_icmp .ge 25, 3) := dk_162 0 25 (dk_at dksX1_reach_0 20 rfl rfl)
theorem dX1_reach_23 : decode cX1_reach 23 = .ok (.iload_n 3, 1) := dk_29 (dk_at dksX1_reach_0 23 rfl rfl)
theorem dX1_reach_24 : decode cX1_reach 24 = .ok (.aload_n 2, 1) := dk_44 (dk_at dksX1_reach_1 0 rfl rfl)
theorem dX1_reach_25 : decode cX1_reach 25 = .ok (.iload 4, 2) := dk_21 4 (dk_at dksX1_reach_1 1 rfl rfl)
theorem dX1_reach_27 : decode cX1_reach 27 = .ok (.iaload, 1) := dk_46 (dk_at dksX1_reach_1 3 rfl rfl)
theorem dX1_reach_28 : decode cX1_reach 28 = .ok (.iconst (-1), 1) := dk_2 (dk_at dksX1_reach_1 4 rfl rfl)
theorem dX1_reach_29 : decode cX1_reach 29 = .ok (.if_icmp .eq 7, 3) := dk_159 0 7 (dk_at dksX1_reach_1 5 rfl rfl)
theorem dX1_reach_32 : decode cX1_reach 32 = .ok (.iconst 1, 1) := dk_4 (dk_at dksX1_reach_1 8 rfl rfl)
theorem dX1_reach_33 : decode cX1_reach 33 = .ok (.goto 4, 3) := dk_167 0 4 (dk_at dksX1_reach_1 9 rfl rfl)
theorem dX1_reach_36 : decode cX1_reach 36 = .ok (.iconst 0, 1) := dk_3 (dk_at dksX1_reach_1 12 rfl rfl)
theorem dX1_reach_37 : decode cX1_reach 37 = .ok (.iadd, 1) := dk_96 (dk_at dksX1_reach_1 13 rfl rfl)
theorem dX1_reach_38 : decode cX1_reach 38 = .ok (.istore_n 3, 1) := dk_62 (dk_at dksX1_reach_1 14 rfl rfl)
theorem dX1_reach_39 : decode cX1_reach 39 = .ok (.iinc 4 1, 3) := dk_132 4 1 (dk_at dksX1_reach_1 15 rfl rfl)
theorem dX1_reach_42 : decode cX1_reach 42 = .ok (.goto (-26), 3) := dk_167 255 230 (dk_at dksX1_reach_1 18 rfl rfl)
theorem dX1_reach_45 : decode cX1_reach 45 = .ok (.iload_n 3, 1) := dk_29 (dk_at dksX1_reach_1 21 rfl rfl)
theorem dX1_reach_46 : decode cX1_reach 46 = .ok (.ireturn, 1) := dk_172 (dk_at dksX1_reach_1 22 rfl rfl)
abbrev cX1_farthest : ByteArray := prog_1_method_36_code
def yX1_farthest : MethodName := ⟨RX1, "farthest", "(I)I"⟩
def dkwX1_farthest_2 : List UInt8 := [172]
abbrev dktX1_farthest_2 : List UInt8 := dkwX1_farthest_2 ++ []
def dkwX1_farthest_1 : List UInt8 := [44, 21, 4, 46, 44, 29, 46, 161, 0, 8, 21, 4, 167, 0, 4, 29, 62, 132, 4, 255, 167, 255, 231, 29]
abbrev dktX1_farthest_1 : List UInt8 := dkwX1_farthest_1 ++ dktX1_farthest_2
def dkwX1_farthest_0 : List UInt8 := [42, 27, 182, 0, 178, 42, 27, 182, 0, 213, 77, 27, 62, 44, 190, 4, 100, 54, 4, 21, 4, 155, 0, 26]
abbrev dktX1_farthest_0 : List UInt8 := dkwX1_farthest_0 ++ dktX1_farthest_1
theorem dksX1_farthest_0 : cX1_farthest.data.toList.drop 0 = dktX1_farthest_0 := by decide +kernel
theorem dksX1_farthest_1 : cX1_farthest.data.toList.drop 24 = dktX1_farthest_1 := dk_seg dksX1_farthest_0 24 rfl rfl
theorem dksX1_farthest_2 : cX1_farthest.data.toList.drop 48 = dktX1_farthest_2 := dk_seg dksX1_farthest_1 24 rfl rfl
theorem dX1_farthest_0 : decode cX1_farthest 0 = .ok (.aload_n 0, 1) := dk_42 (dk_at dksX1_farthest_0 0 rfl rfl)
theorem dX1_farthest_1 : decode cX1_farthest 1 = .ok (.iload_n 1, 1) := dk_27 (dk_at dksX1_farthest_0 1 rfl rfl)
theorem dX1_farthest_2 : decode cX1_farthest 2 = .ok (.invokevirtual 178, 3) := dk_182 0 178 (dk_at dksX1_farthest_0 2 rfl rfl)
theorem dX1_farthest_5 : decode cX1_farthest 5 = .ok (.aload_n 0, 1) := dk_42 (dk_at dksX1_farthest_0 5 rfl rfl)
theorem dX1_farthest_6 : decode cX1_farthest 6 = .ok (.iload_n 1, 1) := dk_27 (dk_at dksX1_farthest_0 6 rfl rfl)
theorem dX1_farthest_7 : decode cX1_farthest 7 = .ok (.invokevirtual 213, 3) := dk_182 0 213 (dk_at dksX1_farthest_0 7 rfl rfl)
theorem dX1_farthest_10 : decode cX1_farthest 10 = .ok (.astore_n 2, 1) := dk_77 (dk_at dksX1_farthest_0 10 rfl rfl)
theorem dX1_farthest_11 : decode cX1_farthest 11 = .ok (.iload_n 1, 1) := dk_27 (dk_at dksX1_farthest_0 11 rfl rfl)
theorem dX1_farthest_12 : decode cX1_farthest 12 = .ok (.istore_n 3, 1) := dk_62 (dk_at dksX1_farthest_0 12 rfl rfl)
theorem dX1_farthest_13 : decode cX1_farthest 13 = .ok (.aload_n 2, 1) := dk_44 (dk_at dksX1_farthest_0 13 rfl rfl)
theorem dX1_farthest_14 : decode cX1_farthest 14 = .ok (.arraylength, 1) := dk_190 (dk_at dksX1_farthest_0 14 rfl rfl)
theorem dX1_farthest_15 : decode cX1_farthest 15 = .ok (.iconst 1, 1) := dk_4 (dk_at dksX1_farthest_0 15 rfl rfl)
theorem dX1_farthest_16 : decode cX1_farthest 16 = .ok (.isub, 1) := dk_100 (dk_at dksX1_farthest_0 16 rfl rfl)
theorem dX1_farthest_17 : decode cX1_farthest 17 = .ok (.istore 4, 2) := dk_54 4 (dk_at dksX1_farthest_0 17 rfl rfl)
theorem dX1_farthest_19 : decode cX1_farthest 19 = .ok (.iload 4, 2) := dk_21 4 (dk_at dksX1_farthest_0 19 rfl rfl)
theorem dX1_farthest_21 : decode cX1_farthest 21 = .ok (.ifCond .lt 26, 3) := dk_155 0 26 (dk_at dksX1_farthest_0 21 rfl rfl)
theorem dX1_farthest_24 : decode cX1_farthest 24 = .ok (.aload_n 2, 1) := dk_44 (dk_at dksX1_farthest_1 0 rfl rfl)
theorem dX1_farthest_25 : decode cX1_farthest 25 = .ok (.iload 4, 2) := dk_21 4 (dk_at dksX1_farthest_1 1 rfl rfl)
theorem dX1_farthest_27 : decode cX1_farthest 27 = .ok (.iaload, 1) := dk_46 (dk_at dksX1_farthest_1 3 rfl rfl)
theorem dX1_farthest_28 : decode cX1_farthest 28 = .ok (.aload_n 2, 1) := dk_44 (dk_at dksX1_farthest_1 4 rfl rfl)
theorem dX1_farthest_29 : decode cX1_farthest 29 = .ok (.iload_n 3, 1) := dk_29 (dk_at dksX1_farthest_1 5 rfl rfl)
theorem dX1_farthest_30 : decode cX1_farthest 30 = .ok (.iaload, 1) := dk_46 (dk_at dksX1_farthest_1 6 rfl rfl)
theorem dX1_farthest_31 : decode cX1_farthest 31 = .ok (.if_icmp .lt 8, 3) := dk_161 0 8 (dk_at dksX1_farthest_1 7 rfl rfl)
theorem dX1_farthest_34 : decode cX1_farthest 34 = .ok (.iload 4, 2) := dk_21 4 (dk_at dksX1_farthest_1 10 rfl rfl)
theorem dX1_farthest_36 : decode cX1_farthest 36 = .ok (.goto 4, 3) := dk_167 0 4 (dk_at dksX1_farthest_1 12 rfl rfl)
theorem dX1_farthest_39 : decode cX1_farthest 39 = .ok (.iload_n 3, 1) := dk_29 (dk_at dksX1_farthest_1 15 rfl rfl)
theorem dX1_farthest_40 : decode cX1_farthest 40 = .ok (.istore_n 3, 1) := dk_62 (dk_at dksX1_farthest_1 16 rfl rfl)
theorem dX1_farthest_41 : decode cX1_farthest 41 = .ok (.iinc 4 (-1), 3) := dk_132 4 255 (dk_at dksX1_farthest_1 17 rfl rfl)
theorem dX1_farthest_44 : decode cX1_farthest 44 = .ok (.goto (-25), 3) := dk_167 255 231 (dk_at dksX1_farthest_1 20 rfl rfl)
theorem dX1_farthest_47 : decode cX1_farthest 47 = .ok (.iload_n 3, 1) := dk_29 (dk_at dksX1_farthest_1 23 rfl rfl)
theorem dX1_farthest_48 : decode cX1_farthest 48 = .ok (.ireturn, 1) := dk_172 (dk_at dksX1_farthest_2 0 rfl rfl)
abbrev cX1_robotOf : ByteArray := prog_1_method_38_code
def yX1_robotOf : MethodName := ⟨RX1, "robotOf", "(II)I"⟩
def dkwX1_robotOf_4 : List UInt8 := [27, 182, 1, 1, 153, 0, 7, 4, 167, 0, 4, 3, 172, 45, 180, 1, 4, 172]
abbrev dktX1_robotOf_4 : List UInt8 := dkwX1_robotOf_4 ++ []
def dkwX1_robotOf_3 : List UInt8 := [153, 0, 18, 45, 180, 0, 254, 45, 180, 0, 254, 190, 4, 100, 46, 167, 0, 4, 2, 172, 42, 180, 0, 14]
abbrev dktX1_robotOf_3 : List UInt8 := dkwX1_robotOf_3 ++ dktX1_robotOf_4
def dkwX1_robotOf_2 : List UInt8 := [45, 180, 0, 239, 172, 45, 180, 0, 242, 172, 45, 180, 0, 245, 172, 45, 182, 0, 247, 172, 45, 182, 0, 250]
abbrev dktX1_robotOf_2 : List UInt8 := dkwX1_robotOf_2 ++ dktX1_robotOf_3
def dkwX1_robotOf_1 : List UInt8 := [170, 0, 0, 0, 0, 0, 100, 0, 0, 0, 0, 0, 0, 0, 5, 0, 0, 0, 39, 0, 0, 0, 44, 0, 0, 0, 49, 0, 0, 0, 54, 0, 0, 0, 59, 0, 0, 0, 83]
abbrev dktX1_robotOf_1 : List UInt8 := dkwX1_robotOf_1 ++ dktX1_robotOf_2
def dkwX1_robotOf_0 : List UInt8 := [42, 27, 182, 0, 235, 78, 28, 3, 16, 6, 184, 0, 182, 184, 0, 186, 28]
abbrev dktX1_robotOf_0 : List UInt8 := dkwX1_robotOf_0 ++ dktX1_robotOf_1
theorem dksX1_robotOf_0 : cX1_robotOf.data.toList.drop 0 = dktX1_robotOf_0 := by decide +kernel
theorem dksX1_robotOf_1 : cX1_robotOf.data.toList.drop 17 = dktX1_robotOf_1 := dk_seg dksX1_robotOf_0 17 rfl rfl
theorem dksX1_robotOf_2 : cX1_robotOf.data.toList.drop 56 = dktX1_robotOf_2 := dk_seg dksX1_robotOf_1 39 rfl rfl
theorem dksX1_robotOf_3 : cX1_robotOf.data.toList.drop 80 = dktX1_robotOf_3 := dk_seg dksX1_robotOf_2 24 rfl rfl
theorem dksX1_robotOf_4 : cX1_robotOf.data.toList.drop 104 = dktX1_robotOf_4 := dk_seg dksX1_robotOf_3 24 rfl rfl
theorem dX1_robotOf_0 : decode cX1_robotOf 0 = .ok (.aload_n 0, 1) := dk_42 (dk_at dksX1_robotOf_0 0 rfl rfl)
theorem dX1_robotOf_1 : decode cX1_robotOf 1 = .ok (.iload_n 1, 1) := dk_27 (dk_at dksX1_robotOf_0 1 rfl rfl)
theorem dX1_robotOf_2 : decode cX1_robotOf 2 = .ok (.invokevirtual 235, 3) := dk_182 0 235 (dk_at dksX1_robotOf_0 2 rfl rfl)
theorem dX1_robotOf_5 : decode cX1_robotOf 5 = .ok (.astore_n 3, 1) := dk_78 (dk_at dksX1_robotOf_0 5 rfl rfl)
theorem dX1_robotOf_6 : decode cX1_robotOf 6 = .ok (.iload_n 2, 1) := dk_28 (dk_at dksX1_robotOf_0 6 rfl rfl)
theorem dX1_robotOf_7 : decode cX1_robotOf 7 = .ok (.iconst 0, 1) := dk_3 (dk_at dksX1_robotOf_0 7 rfl rfl)
theorem dX1_robotOf_8 : decode cX1_robotOf 8 = .ok (.bipush 6, 2) := dk_16 6 (dk_at dksX1_robotOf_0 8 rfl rfl)
theorem dX1_robotOf_10 : decode cX1_robotOf 10 = .ok (.invokestatic 182, 3) := dk_184 0 182 (dk_at dksX1_robotOf_0 10 rfl rfl)
theorem dX1_robotOf_13 : decode cX1_robotOf 13 = .ok (.invokestatic 186, 3) := dk_184 0 186 (dk_at dksX1_robotOf_0 13 rfl rfl)
theorem dX1_robotOf_16 : decode cX1_robotOf 16 = .ok (.iload_n 2, 1) := dk_28 (dk_at dksX1_robotOf_0 16 rfl rfl)
theorem dX1_robotOf_17 : decode cX1_robotOf 17 = .ok (.tableswitch 100 0 5 #[39, 44, 49, 54, 59, 83], 39) := by decide +kernel
theorem dX1_robotOf_56 : decode cX1_robotOf 56 = .ok (.aload_n 3, 1) := dk_45 (dk_at dksX1_robotOf_2 0 rfl rfl)
theorem dX1_robotOf_57 : decode cX1_robotOf 57 = .ok (.getfield 239, 3) := dk_180 0 239 (dk_at dksX1_robotOf_2 1 rfl rfl)
theorem dX1_robotOf_60 : decode cX1_robotOf 60 = .ok (.ireturn, 1) := dk_172 (dk_at dksX1_robotOf_2 4 rfl rfl)
theorem dX1_robotOf_61 : decode cX1_robotOf 61 = .ok (.aload_n 3, 1) := dk_45 (dk_at dksX1_robotOf_2 5 rfl rfl)
theorem dX1_robotOf_62 : decode cX1_robotOf 62 = .ok (.getfield 242, 3) := dk_180 0 242 (dk_at dksX1_robotOf_2 6 rfl rfl)
theorem dX1_robotOf_65 : decode cX1_robotOf 65 = .ok (.ireturn, 1) := dk_172 (dk_at dksX1_robotOf_2 9 rfl rfl)
theorem dX1_robotOf_66 : decode cX1_robotOf 66 = .ok (.aload_n 3, 1) := dk_45 (dk_at dksX1_robotOf_2 10 rfl rfl)
theorem dX1_robotOf_67 : decode cX1_robotOf 67 = .ok (.getfield 245, 3) := dk_180 0 245 (dk_at dksX1_robotOf_2 11 rfl rfl)
theorem dX1_robotOf_70 : decode cX1_robotOf 70 = .ok (.ireturn, 1) := dk_172 (dk_at dksX1_robotOf_2 14 rfl rfl)
theorem dX1_robotOf_71 : decode cX1_robotOf 71 = .ok (.aload_n 3, 1) := dk_45 (dk_at dksX1_robotOf_2 15 rfl rfl)
theorem dX1_robotOf_72 : decode cX1_robotOf 72 = .ok (.invokevirtual 247, 3) := dk_182 0 247 (dk_at dksX1_robotOf_2 16 rfl rfl)
theorem dX1_robotOf_75 : decode cX1_robotOf 75 = .ok (.ireturn, 1) := dk_172 (dk_at dksX1_robotOf_2 19 rfl rfl)
theorem dX1_robotOf_76 : decode cX1_robotOf 76 = .ok (.aload_n 3, 1) := dk_45 (dk_at dksX1_robotOf_2 20 rfl rfl)
theorem dX1_robotOf_77 : decode cX1_robotOf 77 = .ok (.invokevirtual 250, 3) := dk_182 0 250 (dk_at dksX1_robotOf_2 21 rfl rfl)
theorem dX1_robotOf_80 : decode cX1_robotOf 80 = .ok (.ifCond .eq 18, 3) := dk_153 0 18 (dk_at dksX1_robotOf_3 0 rfl rfl)
theorem dX1_robotOf_83 : decode cX1_robotOf 83 = .ok (.aload_n 3, 1) := dk_45 (dk_at dksX1_robotOf_3 3 rfl rfl)
theorem dX1_robotOf_84 : decode cX1_robotOf 84 = .ok (.getfield 254, 3) := dk_180 0 254 (dk_at dksX1_robotOf_3 4 rfl rfl)
theorem dX1_robotOf_87 : decode cX1_robotOf 87 = .ok (.aload_n 3, 1) := dk_45 (dk_at dksX1_robotOf_3 7 rfl rfl)
theorem dX1_robotOf_88 : decode cX1_robotOf 88 = .ok (.getfield 254, 3) := dk_180 0 254 (dk_at dksX1_robotOf_3 8 rfl rfl)
theorem dX1_robotOf_91 : decode cX1_robotOf 91 = .ok (.arraylength, 1) := dk_190 (dk_at dksX1_robotOf_3 11 rfl rfl)
theorem dX1_robotOf_92 : decode cX1_robotOf 92 = .ok (.iconst 1, 1) := dk_4 (dk_at dksX1_robotOf_3 12 rfl rfl)
theorem dX1_robotOf_93 : decode cX1_robotOf 93 = .ok (.isub, 1) := dk_100 (dk_at dksX1_robotOf_3 13 rfl rfl)
theorem dX1_robotOf_94 : decode cX1_robotOf 94 = .ok (.iaload, 1) := dk_46 (dk_at dksX1_robotOf_3 14 rfl rfl)
theorem dX1_robotOf_95 : decode cX1_robotOf 95 = .ok (.goto 4, 3) := dk_167 0 4 (dk_at dksX1_robotOf_3 15 rfl rfl)
theorem dX1_robotOf_98 : decode cX1_robotOf 98 = .ok (.iconst (-1), 1) := dk_2 (dk_at dksX1_robotOf_3 18 rfl rfl)
theorem dX1_robotOf_99 : decode cX1_robotOf 99 = .ok (.ireturn, 1) := dk_172 (dk_at dksX1_robotOf_3 19 rfl rfl)
theorem dX1_robotOf_100 : decode cX1_robotOf 100 = .ok (.aload_n 0, 1) := dk_42 (dk_at dksX1_robotOf_3 20 rfl rfl)
theorem dX1_robotOf_101 : decode cX1_robotOf 101 = .ok (.getfield 14, 3) := dk_180 0 14 (dk_at dksX1_robotOf_3 21 rfl rfl)
theorem dX1_robotOf_104 : decode cX1_robotOf 104 = .ok (.iload_n 1, 1) := dk_27 (dk_at dksX1_robotOf_4 0 rfl rfl)
theorem dX1_robotOf_105 : decode cX1_robotOf 105 = .ok (.invokevirtual 257, 3) := dk_182 1 1 (dk_at dksX1_robotOf_4 1 rfl rfl)
theorem dX1_robotOf_108 : decode cX1_robotOf 108 = .ok (.ifCond .eq 7, 3) := dk_153 0 7 (dk_at dksX1_robotOf_4 4 rfl rfl)
theorem dX1_robotOf_111 : decode cX1_robotOf 111 = .ok (.iconst 1, 1) := dk_4 (dk_at dksX1_robotOf_4 7 rfl rfl)
theorem dX1_robotOf_112 : decode cX1_robotOf 112 = .ok (.goto 4, 3) := dk_167 0 4 (dk_at dksX1_robotOf_4 8 rfl rfl)
theorem dX1_robotOf_115 : decode cX1_robotOf 115 = .ok (.iconst 0, 1) := dk_3 (dk_at dksX1_robotOf_4 11 rfl rfl)
theorem dX1_robotOf_116 : decode cX1_robotOf 116 = .ok (.ireturn, 1) := dk_172 (dk_at dksX1_robotOf_4 12 rfl rfl)
theorem dX1_robotOf_117 : decode cX1_robotOf 117 = .ok (.aload_n 3, 1) := dk_45 (dk_at dksX1_robotOf_4 13 rfl rfl)
theorem dX1_robotOf_118 : decode cX1_robotOf 118 = .ok (.getfield 260, 3) := dk_180 1 4 (dk_at dksX1_robotOf_4 14 rfl rfl)
theorem dX1_robotOf_121 : decode cX1_robotOf 121 = .ok (.ireturn, 1) := dk_172 (dk_at dksX1_robotOf_4 17 rfl rfl)
abbrev cX1_getRobot : ByteArray := prog_1_method_37_code
def yX1_getRobot : MethodName := ⟨RX1, "getRobot", "(I)LRobotAisles$Robot;"⟩
def dkwX1_getRobot_1 : List UInt8 := [192, 0, 233, 176]
abbrev dktX1_getRobot_1 : List UInt8 := dkwX1_getRobot_1 ++ []
def dkwX1_getRobot_0 : List UInt8 := [42, 180, 0, 14, 27, 182, 0, 224, 184, 0, 172, 42, 180, 0, 14, 180, 0, 227, 27, 182, 0, 230]
abbrev dktX1_getRobot_0 : List UInt8 := dkwX1_getRobot_0 ++ dktX1_getRobot_1
theorem dksX1_getRobot_0 : cX1_getRobot.data.toList.drop 0 = dktX1_getRobot_0 := by decide +kernel
theorem dksX1_getRobot_1 : cX1_getRobot.data.toList.drop 22 = dktX1_getRobot_1 := dk_seg dksX1_getRobot_0 22 rfl rfl
theorem dX1_getRobot_0 : decode cX1_getRobot 0 = .ok (.aload_n 0, 1) := dk_42 (dk_at dksX1_getRobot_0 0 rfl rfl)
theorem dX1_getRobot_1 : decode cX1_getRobot 1 = .ok (.getfield 14, 3) := dk_180 0 14 (dk_at dksX1_getRobot_0 1 rfl rfl)
theorem dX1_getRobot_4 : decode cX1_getRobot 4 = .ok (.iload_n 1, 1) := dk_27 (dk_at dksX1_getRobot_0 4 rfl rfl)
theorem dX1_getRobot_5 : decode cX1_getRobot 5 = .ok (.invokevirtual 224, 3) := dk_182 0 224 (dk_at dksX1_getRobot_0 5 rfl rfl)
theorem dX1_getRobot_8 : decode cX1_getRobot 8 = .ok (.invokestatic 172, 3) := dk_184 0 172 (dk_at dksX1_getRobot_0 8 rfl rfl)
theorem dX1_getRobot_11 : decode cX1_getRobot 11 = .ok (.aload_n 0, 1) := dk_42 (dk_at dksX1_getRobot_0 11 rfl rfl)
theorem dX1_getRobot_12 : decode cX1_getRobot 12 = .ok (.getfield 14, 3) := dk_180 0 14 (dk_at dksX1_getRobot_0 12 rfl rfl)
theorem dX1_getRobot_15 : decode cX1_getRobot 15 = .ok (.getfield 227, 3) := dk_180 0 227 (dk_at dksX1_getRobot_0 15 rfl rfl)
theorem dX1_getRobot_18 : decode cX1_getRobot 18 = .ok (.iload_n 1, 1) := dk_27 (dk_at dksX1_getRobot_0 18 rfl rfl)
theorem dX1_getRobot_19 : decode cX1_getRobot 19 = .ok (.invokevirtual 230, 3) := dk_182 0 230 (dk_at dksX1_getRobot_0 19 rfl rfl)
theorem dX1_getRobot_22 : decode cX1_getRobot 22 = .ok (.checkcast 233, 3) := dk_192 0 233 (dk_at dksX1_getRobot_1 0 rfl rfl)
theorem dX1_getRobot_25 : decode cX1_getRobot 25 = .ok (.areturn, 1) := dk_176 (dk_at dksX1_getRobot_1 3 rfl rfl)
abbrev cX1_planned : ByteArray := prog_1_method_39_code
def yX1_planned : MethodName := ⟨RX1, "planned", "(II)I"⟩
def dkwX1_planned_0 : List UInt8 := [42, 27, 182, 0, 235, 78, 28, 155, 0, 7, 4, 167, 0, 4, 3, 184, 0, 186, 45, 28, 182, 1, 7, 172]
abbrev dktX1_planned_0 : List UInt8 := dkwX1_planned_0 ++ []
theorem dksX1_planned_0 : cX1_planned.data.toList.drop 0 = dktX1_planned_0 := by decide +kernel
theorem dX1_planned_0 : decode cX1_planned 0 = .ok (.aload_n 0, 1) := dk_42 (dk_at dksX1_planned_0 0 rfl rfl)
theorem dX1_planned_1 : decode cX1_planned 1 = .ok (.iload_n 1, 1) := dk_27 (dk_at dksX1_planned_0 1 rfl rfl)
theorem dX1_planned_2 : decode cX1_planned 2 = .ok (.invokevirtual 235, 3) := dk_182 0 235 (dk_at dksX1_planned_0 2 rfl rfl)
theorem dX1_planned_5 : decode cX1_planned 5 = .ok (.astore_n 3, 1) := dk_78 (dk_at dksX1_planned_0 5 rfl rfl)
theorem dX1_planned_6 : decode cX1_planned 6 = .ok (.iload_n 2, 1) := dk_28 (dk_at dksX1_planned_0 6 rfl rfl)
theorem dX1_planned_7 : decode cX1_planned 7 = .ok (.ifCond .lt 7, 3) := dk_155 0 7 (dk_at dksX1_planned_0 7 rfl rfl)
theorem dX1_planned_10 : decode cX1_planned 10 = .ok (.iconst 1, 1) := dk_4 (dk_at dksX1_planned_0 10 rfl rfl)
theorem dX1_planned_11 : decode cX1_planned 11 = .ok (.goto 4, 3) := dk_167 0 4 (dk_at dksX1_planned_0 11 rfl rfl)
theorem dX1_planned_14 : decode cX1_planned 14 = .ok (.iconst 0, 1) := dk_3 (dk_at dksX1_planned_0 14 rfl rfl)
theorem dX1_planned_15 : decode cX1_planned 15 = .ok (.invokestatic 186, 3) := dk_184 0 186 (dk_at dksX1_planned_0 15 rfl rfl)
theorem dX1_planned_18 : decode cX1_planned 18 = .ok (.aload_n 3, 1) := dk_45 (dk_at dksX1_planned_0 18 rfl rfl)
theorem dX1_planned_19 : decode cX1_planned 19 = .ok (.iload_n 2, 1) := dk_28 (dk_at dksX1_planned_0 19 rfl rfl)
theorem dX1_planned_20 : decode cX1_planned 20 = .ok (.invokevirtual 263, 3) := dk_182 1 7 (dk_at dksX1_planned_0 20 rfl rfl)
theorem dX1_planned_23 : decode cX1_planned 23 = .ok (.ireturn, 1) := dk_172 (dk_at dksX1_planned_0 23 rfl rfl)
abbrev cX1_reserved : ByteArray := prog_1_method_40_code
def yX1_reserved : MethodName := ⟨RX1, "reserved", "(II)I"⟩
def dkwX1_reserved_1 : List UInt8 := [182, 0, 195, 172]
abbrev dktX1_reserved_1 : List UInt8 := dkwX1_reserved_1 ++ []
def dkwX1_reserved_0 : List UInt8 := [42, 27, 182, 0, 178, 28, 155, 0, 7, 4, 167, 0, 4, 3, 184, 0, 186, 42, 180, 0, 14, 27, 28, 2]
abbrev dktX1_reserved_0 : List UInt8 := dkwX1_reserved_0 ++ dktX1_reserved_1
theorem dksX1_reserved_0 : cX1_reserved.data.toList.drop 0 = dktX1_reserved_0 := by decide +kernel
theorem dksX1_reserved_1 : cX1_reserved.data.toList.drop 24 = dktX1_reserved_1 := dk_seg dksX1_reserved_0 24 rfl rfl
theorem dX1_reserved_0 : decode cX1_reserved 0 = .ok (.aload_n 0, 1) := dk_42 (dk_at dksX1_reserved_0 0 rfl rfl)
theorem dX1_reserved_1 : decode cX1_reserved 1 = .ok (.iload_n 1, 1) := dk_27 (dk_at dksX1_reserved_0 1 rfl rfl)
theorem dX1_reserved_2 : decode cX1_reserved 2 = .ok (.invokevirtual 178, 3) := dk_182 0 178 (dk_at dksX1_reserved_0 2 rfl rfl)
theorem dX1_reserved_5 : decode cX1_reserved 5 = .ok (.iload_n 2, 1) := dk_28 (dk_at dksX1_reserved_0 5 rfl rfl)
theorem dX1_reserved_6 : decode cX1_reserved 6 = .ok (.ifCond .lt 7, 3) := dk_155 0 7 (dk_at dksX1_reserved_0 6 rfl rfl)
theorem dX1_reserved_9 : decode cX1_reserved 9 = .ok (.iconst 1, 1) := dk_4 (dk_at dksX1_reserved_0 9 rfl rfl)
theorem dX1_reserved_10 : decode cX1_reserved 10 = .ok (.goto 4, 3) := dk_167 0 4 (dk_at dksX1_reserved_0 10 rfl rfl)
theorem dX1_reserved_13 : decode cX1_reserved 13 = .ok (.iconst 0, 1) := dk_3 (dk_at dksX1_reserved_0 13 rfl rfl)
theorem dX1_reserved_14 : decode cX1_reserved 14 = .ok (.invokestatic 186, 3) := dk_184 0 186 (dk_at dksX1_reserved_0 14 rfl rfl)
theorem dX1_reserved_17 : decode cX1_reserved 17 = .ok (.aload_n 0, 1) := dk_42 (dk_at dksX1_reserved_0 17 rfl rfl)
theorem dX1_reserved_18 : decode cX1_reserved 18 = .ok (.getfield 14, 3) := dk_180 0 14 (dk_at dksX1_reserved_0 18 rfl rfl)
theorem dX1_reserved_21 : decode cX1_reserved 21 = .ok (.iload_n 1, 1) := dk_27 (dk_at dksX1_reserved_0 21 rfl rfl)
theorem dX1_reserved_22 : decode cX1_reserved 22 = .ok (.iload_n 2, 1) := dk_28 (dk_at dksX1_reserved_0 22 rfl rfl)
theorem dX1_reserved_23 : decode cX1_reserved 23 = .ok (.iconst (-1), 1) := dk_2 (dk_at dksX1_reserved_0 23 rfl rfl)
theorem dX1_reserved_24 : decode cX1_reserved 24 = .ok (.invokevirtual 195, 3) := dk_182 0 195 (dk_at dksX1_reserved_1 0 rfl rfl)
theorem dX1_reserved_27 : decode cX1_reserved 27 = .ok (.ireturn, 1) := dk_172 (dk_at dksX1_reserved_1 3 rfl rfl)
abbrev cX1_arrival : ByteArray := prog_1_method_42_code
def yX1_arrival : MethodName := ⟨RX1, "arrival", "(II)I"⟩
def dkwX1_arrival_0 : List UInt8 := [42, 27, 28, 3, 182, 1, 21, 172]
abbrev dktX1_arrival_0 : List UInt8 := dkwX1_arrival_0 ++ []
theorem dksX1_arrival_0 : cX1_arrival.data.toList.drop 0 = dktX1_arrival_0 := by decide +kernel
theorem dX1_arrival_0 : decode cX1_arrival 0 = .ok (.aload_n 0, 1) := dk_42 (dk_at dksX1_arrival_0 0 rfl rfl)
theorem dX1_arrival_1 : decode cX1_arrival 1 = .ok (.iload_n 1, 1) := dk_27 (dk_at dksX1_arrival_0 1 rfl rfl)
theorem dX1_arrival_2 : decode cX1_arrival 2 = .ok (.iload_n 2, 1) := dk_28 (dk_at dksX1_arrival_0 2 rfl rfl)
theorem dX1_arrival_3 : decode cX1_arrival 3 = .ok (.iconst 0, 1) := dk_3 (dk_at dksX1_arrival_0 3 rfl rfl)
theorem dX1_arrival_4 : decode cX1_arrival 4 = .ok (.invokevirtual 277, 3) := dk_182 1 21 (dk_at dksX1_arrival_0 4 rfl rfl)
theorem dX1_arrival_7 : decode cX1_arrival 7 = .ok (.ireturn, 1) := dk_172 (dk_at dksX1_arrival_0 7 rfl rfl)
abbrev cX1_arrival_2 : ByteArray := prog_1_method_41_code
def yX1_arrival_2 : MethodName := ⟨RX1, "arrival", "(IIZ)I"⟩
def dkwX1_arrival_2_3 : List UInt8 := [159, 0, 7, 4, 167, 0, 4, 3, 184, 0, 169, 21, 6, 172]
abbrev dktX1_arrival_2_3 : List UInt8 := dkwX1_arrival_2_3 ++ []
def dkwX1_arrival_2_2 : List UInt8 := [58, 5, 29, 153, 0, 11, 25, 5, 182, 1, 15, 167, 0, 8, 25, 5, 182, 1, 18, 54, 6, 21, 6, 2]
abbrev dktX1_arrival_2_2 : List UInt8 := dkwX1_arrival_2_2 ++ dktX1_arrival_2_3
def dkwX1_arrival_2_1 : List UInt8 := [25, 4, 180, 0, 239, 28, 160, 0, 5, 3, 172, 187, 1, 10, 89, 42, 180, 0, 14, 27, 28, 183, 1, 12]
abbrev dktX1_arrival_2_1 : List UInt8 := dkwX1_arrival_2_1 ++ dktX1_arrival_2_2
def dkwX1_arrival_2_0 : List UInt8 := [42, 27, 182, 0, 235, 58, 4, 42, 28, 182, 0, 178, 42, 180, 0, 14, 28, 182, 0, 192, 184, 0, 169]
abbrev dktX1_arrival_2_0 : List UInt8 := dkwX1_arrival_2_0 ++ dktX1_arrival_2_1
theorem dksX1_arrival_2_0 : cX1_arrival_2.data.toList.drop 0 = dktX1_arrival_2_0 := by decide +kernel
theorem dksX1_arrival_2_1 : cX1_arrival_2.data.toList.drop 23 = dktX1_arrival_2_1 := dk_seg dksX1_arrival_2_0 23 rfl rfl
theorem dksX1_arrival_2_2 : cX1_arrival_2.data.toList.drop 47 = dktX1_arrival_2_2 := dk_seg dksX1_arrival_2_1 24 rfl rfl
theorem dksX1_arrival_2_3 : cX1_arrival_2.data.toList.drop 71 = dktX1_arrival_2_3 := dk_seg dksX1_arrival_2_2 24 rfl rfl
theorem dX1_arrival_2_0 : decode cX1_arrival_2 0 = .ok (.aload_n 0, 1) := dk_42 (dk_at dksX1_arrival_2_0 0 rfl rfl)
theorem dX1_arrival_2_1 : decode cX1_arrival_2 1 = .ok (.iload_n 1, 1) := dk_27 (dk_at dksX1_arrival_2_0 1 rfl rfl)
theorem dX1_arrival_2_2 : decode cX1_arrival_2 2 = .ok (.invokevirtual 235, 3) := dk_182 0 235 (dk_at dksX1_arrival_2_0 2 rfl rfl)
theorem dX1_arrival_2_5 : decode cX1_arrival_2 5 = .ok (.astore 4, 2) := dk_58 4 (dk_at dksX1_arrival_2_0 5 rfl rfl)
theorem dX1_arrival_2_7 : decode cX1_arrival_2 7 = .ok (.aload_n 0, 1) := dk_42 (dk_at dksX1_arrival_2_0 7 rfl rfl)
theorem dX1_arrival_2_8 : decode cX1_arrival_2 8 = .ok (.iload_n 2, 1) := dk_28 (dk_at dksX1_arrival_2_0 8 rfl rfl)
theorem dX1_arrival_2_9 : decode cX1_arrival_2 9 = .ok (.invokevirtual 178, 3) := dk_182 0 178 (dk_at dksX1_arrival_2_0 9 rfl rfl)
theorem dX1_arrival_2_12 : decode cX1_arrival_2 12 = .ok (.aload_n 0, 1) := dk_42 (dk_at dksX1_arrival_2_0 12 rfl rfl)
theorem dX1_arrival_2_13 : decode cX1_arrival_2 13 = .ok (.getfield 14, 3) := dk_180 0 14 (dk_at dksX1_arrival_2_0 13 rfl rfl)
theorem dX1_arrival_2_16 : decode cX1_arrival_2 16 = .ok (.iload_n 2, 1) := dk_28 (dk_at dksX1_arrival_2_0 16 rfl rfl)
theorem dX1_arrival_2_17 : decode cX1_arrival_2 17 = .ok (.invokevirtual 192, 3) := dk_182 0 192 (dk_at dksX1_arrival_2_0 17 rfl rfl)
theorem dX1_arrival_2_20 : decode cX1_arrival_2 20 = .ok (.invokestatic 169, 3) := dk_184 0 169 (dk_at dksX1_arrival_2_0 20 rfl rfl)
theorem dX1_arrival_2_23 : decode cX1_arrival_2 23 = .ok (.aload 4, 2) := dk_25 4 (dk_at dksX1_arrival_2_1 0 rfl rfl)
theorem dX1_arrival_2_25 : decode cX1_arrival_2 25 = .ok (.getfield 239, 3) := dk_180 0 239 (dk_at dksX1_arrival_2_1 2 rfl rfl)
theorem dX1_arrival_2_28 : decode cX1_arrival_2 28 = .ok (.iload_n 2, 1) := dk_28 (dk_at dksX1_arrival_2_1 5 rfl rfl)
theorem dX1_arrival_2_29 : decode cX1_arrival_2 29 = .ok (.if_icmp .ne 5, 3) := dk_160 0 5 (dk_at dksX1_arrival_2_1 6 rfl rfl)
theorem dX1_arrival_2_32 : decode cX1_arrival_2 32 = .ok (.iconst 0, 1) := dk_3 (dk_at dksX1_arrival_2_1 9 rfl rfl)
theorem dX1_arrival_2_33 : decode cX1_arrival_2 33 = .ok (.ireturn, 1) := dk_172 (dk_at dksX1_arrival_2_1 10 rfl rfl)
theorem dX1_arrival_2_34 : decode cX1_arrival_2 34 = .ok (.new 266, 3) := dk_187 1 10 (dk_at dksX1_arrival_2_1 11 rfl rfl)
theorem dX1_arrival_2_37 : decode cX1_arrival_2 37 = .ok (.dup, 1) := dk_89 (dk_at dksX1_arrival_2_1 14 rfl rfl)
theorem dX1_arrival_2_38 : decode cX1_arrival_2 38 = .ok (.aload_n 0, 1) := dk_42 (dk_at dksX1_arrival_2_1 15 rfl rfl)
theorem dX1_arrival_2_39 : decode cX1_arrival_2 39 = .ok (.getfield 14, 3) := dk_180 0 14 (dk_at dksX1_arrival_2_1 16 rfl rfl)
theorem dX1_arrival_2_42 : decode cX1_arrival_2 42 = .ok (.iload_n 1, 1) := dk_27 (dk_at dksX1_arrival_2_1 19 rfl rfl)
theorem dX1_arrival_2_43 : decode cX1_arrival_2 43 = .ok (.iload_n 2, 1) := dk_28 (dk_at dksX1_arrival_2_1 20 rfl rfl)
theorem dX1_arrival_2_44 : decode cX1_arrival_2 44 = .ok (.invokespecial 268, 3) := dk_183 1 12 (dk_at dksX1_arrival_2_1 21 rfl rfl)
theorem dX1_arrival_2_47 : decode cX1_arrival_2 47 = .ok (.astore 5, 2) := dk_58 5 (dk_at dksX1_arrival_2_2 0 rfl rfl)
theorem dX1_arrival_2_49 : decode cX1_arrival_2 49 = .ok (.iload_n 3, 1) := dk_29 (dk_at dksX1_arrival_2_2 2 rfl rfl)
theorem dX1_arrival_2_50 : decode cX1_arrival_2 50 = .ok (.ifCond .eq 11, 3) := dk_153 0 11 (dk_at dksX1_arrival_2_2 3 rfl rfl)
theorem dX1_arrival_2_53 : decode cX1_arrival_2 53 = .ok (.aload 5, 2) := dk_25 5 (dk_at dksX1_arrival_2_2 6 rfl rfl)
theorem dX1_arrival_2_55 : decode cX1_arrival_2 55 = .ok (.invokevirtual 271, 3) := dk_182 1 15 (dk_at dksX1_arrival_2_2 8 rfl rfl)
theorem dX1_arrival_2_58 : decode cX1_arrival_2 58 = .ok (.goto 8, 3) := dk_167 0 8 (dk_at dksX1_arrival_2_2 11 rfl rfl)
theorem dX1_arrival_2_61 : decode cX1_arrival_2 61 = .ok (.aload 5, 2) := dk_25 5 (dk_at dksX1_arrival_2_2 14 rfl rfl)
theorem dX1_arrival_2_63 : decode cX1_arrival_2 63 = .ok (.invokevirtual 274, 3) := dk_182 1 18 (dk_at dksX1_arrival_2_2 16 rfl rfl)
theorem dX1_arrival_2_66 : decode cX1_arrival_2 66 = .ok (.istore 6, 2) := dk_54 6 (dk_at dksX1_arrival_2_2 19 rfl rfl)
theorem dX1_arrival_2_68 : decode cX1_arrival_2 68 = .ok (.iload 6, 2) := dk_21 6 (dk_at dksX1_arrival_2_2 21 rfl rfl)
theorem dX1_arrival_2_70 : decode cX1_arrival_2 70 = .ok (.iconst (-1), 1) := dk_2 (dk_at dksX1_arrival_2_2 23 rfl rfl)
theorem dX1_arrival_2_71 : decode cX1_arrival_2 71 = .ok (.if_icmp .eq 7, 3) := dk_159 0 7 (dk_at dksX1_arrival_2_3 0 rfl rfl)
theorem dX1_arrival_2_74 : decode cX1_arrival_2 74 = .ok (.iconst 1, 1) := dk_4 (dk_at dksX1_arrival_2_3 3 rfl rfl)
theorem dX1_arrival_2_75 : decode cX1_arrival_2 75 = .ok (.goto 4, 3) := dk_167 0 4 (dk_at dksX1_arrival_2_3 4 rfl rfl)
theorem dX1_arrival_2_78 : decode cX1_arrival_2 78 = .ok (.iconst 0, 1) := dk_3 (dk_at dksX1_arrival_2_3 7 rfl rfl)
theorem dX1_arrival_2_79 : decode cX1_arrival_2 79 = .ok (.invokestatic 169, 3) := dk_184 0 169 (dk_at dksX1_arrival_2_3 8 rfl rfl)
theorem dX1_arrival_2_82 : decode cX1_arrival_2 82 = .ok (.iload 6, 2) := dk_21 6 (dk_at dksX1_arrival_2_3 11 rfl rfl)
theorem dX1_arrival_2_84 : decode cX1_arrival_2 84 = .ok (.ireturn, 1) := dk_172 (dk_at dksX1_arrival_2_3 13 rfl rfl)
abbrev cX1_arrivalAgain : ByteArray := prog_1_method_43_code
def yX1_arrivalAgain : MethodName := ⟨RX1, "arrivalAgain", "(II)I"⟩
def dkwX1_arrivalAgain_0 : List UInt8 := [42, 27, 28, 4, 182, 1, 21, 172]
abbrev dktX1_arrivalAgain_0 : List UInt8 := dkwX1_arrivalAgain_0 ++ []
theorem dksX1_arrivalAgain_0 : cX1_arrivalAgain.data.toList.drop 0 = dktX1_arrivalAgain_0 := by decide +kernel
theorem dX1_arrivalAgain_0 : decode cX1_arrivalAgain 0 = .ok (.aload_n 0, 1) := dk_42 (dk_at dksX1_arrivalAgain_0 0 rfl rfl)
theorem dX1_arrivalAgain_1 : decode cX1_arrivalAgain 1 = .ok (.iload_n 1, 1) := dk_27 (dk_at dksX1_arrivalAgain_0 1 rfl rfl)
theorem dX1_arrivalAgain_2 : decode cX1_arrivalAgain 2 = .ok (.iload_n 2, 1) := dk_28 (dk_at dksX1_arrivalAgain_0 2 rfl rfl)
theorem dX1_arrivalAgain_3 : decode cX1_arrivalAgain 3 = .ok (.iconst 1, 1) := dk_4 (dk_at dksX1_arrivalAgain_0 3 rfl rfl)
theorem dX1_arrivalAgain_4 : decode cX1_arrivalAgain 4 = .ok (.invokevirtual 277, 3) := dk_182 1 21 (dk_at dksX1_arrivalAgain_0 4 rfl rfl)
theorem dX1_arrivalAgain_7 : decode cX1_arrivalAgain 7 = .ok (.ireturn, 1) := dk_172 (dk_at dksX1_arrivalAgain_0 7 rfl rfl)
abbrev cX1_orderOf : ByteArray := prog_1_method_46_code
def yX1_orderOf : MethodName := ⟨RX1, "orderOf", "(II)I"⟩
def dkwX1_orderOf_3 : List UInt8 := [182, 1, 48, 172, 45, 180, 1, 51, 172]
abbrev dktX1_orderOf_3 : List UInt8 := dkwX1_orderOf_3 ++ []
def dkwX1_orderOf_2 : List UInt8 := [45, 180, 1, 36, 172, 45, 180, 1, 39, 190, 172, 45, 180, 1, 42, 172, 45, 180, 1, 45, 172, 42, 27]
abbrev dktX1_orderOf_2 : List UInt8 := dkwX1_orderOf_2 ++ dktX1_orderOf_3
def dkwX1_orderOf_1 : List UInt8 := [170, 0, 0, 0, 0, 0, 0, 63, 0, 0, 0, 0, 0, 0, 0, 4, 0, 0, 0, 36, 0, 0, 0, 41, 0, 0, 0, 47, 0, 0, 0, 52, 0, 0, 0, 57]
abbrev dktX1_orderOf_1 : List UInt8 := dkwX1_orderOf_1 ++ dktX1_orderOf_2
def dkwX1_orderOf_0 : List UInt8 := [42, 27, 182, 1, 32, 78, 28, 3, 8, 184, 0, 182, 184, 0, 186, 28]
abbrev dktX1_orderOf_0 : List UInt8 := dkwX1_orderOf_0 ++ dktX1_orderOf_1
theorem dksX1_orderOf_0 : cX1_orderOf.data.toList.drop 0 = dktX1_orderOf_0 := by decide +kernel
theorem dksX1_orderOf_1 : cX1_orderOf.data.toList.drop 16 = dktX1_orderOf_1 := dk_seg dksX1_orderOf_0 16 rfl rfl
theorem dksX1_orderOf_2 : cX1_orderOf.data.toList.drop 52 = dktX1_orderOf_2 := dk_seg dksX1_orderOf_1 36 rfl rfl
theorem dksX1_orderOf_3 : cX1_orderOf.data.toList.drop 75 = dktX1_orderOf_3 := dk_seg dksX1_orderOf_2 23 rfl rfl
theorem dX1_orderOf_0 : decode cX1_orderOf 0 = .ok (.aload_n 0, 1) := dk_42 (dk_at dksX1_orderOf_0 0 rfl rfl)
theorem dX1_orderOf_1 : decode cX1_orderOf 1 = .ok (.iload_n 1, 1) := dk_27 (dk_at dksX1_orderOf_0 1 rfl rfl)
theorem dX1_orderOf_2 : decode cX1_orderOf 2 = .ok (.invokevirtual 288, 3) := dk_182 1 32 (dk_at dksX1_orderOf_0 2 rfl rfl)
theorem dX1_orderOf_5 : decode cX1_orderOf 5 = .ok (.astore_n 3, 1) := dk_78 (dk_at dksX1_orderOf_0 5 rfl rfl)
theorem dX1_orderOf_6 : decode cX1_orderOf 6 = .ok (.iload_n 2, 1) := dk_28 (dk_at dksX1_orderOf_0 6 rfl rfl)
theorem dX1_orderOf_7 : decode cX1_orderOf 7 = .ok (.iconst 0, 1) := dk_3 (dk_at dksX1_orderOf_0 7 rfl rfl)
theorem dX1_orderOf_8 : decode cX1_orderOf 8 = .ok (.iconst 5, 1) := dk_8 (dk_at dksX1_orderOf_0 8 rfl rfl)
theorem dX1_orderOf_9 : decode cX1_orderOf 9 = .ok (.invokestatic 182, 3) := dk_184 0 182 (dk_at dksX1_orderOf_0 9 rfl rfl)
theorem dX1_orderOf_12 : decode cX1_orderOf 12 = .ok (.invokestatic 186, 3) := dk_184 0 186 (dk_at dksX1_orderOf_0 12 rfl rfl)
theorem dX1_orderOf_15 : decode cX1_orderOf 15 = .ok (.iload_n 2, 1) := dk_28 (dk_at dksX1_orderOf_0 15 rfl rfl)
theorem dX1_orderOf_16 : decode cX1_orderOf 16 = .ok (.tableswitch 63 0 4 #[36, 41, 47, 52, 57], 36) := by decide +kernel
theorem dX1_orderOf_52 : decode cX1_orderOf 52 = .ok (.aload_n 3, 1) := dk_45 (dk_at dksX1_orderOf_2 0 rfl rfl)
theorem dX1_orderOf_53 : decode cX1_orderOf 53 = .ok (.getfield 292, 3) := dk_180 1 36 (dk_at dksX1_orderOf_2 1 rfl rfl)
theorem dX1_orderOf_56 : decode cX1_orderOf 56 = .ok (.ireturn, 1) := dk_172 (dk_at dksX1_orderOf_2 4 rfl rfl)
theorem dX1_orderOf_57 : decode cX1_orderOf 57 = .ok (.aload_n 3, 1) := dk_45 (dk_at dksX1_orderOf_2 5 rfl rfl)
theorem dX1_orderOf_58 : decode cX1_orderOf 58 = .ok (.getfield 295, 3) := dk_180 1 39 (dk_at dksX1_orderOf_2 6 rfl rfl)
theorem dX1_orderOf_61 : decode cX1_orderOf 61 = .ok (.arraylength, 1) := dk_190 (dk_at dksX1_orderOf_2 9 rfl rfl)
theorem dX1_orderOf_62 : decode cX1_orderOf 62 = .ok (.ireturn, 1) := dk_172 (dk_at dksX1_orderOf_2 10 rfl rfl)
theorem dX1_orderOf_63 : decode cX1_orderOf 63 = .ok (.aload_n 3, 1) := dk_45 (dk_at dksX1_orderOf_2 11 rfl rfl)
theorem dX1_orderOf_64 : decode cX1_orderOf 64 = .ok (.getfield 298, 3) := dk_180 1 42 (dk_at dksX1_orderOf_2 12 rfl rfl)
theorem dX1_orderOf_67 : decode cX1_orderOf 67 = .ok (.ireturn, 1) := dk_172 (dk_at dksX1_orderOf_2 15 rfl rfl)
theorem dX1_orderOf_68 : decode cX1_orderOf 68 = .ok (.aload_n 3, 1) := dk_45 (dk_at dksX1_orderOf_2 16 rfl rfl)
theorem dX1_orderOf_69 : decode cX1_orderOf 69 = .ok (.getfield 301, 3) := dk_180 1 45 (dk_at dksX1_orderOf_2 17 rfl rfl)
theorem dX1_orderOf_72 : decode cX1_orderOf 72 = .ok (.ireturn, 1) := dk_172 (dk_at dksX1_orderOf_2 20 rfl rfl)
theorem dX1_orderOf_73 : decode cX1_orderOf 73 = .ok (.aload_n 0, 1) := dk_42 (dk_at dksX1_orderOf_2 21 rfl rfl)
theorem dX1_orderOf_74 : decode cX1_orderOf 74 = .ok (.iload_n 1, 1) := dk_27 (dk_at dksX1_orderOf_2 22 rfl rfl)
theorem dX1_orderOf_75 : decode cX1_orderOf 75 = .ok (.invokevirtual 304, 3) := dk_182 1 48 (dk_at dksX1_orderOf_3 0 rfl rfl)
theorem dX1_orderOf_78 : decode cX1_orderOf 78 = .ok (.ireturn, 1) := dk_172 (dk_at dksX1_orderOf_3 3 rfl rfl)
theorem dX1_orderOf_79 : decode cX1_orderOf 79 = .ok (.aload_n 3, 1) := dk_45 (dk_at dksX1_orderOf_3 4 rfl rfl)
theorem dX1_orderOf_80 : decode cX1_orderOf 80 = .ok (.getfield 307, 3) := dk_180 1 51 (dk_at dksX1_orderOf_3 5 rfl rfl)
theorem dX1_orderOf_83 : decode cX1_orderOf 83 = .ok (.ireturn, 1) := dk_172 (dk_at dksX1_orderOf_3 8 rfl rfl)
abbrev cX1_getOrder : ByteArray := prog_1_method_44_code
def yX1_getOrder : MethodName := ⟨RX1, "getOrder", "(I)LRobotAisles$Order;"⟩
def dkwX1_getOrder_1 : List UInt8 := [192, 1, 30, 176]
abbrev dktX1_getOrder_1 : List UInt8 := dkwX1_getOrder_1 ++ []
def dkwX1_getOrder_0 : List UInt8 := [42, 180, 0, 14, 27, 182, 1, 24, 184, 0, 172, 42, 180, 0, 14, 180, 1, 27, 27, 182, 0, 230]
abbrev dktX1_getOrder_0 : List UInt8 := dkwX1_getOrder_0 ++ dktX1_getOrder_1
theorem dksX1_getOrder_0 : cX1_getOrder.data.toList.drop 0 = dktX1_getOrder_0 := by decide +kernel
theorem dksX1_getOrder_1 : cX1_getOrder.data.toList.drop 22 = dktX1_getOrder_1 := dk_seg dksX1_getOrder_0 22 rfl rfl
theorem dX1_getOrder_0 : decode cX1_getOrder 0 = .ok (.aload_n 0, 1) := dk_42 (dk_at dksX1_getOrder_0 0 rfl rfl)
theorem dX1_getOrder_1 : decode cX1_getOrder 1 = .ok (.getfield 14, 3) := dk_180 0 14 (dk_at dksX1_getOrder_0 1 rfl rfl)
theorem dX1_getOrder_4 : decode cX1_getOrder 4 = .ok (.iload_n 1, 1) := dk_27 (dk_at dksX1_getOrder_0 4 rfl rfl)
theorem dX1_getOrder_5 : decode cX1_getOrder 5 = .ok (.invokevirtual 280, 3) := dk_182 1 24 (dk_at dksX1_getOrder_0 5 rfl rfl)
theorem dX1_getOrder_8 : decode cX1_getOrder 8 = .ok (.invokestatic 172, 3) := dk_184 0 172 (dk_at dksX1_getOrder_0 8 rfl rfl)
theorem dX1_getOrder_11 : decode cX1_getOrder 11 = .ok (.aload_n 0, 1) := dk_42 (dk_at dksX1_getOrder_0 11 rfl rfl)
theorem dX1_getOrder_12 : decode cX1_getOrder 12 = .ok (.getfield 14, 3) := dk_180 0 14 (dk_at dksX1_getOrder_0 12 rfl rfl)
theorem dX1_getOrder_15 : decode cX1_getOrder 15 = .ok (.getfield 283, 3) := dk_180 1 27 (dk_at dksX1_getOrder_0 15 rfl rfl)
theorem dX1_getOrder_18 : decode cX1_getOrder 18 = .ok (.iload_n 1, 1) := dk_27 (dk_at dksX1_getOrder_0 18 rfl rfl)
theorem dX1_getOrder_19 : decode cX1_getOrder 19 = .ok (.invokevirtual 230, 3) := dk_182 0 230 (dk_at dksX1_getOrder_0 19 rfl rfl)
theorem dX1_getOrder_22 : decode cX1_getOrder 22 = .ok (.checkcast 286, 3) := dk_192 1 30 (dk_at dksX1_getOrder_1 0 rfl rfl)
theorem dX1_getOrder_25 : decode cX1_getOrder 25 = .ok (.areturn, 1) := dk_176 (dk_at dksX1_getOrder_1 3 rfl rfl)
abbrev cX1_robotWith : ByteArray := prog_1_method_45_code
def yX1_robotWith : MethodName := ⟨RX1, "robotWith", "(I)I"⟩
def dkwX1_robotWith_1 : List UInt8 := [182, 0, 230, 192, 0, 233, 180, 0, 245, 27, 160, 0, 5, 28, 172, 132, 2, 1, 167, 255, 216, 2, 172]
abbrev dktX1_robotWith_1 : List UInt8 := dkwX1_robotWith_1 ++ []
def dkwX1_robotWith_0 : List UInt8 := [3, 61, 28, 42, 180, 0, 14, 180, 0, 227, 182, 0, 68, 162, 0, 32, 42, 180, 0, 14, 180, 0, 227, 28]
abbrev dktX1_robotWith_0 : List UInt8 := dkwX1_robotWith_0 ++ dktX1_robotWith_1
theorem dksX1_robotWith_0 : cX1_robotWith.data.toList.drop 0 = dktX1_robotWith_0 := by decide +kernel
theorem dksX1_robotWith_1 : cX1_robotWith.data.toList.drop 24 = dktX1_robotWith_1 := dk_seg dksX1_robotWith_0 24 rfl rfl
theorem dX1_robotWith_0 : decode cX1_robotWith 0 = .ok (.iconst 0, 1) := dk_3 (dk_at dksX1_robotWith_0 0 rfl rfl)
theorem dX1_robotWith_1 : decode cX1_robotWith 1 = .ok (.istore_n 2, 1) := dk_61 (dk_at dksX1_robotWith_0 1 rfl rfl)
theorem dX1_robotWith_2 : decode cX1_robotWith 2 = .ok (.iload_n 2, 1) := dk_28 (dk_at dksX1_robotWith_0 2 rfl rfl)
theorem dX1_robotWith_3 : decode cX1_robotWith 3 = .ok (.aload_n 0, 1) := dk_42 (dk_at dksX1_robotWith_0 3 rfl rfl)
theorem dX1_robotWith_4 : decode cX1_robotWith 4 = .ok (.getfield 14, 3) := dk_180 0 14 (dk_at dksX1_robotWith_0 4 rfl rfl)
theorem dX1_robotWith_7 : decode cX1_robotWith 7 = .ok (.getfield 227, 3) := dk_180 0 227 (dk_at dksX1_robotWith_0 7 rfl rfl)
theorem dX1_robotWith_10 : decode cX1_robotWith 10 = .ok (.invokevirtual 68, 3) := dk_182 0 68 (dk_at dksX1_robotWith_0 10 rfl rfl)
theorem dX1_robotWith_13 : decode cX1_robotWith 13 = .ok (.if_icmp .ge 32, 3) := dk_162 0 32 (dk_at dksX1_robotWith_0 13 rfl rfl)
theorem dX1_robotWith_16 : decode cX1_robotWith 16 = .ok (.aload_n 0, 1) := dk_42 (dk_at dksX1_robotWith_0 16 rfl rfl)
theorem dX1_robotWith_17 : decode cX1_robotWith 17 = .ok (.getfield 14, 3) := dk_180 0 14 (dk_at dksX1_robotWith_0 17 rfl rfl)
theorem dX1_robotWith_20 : decode cX1_robotWith 20 = .ok (.getfield 227, 3) := dk_180 0 227 (dk_at dksX1_robotWith_0 20 rfl rfl)
theorem dX1_robotWith_23 : decode cX1_robotWith 23 = .ok (.iload_n 2, 1) := dk_28 (dk_at dksX1_robotWith_0 23 rfl rfl)
theorem dX1_robotWith_24 : decode cX1_robotWith 24 = .ok (.invokevirtual 230, 3) := dk_182 0 230 (dk_at dksX1_robotWith_1 0 rfl rfl)
theorem dX1_robotWith_27 : decode cX1_robotWith 27 = .ok (.checkcast 233, 3) := dk_192 0 233 (dk_at dksX1_robotWith_1 3 rfl rfl)
theorem dX1_robotWith_30 : decode cX1_robotWith 30 = .ok (.getfield 245, 3) := dk_180 0 245 (dk_at dksX1_robotWith_1 6 rfl rfl)
theorem dX1_robotWith_33 : decode cX1_robotWith 33 = .ok (.iload_n 1, 1) := dk_27 (dk_at dksX1_robotWith_1 9 rfl rfl)
theorem dX1_robotWith_34 : decode cX1_robotWith 34 = .ok (.if_icmp .ne 5, 3) := dk_160 0 5 (dk_at dksX1_robotWith_1 10 rfl rfl)
theorem dX1_robotWith_37 : decode cX1_robotWith 37 = .ok (.iload_n 2, 1) := dk_28 (dk_at dksX1_robotWith_1 13 rfl rfl)
theorem dX1_robotWith_38 : decode cX1_robotWith 38 = .ok (.ireturn, 1) := dk_172 (dk_at dksX1_robotWith_1 14 rfl rfl)
theorem dX1_robotWith_39 : decode cX1_robotWith 39 = .ok (.iinc 2 1, 3) := dk_132 2 1 (dk_at dksX1_robotWith_1 15 rfl rfl)
theorem dX1_robotWith_42 : decode cX1_robotWith 42 = .ok (.goto (-40), 3) := dk_167 255 216 (dk_at dksX1_robotWith_1 18 rfl rfl)
theorem dX1_robotWith_45 : decode cX1_robotWith 45 = .ok (.iconst (-1), 1) := dk_2 (dk_at dksX1_robotWith_1 21 rfl rfl)
theorem dX1_robotWith_46 : decode cX1_robotWith 46 = .ok (.ireturn, 1) := dk_172 (dk_at dksX1_robotWith_1 22 rfl rfl)
abbrev cX1_line : ByteArray := prog_1_method_47_code
def yX1_line : MethodName := ⟨RX1, "line", "(II)I"⟩
def dkwX1_line_1 : List UInt8 := [180, 1, 39, 28, 46, 172]
abbrev dktX1_line_1 : List UInt8 := dkwX1_line_1 ++ []
def dkwX1_line_0 : List UInt8 := [42, 27, 182, 1, 32, 78, 28, 3, 45, 180, 1, 39, 190, 4, 100, 184, 0, 182, 184, 0, 172, 45]
abbrev dktX1_line_0 : List UInt8 := dkwX1_line_0 ++ dktX1_line_1
theorem dksX1_line_0 : cX1_line.data.toList.drop 0 = dktX1_line_0 := by decide +kernel
theorem dksX1_line_1 : cX1_line.data.toList.drop 22 = dktX1_line_1 := dk_seg dksX1_line_0 22 rfl rfl
theorem dX1_line_0 : decode cX1_line 0 = .ok (.aload_n 0, 1) := dk_42 (dk_at dksX1_line_0 0 rfl rfl)
theorem dX1_line_1 : decode cX1_line 1 = .ok (.iload_n 1, 1) := dk_27 (dk_at dksX1_line_0 1 rfl rfl)
theorem dX1_line_2 : decode cX1_line 2 = .ok (.invokevirtual 288, 3) := dk_182 1 32 (dk_at dksX1_line_0 2 rfl rfl)
theorem dX1_line_5 : decode cX1_line 5 = .ok (.astore_n 3, 1) := dk_78 (dk_at dksX1_line_0 5 rfl rfl)
theorem dX1_line_6 : decode cX1_line 6 = .ok (.iload_n 2, 1) := dk_28 (dk_at dksX1_line_0 6 rfl rfl)
theorem dX1_line_7 : decode cX1_line 7 = .ok (.iconst 0, 1) := dk_3 (dk_at dksX1_line_0 7 rfl rfl)
theorem dX1_line_8 : decode cX1_line 8 = .ok (.aload_n 3, 1) := dk_45 (dk_at dksX1_line_0 8 rfl rfl)
theorem dX1_line_9 : decode cX1_line 9 = .ok (.getfield 295, 3) := dk_180 1 39 (dk_at dksX1_line_0 9 rfl rfl)
theorem dX1_line_12 : decode cX1_line 12 = .ok (.arraylength, 1) := dk_190 (dk_at dksX1_line_0 12 rfl rfl)
theorem dX1_line_13 : decode cX1_line 13 = .ok (.iconst 1, 1) := dk_4 (dk_at dksX1_line_0 13 rfl rfl)
theorem dX1_line_14 : decode cX1_line 14 = .ok (.isub, 1) := dk_100 (dk_at dksX1_line_0 14 rfl rfl)
theorem dX1_line_15 : decode cX1_line 15 = .ok (.invokestatic 182, 3) := dk_184 0 182 (dk_at dksX1_line_0 15 rfl rfl)
theorem dX1_line_18 : decode cX1_line 18 = .ok (.invokestatic 172, 3) := dk_184 0 172 (dk_at dksX1_line_0 18 rfl rfl)
theorem dX1_line_21 : decode cX1_line 21 = .ok (.aload_n 3, 1) := dk_45 (dk_at dksX1_line_0 21 rfl rfl)
theorem dX1_line_22 : decode cX1_line 22 = .ok (.getfield 295, 3) := dk_180 1 39 (dk_at dksX1_line_1 0 rfl rfl)
theorem dX1_line_25 : decode cX1_line 25 = .ok (.iload_n 2, 1) := dk_28 (dk_at dksX1_line_1 3 rfl rfl)
theorem dX1_line_26 : decode cX1_line 26 = .ok (.iaload, 1) := dk_46 (dk_at dksX1_line_1 4 rfl rfl)
theorem dX1_line_27 : decode cX1_line 27 = .ok (.ireturn, 1) := dk_172 (dk_at dksX1_line_1 5 rfl rfl)
abbrev cX1_waiting : ByteArray := prog_1_method_48_code
def yX1_waiting : MethodName := ⟨RX1, "waiting", "(I)I"⟩
def dkwX1_waiting_5 : List UInt8 := [25, 5, 180, 1, 72, 172, 132, 3, 255, 167, 255, 221, 44, 182, 1, 58, 172]
abbrev dktX1_waiting_5 : List UInt8 := dkwX1_waiting_5 ++ []
def dkwX1_waiting_4 : List UInt8 := [185, 1, 63, 1, 0, 153, 0, 31, 25, 4, 185, 1, 68, 1, 0, 192, 1, 30, 58, 5, 29, 154, 0, 9]
abbrev dktX1_waiting_4 : List UInt8 := dkwX1_waiting_4 ++ dktX1_waiting_5
def dkwX1_waiting_3 : List UInt8 := [2, 44, 182, 1, 58, 4, 100, 184, 0, 182, 184, 0, 169, 27, 62, 44, 182, 1, 59, 58, 4, 25, 4]
abbrev dktX1_waiting_3 : List UInt8 := dkwX1_waiting_3 ++ dktX1_waiting_4
def dkwX1_waiting_2 : List UInt8 := [180, 0, 14, 180, 1, 27, 29, 182, 0, 230, 192, 1, 30, 182, 1, 57, 87, 132, 3, 1, 167, 255, 200, 27]
abbrev dktX1_waiting_2 : List UInt8 := dkwX1_waiting_2 ++ dktX1_waiting_3
def dkwX1_waiting_1 : List UInt8 := [42, 180, 0, 14, 180, 1, 27, 29, 182, 0, 230, 192, 1, 30, 180, 1, 45, 154, 0, 22, 44, 42]
abbrev dktX1_waiting_1 : List UInt8 := dkwX1_waiting_1 ++ dktX1_waiting_2
def dkwX1_waiting_0 : List UInt8 := [187, 1, 54, 89, 183, 1, 56, 77, 3, 62, 29, 42, 180, 0, 14, 180, 1, 27, 182, 0, 68, 162, 0, 48]
abbrev dktX1_waiting_0 : List UInt8 := dkwX1_waiting_0 ++ dktX1_waiting_1
theorem dksX1_waiting_0 : cX1_waiting.data.toList.drop 0 = dktX1_waiting_0 := by decide +kernel
theorem dksX1_waiting_1 : cX1_waiting.data.toList.drop 24 = dktX1_waiting_1 := dk_seg dksX1_waiting_0 24 rfl rfl
theorem dksX1_waiting_2 : cX1_waiting.data.toList.drop 46 = dktX1_waiting_2 := dk_seg dksX1_waiting_1 22 rfl rfl
theorem dksX1_waiting_3 : cX1_waiting.data.toList.drop 70 = dktX1_waiting_3 := dk_seg dksX1_waiting_2 24 rfl rfl
theorem dksX1_waiting_4 : cX1_waiting.data.toList.drop 93 = dktX1_waiting_4 := dk_seg dksX1_waiting_3 23 rfl rfl
theorem dksX1_waiting_5 : cX1_waiting.data.toList.drop 117 = dktX1_waiting_5 := dk_seg dksX1_waiting_4 24 rfl rfl
theorem dX1_waiting_0 : decode cX1_waiting 0 = .ok (.new 310, 3) := dk_187 1 54 (dk_at dksX1_waiting_0 0 rfl rfl)
theorem dX1_waiting_3 : decode cX1_waiting 3 = .ok (.dup, 1) := dk_89 (dk_at dksX1_waiting_0 3 rfl rfl)
theorem dX1_waiting_4 : decode cX1_waiting 4 = .ok (.invokespecial 312, 3) := dk_183 1 56 (dk_at dksX1_waiting_0 4 rfl rfl)
theorem dX1_waiting_7 : decode cX1_waiting 7 = .ok (.astore_n 2, 1) := dk_77 (dk_at dksX1_waiting_0 7 rfl rfl)
theorem dX1_waiting_8 : decode cX1_waiting 8 = .ok (.iconst 0, 1) := dk_3 (dk_at dksX1_waiting_0 8 rfl rfl)
theorem dX1_waiting_9 : decode cX1_waiting 9 = .ok (.istore_n 3, 1) := dk_62 (dk_at dksX1_waiting_0 9 rfl rfl)
theorem dX1_waiting_10 : decode cX1_waiting 10 = .ok (.iload_n 3, 1) := dk_29 (dk_at dksX1_waiting_0 10 rfl rfl)
theorem dX1_waiting_11 : decode cX1_waiting 11 = .ok (.aload_n 0, 1) := dk_42 (dk_at dksX1_waiting_0 11 rfl rfl)
theorem dX1_waiting_12 : decode cX1_waiting 12 = .ok (.getfield 14, 3) := dk_180 0 14 (dk_at dksX1_waiting_0 12 rfl rfl)
theorem dX1_waiting_15 : decode cX1_waiting 15 = .ok (.getfield 283, 3) := dk_180 1 27 (dk_at dksX1_waiting_0 15 rfl rfl)
theorem dX1_waiting_18 : decode cX1_waiting 18 = .ok (.invokevirtual 68, 3) := dk_182 0 68 (dk_at dksX1_waiting_0 18 rfl rfl)
theorem dX1_waiting_21 : decode cX1_waiting 21 = .ok (.if_icmp .ge 48, 3) := dk_162 0 48 (dk_at dksX1_waiting_0 21 rfl rfl)
theorem dX1_waiting_24 : decode cX1_waiting 24 = .ok (.aload_n 0, 1) := dk_42 (dk_at dksX1_waiting_1 0 rfl rfl)
theorem dX1_waiting_25 : decode cX1_waiting 25 = .ok (.getfield 14, 3) := dk_180 0 14 (dk_at dksX1_waiting_1 1 rfl rfl)
theorem dX1_waiting_28 : decode cX1_waiting 28 = .ok (.getfield 283, 3) := dk_180 1 27 (dk_at dksX1_waiting_1 4 rfl rfl)
theorem dX1_waiting_31 : decode cX1_waiting 31 = .ok (.iload_n 3, 1) := dk_29 (dk_at dksX1_waiting_1 7 rfl rfl)
theorem dX1_waiting_32 : decode cX1_waiting 32 = .ok (.invokevirtual 230, 3) := dk_182 0 230 (dk_at dksX1_waiting_1 8 rfl rfl)
theorem dX1_waiting_35 : decode cX1_waiting 35 = .ok (.checkcast 286, 3) := dk_192 1 30 (dk_at dksX1_waiting_1 11 rfl rfl)
theorem dX1_waiting_38 : decode cX1_waiting 38 = .ok (.getfield 301, 3) := dk_180 1 45 (dk_at dksX1_waiting_1 14 rfl rfl)
theorem dX1_waiting_41 : decode cX1_waiting 41 = .ok (.ifCond .ne 22, 3) := dk_154 0 22 (dk_at dksX1_waiting_1 17 rfl rfl)
theorem dX1_waiting_44 : decode cX1_waiting 44 = .ok (.aload_n 2, 1) := dk_44 (dk_at dksX1_waiting_1 20 rfl rfl)
theorem dX1_waiting_45 : decode cX1_waiting 45 = .ok (.aload_n 0, 1) := dk_42 (dk_at dksX1_waiting_1 21 rfl rfl)
theorem dX1_waiting_46 : decode cX1_waiting 46 = .ok (.getfield 14, 3) := dk_180 0 14 (dk_at dksX1_waiting_2 0 rfl rfl)
theorem dX1_waiting_49 : decode cX1_waiting 49 = .ok (.getfield 283, 3) := dk_180 1 27 (dk_at dksX1_waiting_2 3 rfl rfl)
theorem dX1_waiting_52 : decode cX1_waiting 52 = .ok (.iload_n 3, 1) := dk_29 (dk_at dksX1_waiting_2 6 rfl rfl)
theorem dX1_waiting_53 : decode cX1_waiting 53 = .ok (.invokevirtual 230, 3) := dk_182 0 230 (dk_at dksX1_waiting_2 7 rfl rfl)
theorem dX1_waiting_56 : decode cX1_waiting 56 = .ok (.checkcast 286, 3) := dk_192 1 30 (dk_at dksX1_waiting_2 10 rfl rfl)
theorem dX1_waiting_59 : decode cX1_waiting 59 = .ok (.invokevirtual 313, 3) := dk_182 1 57 (dk_at dksX1_waiting_2 13 rfl rfl)
theorem dX1_waiting_62 : decode cX1_waiting 62 = .ok (.pop, 1) := dk_87 (dk_at dksX1_waiting_2 16 rfl rfl)
theorem dX1_waiting_63 : decode cX1_waiting 63 = .ok (.iinc 3 1, 3) := dk_132 3 1 (dk_at dksX1_waiting_2 17 rfl rfl)
theorem dX1_waiting_66 : decode cX1_waiting 66 = .ok (.goto (-56), 3) := dk_167 255 200 (dk_at dksX1_waiting_2 20 rfl rfl)
theorem dX1_waiting_69 : decode cX1_waiting 69 = .ok (.iload_n 1, 1) := dk_27 (dk_at dksX1_waiting_2 23 rfl rfl)
theorem dX1_waiting_70 : decode cX1_waiting 70 = .ok (.iconst (-1), 1) := dk_2 (dk_at dksX1_waiting_3 0 rfl rfl)
theorem dX1_waiting_71 : decode cX1_waiting 71 = .ok (.aload_n 2, 1) := dk_44 (dk_at dksX1_waiting_3 1 rfl rfl)
theorem dX1_waiting_72 : decode cX1_waiting 72 = .ok (.invokevirtual 314, 3) := dk_182 1 58 (dk_at dksX1_waiting_3 2 rfl rfl)
theorem dX1_waiting_75 : decode cX1_waiting 75 = .ok (.iconst 1, 1) := dk_4 (dk_at dksX1_waiting_3 5 rfl rfl)
theorem dX1_waiting_76 : decode cX1_waiting 76 = .ok (.isub, 1) := dk_100 (dk_at dksX1_waiting_3 6 rfl rfl)
theorem dX1_waiting_77 : decode cX1_waiting 77 = .ok (.invokestatic 182, 3) := dk_184 0 182 (dk_at dksX1_waiting_3 7 rfl rfl)
theorem dX1_waiting_80 : decode cX1_waiting 80 = .ok (.invokestatic 169, 3) := dk_184 0 169 (dk_at dksX1_waiting_3 10 rfl rfl)
theorem dX1_waiting_83 : decode cX1_waiting 83 = .ok (.iload_n 1, 1) := dk_27 (dk_at dksX1_waiting_3 13 rfl rfl)
theorem dX1_waiting_84 : decode cX1_waiting 84 = .ok (.istore_n 3, 1) := dk_62 (dk_at dksX1_waiting_3 14 rfl rfl)
theorem dX1_waiting_85 : decode cX1_waiting 85 = .ok (.aload_n 2, 1) := dk_44 (dk_at dksX1_waiting_3 15 rfl rfl)
theorem dX1_waiting_86 : decode cX1_waiting 86 = .ok (.invokevirtual 315, 3) := dk_182 1 59 (dk_at dksX1_waiting_3 16 rfl rfl)
theorem dX1_waiting_89 : decode cX1_waiting 89 = .ok (.astore 4, 2) := dk_58 4 (dk_at dksX1_waiting_3 19 rfl rfl)
theorem dX1_waiting_91 : decode cX1_waiting 91 = .ok (.aload 4, 2) := dk_25 4 (dk_at dksX1_waiting_3 21 rfl rfl)
theorem dX1_waiting_93 : decode cX1_waiting 93 = .ok (.invokeinterface 319 1, 5) := by decide +kernel
theorem dX1_waiting_98 : decode cX1_waiting 98 = .ok (.ifCond .eq 31, 3) := dk_153 0 31 (dk_at dksX1_waiting_4 5 rfl rfl)
theorem dX1_waiting_101 : decode cX1_waiting 101 = .ok (.aload 4, 2) := dk_25 4 (dk_at dksX1_waiting_4 8 rfl rfl)
theorem dX1_waiting_103 : decode cX1_waiting 103 = .ok (.invokeinterface 324 1, 5) := by decide +kernel
theorem dX1_waiting_108 : decode cX1_waiting 108 = .ok (.checkcast 286, 3) := dk_192 1 30 (dk_at dksX1_waiting_4 15 rfl rfl)
theorem dX1_waiting_111 : decode cX1_waiting 111 = .ok (.astore 5, 2) := dk_58 5 (dk_at dksX1_waiting_4 18 rfl rfl)
theorem dX1_waiting_113 : decode cX1_waiting 113 = .ok (.iload_n 3, 1) := dk_29 (dk_at dksX1_waiting_4 20 rfl rfl)
theorem dX1_waiting_114 : decode cX1_waiting 114 = .ok (.ifCond .ne 9, 3) := dk_154 0 9 (dk_at dksX1_waiting_4 21 rfl rfl)
theorem dX1_waiting_117 : decode cX1_waiting 117 = .ok (.aload 5, 2) := dk_25 5 (dk_at dksX1_waiting_5 0 rfl rfl)
theorem dX1_waiting_119 : decode cX1_waiting 119 = .ok (.getfield 328, 3) := dk_180 1 72 (dk_at dksX1_waiting_5 2 rfl rfl)
theorem dX1_waiting_122 : decode cX1_waiting 122 = .ok (.ireturn, 1) := dk_172 (dk_at dksX1_waiting_5 5 rfl rfl)
theorem dX1_waiting_123 : decode cX1_waiting 123 = .ok (.iinc 3 (-1), 3) := dk_132 3 255 (dk_at dksX1_waiting_5 6 rfl rfl)
theorem dX1_waiting_126 : decode cX1_waiting 126 = .ok (.goto (-35), 3) := dk_167 255 221 (dk_at dksX1_waiting_5 9 rfl rfl)
theorem dX1_waiting_129 : decode cX1_waiting 129 = .ok (.aload_n 2, 1) := dk_44 (dk_at dksX1_waiting_5 12 rfl rfl)
theorem dX1_waiting_130 : decode cX1_waiting 130 = .ok (.invokevirtual 314, 3) := dk_182 1 58 (dk_at dksX1_waiting_5 13 rfl rfl)
theorem dX1_waiting_133 : decode cX1_waiting 133 = .ok (.ireturn, 1) := dk_172 (dk_at dksX1_waiting_5 16 rfl rfl)
abbrev cX1_suited : ByteArray := prog_1_method_50_code
def yX1_suited : MethodName := ⟨RX1, "suited", "(I)I"⟩
def dkwX1_suited_8 : List UInt8 := [29, 172]
abbrev dktX1_suited_8 : List UInt8 := dkwX1_suited_8 ++ []
def dkwX1_suited_7 : List UInt8 := [167, 0, 4, 29, 62, 132, 5, 1, 167, 255, 113, 29, 2, 159, 0, 7, 4, 167, 0, 4, 3, 184, 0, 169]
abbrev dktX1_suited_7 : List UInt8 := dkwX1_suited_7 ++ dktX1_suited_8
def dkwX1_suited_6 : List UInt8 := [180, 0, 14, 180, 0, 227, 29, 182, 0, 230, 192, 0, 233, 25, 4, 184, 1, 80, 153, 0, 8, 21, 5]
abbrev dktX1_suited_6 : List UInt8 := dkwX1_suited_6 ++ dktX1_suited_7
def dkwX1_suited_5 : List UInt8 := [153, 0, 50, 29, 2, 159, 0, 40, 42, 180, 0, 14, 180, 0, 227, 21, 5, 182, 0, 230, 192, 0, 233, 42]
abbrev dktX1_suited_5 : List UInt8 := dkwX1_suited_5 ++ dktX1_suited_6
def dkwX1_suited_4 : List UInt8 := [2, 160, 0, 16, 25, 4, 21, 6, 46, 2, 159, 0, 7, 4, 167, 0, 4, 3, 54, 7, 21, 7]
abbrev dktX1_suited_4 : List UInt8 := dkwX1_suited_4 ++ dktX1_suited_5
def dkwX1_suited_3 : List UInt8 := [182, 0, 213, 28, 46, 79, 42, 180, 0, 14, 180, 0, 227, 21, 5, 182, 0, 230, 192, 0, 233, 180, 0, 245]
abbrev dktX1_suited_3 : List UInt8 := dkwX1_suited_3 ++ dktX1_suited_4
def dkwX1_suited_2 : List UInt8 := [180, 0, 227, 21, 5, 182, 0, 230, 192, 0, 233, 180, 0, 239, 54, 6, 25, 4, 21, 6, 42, 21, 6]
abbrev dktX1_suited_2 : List UInt8 := dkwX1_suited_2 ++ dktX1_suited_3
def dkwX1_suited_1 : List UInt8 := [3, 54, 5, 21, 5, 42, 180, 0, 14, 180, 0, 227, 182, 0, 68, 162, 0, 134, 42, 180, 0, 14]
abbrev dktX1_suited_1 : List UInt8 := dkwX1_suited_1 ++ dktX1_suited_2
def dkwX1_suited_0 : List UInt8 := [42, 27, 182, 1, 32, 180, 1, 39, 3, 46, 61, 2, 62, 42, 180, 0, 14, 182, 0, 163, 188, 10, 58, 4]
abbrev dktX1_suited_0 : List UInt8 := dkwX1_suited_0 ++ dktX1_suited_1
theorem dksX1_suited_0 : cX1_suited.data.toList.drop 0 = dktX1_suited_0 := by decide +kernel
theorem dksX1_suited_1 : cX1_suited.data.toList.drop 24 = dktX1_suited_1 := dk_seg dksX1_suited_0 24 rfl rfl
theorem dksX1_suited_2 : cX1_suited.data.toList.drop 46 = dktX1_suited_2 := dk_seg dksX1_suited_1 22 rfl rfl
theorem dksX1_suited_3 : cX1_suited.data.toList.drop 69 = dktX1_suited_3 := dk_seg dksX1_suited_2 23 rfl rfl
theorem dksX1_suited_4 : cX1_suited.data.toList.drop 93 = dktX1_suited_4 := dk_seg dksX1_suited_3 24 rfl rfl
theorem dksX1_suited_5 : cX1_suited.data.toList.drop 115 = dktX1_suited_5 := dk_seg dksX1_suited_4 22 rfl rfl
theorem dksX1_suited_6 : cX1_suited.data.toList.drop 139 = dktX1_suited_6 := dk_seg dksX1_suited_5 24 rfl rfl
theorem dksX1_suited_7 : cX1_suited.data.toList.drop 162 = dktX1_suited_7 := dk_seg dksX1_suited_6 23 rfl rfl
theorem dksX1_suited_8 : cX1_suited.data.toList.drop 186 = dktX1_suited_8 := dk_seg dksX1_suited_7 24 rfl rfl
theorem dX1_suited_0 : decode cX1_suited 0 = .ok (.aload_n 0, 1) := dk_42 (dk_at dksX1_suited_0 0 rfl rfl)
theorem dX1_suited_1 : decode cX1_suited 1 = .ok (.iload_n 1, 1) := dk_27 (dk_at dksX1_suited_0 1 rfl rfl)
theorem dX1_suited_2 : decode cX1_suited 2 = .ok (.invokevirtual 288, 3) := dk_182 1 32 (dk_at dksX1_suited_0 2 rfl rfl)
theorem dX1_suited_5 : decode cX1_suited 5 = .ok (.getfield 295, 3) := dk_180 1 39 (dk_at dksX1_suited_0 5 rfl rfl)
theorem dX1_suited_8 : decode cX1_suited 8 = .ok (.iconst 0, 1) := dk_3 (dk_at dksX1_suited_0 8 rfl rfl)
theorem dX1_suited_9 : decode cX1_suited 9 = .ok (.iaload, 1) := dk_46 (dk_at dksX1_suited_0 9 rfl rfl)
theorem dX1_suited_10 : decode cX1_suited 10 = .ok (.istore_n 2, 1) := dk_61 (dk_at dksX1_suited_0 10 rfl rfl)
theorem dX1_suited_11 : decode cX1_suited 11 = .ok (.iconst (-1), 1) := dk_2 (dk_at dksX1_suited_0 11 rfl rfl)
theorem dX1_suited_12 : decode cX1_suited 12 = .ok (.istore_n 3, 1) := dk_62 (dk_at dksX1_suited_0 12 rfl rfl)
theorem dX1_suited_13 : decode cX1_suited 13 = .ok (.aload_n 0, 1) := dk_42 (dk_at dksX1_suited_0 13 rfl rfl)
theorem dX1_suited_14 : decode cX1_suited 14 = .ok (.getfield 14, 3) := dk_180 0 14 (dk_at dksX1_suited_0 14 rfl rfl)
theorem dX1_suited_17 : decode cX1_suited 17 = .ok (.invokevirtual 163, 3) := dk_182 0 163 (dk_at dksX1_suited_0 17 rfl rfl)
theorem dX1_suited_20 : decode cX1_suited 20 = .ok (.newarray .int, 2) := dk_188_10 (dk_at dksX1_suited_0 20 rfl rfl)
theorem dX1_suited_22 : decode cX1_suited 22 = .ok (.astore 4, 2) := dk_58 4 (dk_at dksX1_suited_0 22 rfl rfl)
theorem dX1_suited_24 : decode cX1_suited 24 = .ok (.iconst 0, 1) := dk_3 (dk_at dksX1_suited_1 0 rfl rfl)
theorem dX1_suited_25 : decode cX1_suited 25 = .ok (.istore 5, 2) := dk_54 5 (dk_at dksX1_suited_1 1 rfl rfl)
theorem dX1_suited_27 : decode cX1_suited 27 = .ok (.iload 5, 2) := dk_21 5 (dk_at dksX1_suited_1 3 rfl rfl)
theorem dX1_suited_29 : decode cX1_suited 29 = .ok (.aload_n 0, 1) := dk_42 (dk_at dksX1_suited_1 5 rfl rfl)
theorem dX1_suited_30 : decode cX1_suited 30 = .ok (.getfield 14, 3) := dk_180 0 14 (dk_at dksX1_suited_1 6 rfl rfl)
theorem dX1_suited_33 : decode cX1_suited 33 = .ok (.getfield 227, 3) := dk_180 0 227 (dk_at dksX1_suited_1 9 rfl rfl)
theorem dX1_suited_36 : decode cX1_suited 36 = .ok (.invokevirtual 68, 3) := dk_182 0 68 (dk_at dksX1_suited_1 12 rfl rfl)
theorem dX1_suited_39 : decode cX1_suited 39 = .ok (.if_icmp .ge 134, 3) := dk_162 0 134 (dk_at dksX1_suited_1 15 rfl rfl)
theorem dX1_suited_42 : decode cX1_suited 42 = .ok (.aload_n 0, 1) := dk_42 (dk_at dksX1_suited_1 18 rfl rfl)
theorem dX1_suited_43 : decode cX1_suited 43 = .ok (.getfield 14, 3) := dk_180 0 14 (dk_at dksX1_suited_1 19 rfl rfl)
theorem dX1_suited_46 : decode cX1_suited 46 = .ok (.getfield 227, 3) := dk_180 0 227 (dk_at dksX1_suited_2 0 rfl rfl)
theorem dX1_suited_49 : decode cX1_suited 49 = .ok (.iload 5, 2) := dk_21 5 (dk_at dksX1_suited_2 3 rfl rfl)
theorem dX1_suited_51 : decode cX1_suited 51 = .ok (.invokevirtual 230, 3) := dk_182 0 230 (dk_at dksX1_suited_2 5 rfl rfl)
theorem dX1_suited_54 : decode cX1_suited 54 = .ok (.checkcast 233, 3) := dk_192 0 233 (dk_at dksX1_suited_2 8 rfl rfl)
theorem dX1_suited_57 : decode cX1_suited 57 = .ok (.getfield 239, 3) := dk_180 0 239 (dk_at dksX1_suited_2 11 rfl rfl)
theorem dX1_suited_60 : decode cX1_suited 60 = .ok (.istore 6, 2) := dk_54 6 (dk_at dksX1_suited_2 14 rfl rfl)
theorem dX1_suited_62 : decode cX1_suited 62 = .ok (.aload 4, 2) := dk_25 4 (dk_at dksX1_suited_2 16 rfl rfl)
theorem dX1_suited_64 : decode cX1_suited 64 = .ok (.iload 6, 2) := dk_21 6 (dk_at dksX1_suited_2 18 rfl rfl)
theorem dX1_suited_66 : decode cX1_suited 66 = .ok (.aload_n 0, 1) := dk_42 (dk_at dksX1_suited_2 20 rfl rfl)
theorem dX1_suited_67 : decode cX1_suited 67 = .ok (.iload 6, 2) := dk_21 6 (dk_at dksX1_suited_2 21 rfl rfl)
theorem dX1_suited_69 : decode cX1_suited 69 = .ok (.invokevirtual 213, 3) := dk_182 0 213 (dk_at dksX1_suited_3 0 rfl rfl)
theorem dX1_suited_72 : decode cX1_suited 72 = .ok (.iload_n 2, 1) := dk_28 (dk_at dksX1_suited_3 3 rfl rfl)
theorem dX1_suited_73 : decode cX1_suited 73 = .ok (.iaload, 1) := dk_46 (dk_at dksX1_suited_3 4 rfl rfl)
theorem dX1_suited_74 : decode cX1_suited 74 = .ok (.iastore, 1) := dk_79 (dk_at dksX1_suited_3 5 rfl rfl)
theorem dX1_suited_75 : decode cX1_suited 75 = .ok (.aload_n 0, 1) := dk_42 (dk_at dksX1_suited_3 6 rfl rfl)
theorem dX1_suited_76 : decode cX1_suited 76 = .ok (.getfield 14, 3) := dk_180 0 14 (dk_at dksX1_suited_3 7 rfl rfl)
theorem dX1_suited_79 : decode cX1_suited 79 = .ok (.getfield 227, 3) := dk_180 0 227 (dk_at dksX1_suited_3 10 rfl rfl)
theorem dX1_suited_82 : decode cX1_suited 82 = .ok (.iload 5, 2) := dk_21 5 (dk_at dksX1_suited_3 13 rfl rfl)
theorem dX1_suited_84 : decode cX1_suited 84 = .ok (.invokevirtual 230, 3) := dk_182 0 230 (dk_at dksX1_suited_3 15 rfl rfl)
theorem dX1_suited_87 : decode cX1_suited 87 = .ok (.checkcast 233, 3) := dk_192 0 233 (dk_at dksX1_suited_3 18 rfl rfl)
theorem dX1_suited_90 : decode cX1_suited 90 = .ok (.getfield 245, 3) := dk_180 0 245 (dk_at dksX1_suited_3 21 rfl rfl)
theorem dX1_suited_93 : decode cX1_suited 93 = .ok (.iconst (-1), 1) := dk_2 (dk_at dksX1_suited_4 0 rfl rfl)
theorem dX1_suited_94 : decode cX1_suited 94 = .ok (.if_icmp .ne 16, 3) := dk_160 0 16 (dk_at dksX1_suited_4 1 rfl rfl)
theorem dX1_suited_97 : decode cX1_suited 97 = .ok (.aload 4, 2) := dk_25 4 (dk_at dksX1_suited_4 4 rfl rfl)
theorem dX1_suited_99 : decode cX1_suited 99 = .ok (.iload 6, 2) := dk_21 6 (dk_at dksX1_suited_4 6 rfl rfl)
theorem dX1_suited_101 : decode cX1_suited 101 = .ok (.iaload, 1) := dk_46 (dk_at dksX1_suited_4 8 rfl rfl)
theorem dX1_suited_102 : decode cX1_suited 102 = .ok (.iconst (-1), 1) := dk_2 (dk_at dksX1_suited_4 9 rfl rfl)
theorem dX1_suited_103 : decode cX1_suited 103 = .ok (.if_icmp .eq 7, 3) := dk_159 0 7 (dk_at dksX1_suited_4 10 rfl rfl)
theorem dX1_suited_106 : decode cX1_suited 106 = .ok (.iconst 1, 1) := dk_4 (dk_at dksX1_suited_4 13 rfl rfl)
theorem dX1_suited_107 : decode cX1_suited 107 = .ok (.goto 4, 3) := dk_167 0 4 (dk_at dksX1_suited_4 14 rfl rfl)
theorem dX1_suited_110 : decode cX1_suited 110 = .ok (.iconst 0, 1) := dk_3 (dk_at dksX1_suited_4 17 rfl rfl)
theorem dX1_suited_111 : decode cX1_suited 111 = .ok (.istore 7, 2) := dk_54 7 (dk_at dksX1_suited_4 18 rfl rfl)
theorem dX1_suited_113 : decode cX1_suited 113 = .ok (.iload 7, 2) := dk_21 7 (dk_at dksX1_suited_4 20 rfl rfl)
theorem dX1_suited_115 : decode cX1_suited 115 = .ok (.ifCond .eq 50, 3) := dk_153 0 50 (dk_at dksX1_suited_5 0 rfl rfl)
theorem dX1_suited_118 : decode cX1_suited 118 = .ok (.iload_n 3, 1) := dk_29 (dk_at dksX1_suited_5 3 rfl rfl)
theorem dX1_suited_119 : decode cX1_suited 119 = .ok (.iconst (-1), 1) := dk_2 (dk_at dksX1_suited_5 4 rfl rfl)
theorem dX1_suited_120 : decode cX1_suited 120 = .ok (.if_icmp .eq 40, 3) := dk_159 0 40 (dk_at dksX1_suited_5 5 rfl rfl)
theorem dX1_suited_123 : decode cX1_suited 123 = .ok (.aload_n 0, 1) := dk_42 (dk_at dksX1_suited_5 8 rfl rfl)
theorem dX1_suited_124 : decode cX1_suited 124 = .ok (.getfield 14, 3) := dk_180 0 14 (dk_at dksX1_suited_5 9 rfl rfl)
theorem dX1_suited_127 : decode cX1_suited 127 = .ok (.getfield 227, 3) := dk_180 0 227 (dk_at dksX1_suited_5 12 rfl rfl)
theorem dX1_suited_130 : decode cX1_suited 130 = .ok (.iload 5, 2) := dk_21 5 (dk_at dksX1_suited_5 15 rfl rfl)
theorem dX1_suited_132 : decode cX1_suited 132 = .ok (.invokevirtual 230, 3) := dk_182 0 230 (dk_at dksX1_suited_5 17 rfl rfl)
theorem dX1_suited_135 : decode cX1_suited 135 = .ok (.checkcast 233, 3) := dk_192 0 233 (dk_at dksX1_suited_5 20 rfl rfl)
theorem dX1_suited_138 : decode cX1_suited 138 = .ok (.aload_n 0, 1) := dk_42 (dk_at dksX1_suited_5 23 rfl rfl)
theorem dX1_suited_139 : decode cX1_suited 139 = .ok (.getfield 14, 3) := dk_180 0 14 (dk_at dksX1_suited_6 0 rfl rfl)
theorem dX1_suited_142 : decode cX1_suited 142 = .ok (.getfield 227, 3) := dk_180 0 227 (dk_at dksX1_suited_6 3 rfl rfl)
theorem dX1_suited_145 : decode cX1_suited 145 = .ok (.iload_n 3, 1) := dk_29 (dk_at dksX1_suited_6 6 rfl rfl)
theorem dX1_suited_146 : decode cX1_suited 146 = .ok (.invokevirtual 230, 3) := dk_182 0 230 (dk_at dksX1_suited_6 7 rfl rfl)
theorem dX1_suited_149 : decode cX1_suited 149 = .ok (.checkcast 233, 3) := dk_192 0 233 (dk_at dksX1_suited_6 10 rfl rfl)
theorem dX1_suited_152 : decode cX1_suited 152 = .ok (.aload 4, 2) := dk_25 4 (dk_at dksX1_suited_6 13 rfl rfl)
theorem dX1_suited_154 : decode cX1_suited 154 = .ok (.invokestatic 336, 3) := dk_184 1 80 (dk_at dksX1_suited_6 15 rfl rfl)
theorem dX1_suited_157 : decode cX1_suited 157 = .ok (.ifCond .eq 8, 3) := dk_153 0 8 (dk_at dksX1_suited_6 18 rfl rfl)
theorem dX1_suited_160 : decode cX1_suited 160 = .ok (.iload 5, 2) := dk_21 5 (dk_at dksX1_suited_6 21 rfl rfl)
theorem dX1_suited_162 : decode cX1_suited 162 = .ok (.goto 4, 3) := dk_167 0 4 (dk_at dksX1_suited_7 0 rfl rfl)
theorem dX1_suited_165 : decode cX1_suited 165 = .ok (.iload_n 3, 1) := dk_29 (dk_at dksX1_suited_7 3 rfl rfl)
theorem dX1_suited_166 : decode cX1_suited 166 = .ok (.istore_n 3, 1) := dk_62 (dk_at dksX1_suited_7 4 rfl rfl)
theorem dX1_suited_167 : decode cX1_suited 167 = .ok (.iinc 5 1, 3) := dk_132 5 1 (dk_at dksX1_suited_7 5 rfl rfl)
theorem dX1_suited_170 : decode cX1_suited 170 = .ok (.goto (-143), 3) := dk_167 255 113 (dk_at dksX1_suited_7 8 rfl rfl)
theorem dX1_suited_173 : decode cX1_suited 173 = .ok (.iload_n 3, 1) := dk_29 (dk_at dksX1_suited_7 11 rfl rfl)
theorem dX1_suited_174 : decode cX1_suited 174 = .ok (.iconst (-1), 1) := dk_2 (dk_at dksX1_suited_7 12 rfl rfl)
theorem dX1_suited_175 : decode cX1_suited 175 = .ok (.if_icmp .eq 7, 3) := dk_159 0 7 (dk_at dksX1_suited_7 13 rfl rfl)
theorem dX1_suited_178 : decode cX1_suited 178 = .ok (.iconst 1, 1) := dk_4 (dk_at dksX1_suited_7 16 rfl rfl)
theorem dX1_suited_179 : decode cX1_suited 179 = .ok (.goto 4, 3) := dk_167 0 4 (dk_at dksX1_suited_7 17 rfl rfl)
theorem dX1_suited_182 : decode cX1_suited 182 = .ok (.iconst 0, 1) := dk_3 (dk_at dksX1_suited_7 20 rfl rfl)
theorem dX1_suited_183 : decode cX1_suited 183 = .ok (.invokestatic 169, 3) := dk_184 0 169 (dk_at dksX1_suited_7 21 rfl rfl)
theorem dX1_suited_186 : decode cX1_suited 186 = .ok (.iload_n 3, 1) := dk_29 (dk_at dksX1_suited_8 0 rfl rfl)
theorem dX1_suited_187 : decode cX1_suited 187 = .ok (.ireturn, 1) := dk_172 (dk_at dksX1_suited_8 1 rfl rfl)
abbrev cX1_isBetter : ByteArray := prog_1_method_49_code
def yX1_isBetter : MethodName := ⟨RX1, "isBetter", "(LRobotAisles$Robot;LRobotAisles$Robot;[I)Z"⟩
def dkwX1_isBetter_1 : List UInt8 := [42, 180, 0, 242, 43, 180, 0, 242, 164, 0, 7, 4, 167, 0, 4, 3, 172]
abbrev dktX1_isBetter_1 : List UInt8 := dkwX1_isBetter_1 ++ []
def dkwX1_isBetter_0 : List UInt8 := [44, 42, 180, 0, 239, 46, 44, 43, 180, 0, 239, 46, 184, 1, 75, 62, 29, 155, 0, 18, 29, 154, 0, 18]
abbrev dktX1_isBetter_0 : List UInt8 := dkwX1_isBetter_0 ++ dktX1_isBetter_1
theorem dksX1_isBetter_0 : cX1_isBetter.data.toList.drop 0 = dktX1_isBetter_0 := by decide +kernel
theorem dksX1_isBetter_1 : cX1_isBetter.data.toList.drop 24 = dktX1_isBetter_1 := dk_seg dksX1_isBetter_0 24 rfl rfl
theorem dX1_isBetter_0 : decode cX1_isBetter 0 = .ok (.aload_n 2, 1) := dk_44 (dk_at dksX1_isBetter_0 0 rfl rfl)
theorem dX1_isBetter_1 : decode cX1_isBetter 1 = .ok (.aload_n 0, 1) := dk_42 (dk_at dksX1_isBetter_0 1 rfl rfl)
theorem dX1_isBetter_2 : decode cX1_isBetter 2 = .ok (.getfield 239, 3) := dk_180 0 239 (dk_at dksX1_isBetter_0 2 rfl rfl)
theorem dX1_isBetter_5 : decode cX1_isBetter 5 = .ok (.iaload, 1) := dk_46 (dk_at dksX1_isBetter_0 5 rfl rfl)
theorem dX1_isBetter_6 : decode cX1_isBetter 6 = .ok (.aload_n 2, 1) := dk_44 (dk_at dksX1_isBetter_0 6 rfl rfl)
theorem dX1_isBetter_7 : decode cX1_isBetter 7 = .ok (.aload_n 1, 1) := dk_43 (dk_at dksX1_isBetter_0 7 rfl rfl)
theorem dX1_isBetter_8 : decode cX1_isBetter 8 = .ok (.getfield 239, 3) := dk_180 0 239 (dk_at dksX1_isBetter_0 8 rfl rfl)
theorem dX1_isBetter_11 : decode cX1_isBetter 11 = .ok (.iaload, 1) := dk_46 (dk_at dksX1_isBetter_0 11 rfl rfl)
theorem dX1_isBetter_12 : decode cX1_isBetter 12 = .ok (.invokestatic 331, 3) := dk_184 1 75 (dk_at dksX1_isBetter_0 12 rfl rfl)
theorem dX1_isBetter_15 : decode cX1_isBetter 15 = .ok (.istore_n 3, 1) := dk_62 (dk_at dksX1_isBetter_0 15 rfl rfl)
theorem dX1_isBetter_16 : decode cX1_isBetter 16 = .ok (.iload_n 3, 1) := dk_29 (dk_at dksX1_isBetter_0 16 rfl rfl)
theorem dX1_isBetter_17 : decode cX1_isBetter 17 = .ok (.ifCond .lt 18, 3) := dk_155 0 18 (dk_at dksX1_isBetter_0 17 rfl rfl)
theorem dX1_isBetter_20 : decode cX1_isBetter 20 = .ok (.iload_n 3, 1) := dk_29 (dk_at dksX1_isBetter_0 20 rfl rfl)
theorem dX1_isBetter_21 : decode cX1_isBetter 21 = .ok (.ifCond .ne 18, 3) := dk_154 0 18 (dk_at dksX1_isBetter_0 21 rfl rfl)
theorem dX1_isBetter_24 : decode cX1_isBetter 24 = .ok (.aload_n 0, 1) := dk_42 (dk_at dksX1_isBetter_1 0 rfl rfl)
theorem dX1_isBetter_25 : decode cX1_isBetter 25 = .ok (.getfield 242, 3) := dk_180 0 242 (dk_at dksX1_isBetter_1 1 rfl rfl)
theorem dX1_isBetter_28 : decode cX1_isBetter 28 = .ok (.aload_n 1, 1) := dk_43 (dk_at dksX1_isBetter_1 4 rfl rfl)
theorem dX1_isBetter_29 : decode cX1_isBetter 29 = .ok (.getfield 242, 3) := dk_180 0 242 (dk_at dksX1_isBetter_1 5 rfl rfl)
theorem dX1_isBetter_32 : decode cX1_isBetter 32 = .ok (.if_icmp .le 7, 3) := dk_164 0 7 (dk_at dksX1_isBetter_1 8 rfl rfl)
theorem dX1_isBetter_35 : decode cX1_isBetter 35 = .ok (.iconst 1, 1) := dk_4 (dk_at dksX1_isBetter_1 11 rfl rfl)
theorem dX1_isBetter_36 : decode cX1_isBetter 36 = .ok (.goto 4, 3) := dk_167 0 4 (dk_at dksX1_isBetter_1 12 rfl rfl)
theorem dX1_isBetter_39 : decode cX1_isBetter 39 = .ok (.iconst 0, 1) := dk_3 (dk_at dksX1_isBetter_1 15 rfl rfl)
theorem dX1_isBetter_40 : decode cX1_isBetter 40 = .ok (.ireturn, 1) := dk_172 (dk_at dksX1_isBetter_1 16 rfl rfl)
abbrev cX1_tour : ByteArray := prog_1_method_52_code
def yX1_tour : MethodName := ⟨RX1, "tour", "(I)I"⟩
def dkwX1_tour_2 : List UInt8 := [190, 4, 100, 46, 182, 1, 87, 96, 172]
abbrev dktX1_tour_2 : List UInt8 := dkwX1_tour_2 ++ []
def dkwX1_tour_1 : List UInt8 := [21, 4, 4, 100, 46, 44, 21, 4, 46, 182, 1, 84, 96, 62, 132, 4, 1, 167, 255, 229, 29, 42, 44, 44]
abbrev dktX1_tour_1 : List UInt8 := dkwX1_tour_1 ++ dktX1_tour_2
def dkwX1_tour_0 : List UInt8 := [42, 27, 182, 1, 32, 180, 1, 39, 77, 3, 62, 4, 54, 4, 21, 4, 44, 190, 162, 0, 26, 29, 42, 44]
abbrev dktX1_tour_0 : List UInt8 := dkwX1_tour_0 ++ dktX1_tour_1
theorem dksX1_tour_0 : cX1_tour.data.toList.drop 0 = dktX1_tour_0 := by decide +kernel
theorem dksX1_tour_1 : cX1_tour.data.toList.drop 24 = dktX1_tour_1 := dk_seg dksX1_tour_0 24 rfl rfl
theorem dksX1_tour_2 : cX1_tour.data.toList.drop 48 = dktX1_tour_2 := dk_seg dksX1_tour_1 24 rfl rfl
theorem dX1_tour_0 : decode cX1_tour 0 = .ok (.aload_n 0, 1) := dk_42 (dk_at dksX1_tour_0 0 rfl rfl)
theorem dX1_tour_1 : decode cX1_tour 1 = .ok (.iload_n 1, 1) := dk_27 (dk_at dksX1_tour_0 1 rfl rfl)
theorem dX1_tour_2 : decode cX1_tour 2 = .ok (.invokevirtual 288, 3) := dk_182 1 32 (dk_at dksX1_tour_0 2 rfl rfl)
theorem dX1_tour_5 : decode cX1_tour 5 = .ok (.getfield 295, 3) := dk_180 1 39 (dk_at dksX1_tour_0 5 rfl rfl)
theorem dX1_tour_8 : decode cX1_tour 8 = .ok (.astore_n 2, 1) := dk_77 (dk_at dksX1_tour_0 8 rfl rfl)
theorem dX1_tour_9 : decode cX1_tour 9 = .ok (.iconst 0, 1) := dk_3 (dk_at dksX1_tour_0 9 rfl rfl)
theorem dX1_tour_10 : decode cX1_tour 10 = .ok (.istore_n 3, 1) := dk_62 (dk_at dksX1_tour_0 10 rfl rfl)
theorem dX1_tour_11 : decode cX1_tour 11 = .ok (.iconst 1, 1) := dk_4 (dk_at dksX1_tour_0 11 rfl rfl)
theorem dX1_tour_12 : decode cX1_tour 12 = .ok (.istore 4, 2) := dk_54 4 (dk_at dksX1_tour_0 12 rfl rfl)
theorem dX1_tour_14 : decode cX1_tour 14 = .ok (.iload 4, 2) := dk_21 4 (dk_at dksX1_tour_0 14 rfl rfl)
theorem dX1_tour_16 : decode cX1_tour 16 = .ok (.aload_n 2, 1) := dk_44 (dk_at dksX1_tour_0 16 rfl rfl)
theorem dX1_tour_17 : decode cX1_tour 17 = .ok (.arraylength, 1) := dk_190 (dk_at dksX1_tour_0 17 rfl rfl)
theorem dX1_tour_18 : decode cX1_tour 18 = .ok (.if_icmp .ge 26, 3) := dk_162 0 26 (dk_at dksX1_tour_0 18 rfl rfl)
theorem dX1_tour_21 : decode cX1_tour 21 = .ok (.iload_n 3, 1) := dk_29 (dk_at dksX1_tour_0 21 rfl rfl)
theorem dX1_tour_22 : decode cX1_tour 22 = .ok (.aload_n 0, 1) := dk_42 (dk_at dksX1_tour_0 22 rfl rfl)
theorem dX1_tour_23 : decode cX1_tour 23 = .ok (.aload_n 2, 1) := dk_44 (dk_at dksX1_tour_0 23 rfl rfl)
theorem dX1_tour_24 : decode cX1_tour 24 = .ok (.iload 4, 2) := dk_21 4 (dk_at dksX1_tour_1 0 rfl rfl)
theorem dX1_tour_26 : decode cX1_tour 26 = .ok (.iconst 1, 1) := dk_4 (dk_at dksX1_tour_1 2 rfl rfl)
theorem dX1_tour_27 : decode cX1_tour 27 = .ok (.isub, 1) := dk_100 (dk_at dksX1_tour_1 3 rfl rfl)
theorem dX1_tour_28 : decode cX1_tour 28 = .ok (.iaload, 1) := dk_46 (dk_at dksX1_tour_1 4 rfl rfl)
theorem dX1_tour_29 : decode cX1_tour 29 = .ok (.aload_n 2, 1) := dk_44 (dk_at dksX1_tour_1 5 rfl rfl)
theorem dX1_tour_30 : decode cX1_tour 30 = .ok (.iload 4, 2) := dk_21 4 (dk_at dksX1_tour_1 6 rfl rfl)
theorem dX1_tour_32 : decode cX1_tour 32 = .ok (.iaload, 1) := dk_46 (dk_at dksX1_tour_1 8 rfl rfl)
theorem dX1_tour_33 : decode cX1_tour 33 = .ok (.invokevirtual 340, 3) := dk_182 1 84 (dk_at dksX1_tour_1 9 rfl rfl)
theorem dX1_tour_36 : decode cX1_tour 36 = .ok (.iadd, 1) := dk_96 (dk_at dksX1_tour_1 12 rfl rfl)
theorem dX1_tour_37 : decode cX1_tour 37 = .ok (.istore_n 3, 1) := dk_62 (dk_at dksX1_tour_1 13 rfl rfl)
theorem dX1_tour_38 : decode cX1_tour 38 = .ok (.iinc 4 1, 3) := dk_132 4 1 (dk_at dksX1_tour_1 14 rfl rfl)
theorem dX1_tour_41 : decode cX1_tour 41 = .ok (.goto (-27), 3) := dk_167 255 229 (dk_at dksX1_tour_1 17 rfl rfl)
theorem dX1_tour_44 : decode cX1_tour 44 = .ok (.iload_n 3, 1) := dk_29 (dk_at dksX1_tour_1 20 rfl rfl)
theorem dX1_tour_45 : decode cX1_tour 45 = .ok (.aload_n 0, 1) := dk_42 (dk_at dksX1_tour_1 21 rfl rfl)
theorem dX1_tour_46 : decode cX1_tour 46 = .ok (.aload_n 2, 1) := dk_44 (dk_at dksX1_tour_1 22 rfl rfl)
theorem dX1_tour_47 : decode cX1_tour 47 = .ok (.aload_n 2, 1) := dk_44 (dk_at dksX1_tour_1 23 rfl rfl)
theorem dX1_tour_48 : decode cX1_tour 48 = .ok (.arraylength, 1) := dk_190 (dk_at dksX1_tour_2 0 rfl rfl)
theorem dX1_tour_49 : decode cX1_tour 49 = .ok (.iconst 1, 1) := dk_4 (dk_at dksX1_tour_2 1 rfl rfl)
theorem dX1_tour_50 : decode cX1_tour 50 = .ok (.isub, 1) := dk_100 (dk_at dksX1_tour_2 2 rfl rfl)
theorem dX1_tour_51 : decode cX1_tour 51 = .ok (.iaload, 1) := dk_46 (dk_at dksX1_tour_2 3 rfl rfl)
theorem dX1_tour_52 : decode cX1_tour 52 = .ok (.invokevirtual 343, 3) := dk_182 1 87 (dk_at dksX1_tour_2 4 rfl rfl)
theorem dX1_tour_55 : decode cX1_tour 55 = .ok (.iadd, 1) := dk_96 (dk_at dksX1_tour_2 7 rfl rfl)
theorem dX1_tour_56 : decode cX1_tour 56 = .ok (.ireturn, 1) := dk_172 (dk_at dksX1_tour_2 8 rfl rfl)
abbrev cX1_toStation : ByteArray := prog_1_method_51_code
def yX1_toStation : MethodName := ⟨RX1, "toStation", "(I)I"⟩
def dkwX1_toStation_4 : List UInt8 := [29, 172]
abbrev dktX1_toStation_4 : List UInt8 := dkwX1_toStation_4 ++ []
def dkwX1_toStation_3 : List UInt8 := [167, 0, 4, 29, 62, 132, 4, 1, 167, 255, 190, 29, 2, 159, 0, 7, 4, 167, 0, 4, 3, 184, 0, 169]
abbrev dktX1_toStation_3 : List UInt8 := dkwX1_toStation_3 ++ dktX1_toStation_4
def dkwX1_toStation_2 : List UInt8 := [54, 5, 21, 5, 153, 0, 23, 29, 2, 159, 0, 11, 44, 21, 4, 46, 29, 162, 0, 10, 44, 21, 4, 46]
abbrev dktX1_toStation_2 : List UInt8 := dkwX1_toStation_2 ++ dktX1_toStation_3
def dkwX1_toStation_1 : List UInt8 := [180, 0, 189, 21, 4, 46, 6, 160, 0, 15, 44, 21, 4, 46, 2, 159, 0, 7, 4, 167, 0, 4, 3]
abbrev dktX1_toStation_1 : List UInt8 := dkwX1_toStation_1 ++ dktX1_toStation_2
def dkwX1_toStation_0 : List UInt8 := [42, 27, 182, 0, 213, 77, 2, 62, 3, 54, 4, 21, 4, 44, 190, 162, 0, 65, 42, 180, 0, 14]
abbrev dktX1_toStation_0 : List UInt8 := dkwX1_toStation_0 ++ dktX1_toStation_1
theorem dksX1_toStation_0 : cX1_toStation.data.toList.drop 0 = dktX1_toStation_0 := by decide +kernel
theorem dksX1_toStation_1 : cX1_toStation.data.toList.drop 22 = dktX1_toStation_1 := dk_seg dksX1_toStation_0 22 rfl rfl
theorem dksX1_toStation_2 : cX1_toStation.data.toList.drop 45 = dktX1_toStation_2 := dk_seg dksX1_toStation_1 23 rfl rfl
theorem dksX1_toStation_3 : cX1_toStation.data.toList.drop 69 = dktX1_toStation_3 := dk_seg dksX1_toStation_2 24 rfl rfl
theorem dksX1_toStation_4 : cX1_toStation.data.toList.drop 93 = dktX1_toStation_4 := dk_seg dksX1_toStation_3 24 rfl rfl
theorem dX1_toStation_0 : decode cX1_toStation 0 = .ok (.aload_n 0, 1) := dk_42 (dk_at dksX1_toStation_0 0 rfl rfl)
theorem dX1_toStation_1 : decode cX1_toStation 1 = .ok (.iload_n 1, 1) := dk_27 (dk_at dksX1_toStation_0 1 rfl rfl)
theorem dX1_toStation_2 : decode cX1_toStation 2 = .ok (.invokevirtual 213, 3) := dk_182 0 213 (dk_at dksX1_toStation_0 2 rfl rfl)
theorem dX1_toStation_5 : decode cX1_toStation 5 = .ok (.astore_n 2, 1) := dk_77 (dk_at dksX1_toStation_0 5 rfl rfl)
theorem dX1_toStation_6 : decode cX1_toStation 6 = .ok (.iconst (-1), 1) := dk_2 (dk_at dksX1_toStation_0 6 rfl rfl)
theorem dX1_toStation_7 : decode cX1_toStation 7 = .ok (.istore_n 3, 1) := dk_62 (dk_at dksX1_toStation_0 7 rfl rfl)
theorem dX1_toStation_8 : decode cX1_toStation 8 = .ok (.iconst 0, 1) := dk_3 (dk_at dksX1_toStation_0 8 rfl rfl)
theorem dX1_toStation_9 : decode cX1_toStation 9 = .ok (.istore 4, 2) := dk_54 4 (dk_at dksX1_toStation_0 9 rfl rfl)
theorem dX1_toStation_11 : decode cX1_toStation 11 = .ok (.iload 4, 2) := dk_21 4 (dk_at dksX1_toStation_0 11 rfl rfl)
theorem dX1_toStation_13 : decode cX1_toStation 13 = .ok (.aload_n 2, 1) := dk_44 (dk_at dksX1_toStation_0 13 rfl rfl)
theorem dX1_toStation_14 : decode cX1_toStation 14 = .ok (.arraylength, 1) := dk_190 (dk_at dksX1_toStation_0 14 rfl rfl)
theorem dX1_toStation_15 : decode cX1_toStation 15 = .ok (.if_icmp .ge 65, 3) := dk_162 0 65 (dk_at dksX1_toStation_0 15 rfl rfl)
theorem dX1_toStation_18 : decode cX1_toStation 18 = .ok (.aload_n 0, 1) := dk_42 (dk_at dksX1_toStation_0 18 rfl rfl)
theorem dX1_toStation_19 : decode cX1_toStation 19 = .ok (.getfield 14, 3) := dk_180 0 14 (dk_at dksX1_toStation_0 19 rfl rfl)
theorem dX1_toStation_22 : decode cX1_toStation 22 = .ok (.getfield 189, 3) := dk_180 0 189 (dk_at dksX1_toStation_1 0 rfl rfl)
theorem dX1_toStation_25 : decode cX1_toStation 25 = .ok (.iload 4, 2) := dk_21 4 (dk_at dksX1_toStation_1 3 rfl rfl)
theorem dX1_toStation_27 : decode cX1_toStation 27 = .ok (.iaload, 1) := dk_46 (dk_at dksX1_toStation_1 5 rfl rfl)
theorem dX1_toStation_28 : decode cX1_toStation 28 = .ok (.iconst 3, 1) := dk_6 (dk_at dksX1_toStation_1 6 rfl rfl)
theorem dX1_toStation_29 : decode cX1_toStation 29 = .ok (.if_icmp .ne 15, 3) := dk_160 0 15 (dk_at dksX1_toStation_1 7 rfl rfl)
theorem dX1_toStation_32 : decode cX1_toStation 32 = .ok (.aload_n 2, 1) := dk_44 (dk_at dksX1_toStation_1 10 rfl rfl)
theorem dX1_toStation_33 : decode cX1_toStation 33 = .ok (.iload 4, 2) := dk_21 4 (dk_at dksX1_toStation_1 11 rfl rfl)
theorem dX1_toStation_35 : decode cX1_toStation 35 = .ok (.iaload, 1) := dk_46 (dk_at dksX1_toStation_1 13 rfl rfl)
theorem dX1_toStation_36 : decode cX1_toStation 36 = .ok (.iconst (-1), 1) := dk_2 (dk_at dksX1_toStation_1 14 rfl rfl)
theorem dX1_toStation_37 : decode cX1_toStation 37 = .ok (.if_icmp .eq 7, 3) := dk_159 0 7 (dk_at dksX1_toStation_1 15 rfl rfl)
theorem dX1_toStation_40 : decode cX1_toStation 40 = .ok (.iconst 1, 1) := dk_4 (dk_at dksX1_toStation_1 18 rfl rfl)
theorem dX1_toStation_41 : decode cX1_toStation 41 = .ok (.goto 4, 3) := dk_167 0 4 (dk_at dksX1_toStation_1 19 rfl rfl)
theorem dX1_toStation_44 : decode cX1_toStation 44 = .ok (.iconst 0, 1) := dk_3 (dk_at dksX1_toStation_1 22 rfl rfl)
theorem dX1_toStation_45 : decode cX1_toStation 45 = .ok (.istore 5, 2) := dk_54 5 (dk_at dksX1_toStation_2 0 rfl rfl)
theorem dX1_toStation_47 : decode cX1_toStation 47 = .ok (.iload 5, 2) := dk_21 5 (dk_at dksX1_toStation_2 2 rfl rfl)
theorem dX1_toStation_49 : decode cX1_toStation 49 = .ok (.ifCond .eq 23, 3) := dk_153 0 23 (dk_at dksX1_toStation_2 4 rfl rfl)
theorem dX1_toStation_52 : decode cX1_toStation 52 = .ok (.iload_n 3, 1) := dk_29 (dk_at dksX1_toStation_2 7 rfl rfl)
theorem dX1_toStation_53 : decode cX1_toStation 53 = .ok (.iconst (-1), 1) := dk_2 (dk_at dksX1_toStation_2 8 rfl rfl)
theorem dX1_toStation_54 : decode cX1_toStation 54 = .ok (.if_icmp .eq 11, 3) := dk_159 0 11 (dk_at dksX1_toStation_2 9 rfl rfl)
theorem dX1_toStation_57 : decode cX1_toStation 57 = .ok (.aload_n 2, 1) := dk_44 (dk_at dksX1_toStation_2 12 rfl rfl)
theorem dX1_toStation_58 : decode cX1_toStation 58 = .ok (.iload 4, 2) := dk_21 4 (dk_at dksX1_toStation_2 13 rfl rfl)
theorem dX1_toStation_60 : decode cX1_toStation 60 = .ok (.iaload, 1) := dk_46 (dk_at dksX1_toStation_2 15 rfl rfl)
theorem dX1_toStation_61 : decode cX1_toStation 61 = .ok (.iload_n 3, 1) := dk_29 (dk_at dksX1_toStation_2 16 rfl rfl)
theorem dX1_toStation_62 : decode cX1_toStation 62 = .ok (.if_icmp .ge 10, 3) := dk_162 0 10 (dk_at dksX1_toStation_2 17 rfl rfl)
theorem dX1_toStation_65 : decode cX1_toStation 65 = .ok (.aload_n 2, 1) := dk_44 (dk_at dksX1_toStation_2 20 rfl rfl)
theorem dX1_toStation_66 : decode cX1_toStation 66 = .ok (.iload 4, 2) := dk_21 4 (dk_at dksX1_toStation_2 21 rfl rfl)
theorem dX1_toStation_68 : decode cX1_toStation 68 = .ok (.iaload, 1) := dk_46 (dk_at dksX1_toStation_2 23 rfl rfl)
theorem dX1_toStation_69 : decode cX1_toStation 69 = .ok (.goto 4, 3) := dk_167 0 4 (dk_at dksX1_toStation_3 0 rfl rfl)
theorem dX1_toStation_72 : decode cX1_toStation 72 = .ok (.iload_n 3, 1) := dk_29 (dk_at dksX1_toStation_3 3 rfl rfl)
theorem dX1_toStation_73 : decode cX1_toStation 73 = .ok (.istore_n 3, 1) := dk_62 (dk_at dksX1_toStation_3 4 rfl rfl)
theorem dX1_toStation_74 : decode cX1_toStation 74 = .ok (.iinc 4 1, 3) := dk_132 4 1 (dk_at dksX1_toStation_3 5 rfl rfl)
theorem dX1_toStation_77 : decode cX1_toStation 77 = .ok (.goto (-66), 3) := dk_167 255 190 (dk_at dksX1_toStation_3 8 rfl rfl)
theorem dX1_toStation_80 : decode cX1_toStation 80 = .ok (.iload_n 3, 1) := dk_29 (dk_at dksX1_toStation_3 11 rfl rfl)
theorem dX1_toStation_81 : decode cX1_toStation 81 = .ok (.iconst (-1), 1) := dk_2 (dk_at dksX1_toStation_3 12 rfl rfl)
theorem dX1_toStation_82 : decode cX1_toStation 82 = .ok (.if_icmp .eq 7, 3) := dk_159 0 7 (dk_at dksX1_toStation_3 13 rfl rfl)
theorem dX1_toStation_85 : decode cX1_toStation 85 = .ok (.iconst 1, 1) := dk_4 (dk_at dksX1_toStation_3 16 rfl rfl)
theorem dX1_toStation_86 : decode cX1_toStation 86 = .ok (.goto 4, 3) := dk_167 0 4 (dk_at dksX1_toStation_3 17 rfl rfl)
theorem dX1_toStation_89 : decode cX1_toStation 89 = .ok (.iconst 0, 1) := dk_3 (dk_at dksX1_toStation_3 20 rfl rfl)
theorem dX1_toStation_90 : decode cX1_toStation 90 = .ok (.invokestatic 169, 3) := dk_184 0 169 (dk_at dksX1_toStation_3 21 rfl rfl)
theorem dX1_toStation_93 : decode cX1_toStation 93 = .ok (.iload_n 3, 1) := dk_29 (dk_at dksX1_toStation_4 0 rfl rfl)
theorem dX1_toStation_94 : decode cX1_toStation 94 = .ok (.ireturn, 1) := dk_172 (dk_at dksX1_toStation_4 1 rfl rfl)
abbrev cX1_loaded : ByteArray := prog_1_method_53_code
def yX1_loaded : MethodName := ⟨RX1, "loaded", "()F"⟩
def dkwX1_loaded_3 : List UInt8 := [134, 110, 174]
abbrev dktX1_loaded_3 : List UInt8 := dkwX1_loaded_3 ++ []
def dkwX1_loaded_2 : List UInt8 := [167, 0, 4, 3, 96, 60, 132, 2, 1, 167, 255, 220, 27, 134, 42, 180, 0, 14, 180, 0, 227, 182, 0, 68]
abbrev dktX1_loaded_2 : List UInt8 := dkwX1_loaded_2 ++ dktX1_loaded_3
def dkwX1_loaded_1 : List UInt8 := [180, 0, 227, 182, 0, 68, 162, 0, 28, 27, 42, 180, 0, 14, 28, 182, 1, 1, 153, 0, 7, 4]
abbrev dktX1_loaded_1 : List UInt8 := dkwX1_loaded_1 ++ dktX1_loaded_2
def dkwX1_loaded_0 : List UInt8 := [42, 180, 0, 14, 180, 0, 227, 182, 0, 68, 184, 1, 90, 3, 60, 3, 61, 28, 42, 180, 0, 14]
abbrev dktX1_loaded_0 : List UInt8 := dkwX1_loaded_0 ++ dktX1_loaded_1
theorem dksX1_loaded_0 : cX1_loaded.data.toList.drop 0 = dktX1_loaded_0 := by decide +kernel
theorem dksX1_loaded_1 : cX1_loaded.data.toList.drop 22 = dktX1_loaded_1 := dk_seg dksX1_loaded_0 22 rfl rfl
theorem dksX1_loaded_2 : cX1_loaded.data.toList.drop 44 = dktX1_loaded_2 := dk_seg dksX1_loaded_1 22 rfl rfl
theorem dksX1_loaded_3 : cX1_loaded.data.toList.drop 68 = dktX1_loaded_3 := dk_seg dksX1_loaded_2 24 rfl rfl
theorem dX1_loaded_0 : decode cX1_loaded 0 = .ok (.aload_n 0, 1) := dk_42 (dk_at dksX1_loaded_0 0 rfl rfl)
theorem dX1_loaded_1 : decode cX1_loaded 1 = .ok (.getfield 14, 3) := dk_180 0 14 (dk_at dksX1_loaded_0 1 rfl rfl)
theorem dX1_loaded_4 : decode cX1_loaded 4 = .ok (.getfield 227, 3) := dk_180 0 227 (dk_at dksX1_loaded_0 4 rfl rfl)
theorem dX1_loaded_7 : decode cX1_loaded 7 = .ok (.invokevirtual 68, 3) := dk_182 0 68 (dk_at dksX1_loaded_0 7 rfl rfl)
theorem dX1_loaded_10 : decode cX1_loaded 10 = .ok (.invokestatic 346, 3) := dk_184 1 90 (dk_at dksX1_loaded_0 10 rfl rfl)
theorem dX1_loaded_13 : decode cX1_loaded 13 = .ok (.iconst 0, 1) := dk_3 (dk_at dksX1_loaded_0 13 rfl rfl)
theorem dX1_loaded_14 : decode cX1_loaded 14 = .ok (.istore_n 1, 1) := dk_60 (dk_at dksX1_loaded_0 14 rfl rfl)
theorem dX1_loaded_15 : decode cX1_loaded 15 = .ok (.iconst 0, 1) := dk_3 (dk_at dksX1_loaded_0 15 rfl rfl)
theorem dX1_loaded_16 : decode cX1_loaded 16 = .ok (.istore_n 2, 1) := dk_61 (dk_at dksX1_loaded_0 16 rfl rfl)
theorem dX1_loaded_17 : decode cX1_loaded 17 = .ok (.iload_n 2, 1) := dk_28 (dk_at dksX1_loaded_0 17 rfl rfl)
theorem dX1_loaded_18 : decode cX1_loaded 18 = .ok (.aload_n 0, 1) := dk_42 (dk_at dksX1_loaded_0 18 rfl rfl)
theorem dX1_loaded_19 : decode cX1_loaded 19 = .ok (.getfield 14, 3) := dk_180 0 14 (dk_at dksX1_loaded_0 19 rfl rfl)
theorem dX1_loaded_22 : decode cX1_loaded 22 = .ok (.getfield 227, 3) := dk_180 0 227 (dk_at dksX1_loaded_1 0 rfl rfl)
theorem dX1_loaded_25 : decode cX1_loaded 25 = .ok (.invokevirtual 68, 3) := dk_182 0 68 (dk_at dksX1_loaded_1 3 rfl rfl)
theorem dX1_loaded_28 : decode cX1_loaded 28 = .ok (.if_icmp .ge 28, 3) := dk_162 0 28 (dk_at dksX1_loaded_1 6 rfl rfl)
theorem dX1_loaded_31 : decode cX1_loaded 31 = .ok (.iload_n 1, 1) := dk_27 (dk_at dksX1_loaded_1 9 rfl rfl)
theorem dX1_loaded_32 : decode cX1_loaded 32 = .ok (.aload_n 0, 1) := dk_42 (dk_at dksX1_loaded_1 10 rfl rfl)
theorem dX1_loaded_33 : decode cX1_loaded 33 = .ok (.getfield 14, 3) := dk_180 0 14 (dk_at dksX1_loaded_1 11 rfl rfl)
theorem dX1_loaded_36 : decode cX1_loaded 36 = .ok (.iload_n 2, 1) := dk_28 (dk_at dksX1_loaded_1 14 rfl rfl)
theorem dX1_loaded_37 : decode cX1_loaded 37 = .ok (.invokevirtual 257, 3) := dk_182 1 1 (dk_at dksX1_loaded_1 15 rfl rfl)
theorem dX1_loaded_40 : decode cX1_loaded 40 = .ok (.ifCond .eq 7, 3) := dk_153 0 7 (dk_at dksX1_loaded_1 18 rfl rfl)
theorem dX1_loaded_43 : decode cX1_loaded 43 = .ok (.iconst 1, 1) := dk_4 (dk_at dksX1_loaded_1 21 rfl rfl)
theorem dX1_loaded_44 : decode cX1_loaded 44 = .ok (.goto 4, 3) := dk_167 0 4 (dk_at dksX1_loaded_2 0 rfl rfl)
theorem dX1_loaded_47 : decode cX1_loaded 47 = .ok (.iconst 0, 1) := dk_3 (dk_at dksX1_loaded_2 3 rfl rfl)
theorem dX1_loaded_48 : decode cX1_loaded 48 = .ok (.iadd, 1) := dk_96 (dk_at dksX1_loaded_2 4 rfl rfl)
theorem dX1_loaded_49 : decode cX1_loaded 49 = .ok (.istore_n 1, 1) := dk_60 (dk_at dksX1_loaded_2 5 rfl rfl)
theorem dX1_loaded_50 : decode cX1_loaded 50 = .ok (.iinc 2 1, 3) := dk_132 2 1 (dk_at dksX1_loaded_2 6 rfl rfl)
theorem dX1_loaded_53 : decode cX1_loaded 53 = .ok (.goto (-36), 3) := dk_167 255 220 (dk_at dksX1_loaded_2 9 rfl rfl)
theorem dX1_loaded_56 : decode cX1_loaded 56 = .ok (.iload_n 1, 1) := dk_27 (dk_at dksX1_loaded_2 12 rfl rfl)
theorem dX1_loaded_57 : decode cX1_loaded 57 = .ok (.i2f, 1) := dk_134 (dk_at dksX1_loaded_2 13 rfl rfl)
theorem dX1_loaded_58 : decode cX1_loaded 58 = .ok (.aload_n 0, 1) := dk_42 (dk_at dksX1_loaded_2 14 rfl rfl)
theorem dX1_loaded_59 : decode cX1_loaded 59 = .ok (.getfield 14, 3) := dk_180 0 14 (dk_at dksX1_loaded_2 15 rfl rfl)
theorem dX1_loaded_62 : decode cX1_loaded 62 = .ok (.getfield 227, 3) := dk_180 0 227 (dk_at dksX1_loaded_2 18 rfl rfl)
theorem dX1_loaded_65 : decode cX1_loaded 65 = .ok (.invokevirtual 68, 3) := dk_182 0 68 (dk_at dksX1_loaded_2 21 rfl rfl)
theorem dX1_loaded_68 : decode cX1_loaded 68 = .ok (.i2f, 1) := dk_134 (dk_at dksX1_loaded_3 0 rfl rfl)
theorem dX1_loaded_69 : decode cX1_loaded 69 = .ok (.fdiv, 1) := dk_110 (dk_at dksX1_loaded_3 1 rfl rfl)
theorem dX1_loaded_70 : decode cX1_loaded 70 = .ok (.freturn, 1) := dk_174 (dk_at dksX1_loaded_3 2 rfl rfl)
abbrev cX1_requireSome : ByteArray := prog_1_method_7_code
def yX1_requireSome : MethodName := ⟨RX1, "requireSome", "(I)V"⟩
def dkwX1_requireSome_0 : List UInt8 := [26, 154, 0, 11, 187, 0, 45, 89, 183, 0, 47, 191, 177]
abbrev dktX1_requireSome_0 : List UInt8 := dkwX1_requireSome_0 ++ []
theorem dksX1_requireSome_0 : cX1_requireSome.data.toList.drop 0 = dktX1_requireSome_0 := by decide +kernel
theorem dX1_requireSome_0 : decode cX1_requireSome 0 = .ok (.iload_n 0, 1) := dk_26 (dk_at dksX1_requireSome_0 0 rfl rfl)
theorem dX1_requireSome_1 : decode cX1_requireSome 1 = .ok (.ifCond .ne 11, 3) := dk_154 0 11 (dk_at dksX1_requireSome_0 1 rfl rfl)
theorem dX1_requireSome_4 : decode cX1_requireSome 4 = .ok (.new 45, 3) := dk_187 0 45 (dk_at dksX1_requireSome_0 4 rfl rfl)
theorem dX1_requireSome_7 : decode cX1_requireSome 7 = .ok (.dup, 1) := dk_89 (dk_at dksX1_requireSome_0 7 rfl rfl)
theorem dX1_requireSome_8 : decode cX1_requireSome 8 = .ok (.invokespecial 47, 3) := dk_183 0 47 (dk_at dksX1_requireSome_0 8 rfl rfl)
theorem dX1_requireSome_11 : decode cX1_requireSome 11 = .ok (.athrow, 1) := dk_191 (dk_at dksX1_requireSome_0 11 rfl rfl)
theorem dX1_requireSome_12 : decode cX1_requireSome 12 = .ok (.return_, 1) := dk_177 (dk_at dksX1_requireSome_0 12 rfl rfl)
abbrev cX1_lateness : ByteArray := prog_1_method_55_code
def yX1_lateness : MethodName := ⟨RX1, "lateness", "()D"⟩
def dkwX1_lateness_3 : List UInt8 := [96, 61, 132, 3, 1, 167, 255, 196, 28, 135, 27, 135, 111, 175]
abbrev dktX1_lateness_3 : List UInt8 := dkwX1_lateness_3 ++ []
def dkwX1_lateness_2 : List UInt8 := [25, 4, 180, 1, 45, 5, 160, 0, 17, 25, 4, 180, 1, 51, 25, 4, 180, 1, 36, 100, 167, 0, 4, 3]
abbrev dktX1_lateness_2 : List UInt8 := dkwX1_lateness_2 ++ dktX1_lateness_3
def dkwX1_lateness_1 : List UInt8 := [182, 0, 68, 162, 0, 52, 42, 180, 0, 14, 180, 1, 27, 29, 182, 0, 230, 192, 1, 30, 58, 4, 28]
abbrev dktX1_lateness_1 : List UInt8 := dkwX1_lateness_1 ++ dktX1_lateness_2
def dkwX1_lateness_0 : List UInt8 := [42, 5, 182, 1, 93, 60, 27, 184, 1, 90, 3, 61, 3, 62, 29, 42, 180, 0, 14, 180, 1, 27]
abbrev dktX1_lateness_0 : List UInt8 := dkwX1_lateness_0 ++ dktX1_lateness_1
theorem dksX1_lateness_0 : cX1_lateness.data.toList.drop 0 = dktX1_lateness_0 := by decide +kernel
theorem dksX1_lateness_1 : cX1_lateness.data.toList.drop 22 = dktX1_lateness_1 := dk_seg dksX1_lateness_0 22 rfl rfl
theorem dksX1_lateness_2 : cX1_lateness.data.toList.drop 45 = dktX1_lateness_2 := dk_seg dksX1_lateness_1 23 rfl rfl
theorem dksX1_lateness_3 : cX1_lateness.data.toList.drop 69 = dktX1_lateness_3 := dk_seg dksX1_lateness_2 24 rfl rfl
theorem dX1_lateness_0 : decode cX1_lateness 0 = .ok (.aload_n 0, 1) := dk_42 (dk_at dksX1_lateness_0 0 rfl rfl)
theorem dX1_lateness_1 : decode cX1_lateness 1 = .ok (.iconst 2, 1) := dk_5 (dk_at dksX1_lateness_0 1 rfl rfl)
theorem dX1_lateness_2 : decode cX1_lateness 2 = .ok (.invokevirtual 349, 3) := dk_182 1 93 (dk_at dksX1_lateness_0 2 rfl rfl)
theorem dX1_lateness_5 : decode cX1_lateness 5 = .ok (.istore_n 1, 1) := dk_60 (dk_at dksX1_lateness_0 5 rfl rfl)
theorem dX1_lateness_6 : decode cX1_lateness 6 = .ok (.iload_n 1, 1) := dk_27 (dk_at dksX1_lateness_0 6 rfl rfl)
theorem dX1_lateness_7 : decode cX1_lateness 7 = .ok (.invokestatic 346, 3) := dk_184 1 90 (dk_at dksX1_lateness_0 7 rfl rfl)
theorem dX1_lateness_10 : decode cX1_lateness 10 = .ok (.iconst 0, 1) := dk_3 (dk_at dksX1_lateness_0 10 rfl rfl)
theorem dX1_lateness_11 : decode cX1_lateness 11 = .ok (.istore_n 2, 1) := dk_61 (dk_at dksX1_lateness_0 11 rfl rfl)
theorem dX1_lateness_12 : decode cX1_lateness 12 = .ok (.iconst 0, 1) := dk_3 (dk_at dksX1_lateness_0 12 rfl rfl)
theorem dX1_lateness_13 : decode cX1_lateness 13 = .ok (.istore_n 3, 1) := dk_62 (dk_at dksX1_lateness_0 13 rfl rfl)
theorem dX1_lateness_14 : decode cX1_lateness 14 = .ok (.iload_n 3, 1) := dk_29 (dk_at dksX1_lateness_0 14 rfl rfl)
theorem dX1_lateness_15 : decode cX1_lateness 15 = .ok (.aload_n 0, 1) := dk_42 (dk_at dksX1_lateness_0 15 rfl rfl)
theorem dX1_lateness_16 : decode cX1_lateness 16 = .ok (.getfield 14, 3) := dk_180 0 14 (dk_at dksX1_lateness_0 16 rfl rfl)
theorem dX1_lateness_19 : decode cX1_lateness 19 = .ok (.getfield 283, 3) := dk_180 1 27 (dk_at dksX1_lateness_0 19 rfl rfl)
theorem dX1_lateness_22 : decode cX1_lateness 22 = .ok (.invokevirtual 68, 3) := dk_182 0 68 (dk_at dksX1_lateness_1 0 rfl rfl)
theorem dX1_lateness_25 : decode cX1_lateness 25 = .ok (.if_icmp .ge 52, 3) := dk_162 0 52 (dk_at dksX1_lateness_1 3 rfl rfl)
theorem dX1_lateness_28 : decode cX1_lateness 28 = .ok (.aload_n 0, 1) := dk_42 (dk_at dksX1_lateness_1 6 rfl rfl)
theorem dX1_lateness_29 : decode cX1_lateness 29 = .ok (.getfield 14, 3) := dk_180 0 14 (dk_at dksX1_lateness_1 7 rfl rfl)
theorem dX1_lateness_32 : decode cX1_lateness 32 = .ok (.getfield 283, 3) := dk_180 1 27 (dk_at dksX1_lateness_1 10 rfl rfl)
theorem dX1_lateness_35 : decode cX1_lateness 35 = .ok (.iload_n 3, 1) := dk_29 (dk_at dksX1_lateness_1 13 rfl rfl)
theorem dX1_lateness_36 : decode cX1_lateness 36 = .ok (.invokevirtual 230, 3) := dk_182 0 230 (dk_at dksX1_lateness_1 14 rfl rfl)
theorem dX1_lateness_39 : decode cX1_lateness 39 = .ok (.checkcast 286, 3) := dk_192 1 30 (dk_at dksX1_lateness_1 17 rfl rfl)
theorem dX1_lateness_42 : decode cX1_lateness 42 = .ok (.astore 4, 2) := dk_58 4 (dk_at dksX1_lateness_1 20 rfl rfl)
theorem dX1_lateness_44 : decode cX1_lateness 44 = .ok (.iload_n 2, 1) := dk_28 (dk_at dksX1_lateness_1 22 rfl rfl)
theorem dX1_lateness_45 : decode cX1_lateness 45 = .ok (.aload 4, 2) := dk_25 4 (dk_at dksX1_lateness_2 0 rfl rfl)
theorem dX1_lateness_47 : decode cX1_lateness 47 = .ok (.getfield 301, 3) := dk_180 1 45 (dk_at dksX1_lateness_2 2 rfl rfl)
theorem dX1_lateness_50 : decode cX1_lateness 50 = .ok (.iconst 2, 1) := dk_5 (dk_at dksX1_lateness_2 5 rfl rfl)
theorem dX1_lateness_51 : decode cX1_lateness 51 = .ok (.if_icmp .ne 17, 3) := dk_160 0 17 (dk_at dksX1_lateness_2 6 rfl rfl)
theorem dX1_lateness_54 : decode cX1_lateness 54 = .ok (.aload 4, 2) := dk_25 4 (dk_at dksX1_lateness_2 9 rfl rfl)
theorem dX1_lateness_56 : decode cX1_lateness 56 = .ok (.getfield 307, 3) := dk_180 1 51 (dk_at dksX1_lateness_2 11 rfl rfl)
theorem dX1_lateness_59 : decode cX1_lateness 59 = .ok (.aload 4, 2) := dk_25 4 (dk_at dksX1_lateness_2 14 rfl rfl)
theorem dX1_lateness_61 : decode cX1_lateness 61 = .ok (.getfield 292, 3) := dk_180 1 36 (dk_at dksX1_lateness_2 16 rfl rfl)
theorem dX1_lateness_64 : decode cX1_lateness 64 = .ok (.isub, 1) := dk_100 (dk_at dksX1_lateness_2 19 rfl rfl)
theorem dX1_lateness_65 : decode cX1_lateness 65 = .ok (.goto 4, 3) := dk_167 0 4 (dk_at dksX1_lateness_2 20 rfl rfl)
theorem dX1_lateness_68 : decode cX1_lateness 68 = .ok (.iconst 0, 1) := dk_3 (dk_at dksX1_lateness_2 23 rfl rfl)
theorem dX1_lateness_69 : decode cX1_lateness 69 = .ok (.iadd, 1) := dk_96 (dk_at dksX1_lateness_3 0 rfl rfl)
theorem dX1_lateness_70 : decode cX1_lateness 70 = .ok (.istore_n 2, 1) := dk_61 (dk_at dksX1_lateness_3 1 rfl rfl)
theorem dX1_lateness_71 : decode cX1_lateness 71 = .ok (.iinc 3 1, 3) := dk_132 3 1 (dk_at dksX1_lateness_3 2 rfl rfl)
theorem dX1_lateness_74 : decode cX1_lateness 74 = .ok (.goto (-60), 3) := dk_167 255 196 (dk_at dksX1_lateness_3 5 rfl rfl)
theorem dX1_lateness_77 : decode cX1_lateness 77 = .ok (.iload_n 2, 1) := dk_28 (dk_at dksX1_lateness_3 8 rfl rfl)
theorem dX1_lateness_78 : decode cX1_lateness 78 = .ok (.i2d, 1) := dk_135 (dk_at dksX1_lateness_3 9 rfl rfl)
theorem dX1_lateness_79 : decode cX1_lateness 79 = .ok (.iload_n 1, 1) := dk_27 (dk_at dksX1_lateness_3 10 rfl rfl)
theorem dX1_lateness_80 : decode cX1_lateness 80 = .ok (.i2d, 1) := dk_135 (dk_at dksX1_lateness_3 11 rfl rfl)
theorem dX1_lateness_81 : decode cX1_lateness 81 = .ok (.ddiv, 1) := dk_111 (dk_at dksX1_lateness_3 12 rfl rfl)
theorem dX1_lateness_82 : decode cX1_lateness 82 = .ok (.dreturn, 1) := dk_175 (dk_at dksX1_lateness_3 13 rfl rfl)
abbrev cX1_inState : ByteArray := prog_1_method_54_code
def yX1_inState : MethodName := ⟨RX1, "inState", "(I)I"⟩
def dkwX1_inState_2 : List UInt8 := [132, 3, 1, 167, 255, 210, 28, 172]
abbrev dktX1_inState_2 : List UInt8 := dkwX1_inState_2 ++ []
def dkwX1_inState_1 : List UInt8 := [180, 1, 27, 29, 182, 0, 230, 192, 1, 30, 180, 1, 45, 27, 160, 0, 7, 4, 167, 0, 4, 3, 96, 61]
abbrev dktX1_inState_1 : List UInt8 := dkwX1_inState_1 ++ dktX1_inState_2
def dkwX1_inState_0 : List UInt8 := [3, 61, 3, 62, 29, 42, 180, 0, 14, 180, 1, 27, 182, 0, 68, 162, 0, 38, 28, 42, 180, 0, 14]
abbrev dktX1_inState_0 : List UInt8 := dkwX1_inState_0 ++ dktX1_inState_1
theorem dksX1_inState_0 : cX1_inState.data.toList.drop 0 = dktX1_inState_0 := by decide +kernel
theorem dksX1_inState_1 : cX1_inState.data.toList.drop 23 = dktX1_inState_1 := dk_seg dksX1_inState_0 23 rfl rfl
theorem dksX1_inState_2 : cX1_inState.data.toList.drop 47 = dktX1_inState_2 := dk_seg dksX1_inState_1 24 rfl rfl
theorem dX1_inState_0 : decode cX1_inState 0 = .ok (.iconst 0, 1) := dk_3 (dk_at dksX1_inState_0 0 rfl rfl)
theorem dX1_inState_1 : decode cX1_inState 1 = .ok (.istore_n 2, 1) := dk_61 (dk_at dksX1_inState_0 1 rfl rfl)
theorem dX1_inState_2 : decode cX1_inState 2 = .ok (.iconst 0, 1) := dk_3 (dk_at dksX1_inState_0 2 rfl rfl)
theorem dX1_inState_3 : decode cX1_inState 3 = .ok (.istore_n 3, 1) := dk_62 (dk_at dksX1_inState_0 3 rfl rfl)
theorem dX1_inState_4 : decode cX1_inState 4 = .ok (.iload_n 3, 1) := dk_29 (dk_at dksX1_inState_0 4 rfl rfl)
theorem dX1_inState_5 : decode cX1_inState 5 = .ok (.aload_n 0, 1) := dk_42 (dk_at dksX1_inState_0 5 rfl rfl)
theorem dX1_inState_6 : decode cX1_inState 6 = .ok (.getfield 14, 3) := dk_180 0 14 (dk_at dksX1_inState_0 6 rfl rfl)
theorem dX1_inState_9 : decode cX1_inState 9 = .ok (.getfield 283, 3) := dk_180 1 27 (dk_at dksX1_inState_0 9 rfl rfl)
theorem dX1_inState_12 : decode cX1_inState 12 = .ok (.invokevirtual 68, 3) := dk_182 0 68 (dk_at dksX1_inState_0 12 rfl rfl)
theorem dX1_inState_15 : decode cX1_inState 15 = .ok (.if_icmp .ge 38, 3) := dk_162 0 38 (dk_at dksX1_inState_0 15 rfl rfl)
theorem dX1_inState_18 : decode cX1_inState 18 = .ok (.iload_n 2, 1) := dk_28 (dk_at dksX1_inState_0 18 rfl rfl)
theorem dX1_inState_19 : decode cX1_inState 19 = .ok (.aload_n 0, 1) := dk_42 (dk_at dksX1_inState_0 19 rfl rfl)
theorem dX1_inState_20 : decode cX1_inState 20 = .ok (.getfield 14, 3) := dk_180 0 14 (dk_at dksX1_inState_0 20 rfl rfl)
theorem dX1_inState_23 : decode cX1_inState 23 = .ok (.getfield 283, 3) := dk_180 1 27 (dk_at dksX1_inState_1 0 rfl rfl)
theorem dX1_inState_26 : decode cX1_inState 26 = .ok (.iload_n 3, 1) := dk_29 (dk_at dksX1_inState_1 3 rfl rfl)
theorem dX1_inState_27 : decode cX1_inState 27 = .ok (.invokevirtual 230, 3) := dk_182 0 230 (dk_at dksX1_inState_1 4 rfl rfl)
theorem dX1_inState_30 : decode cX1_inState 30 = .ok (.checkcast 286, 3) := dk_192 1 30 (dk_at dksX1_inState_1 7 rfl rfl)
theorem dX1_inState_33 : decode cX1_inState 33 = .ok (.getfield 301, 3) := dk_180 1 45 (dk_at dksX1_inState_1 10 rfl rfl)
theorem dX1_inState_36 : decode cX1_inState 36 = .ok (.iload_n 1, 1) := dk_27 (dk_at dksX1_inState_1 13 rfl rfl)
theorem dX1_inState_37 : decode cX1_inState 37 = .ok (.if_icmp .ne 7, 3) := dk_160 0 7 (dk_at dksX1_inState_1 14 rfl rfl)
theorem dX1_inState_40 : decode cX1_inState 40 = .ok (.iconst 1, 1) := dk_4 (dk_at dksX1_inState_1 17 rfl rfl)
theorem dX1_inState_41 : decode cX1_inState 41 = .ok (.goto 4, 3) := dk_167 0 4 (dk_at dksX1_inState_1 18 rfl rfl)
theorem dX1_inState_44 : decode cX1_inState 44 = .ok (.iconst 0, 1) := dk_3 (dk_at dksX1_inState_1 21 rfl rfl)
theorem dX1_inState_45 : decode cX1_inState 45 = .ok (.iadd, 1) := dk_96 (dk_at dksX1_inState_1 22 rfl rfl)
theorem dX1_inState_46 : decode cX1_inState 46 = .ok (.istore_n 2, 1) := dk_61 (dk_at dksX1_inState_1 23 rfl rfl)
theorem dX1_inState_47 : decode cX1_inState 47 = .ok (.iinc 3 1, 3) := dk_132 3 1 (dk_at dksX1_inState_2 0 rfl rfl)
theorem dX1_inState_50 : decode cX1_inState 50 = .ok (.goto (-46), 3) := dk_167 255 210 (dk_at dksX1_inState_2 3 rfl rfl)
theorem dX1_inState_53 : decode cX1_inState 53 = .ok (.iload_n 2, 1) := dk_28 (dk_at dksX1_inState_2 6 rfl rfl)
theorem dX1_inState_54 : decode cX1_inState 54 = .ok (.ireturn, 1) := dk_172 (dk_at dksX1_inState_2 7 rfl rfl)
abbrev cX1_reason : ByteArray := prog_1_method_27_code
def yX1_reason : MethodName := ⟨RX1, "reason", "(Z)I"⟩
def dkwX1_reason_1 : List UInt8 := [167, 0, 7, 42, 180, 0, 60, 172]
abbrev dktX1_reason_1 : List UInt8 := dkwX1_reason_1 ++ []
def dkwX1_reason_0 : List UInt8 := [42, 180, 0, 60, 158, 0, 7, 4, 167, 0, 4, 3, 184, 0, 169, 27, 153, 0, 10, 42, 180, 0, 64]
abbrev dktX1_reason_0 : List UInt8 := dkwX1_reason_0 ++ dktX1_reason_1
theorem dksX1_reason_0 : cX1_reason.data.toList.drop 0 = dktX1_reason_0 := by decide +kernel
theorem dksX1_reason_1 : cX1_reason.data.toList.drop 23 = dktX1_reason_1 := dk_seg dksX1_reason_0 23 rfl rfl
theorem dX1_reason_0 : decode cX1_reason 0 = .ok (.aload_n 0, 1) := dk_42 (dk_at dksX1_reason_0 0 rfl rfl)
theorem dX1_reason_1 : decode cX1_reason 1 = .ok (.getfield 60, 3) := dk_180 0 60 (dk_at dksX1_reason_0 1 rfl rfl)
theorem dX1_reason_4 : decode cX1_reason 4 = .ok (.ifCond .le 7, 3) := dk_158 0 7 (dk_at dksX1_reason_0 4 rfl rfl)
theorem dX1_reason_7 : decode cX1_reason 7 = .ok (.iconst 1, 1) := dk_4 (dk_at dksX1_reason_0 7 rfl rfl)
theorem dX1_reason_8 : decode cX1_reason 8 = .ok (.goto 4, 3) := dk_167 0 4 (dk_at dksX1_reason_0 8 rfl rfl)
theorem dX1_reason_11 : decode cX1_reason 11 = .ok (.iconst 0, 1) := dk_3 (dk_at dksX1_reason_0 11 rfl rfl)
theorem dX1_reason_12 : decode cX1_reason 12 = .ok (.invokestatic 169, 3) := dk_184 0 169 (dk_at dksX1_reason_0 12 rfl rfl)
theorem dX1_reason_15 : decode cX1_reason 15 = .ok (.iload_n 1, 1) := dk_27 (dk_at dksX1_reason_0 15 rfl rfl)
theorem dX1_reason_16 : decode cX1_reason 16 = .ok (.ifCond .eq 10, 3) := dk_153 0 10 (dk_at dksX1_reason_0 16 rfl rfl)
theorem dX1_reason_19 : decode cX1_reason 19 = .ok (.aload_n 0, 1) := dk_42 (dk_at dksX1_reason_0 19 rfl rfl)
theorem dX1_reason_20 : decode cX1_reason 20 = .ok (.getfield 64, 3) := dk_180 0 64 (dk_at dksX1_reason_0 20 rfl rfl)
theorem dX1_reason_23 : decode cX1_reason 23 = .ok (.goto 7, 3) := dk_167 0 7 (dk_at dksX1_reason_1 0 rfl rfl)
theorem dX1_reason_26 : decode cX1_reason 26 = .ok (.aload_n 0, 1) := dk_42 (dk_at dksX1_reason_1 3 rfl rfl)
theorem dX1_reason_27 : decode cX1_reason 27 = .ok (.getfield 60, 3) := dk_180 0 60 (dk_at dksX1_reason_1 4 rfl rfl)
theorem dX1_reason_30 : decode cX1_reason 30 = .ok (.ireturn, 1) := dk_172 (dk_at dksX1_reason_1 7 rfl rfl)
abbrev cX1_account : ByteArray := prog_1_method_58_code
def yX1_account : MethodName := ⟨RX1, "account", "(I)I"⟩
def dkwX1_account_6 : List UInt8 := [172, 42, 180, 0, 138, 172, 42, 180, 0, 14, 180, 0, 153, 27, 16, 14, 100, 46, 172]
abbrev dktX1_account_6 : List UInt8 := dkwX1_account_6 ++ []
def dkwX1_account_5 : List UInt8 := [160, 0, 7, 4, 167, 0, 4, 3, 182, 1, 115, 172, 42, 182, 1, 119, 172, 42, 180, 0, 21, 182, 0, 68]
abbrev dktX1_account_5 : List UInt8 := dkwX1_account_5 ++ dktX1_account_6
def dkwX1_account_4 : List UInt8 := [180, 0, 14, 180, 1, 102, 184, 1, 106, 172, 42, 180, 0, 14, 180, 1, 112, 172, 42, 27, 16, 9]
abbrev dktX1_account_4 : List UInt8 := dkwX1_account_4 ++ dktX1_account_5
def dkwX1_account_3 : List UInt8 := [182, 0, 68, 172, 42, 180, 0, 14, 180, 1, 27, 182, 0, 68, 172, 42, 27, 7, 100, 182, 1, 93, 172, 42]
abbrev dktX1_account_3 : List UInt8 := dkwX1_account_3 ++ dktX1_account_4
def dkwX1_account_2 : List UInt8 := [42, 180, 0, 14, 180, 1, 96, 172, 42, 180, 0, 14, 180, 1, 99, 172, 42, 180, 0, 14, 180, 0, 227]
abbrev dktX1_account_2 : List UInt8 := dkwX1_account_2 ++ dktX1_account_3
def dkwX1_account_1 : List UInt8 := [170, 0, 0, 0, 168, 0, 0, 0, 0, 0, 0, 0, 13, 0, 0, 0, 69, 0, 0, 0, 77, 0, 0, 0, 85, 0, 0, 0, 96, 0, 0, 0, 107, 0, 0, 0, 107, 0, 0, 0, 107, 0, 0, 0, 115, 0, 0, 0, 126, 0, 0, 0, 134, 0, 0, 0, 150, 0, 0, 0, 134, 0, 0, 0, 155, 0, 0, 0, 163]
abbrev dktX1_account_1 : List UInt8 := dkwX1_account_1 ++ dktX1_account_2
def dkwX1_account_0 : List UInt8 := [27, 3, 16, 16, 184, 0, 182, 184, 0, 186, 27]
abbrev dktX1_account_0 : List UInt8 := dkwX1_account_0 ++ dktX1_account_1
theorem dksX1_account_0 : cX1_account.data.toList.drop 0 = dktX1_account_0 := by decide +kernel
theorem dksX1_account_1 : cX1_account.data.toList.drop 11 = dktX1_account_1 := dk_seg dksX1_account_0 11 rfl rfl
theorem dksX1_account_2 : cX1_account.data.toList.drop 80 = dktX1_account_2 := dk_seg dksX1_account_1 69 rfl rfl
theorem dksX1_account_3 : cX1_account.data.toList.drop 103 = dktX1_account_3 := dk_seg dksX1_account_2 23 rfl rfl
theorem dksX1_account_4 : cX1_account.data.toList.drop 127 = dktX1_account_4 := dk_seg dksX1_account_3 24 rfl rfl
theorem dksX1_account_5 : cX1_account.data.toList.drop 149 = dktX1_account_5 := dk_seg dksX1_account_4 22 rfl rfl
theorem dksX1_account_6 : cX1_account.data.toList.drop 173 = dktX1_account_6 := dk_seg dksX1_account_5 24 rfl rfl
theorem dX1_account_0 : decode cX1_account 0 = .ok (.iload_n 1, 1) := dk_27 (dk_at dksX1_account_0 0 rfl rfl)
theorem dX1_account_1 : decode cX1_account 1 = .ok (.iconst 0, 1) := dk_3 (dk_at dksX1_account_0 1 rfl rfl)
theorem dX1_account_2 : decode cX1_account 2 = .ok (.bipush 16, 2) := dk_16 16 (dk_at dksX1_account_0 2 rfl rfl)
theorem dX1_account_4 : decode cX1_account 4 = .ok (.invokestatic 182, 3) := dk_184 0 182 (dk_at dksX1_account_0 4 rfl rfl)
theorem dX1_account_7 : decode cX1_account 7 = .ok (.invokestatic 186, 3) := dk_184 0 186 (dk_at dksX1_account_0 7 rfl rfl)
theorem dX1_account_10 : decode cX1_account 10 = .ok (.iload_n 1, 1) := dk_27 (dk_at dksX1_account_0 10 rfl rfl)
theorem dX1_account_11 : decode cX1_account 11 = .ok (.tableswitch 168 0 13 #[69, 77, 85, 96, 107, 107, 107, 115, 126, 134, 150, 134, 155, 163], 69) := by decide +kernel
theorem dX1_account_80 : decode cX1_account 80 = .ok (.aload_n 0, 1) := dk_42 (dk_at dksX1_account_2 0 rfl rfl)
theorem dX1_account_81 : decode cX1_account 81 = .ok (.getfield 14, 3) := dk_180 0 14 (dk_at dksX1_account_2 1 rfl rfl)
theorem dX1_account_84 : decode cX1_account 84 = .ok (.getfield 352, 3) := dk_180 1 96 (dk_at dksX1_account_2 4 rfl rfl)
theorem dX1_account_87 : decode cX1_account 87 = .ok (.ireturn, 1) := dk_172 (dk_at dksX1_account_2 7 rfl rfl)
theorem dX1_account_88 : decode cX1_account 88 = .ok (.aload_n 0, 1) := dk_42 (dk_at dksX1_account_2 8 rfl rfl)
theorem dX1_account_89 : decode cX1_account 89 = .ok (.getfield 14, 3) := dk_180 0 14 (dk_at dksX1_account_2 9 rfl rfl)
theorem dX1_account_92 : decode cX1_account 92 = .ok (.getfield 355, 3) := dk_180 1 99 (dk_at dksX1_account_2 12 rfl rfl)
theorem dX1_account_95 : decode cX1_account 95 = .ok (.ireturn, 1) := dk_172 (dk_at dksX1_account_2 15 rfl rfl)
theorem dX1_account_96 : decode cX1_account 96 = .ok (.aload_n 0, 1) := dk_42 (dk_at dksX1_account_2 16 rfl rfl)
theorem dX1_account_97 : decode cX1_account 97 = .ok (.getfield 14, 3) := dk_180 0 14 (dk_at dksX1_account_2 17 rfl rfl)
theorem dX1_account_100 : decode cX1_account 100 = .ok (.getfield 227, 3) := dk_180 0 227 (dk_at dksX1_account_2 20 rfl rfl)
theorem dX1_account_103 : decode cX1_account 103 = .ok (.invokevirtual 68, 3) := dk_182 0 68 (dk_at dksX1_account_3 0 rfl rfl)
theorem dX1_account_106 : decode cX1_account 106 = .ok (.ireturn, 1) := dk_172 (dk_at dksX1_account_3 3 rfl rfl)
theorem dX1_account_107 : decode cX1_account 107 = .ok (.aload_n 0, 1) := dk_42 (dk_at dksX1_account_3 4 rfl rfl)
theorem dX1_account_108 : decode cX1_account 108 = .ok (.getfield 14, 3) := dk_180 0 14 (dk_at dksX1_account_3 5 rfl rfl)
theorem dX1_account_111 : decode cX1_account 111 = .ok (.getfield 283, 3) := dk_180 1 27 (dk_at dksX1_account_3 8 rfl rfl)
theorem dX1_account_114 : decode cX1_account 114 = .ok (.invokevirtual 68, 3) := dk_182 0 68 (dk_at dksX1_account_3 11 rfl rfl)
theorem dX1_account_117 : decode cX1_account 117 = .ok (.ireturn, 1) := dk_172 (dk_at dksX1_account_3 14 rfl rfl)
theorem dX1_account_118 : decode cX1_account 118 = .ok (.aload_n 0, 1) := dk_42 (dk_at dksX1_account_3 15 rfl rfl)
theorem dX1_account_119 : decode cX1_account 119 = .ok (.iload_n 1, 1) := dk_27 (dk_at dksX1_account_3 16 rfl rfl)
theorem dX1_account_120 : decode cX1_account 120 = .ok (.iconst 4, 1) := dk_7 (dk_at dksX1_account_3 17 rfl rfl)
theorem dX1_account_121 : decode cX1_account 121 = .ok (.isub, 1) := dk_100 (dk_at dksX1_account_3 18 rfl rfl)
theorem dX1_account_122 : decode cX1_account 122 = .ok (.invokevirtual 349, 3) := dk_182 1 93 (dk_at dksX1_account_3 19 rfl rfl)
theorem dX1_account_125 : decode cX1_account 125 = .ok (.ireturn, 1) := dk_172 (dk_at dksX1_account_3 22 rfl rfl)
theorem dX1_account_126 : decode cX1_account 126 = .ok (.aload_n 0, 1) := dk_42 (dk_at dksX1_account_3 23 rfl rfl)
theorem dX1_account_127 : decode cX1_account 127 = .ok (.getfield 14, 3) := dk_180 0 14 (dk_at dksX1_account_4 0 rfl rfl)
theorem dX1_account_130 : decode cX1_account 130 = .ok (.getfield 358, 3) := dk_180 1 102 (dk_at dksX1_account_4 3 rfl rfl)
theorem dX1_account_133 : decode cX1_account 133 = .ok (.invokestatic 362, 3) := dk_184 1 106 (dk_at dksX1_account_4 6 rfl rfl)
theorem dX1_account_136 : decode cX1_account 136 = .ok (.ireturn, 1) := dk_172 (dk_at dksX1_account_4 9 rfl rfl)
theorem dX1_account_137 : decode cX1_account 137 = .ok (.aload_n 0, 1) := dk_42 (dk_at dksX1_account_4 10 rfl rfl)
theorem dX1_account_138 : decode cX1_account 138 = .ok (.getfield 14, 3) := dk_180 0 14 (dk_at dksX1_account_4 11 rfl rfl)
theorem dX1_account_141 : decode cX1_account 141 = .ok (.getfield 368, 3) := dk_180 1 112 (dk_at dksX1_account_4 14 rfl rfl)
theorem dX1_account_144 : decode cX1_account 144 = .ok (.ireturn, 1) := dk_172 (dk_at dksX1_account_4 17 rfl rfl)
theorem dX1_account_145 : decode cX1_account 145 = .ok (.aload_n 0, 1) := dk_42 (dk_at dksX1_account_4 18 rfl rfl)
theorem dX1_account_146 : decode cX1_account 146 = .ok (.iload_n 1, 1) := dk_27 (dk_at dksX1_account_4 19 rfl rfl)
theorem dX1_account_147 : decode cX1_account 147 = .ok (.bipush 9, 2) := dk_16 9 (dk_at dksX1_account_4 20 rfl rfl)
theorem dX1_account_149 : decode cX1_account 149 = .ok (.if_icmp .ne 7, 3) := dk_160 0 7 (dk_at dksX1_account_5 0 rfl rfl)
theorem dX1_account_152 : decode cX1_account 152 = .ok (.iconst 1, 1) := dk_4 (dk_at dksX1_account_5 3 rfl rfl)
theorem dX1_account_153 : decode cX1_account 153 = .ok (.goto 4, 3) := dk_167 0 4 (dk_at dksX1_account_5 4 rfl rfl)
theorem dX1_account_156 : decode cX1_account 156 = .ok (.iconst 0, 1) := dk_3 (dk_at dksX1_account_5 7 rfl rfl)
theorem dX1_account_157 : decode cX1_account 157 = .ok (.invokevirtual 371, 3) := dk_182 1 115 (dk_at dksX1_account_5 8 rfl rfl)
theorem dX1_account_160 : decode cX1_account 160 = .ok (.ireturn, 1) := dk_172 (dk_at dksX1_account_5 11 rfl rfl)
theorem dX1_account_161 : decode cX1_account 161 = .ok (.aload_n 0, 1) := dk_42 (dk_at dksX1_account_5 12 rfl rfl)
theorem dX1_account_162 : decode cX1_account 162 = .ok (.invokevirtual 375, 3) := dk_182 1 119 (dk_at dksX1_account_5 13 rfl rfl)
theorem dX1_account_165 : decode cX1_account 165 = .ok (.ireturn, 1) := dk_172 (dk_at dksX1_account_5 16 rfl rfl)
theorem dX1_account_166 : decode cX1_account 166 = .ok (.aload_n 0, 1) := dk_42 (dk_at dksX1_account_5 17 rfl rfl)
theorem dX1_account_167 : decode cX1_account 167 = .ok (.getfield 21, 3) := dk_180 0 21 (dk_at dksX1_account_5 18 rfl rfl)
theorem dX1_account_170 : decode cX1_account 170 = .ok (.invokevirtual 68, 3) := dk_182 0 68 (dk_at dksX1_account_5 21 rfl rfl)
theorem dX1_account_173 : decode cX1_account 173 = .ok (.ireturn, 1) := dk_172 (dk_at dksX1_account_6 0 rfl rfl)
theorem dX1_account_174 : decode cX1_account 174 = .ok (.aload_n 0, 1) := dk_42 (dk_at dksX1_account_6 1 rfl rfl)
theorem dX1_account_175 : decode cX1_account 175 = .ok (.getfield 138, 3) := dk_180 0 138 (dk_at dksX1_account_6 2 rfl rfl)
theorem dX1_account_178 : decode cX1_account 178 = .ok (.ireturn, 1) := dk_172 (dk_at dksX1_account_6 5 rfl rfl)
theorem dX1_account_179 : decode cX1_account 179 = .ok (.aload_n 0, 1) := dk_42 (dk_at dksX1_account_6 6 rfl rfl)
theorem dX1_account_180 : decode cX1_account 180 = .ok (.getfield 14, 3) := dk_180 0 14 (dk_at dksX1_account_6 7 rfl rfl)
theorem dX1_account_183 : decode cX1_account 183 = .ok (.getfield 153, 3) := dk_180 0 153 (dk_at dksX1_account_6 10 rfl rfl)
theorem dX1_account_186 : decode cX1_account 186 = .ok (.iload_n 1, 1) := dk_27 (dk_at dksX1_account_6 13 rfl rfl)
theorem dX1_account_187 : decode cX1_account 187 = .ok (.bipush 14, 2) := dk_16 14 (dk_at dksX1_account_6 14 rfl rfl)
theorem dX1_account_189 : decode cX1_account 189 = .ok (.isub, 1) := dk_100 (dk_at dksX1_account_6 16 rfl rfl)
theorem dX1_account_190 : decode cX1_account 190 = .ok (.iaload, 1) := dk_46 (dk_at dksX1_account_6 17 rfl rfl)
theorem dX1_account_191 : decode cX1_account 191 = .ok (.ireturn, 1) := dk_172 (dk_at dksX1_account_6 18 rfl rfl)
abbrev cX1_sumOverRobots : ByteArray := prog_1_method_56_code
def yX1_sumOverRobots : MethodName := ⟨RX1, "sumOverRobots", "(Z)I"⟩
def dkwX1_sumOverRobots_2 : List UInt8 := [180, 0, 227, 29, 182, 0, 230, 192, 0, 233, 180, 0, 242, 96, 61, 132, 3, 1, 167, 255, 195, 28, 172]
abbrev dktX1_sumOverRobots_2 : List UInt8 := dkwX1_sumOverRobots_2 ++ []
def dkwX1_sumOverRobots_1 : List UInt8 := [180, 0, 14, 180, 0, 227, 29, 182, 0, 230, 192, 0, 233, 180, 1, 4, 167, 0, 20, 42, 180, 0, 14]
abbrev dktX1_sumOverRobots_1 : List UInt8 := dkwX1_sumOverRobots_1 ++ dktX1_sumOverRobots_2
def dkwX1_sumOverRobots_0 : List UInt8 := [3, 61, 3, 62, 29, 42, 180, 0, 14, 180, 0, 227, 182, 0, 68, 162, 0, 53, 28, 27, 153, 0, 23, 42]
abbrev dktX1_sumOverRobots_0 : List UInt8 := dkwX1_sumOverRobots_0 ++ dktX1_sumOverRobots_1
theorem dksX1_sumOverRobots_0 : cX1_sumOverRobots.data.toList.drop 0 = dktX1_sumOverRobots_0 := by decide +kernel
theorem dksX1_sumOverRobots_1 : cX1_sumOverRobots.data.toList.drop 24 = dktX1_sumOverRobots_1 := dk_seg dksX1_sumOverRobots_0 24 rfl rfl
theorem dksX1_sumOverRobots_2 : cX1_sumOverRobots.data.toList.drop 47 = dktX1_sumOverRobots_2 := dk_seg dksX1_sumOverRobots_1 23 rfl rfl
theorem dX1_sumOverRobots_0 : decode cX1_sumOverRobots 0 = .ok (.iconst 0, 1) := dk_3 (dk_at dksX1_sumOverRobots_0 0 rfl rfl)
theorem dX1_sumOverRobots_1 : decode cX1_sumOverRobots 1 = .ok (.istore_n 2, 1) := dk_61 (dk_at dksX1_sumOverRobots_0 1 rfl rfl)
theorem dX1_sumOverRobots_2 : decode cX1_sumOverRobots 2 = .ok (.iconst 0, 1) := dk_3 (dk_at dksX1_sumOverRobots_0 2 rfl rfl)
theorem dX1_sumOverRobots_3 : decode cX1_sumOverRobots 3 = .ok (.istore_n 3, 1) := dk_62 (dk_at dksX1_sumOverRobots_0 3 rfl rfl)
theorem dX1_sumOverRobots_4 : decode cX1_sumOverRobots 4 = .ok (.iload_n 3, 1) := dk_29 (dk_at dksX1_sumOverRobots_0 4 rfl rfl)
theorem dX1_sumOverRobots_5 : decode cX1_sumOverRobots 5 = .ok (.aload_n 0, 1) := dk_42 (dk_at dksX1_sumOverRobots_0 5 rfl rfl)
theorem dX1_sumOverRobots_6 : decode cX1_sumOverRobots 6 = .ok (.getfield 14, 3) := dk_180 0 14 (dk_at dksX1_sumOverRobots_0 6 rfl rfl)
theorem dX1_sumOverRobots_9 : decode cX1_sumOverRobots 9 = .ok (.getfield 227, 3) := dk_180 0 227 (dk_at dksX1_sumOverRobots_0 9 rfl rfl)
theorem dX1_sumOverRobots_12 : decode cX1_sumOverRobots 12 = .ok (.invokevirtual 68, 3) := dk_182 0 68 (dk_at dksX1_sumOverRobots_0 12 rfl rfl)
theorem dX1_sumOverRobots_15 : decode cX1_sumOverRobots 15 = .ok (.if_icmp .ge 53, 3) := dk_162 0 53 (dk_at dksX1_sumOverRobots_0 15 rfl rfl)
theorem dX1_sumOverRobots_18 : decode cX1_sumOverRobots 18 = .ok (.iload_n 2, 1) := dk_28 (dk_at dksX1_sumOverRobots_0 18 rfl rfl)
theorem dX1_sumOverRobots_19 : decode cX1_sumOverRobots 19 = .ok (.iload_n 1, 1) := dk_27 (dk_at dksX1_sumOverRobots_0 19 rfl rfl)
theorem dX1_sumOverRobots_20 : decode cX1_sumOverRobots 20 = .ok (.ifCond .eq 23, 3) := dk_153 0 23 (dk_at dksX1_sumOverRobots_0 20 rfl rfl)
theorem dX1_sumOverRobots_23 : decode cX1_sumOverRobots 23 = .ok (.aload_n 0, 1) := dk_42 (dk_at dksX1_sumOverRobots_0 23 rfl rfl)
theorem dX1_sumOverRobots_24 : decode cX1_sumOverRobots 24 = .ok (.getfield 14, 3) := dk_180 0 14 (dk_at dksX1_sumOverRobots_1 0 rfl rfl)
theorem dX1_sumOverRobots_27 : decode cX1_sumOverRobots 27 = .ok (.getfield 227, 3) := dk_180 0 227 (dk_at dksX1_sumOverRobots_1 3 rfl rfl)
theorem dX1_sumOverRobots_30 : decode cX1_sumOverRobots 30 = .ok (.iload_n 3, 1) := dk_29 (dk_at dksX1_sumOverRobots_1 6 rfl rfl)
theorem dX1_sumOverRobots_31 : decode cX1_sumOverRobots 31 = .ok (.invokevirtual 230, 3) := dk_182 0 230 (dk_at dksX1_sumOverRobots_1 7 rfl rfl)
theorem dX1_sumOverRobots_34 : decode cX1_sumOverRobots 34 = .ok (.checkcast 233, 3) := dk_192 0 233 (dk_at dksX1_sumOverRobots_1 10 rfl rfl)
theorem dX1_sumOverRobots_37 : decode cX1_sumOverRobots 37 = .ok (.getfield 260, 3) := dk_180 1 4 (dk_at dksX1_sumOverRobots_1 13 rfl rfl)
theorem dX1_sumOverRobots_40 : decode cX1_sumOverRobots 40 = .ok (.goto 20, 3) := dk_167 0 20 (dk_at dksX1_sumOverRobots_1 16 rfl rfl)
theorem dX1_sumOverRobots_43 : decode cX1_sumOverRobots 43 = .ok (.aload_n 0, 1) := dk_42 (dk_at dksX1_sumOverRobots_1 19 rfl rfl)
theorem dX1_sumOverRobots_44 : decode cX1_sumOverRobots 44 = .ok (.getfield 14, 3) := dk_180 0 14 (dk_at dksX1_sumOverRobots_1 20 rfl rfl)
theorem dX1_sumOverRobots_47 : decode cX1_sumOverRobots 47 = .ok (.getfield 227, 3) := dk_180 0 227 (dk_at dksX1_sumOverRobots_2 0 rfl rfl)
theorem dX1_sumOverRobots_50 : decode cX1_sumOverRobots 50 = .ok (.iload_n 3, 1) := dk_29 (dk_at dksX1_sumOverRobots_2 3 rfl rfl)
theorem dX1_sumOverRobots_51 : decode cX1_sumOverRobots 51 = .ok (.invokevirtual 230, 3) := dk_182 0 230 (dk_at dksX1_sumOverRobots_2 4 rfl rfl)
theorem dX1_sumOverRobots_54 : decode cX1_sumOverRobots 54 = .ok (.checkcast 233, 3) := dk_192 0 233 (dk_at dksX1_sumOverRobots_2 7 rfl rfl)
theorem dX1_sumOverRobots_57 : decode cX1_sumOverRobots 57 = .ok (.getfield 242, 3) := dk_180 0 242 (dk_at dksX1_sumOverRobots_2 10 rfl rfl)
theorem dX1_sumOverRobots_60 : decode cX1_sumOverRobots 60 = .ok (.iadd, 1) := dk_96 (dk_at dksX1_sumOverRobots_2 13 rfl rfl)
theorem dX1_sumOverRobots_61 : decode cX1_sumOverRobots 61 = .ok (.istore_n 2, 1) := dk_61 (dk_at dksX1_sumOverRobots_2 14 rfl rfl)
theorem dX1_sumOverRobots_62 : decode cX1_sumOverRobots 62 = .ok (.iinc 3 1, 3) := dk_132 3 1 (dk_at dksX1_sumOverRobots_2 15 rfl rfl)
theorem dX1_sumOverRobots_65 : decode cX1_sumOverRobots 65 = .ok (.goto (-61), 3) := dk_167 255 195 (dk_at dksX1_sumOverRobots_2 18 rfl rfl)
theorem dX1_sumOverRobots_68 : decode cX1_sumOverRobots 68 = .ok (.iload_n 2, 1) := dk_28 (dk_at dksX1_sumOverRobots_2 21 rfl rfl)
theorem dX1_sumOverRobots_69 : decode cX1_sumOverRobots 69 = .ok (.ireturn, 1) := dk_172 (dk_at dksX1_sumOverRobots_2 22 rfl rfl)
abbrev cX1_picked : ByteArray := prog_1_method_57_code
def yX1_picked : MethodName := ⟨RX1, "picked", "()I"⟩
def dkwX1_picked_1 : List UInt8 := [180, 1, 27, 28, 182, 0, 230, 192, 1, 30, 180, 1, 42, 96, 60, 132, 2, 1, 167, 255, 219, 27, 172]
abbrev dktX1_picked_1 : List UInt8 := dkwX1_picked_1 ++ []
def dkwX1_picked_0 : List UInt8 := [3, 60, 3, 61, 28, 42, 180, 0, 14, 180, 1, 27, 182, 0, 68, 162, 0, 29, 27, 42, 180, 0, 14]
abbrev dktX1_picked_0 : List UInt8 := dkwX1_picked_0 ++ dktX1_picked_1
theorem dksX1_picked_0 : cX1_picked.data.toList.drop 0 = dktX1_picked_0 := by decide +kernel
theorem dksX1_picked_1 : cX1_picked.data.toList.drop 23 = dktX1_picked_1 := dk_seg dksX1_picked_0 23 rfl rfl
theorem dX1_picked_0 : decode cX1_picked 0 = .ok (.iconst 0, 1) := dk_3 (dk_at dksX1_picked_0 0 rfl rfl)
theorem dX1_picked_1 : decode cX1_picked 1 = .ok (.istore_n 1, 1) := dk_60 (dk_at dksX1_picked_0 1 rfl rfl)
theorem dX1_picked_2 : decode cX1_picked 2 = .ok (.iconst 0, 1) := dk_3 (dk_at dksX1_picked_0 2 rfl rfl)
theorem dX1_picked_3 : decode cX1_picked 3 = .ok (.istore_n 2, 1) := dk_61 (dk_at dksX1_picked_0 3 rfl rfl)
theorem dX1_picked_4 : decode cX1_picked 4 = .ok (.iload_n 2, 1) := dk_28 (dk_at dksX1_picked_0 4 rfl rfl)
theorem dX1_picked_5 : decode cX1_picked 5 = .ok (.aload_n 0, 1) := dk_42 (dk_at dksX1_picked_0 5 rfl rfl)
theorem dX1_picked_6 : decode cX1_picked 6 = .ok (.getfield 14, 3) := dk_180 0 14 (dk_at dksX1_picked_0 6 rfl rfl)
theorem dX1_picked_9 : decode cX1_picked 9 = .ok (.getfield 283, 3) := dk_180 1 27 (dk_at dksX1_picked_0 9 rfl rfl)
theorem dX1_picked_12 : decode cX1_picked 12 = .ok (.invokevirtual 68, 3) := dk_182 0 68 (dk_at dksX1_picked_0 12 rfl rfl)
theorem dX1_picked_15 : decode cX1_picked 15 = .ok (.if_icmp .ge 29, 3) := dk_162 0 29 (dk_at dksX1_picked_0 15 rfl rfl)
theorem dX1_picked_18 : decode cX1_picked 18 = .ok (.iload_n 1, 1) := dk_27 (dk_at dksX1_picked_0 18 rfl rfl)
theorem dX1_picked_19 : decode cX1_picked 19 = .ok (.aload_n 0, 1) := dk_42 (dk_at dksX1_picked_0 19 rfl rfl)
theorem dX1_picked_20 : decode cX1_picked 20 = .ok (.getfield 14, 3) := dk_180 0 14 (dk_at dksX1_picked_0 20 rfl rfl)
theorem dX1_picked_23 : decode cX1_picked 23 = .ok (.getfield 283, 3) := dk_180 1 27 (dk_at dksX1_picked_1 0 rfl rfl)
theorem dX1_picked_26 : decode cX1_picked 26 = .ok (.iload_n 2, 1) := dk_28 (dk_at dksX1_picked_1 3 rfl rfl)
theorem dX1_picked_27 : decode cX1_picked 27 = .ok (.invokevirtual 230, 3) := dk_182 0 230 (dk_at dksX1_picked_1 4 rfl rfl)
theorem dX1_picked_30 : decode cX1_picked 30 = .ok (.checkcast 286, 3) := dk_192 1 30 (dk_at dksX1_picked_1 7 rfl rfl)
theorem dX1_picked_33 : decode cX1_picked 33 = .ok (.getfield 298, 3) := dk_180 1 42 (dk_at dksX1_picked_1 10 rfl rfl)
theorem dX1_picked_36 : decode cX1_picked 36 = .ok (.iadd, 1) := dk_96 (dk_at dksX1_picked_1 13 rfl rfl)
theorem dX1_picked_37 : decode cX1_picked 37 = .ok (.istore_n 1, 1) := dk_60 (dk_at dksX1_picked_1 14 rfl rfl)
theorem dX1_picked_38 : decode cX1_picked 38 = .ok (.iinc 2 1, 3) := dk_132 2 1 (dk_at dksX1_picked_1 15 rfl rfl)
theorem dX1_picked_41 : decode cX1_picked 41 = .ok (.goto (-37), 3) := dk_167 255 219 (dk_at dksX1_picked_1 18 rfl rfl)
theorem dX1_picked_44 : decode cX1_picked 44 = .ok (.iload_n 1, 1) := dk_27 (dk_at dksX1_picked_1 21 rfl rfl)
theorem dX1_picked_45 : decode cX1_picked 45 = .ok (.ireturn, 1) := dk_172 (dk_at dksX1_picked_1 22 rfl rfl)
abbrev cX1_undo : ByteArray := prog_1_method_59_code
def yX1_undo : MethodName := ⟨RX1, "undo", "()I"⟩
def dkwX1_undo_2 : List UInt8 := [172]
abbrev dktX1_undo_2 : List UInt8 := dkwX1_undo_2 ++ []
def dkwX1_undo_1 : List UInt8 := [180, 0, 21, 182, 0, 68, 4, 100, 182, 0, 72, 192, 0, 9, 181, 0, 14, 42, 180, 0, 21, 182, 0, 68]
abbrev dktX1_undo_1 : List UInt8 := dkwX1_undo_1 ++ dktX1_undo_2
def dkwX1_undo_0 : List UInt8 := [42, 180, 0, 21, 182, 1, 121, 154, 0, 7, 4, 167, 0, 4, 3, 184, 0, 141, 42, 42, 180, 0, 21, 42]
abbrev dktX1_undo_0 : List UInt8 := dkwX1_undo_0 ++ dktX1_undo_1
theorem dksX1_undo_0 : cX1_undo.data.toList.drop 0 = dktX1_undo_0 := by decide +kernel
theorem dksX1_undo_1 : cX1_undo.data.toList.drop 24 = dktX1_undo_1 := dk_seg dksX1_undo_0 24 rfl rfl
theorem dksX1_undo_2 : cX1_undo.data.toList.drop 48 = dktX1_undo_2 := dk_seg dksX1_undo_1 24 rfl rfl
theorem dX1_undo_0 : decode cX1_undo 0 = .ok (.aload_n 0, 1) := dk_42 (dk_at dksX1_undo_0 0 rfl rfl)
theorem dX1_undo_1 : decode cX1_undo 1 = .ok (.getfield 21, 3) := dk_180 0 21 (dk_at dksX1_undo_0 1 rfl rfl)
theorem dX1_undo_4 : decode cX1_undo 4 = .ok (.invokevirtual 377, 3) := dk_182 1 121 (dk_at dksX1_undo_0 4 rfl rfl)
theorem dX1_undo_7 : decode cX1_undo 7 = .ok (.ifCond .ne 7, 3) := dk_154 0 7 (dk_at dksX1_undo_0 7 rfl rfl)
theorem dX1_undo_10 : decode cX1_undo 10 = .ok (.iconst 1, 1) := dk_4 (dk_at dksX1_undo_0 10 rfl rfl)
theorem dX1_undo_11 : decode cX1_undo 11 = .ok (.goto 4, 3) := dk_167 0 4 (dk_at dksX1_undo_0 11 rfl rfl)
theorem dX1_undo_14 : decode cX1_undo 14 = .ok (.iconst 0, 1) := dk_3 (dk_at dksX1_undo_0 14 rfl rfl)
theorem dX1_undo_15 : decode cX1_undo 15 = .ok (.invokestatic 141, 3) := dk_184 0 141 (dk_at dksX1_undo_0 15 rfl rfl)
theorem dX1_undo_18 : decode cX1_undo 18 = .ok (.aload_n 0, 1) := dk_42 (dk_at dksX1_undo_0 18 rfl rfl)
theorem dX1_undo_19 : decode cX1_undo 19 = .ok (.aload_n 0, 1) := dk_42 (dk_at dksX1_undo_0 19 rfl rfl)
theorem dX1_undo_20 : decode cX1_undo 20 = .ok (.getfield 21, 3) := dk_180 0 21 (dk_at dksX1_undo_0 20 rfl rfl)
theorem dX1_undo_23 : decode cX1_undo 23 = .ok (.aload_n 0, 1) := dk_42 (dk_at dksX1_undo_0 23 rfl rfl)
theorem dX1_undo_24 : decode cX1_undo 24 = .ok (.getfield 21, 3) := dk_180 0 21 (dk_at dksX1_undo_1 0 rfl rfl)
theorem dX1_undo_27 : decode cX1_undo 27 = .ok (.invokevirtual 68, 3) := dk_182 0 68 (dk_at dksX1_undo_1 3 rfl rfl)
theorem dX1_undo_30 : decode cX1_undo 30 = .ok (.iconst 1, 1) := dk_4 (dk_at dksX1_undo_1 6 rfl rfl)
theorem dX1_undo_31 : decode cX1_undo 31 = .ok (.isub, 1) := dk_100 (dk_at dksX1_undo_1 7 rfl rfl)
theorem dX1_undo_32 : decode cX1_undo 32 = .ok (.invokevirtual 72, 3) := dk_182 0 72 (dk_at dksX1_undo_1 8 rfl rfl)
theorem dX1_undo_35 : decode cX1_undo 35 = .ok (.checkcast 9, 3) := dk_192 0 9 (dk_at dksX1_undo_1 11 rfl rfl)
theorem dX1_undo_38 : decode cX1_undo 38 = .ok (.putfield 14, 3) := dk_181 0 14 (dk_at dksX1_undo_1 14 rfl rfl)
theorem dX1_undo_41 : decode cX1_undo 41 = .ok (.aload_n 0, 1) := dk_42 (dk_at dksX1_undo_1 17 rfl rfl)
theorem dX1_undo_42 : decode cX1_undo 42 = .ok (.getfield 21, 3) := dk_180 0 21 (dk_at dksX1_undo_1 18 rfl rfl)
theorem dX1_undo_45 : decode cX1_undo 45 = .ok (.invokevirtual 68, 3) := dk_182 0 68 (dk_at dksX1_undo_1 21 rfl rfl)
theorem dX1_undo_48 : decode cX1_undo 48 = .ok (.ireturn, 1) := dk_172 (dk_at dksX1_undo_2 0 rfl rfl)
abbrev cX1_restore : ByteArray := prog_1_method_61_code
def yX1_restore : MethodName := ⟨RX1, "restore", "()I"⟩
def dkwX1_restore_1 : List UInt8 := [181, 0, 14, 42, 180, 0, 21, 182, 1, 127, 42, 180, 0, 14, 180, 0, 227, 182, 0, 68, 172]
abbrev dktX1_restore_1 : List UInt8 := dkwX1_restore_1 ++ []
def dkwX1_restore_0 : List UInt8 := [42, 180, 1, 124, 198, 0, 7, 4, 167, 0, 4, 3, 184, 0, 141, 42, 42, 180, 1, 124, 182, 0, 80]
abbrev dktX1_restore_0 : List UInt8 := dkwX1_restore_0 ++ dktX1_restore_1
theorem dksX1_restore_0 : cX1_restore.data.toList.drop 0 = dktX1_restore_0 := by decide +kernel
theorem dksX1_restore_1 : cX1_restore.data.toList.drop 23 = dktX1_restore_1 := dk_seg dksX1_restore_0 23 rfl rfl
theorem dX1_restore_0 : decode cX1_restore 0 = .ok (.aload_n 0, 1) := dk_42 (dk_at dksX1_restore_0 0 rfl rfl)
theorem dX1_restore_1 : decode cX1_restore 1 = .ok (.getfield 380, 3) := dk_180 1 124 (dk_at dksX1_restore_0 1 rfl rfl)
theorem dX1_restore_4 : decode cX1_restore 4 = .ok (.ifnull 7, 3) := dk_198 0 7 (dk_at dksX1_restore_0 4 rfl rfl)
theorem dX1_restore_7 : decode cX1_restore 7 = .ok (.iconst 1, 1) := dk_4 (dk_at dksX1_restore_0 7 rfl rfl)
theorem dX1_restore_8 : decode cX1_restore 8 = .ok (.goto 4, 3) := dk_167 0 4 (dk_at dksX1_restore_0 8 rfl rfl)
theorem dX1_restore_11 : decode cX1_restore 11 = .ok (.iconst 0, 1) := dk_3 (dk_at dksX1_restore_0 11 rfl rfl)
theorem dX1_restore_12 : decode cX1_restore 12 = .ok (.invokestatic 141, 3) := dk_184 0 141 (dk_at dksX1_restore_0 12 rfl rfl)
theorem dX1_restore_15 : decode cX1_restore 15 = .ok (.aload_n 0, 1) := dk_42 (dk_at dksX1_restore_0 15 rfl rfl)
theorem dX1_restore_16 : decode cX1_restore 16 = .ok (.aload_n 0, 1) := dk_42 (dk_at dksX1_restore_0 16 rfl rfl)
theorem dX1_restore_17 : decode cX1_restore 17 = .ok (.getfield 380, 3) := dk_180 1 124 (dk_at dksX1_restore_0 17 rfl rfl)
theorem dX1_restore_20 : decode cX1_restore 20 = .ok (.invokevirtual 80, 3) := dk_182 0 80 (dk_at dksX1_restore_0 20 rfl rfl)
theorem dX1_restore_23 : decode cX1_restore 23 = .ok (.putfield 14, 3) := dk_181 0 14 (dk_at dksX1_restore_1 0 rfl rfl)
theorem dX1_restore_26 : decode cX1_restore 26 = .ok (.aload_n 0, 1) := dk_42 (dk_at dksX1_restore_1 3 rfl rfl)
theorem dX1_restore_27 : decode cX1_restore 27 = .ok (.getfield 21, 3) := dk_180 0 21 (dk_at dksX1_restore_1 4 rfl rfl)
theorem dX1_restore_30 : decode cX1_restore 30 = .ok (.invokevirtual 383, 3) := dk_182 1 127 (dk_at dksX1_restore_1 7 rfl rfl)
theorem dX1_restore_33 : decode cX1_restore 33 = .ok (.aload_n 0, 1) := dk_42 (dk_at dksX1_restore_1 10 rfl rfl)
theorem dX1_restore_34 : decode cX1_restore 34 = .ok (.getfield 14, 3) := dk_180 0 14 (dk_at dksX1_restore_1 11 rfl rfl)
theorem dX1_restore_37 : decode cX1_restore 37 = .ok (.getfield 227, 3) := dk_180 0 227 (dk_at dksX1_restore_1 14 rfl rfl)
theorem dX1_restore_40 : decode cX1_restore 40 = .ok (.invokevirtual 68, 3) := dk_182 0 68 (dk_at dksX1_restore_1 17 rfl rfl)
theorem dX1_restore_43 : decode cX1_restore 43 = .ok (.ireturn, 1) := dk_172 (dk_at dksX1_restore_1 20 rfl rfl)
theorem q71 : (Jvm.Cond.initialized "RobotAisles") ∈ lw_all := lw_g (lw_at lw_m1 1 rfl) rfl
theorem q121 : (Jvm.Cond.instantiable "RobotAisles" (8 : Nat)) ∈ lw_all := lw_g (lw_at lw_m1 51 rfl) rfl
theorem q123 : (Jvm.Cond.instanceMethod ({ cls := "RobotAisles", name := "<init>", desc := "()V" } : Jvm.MethodName)) ∈ lw_all := lw_g (lw_at lw_m1 53 rfl) rfl
theorem q124 : (Jvm.Cond.code ({ cls := "RobotAisles", name := "<init>", desc := "()V" } : Jvm.MethodName) prog_1_method_1_code (1 : Nat) (Option.none : Option Jvm.ClassFile.FieldType)) ∈ lw_all := lw_g (lw_at lw_m1 54 rfl) rfl
theorem q125 : (Jvm.Cond.methodLink "RobotAisles" (3 : Nat) ({ cls := "java/lang/Object", name := "<init>", desc := "()V" } : Jvm.MethodName)) ∈ lw_all := lw_g (lw_at lw_m1 55 rfl) rfl
theorem q128 : (Jvm.Cond.classLink "RobotAisles" (9 : Nat) "RobotAisles$Core") ∈ lw_all := lw_g (lw_at lw_m1 58 rfl) rfl
theorem q130 : (Jvm.Cond.methodLink "RobotAisles" (11 : Nat) ({ cls := "RobotAisles$Core", name := "<init>", desc := "(II[I)V" } : Jvm.MethodName)) ∈ lw_all := lw_g (lw_at lw_m1 60 rfl) rfl
theorem q162 : (Jvm.Cond.fieldLinkNest "RobotAisles" (352 : Nat) "RobotAisles$Core" "rows" "I" "RobotAisles") ∈ lw_tbl := lw_at lw_m1 92 rfl
theorem q164 : (Jvm.Cond.fieldLinkNest "RobotAisles" (355 : Nat) "RobotAisles$Core" "columns" "I" "RobotAisles") ∈ lw_tbl := lw_at lw_m1 94 rfl
theorem q166 : (Jvm.Cond.fieldLinkNest "RobotAisles" (189 : Nat) "RobotAisles$Core" "kinds" "[I" "RobotAisles") ∈ lw_tbl := lw_at lw_m1 96 rfl
theorem q169 : (Jvm.Cond.fieldLinkNest "RobotAisles" (227 : Nat) "RobotAisles$Core" "robots" "Ljava/util/ArrayList;" "RobotAisles") ∈ lw_tbl := lw_at lw_m1 99 rfl
theorem q171 : (Jvm.Cond.fieldLinkNest "RobotAisles" (283 : Nat) "RobotAisles$Core" "orders" "Ljava/util/ArrayList;" "RobotAisles") ∈ lw_tbl := lw_at lw_m1 101 rfl
theorem q174 : (Jvm.Cond.fieldLinkNest "RobotAisles" (153 : Nat) "RobotAisles$Core" "settings" "[I" "RobotAisles") ∈ lw_tbl := lw_at lw_m1 104 rfl
theorem q176 : (Jvm.Cond.fieldLinkNest "RobotAisles" (358 : Nat) "RobotAisles$Core" "closed" "J" "RobotAisles") ∈ lw_tbl := lw_at lw_m1 106 rfl
theorem q178 : (Jvm.Cond.fieldLinkNest "RobotAisles" (368 : Nat) "RobotAisles$Core" "now" "I" "RobotAisles") ∈ lw_tbl := lw_at lw_m1 108 rfl
theorem q196 : (Jvm.Cond.classLink "RobotAisles" (18 : Nat) "java/util/ArrayList") ∈ lw_all := lw_g (lw_at lw_m1 126 rfl) rfl
theorem q197 : (Jvm.Cond.methodLink "RobotAisles" (20 : Nat) ({ cls := "java/util/ArrayList", name := "<init>", desc := "()V" } : Jvm.MethodName)) ∈ lw_all := lw_g (lw_at lw_m1 127 rfl) rfl
theorem q198 : (Jvm.Cond.fieldLink "RobotAisles" (14 : Nat) "RobotAisles" "core" "LRobotAisles$Core;") ∈ lw_all := lw_g (lw_at lw_m1 128 rfl) rfl
theorem q199 : (Jvm.Cond.fieldLink "RobotAisles" (21 : Nat) "RobotAisles" "before" "Ljava/util/ArrayList;") ∈ lw_all := lw_g (lw_at lw_m1 129 rfl) rfl
theorem q200 : (Jvm.Cond.fieldLink "RobotAisles" (380 : Nat) "RobotAisles" "saved" "LRobotAisles$Core;") ∈ lw_all := lw_g (lw_at lw_m1 130 rfl) rfl
theorem q201 : (Jvm.Cond.fieldLink "RobotAisles" (60 : Nat) "RobotAisles" "reason" "I") ∈ lw_all := lw_g (lw_at lw_m1 131 rfl) rfl
theorem q202 : (Jvm.Cond.fieldLink "RobotAisles" (64 : Nat) "RobotAisles" "detail" "I") ∈ lw_all := lw_g (lw_at lw_m1 132 rfl) rfl
theorem q203 : (Jvm.Cond.fieldLink "RobotAisles" (25 : Nat) "RobotAisles" "text" "[C") ∈ lw_all := lw_g (lw_at lw_m1 133 rfl) rfl
theorem q206 : (Jvm.Cond.fieldLink "RobotAisles" (138 : Nat) "RobotAisles" "textLength" "I") ∈ lw_all := lw_g (lw_at lw_m1 136 rfl) rfl
theorem q207 : (Jvm.Cond.fieldLink "RobotAisles" (29 : Nat) "RobotAisles" "fault" "I") ∈ lw_all := lw_g (lw_at lw_m1 137 rfl) rfl
theorem q209 : (Jvm.Cond.lays "RobotAisles" "RobotAisles" "core" "LRobotAisles$Core;") ∈ lw_all := lw_g (lw_at lw_m1 139 rfl) rfl
theorem q210 : (Jvm.Cond.soleField "RobotAisles" "core") ∈ lw_all := lw_g (lw_at lw_m1 140 rfl) rfl
theorem q211 : (Jvm.Cond.laysFinal "RobotAisles" "RobotAisles" "before" "Ljava/util/ArrayList;") ∈ lw_all := lw_g (lw_at lw_m1 141 rfl) rfl
theorem q212 : (Jvm.Cond.soleField "RobotAisles" "before") ∈ lw_all := lw_g (lw_at lw_m1 142 rfl) rfl
theorem q213 : (Jvm.Cond.lays "RobotAisles" "RobotAisles" "saved" "LRobotAisles$Core;") ∈ lw_all := lw_g (lw_at lw_m1 143 rfl) rfl
theorem q214 : (Jvm.Cond.soleField "RobotAisles" "saved") ∈ lw_all := lw_g (lw_at lw_m1 144 rfl) rfl
theorem q215 : (Jvm.Cond.lays "RobotAisles" "RobotAisles" "reason" "I") ∈ lw_all := lw_g (lw_at lw_m1 145 rfl) rfl
theorem q216 : (Jvm.Cond.soleField "RobotAisles" "reason") ∈ lw_all := lw_g (lw_at lw_m1 146 rfl) rfl
theorem q217 : (Jvm.Cond.lays "RobotAisles" "RobotAisles" "detail" "I") ∈ lw_all := lw_g (lw_at lw_m1 147 rfl) rfl
theorem q218 : (Jvm.Cond.soleField "RobotAisles" "detail") ∈ lw_all := lw_g (lw_at lw_m1 148 rfl) rfl
theorem q219 : (Jvm.Cond.laysFinal "RobotAisles" "RobotAisles" "text" "[C") ∈ lw_all := lw_g (lw_at lw_m1 149 rfl) rfl
theorem q220 : (Jvm.Cond.soleField "RobotAisles" "text") ∈ lw_all := lw_g (lw_at lw_m1 150 rfl) rfl
theorem q221 : (Jvm.Cond.lays "RobotAisles" "RobotAisles" "textLength" "I") ∈ lw_all := lw_g (lw_at lw_m1 151 rfl) rfl
theorem q222 : (Jvm.Cond.soleField "RobotAisles" "textLength") ∈ lw_all := lw_g (lw_at lw_m1 152 rfl) rfl
theorem q223 : (Jvm.Cond.lays "RobotAisles" "RobotAisles" "fault" "I") ∈ lw_all := lw_g (lw_at lw_m1 153 rfl) rfl
theorem q224 : (Jvm.Cond.soleField "RobotAisles" "fault") ∈ lw_all := lw_g (lw_at lw_m1 154 rfl) rfl
theorem q225 : (Jvm.Cond.superclass "RobotAisles" "java/lang/Object") ∈ lw_all := lw_g (lw_at lw_m1 155 rfl) rfl
theorem q228 : (Jvm.Cond.instanceMethod ({ cls := "RobotAisles", name := "faultPosition", desc := "()I" } : Jvm.MethodName)) ∈ lw_all := lw_g (lw_at lw_m1 158 rfl) rfl
theorem q229 : (Jvm.Cond.selects "RobotAisles" ({ cls := "RobotAisles", name := "faultPosition", desc := "()I" } : Jvm.MethodName) ({ cls := "RobotAisles", name := "faultPosition", desc := "()I" } : Jvm.MethodName)) ∈ lw_all := lw_g (lw_at lw_m1 159 rfl) rfl
theorem q230 : (Jvm.Cond.code ({ cls := "RobotAisles", name := "faultPosition", desc := "()I" } : Jvm.MethodName) prog_1_method_26_code (1 : Nat) (Option.some Jvm.ClassFile.FieldType.int)) ∈ lw_all := lw_g (lw_at lw_m1 160 rfl) rfl
theorem q232 : (Jvm.Cond.instanceMethod ({ cls := "RobotAisles", name := "save", desc := "()I" } : Jvm.MethodName)) ∈ lw_all := lw_g (lw_at lw_m1 162 rfl) rfl
theorem q233 : (Jvm.Cond.selects "RobotAisles" ({ cls := "RobotAisles", name := "save", desc := "()I" } : Jvm.MethodName) ({ cls := "RobotAisles", name := "save", desc := "()I" } : Jvm.MethodName)) ∈ lw_all := lw_g (lw_at lw_m1 163 rfl) rfl
theorem q234 : (Jvm.Cond.code ({ cls := "RobotAisles", name := "save", desc := "()I" } : Jvm.MethodName) prog_1_method_60_code (1 : Nat) (Option.some Jvm.ClassFile.FieldType.int)) ∈ lw_all := lw_g (lw_at lw_m1 164 rfl) rfl
theorem q235 : (Jvm.Cond.methodLink "RobotAisles" (80 : Nat) ({ cls := "RobotAisles$Core", name := "copy", desc := "()LRobotAisles$Core;" } : Jvm.MethodName)) ∈ lw_all := lw_g (lw_at lw_m1 165 rfl) rfl
theorem q273 : (Jvm.Cond.fieldLinkNest "RobotAisles" (239 : Nat) "RobotAisles$Robot" "cell" "I" "RobotAisles") ∈ lw_tbl := lw_at lw_m1 203 rfl
theorem q276 : (Jvm.Cond.fieldLinkNest "RobotAisles" (242 : Nat) "RobotAisles$Robot" "battery" "I" "RobotAisles") ∈ lw_tbl := lw_at lw_m1 206 rfl
theorem q279 : (Jvm.Cond.fieldLinkNest "RobotAisles" (245 : Nat) "RobotAisles$Robot" "order" "I" "RobotAisles") ∈ lw_tbl := lw_at lw_m1 209 rfl
theorem q281 : (Jvm.Cond.fieldLinkNest "RobotAisles" (260 : Nat) "RobotAisles$Robot" "steps" "I" "RobotAisles") ∈ lw_tbl := lw_at lw_m1 211 rfl
theorem q284 : (Jvm.Cond.fieldLinkNest "RobotAisles" (254 : Nat) "RobotAisles$Robot" "path" "[I" "RobotAisles") ∈ lw_tbl := lw_at lw_m1 214 rfl
theorem q336 : (Jvm.Cond.selects "RobotAisles" ({ cls := "java/lang/Object", name := "getClass", desc := "()Ljava/lang/Class;" } : Jvm.MethodName) ({ cls := "java/lang/Object", name := "getClass", desc := "()Ljava/lang/Class;" } : Jvm.MethodName)) ∈ lw_all := lw_g (lw_at lw_m2 26 rfl) rfl
theorem q389 : (Jvm.Cond.fieldLinkNest "RobotAisles" (328 : Nat) "RobotAisles$Order" "number" "I" "RobotAisles") ∈ lw_tbl := lw_at lw_m2 79 rfl
theorem q391 : (Jvm.Cond.fieldLinkNest "RobotAisles" (292 : Nat) "RobotAisles$Order" "due" "I" "RobotAisles") ∈ lw_tbl := lw_at lw_m2 81 rfl
theorem q394 : (Jvm.Cond.fieldLinkNest "RobotAisles" (295 : Nat) "RobotAisles$Order" "lines" "[I" "RobotAisles") ∈ lw_tbl := lw_at lw_m2 84 rfl
theorem q397 : (Jvm.Cond.fieldLinkNest "RobotAisles" (298 : Nat) "RobotAisles$Order" "picked" "I" "RobotAisles") ∈ lw_tbl := lw_at lw_m2 87 rfl
theorem q400 : (Jvm.Cond.fieldLinkNest "RobotAisles" (301 : Nat) "RobotAisles$Order" "state" "I" "RobotAisles") ∈ lw_tbl := lw_at lw_m2 90 rfl
theorem q403 : (Jvm.Cond.fieldLinkNest "RobotAisles" (307 : Nat) "RobotAisles$Order" "deliveredAt" "I" "RobotAisles") ∈ lw_tbl := lw_at lw_m2 93 rfl
theorem q418 : (Jvm.Cond.methodLink "RobotAisles" (68 : Nat) ({ cls := "java/util/ArrayList", name := "size", desc := "()I" } : Jvm.MethodName)) ∈ lw_all := lw_g (lw_at lw_m2 108 rfl) rfl
theorem q424 : (Jvm.Cond.instanceMethod ({ cls := "RobotAisles", name := "append", desc := "(C)I" } : Jvm.MethodName)) ∈ lw_all := lw_g (lw_at lw_m2 114 rfl) rfl
theorem q425 : (Jvm.Cond.selects "RobotAisles" ({ cls := "RobotAisles", name := "append", desc := "(C)I" } : Jvm.MethodName) ({ cls := "RobotAisles", name := "append", desc := "(C)I" } : Jvm.MethodName)) ∈ lw_all := lw_g (lw_at lw_m2 115 rfl) rfl
theorem q426 : (Jvm.Cond.code ({ cls := "RobotAisles", name := "append", desc := "(C)I" } : Jvm.MethodName) prog_1_method_24_code (2 : Nat) (Option.some Jvm.ClassFile.FieldType.int)) ∈ lw_all := lw_g (lw_at lw_m2 116 rfl) rfl
theorem q427 : (Jvm.Cond.methodLink "RobotAisles" (141 : Nat) ({ cls := "RobotAisles", name := "requireState", desc := "(Z)V" } : Jvm.MethodName)) ∈ lw_all := lw_g (lw_at lw_m2 117 rfl) rfl
theorem q428 : (Jvm.Cond.static ({ cls := "RobotAisles", name := "requireState", desc := "(Z)V" } : Jvm.MethodName)) ∈ lw_all := lw_g (lw_at lw_m2 118 rfl) rfl
theorem q429 : (Jvm.Cond.code ({ cls := "RobotAisles", name := "requireState", desc := "(Z)V" } : Jvm.MethodName) prog_1_method_5_code (1 : Nat) (Option.none : Option Jvm.ClassFile.FieldType)) ∈ lw_all := lw_g (lw_at lw_m2 119 rfl) rfl
theorem q430 : (Jvm.Cond.classLink "RobotAisles" (39 : Nat) "java/lang/IllegalStateException") ∈ lw_all := lw_g (lw_at lw_m2 120 rfl) rfl
theorem q477 : (Jvm.Cond.methodLink "RobotAisles" (41 : Nat) ({ cls := "java/lang/IllegalStateException", name := "<init>", desc := "()V" } : Jvm.MethodName)) ∈ lw_all := lw_g (lw_at lw_m2 167 rfl) rfl
theorem q505 : (Jvm.Cond.instanceMethod ({ cls := "RobotAisles", name := "layout", desc := "()I" } : Jvm.MethodName)) ∈ lw_all := lw_g (lw_at lw_m2 195 rfl) rfl
theorem q506 : (Jvm.Cond.selects "RobotAisles" ({ cls := "RobotAisles", name := "layout", desc := "()I" } : Jvm.MethodName) ({ cls := "RobotAisles", name := "layout", desc := "()I" } : Jvm.MethodName)) ∈ lw_all := lw_g (lw_at lw_m2 196 rfl) rfl
theorem q507 : (Jvm.Cond.codeWith ({ cls := "RobotAisles", name := "layout", desc := "()I" } : Jvm.MethodName) prog_1_method_25_code (4 : Nat) (Option.some Jvm.ClassFile.FieldType.int) [((0 : Nat), (39 : Nat), (46 : Nat), (164 : Nat)), ((0 : Nat), (39 : Nat), (63 : Nat), (0 : Nat)), ((46 : Nat), (64 : Nat), (63 : Nat), (0 : Nat))]) ∈ lw_all := lw_g (lw_at lw_m2 197 rfl) rfl
theorem q508 : (Jvm.Cond.classLink "RobotAisles" (164 : Nat) "RobotAisles$FaultException") ∈ lw_all := lw_g (lw_at lw_m2 198 rfl) rfl
theorem q509 : (Jvm.Cond.classLink "RobotAisles" (145 : Nat) "RobotAisles$Reader") ∈ lw_all := lw_g (lw_at lw_m2 199 rfl) rfl
theorem q511 : (Jvm.Cond.methodLinkNest "RobotAisles" (147 : Nat) ({ cls := "RobotAisles$Reader", name := "<init>", desc := "(LRobotAisles;)V" } : Jvm.MethodName) "RobotAisles") ∈ lw_tbl := lw_at lw_m2 201 rfl
theorem q528 : (Jvm.Cond.methodLink "RobotAisles" (150 : Nat) ({ cls := "RobotAisles$Reader", name := "layout", desc := "()LRobotAisles$Core;" } : Jvm.MethodName)) ∈ lw_all := lw_g (lw_at lw_m2 218 rfl) rfl
theorem q646 : (Jvm.Cond.fieldLinkNest "RobotAisles" (166 : Nat) "RobotAisles$FaultException" "position" "I" "RobotAisles") ∈ lw_tbl := lw_at lw_m3 96 rfl
theorem q655 : (Jvm.Cond.methodLink "RobotAisles" (157 : Nat) ({ cls := "java/lang/System", name := "arraycopy", desc := "(Ljava/lang/Object;ILjava/lang/Object;II)V" } : Jvm.MethodName)) ∈ lw_all := lw_g (lw_at lw_m3 105 rfl) rfl
theorem q656 : (Jvm.Cond.methodLink "RobotAisles" (163 : Nat) ({ cls := "RobotAisles$Core", name := "size", desc := "()I" } : Jvm.MethodName)) ∈ lw_all := lw_g (lw_at lw_m3 106 rfl) rfl
theorem q660 : (Jvm.Cond.methodLink "RobotAisles" (87 : Nat) ({ cls := "RobotAisles", name := "come", desc := "(LRobotAisles$Core;I)I" } : Jvm.MethodName)) ∈ lw_all := lw_g (lw_at lw_m3 110 rfl) rfl
theorem q661 : (Jvm.Cond.privateMethod ({ cls := "RobotAisles", name := "come", desc := "(LRobotAisles$Core;I)I" } : Jvm.MethodName)) ∈ lw_tbl := lw_at lw_m3 111 rfl
theorem q662 : (Jvm.Cond.instanceMethod ({ cls := "RobotAisles", name := "come", desc := "(LRobotAisles$Core;I)I" } : Jvm.MethodName)) ∈ lw_all := lw_g (lw_at lw_m3 112 rfl) rfl
theorem q663 : (Jvm.Cond.code ({ cls := "RobotAisles", name := "come", desc := "(LRobotAisles$Core;I)I" } : Jvm.MethodName) prog_1_method_11_code (3 : Nat) (Option.some Jvm.ClassFile.FieldType.int)) ∈ lw_all := lw_g (lw_at lw_m3 113 rfl) rfl
theorem q664 : (Jvm.Cond.methodLink "RobotAisles" (72 : Nat) ({ cls := "java/util/ArrayList", name := "remove", desc := "(I)Ljava/lang/Object;" } : Jvm.MethodName)) ∈ lw_all := lw_g (lw_at lw_m3 114 rfl) rfl
theorem q673 : (Jvm.Cond.methodLink "RobotAisles" (76 : Nat) ({ cls := "java/util/ArrayList", name := "add", desc := "(Ljava/lang/Object;)Z" } : Jvm.MethodName)) ∈ lw_all := lw_g (lw_at lw_m3 123 rfl) rfl
theorem q674 : (Jvm.Cond.classLink "RobotAisles" (36 : Nat) "java/lang/IllegalArgumentException") ∈ lw_all := lw_g (lw_at lw_m3 124 rfl) rfl
theorem q683 : (Jvm.Cond.methodLink "RobotAisles" (38 : Nat) ({ cls := "java/lang/IllegalArgumentException", name := "<init>", desc := "()V" } : Jvm.MethodName)) ∈ lw_all := lw_g (lw_at lw_m3 133 rfl) rfl
theorem q694 : (Jvm.Cond.instanceMethod ({ cls := "RobotAisles", name := "add", desc := "(II)I" } : Jvm.MethodName)) ∈ lw_all := lw_g (lw_at lw_m3 144 rfl) rfl
theorem q695 : (Jvm.Cond.selects "RobotAisles" ({ cls := "RobotAisles", name := "add", desc := "(II)I" } : Jvm.MethodName) ({ cls := "RobotAisles", name := "add", desc := "(II)I" } : Jvm.MethodName)) ∈ lw_all := lw_g (lw_at lw_m3 145 rfl) rfl
theorem q696 : (Jvm.Cond.codeWith ({ cls := "RobotAisles", name := "add", desc := "(II)I" } : Jvm.MethodName) prog_1_method_12_code (4 : Nat) (Option.some Jvm.ClassFile.FieldType.int) [((0 : Nat), (19 : Nat), (20 : Nat), (48 : Nat))]) ∈ lw_all := lw_g (lw_at lw_m3 146 rfl) rfl
theorem q697 : (Jvm.Cond.classLink "RobotAisles" (48 : Nat) "RobotAisles$RefusedException") ∈ lw_all := lw_g (lw_at lw_m3 147 rfl) rfl
theorem q698 : (Jvm.Cond.methodLink "RobotAisles" (84 : Nat) ({ cls := "RobotAisles$Core", name := "add", desc := "(II)I" } : Jvm.MethodName)) ∈ lw_all := lw_g (lw_at lw_m3 148 rfl) rfl
theorem q708 : (Jvm.Cond.static ({ cls := "RobotAisles", name := "isBetween", desc := "(III)Z" } : Jvm.MethodName)) ∈ lw_all := lw_g (lw_at lw_m3 158 rfl) rfl
theorem q709 : (Jvm.Cond.code ({ cls := "RobotAisles", name := "isBetween", desc := "(III)Z" } : Jvm.MethodName) prog_1_method_2_code (3 : Nat) (Option.some Jvm.ClassFile.FieldType.boolean)) ∈ lw_all := lw_g (lw_at lw_m3 159 rfl) rfl
theorem q711 : (Jvm.Cond.static ({ cls := "RobotAisles", name := "refuse", desc := "(ZI)V" } : Jvm.MethodName)) ∈ lw_all := lw_g (lw_at lw_m3 161 rfl) rfl
theorem q712 : (Jvm.Cond.code ({ cls := "RobotAisles", name := "refuse", desc := "(ZI)V" } : Jvm.MethodName) prog_1_method_9_code (2 : Nat) (Option.none : Option Jvm.ClassFile.FieldType)) ∈ lw_all := lw_g (lw_at lw_m3 162 rfl) rfl
theorem q713 : (Jvm.Cond.methodLink "RobotAisles" (53 : Nat) ({ cls := "RobotAisles", name := "refuse", desc := "(ZII)V" } : Jvm.MethodName)) ∈ lw_all := lw_g (lw_at lw_m3 163 rfl) rfl
theorem q714 : (Jvm.Cond.static ({ cls := "RobotAisles", name := "refuse", desc := "(ZII)V" } : Jvm.MethodName)) ∈ lw_all := lw_g (lw_at lw_m3 164 rfl) rfl
theorem q715 : (Jvm.Cond.code ({ cls := "RobotAisles", name := "refuse", desc := "(ZII)V" } : Jvm.MethodName) prog_1_method_8_code (3 : Nat) (Option.none : Option Jvm.ClassFile.FieldType)) ∈ lw_all := lw_g (lw_at lw_m3 165 rfl) rfl
theorem q724 : (Jvm.Cond.methodLink "RobotAisles" (50 : Nat) ({ cls := "RobotAisles$RefusedException", name := "<init>", desc := "(II)V" } : Jvm.MethodName)) ∈ lw_all := lw_g (lw_at lw_m3 174 rfl) rfl
theorem q729 : (Jvm.Cond.fieldLinkNest "RobotAisles" (57 : Nat) "RobotAisles$RefusedException" "reason" "I" "RobotAisles") ∈ lw_tbl := lw_at lw_m3 179 rfl
theorem q731 : (Jvm.Cond.fieldLinkNest "RobotAisles" (61 : Nat) "RobotAisles$RefusedException" "detail" "I" "RobotAisles") ∈ lw_tbl := lw_at lw_m3 181 rfl
theorem q765 : (Jvm.Cond.methodLink "RobotAisles" (91 : Nat) ({ cls := "RobotAisles", name := "keep", desc := "(LRobotAisles$RefusedException;)Ljava/lang/UnsupportedOperationException;" } : Jvm.MethodName)) ∈ lw_all := lw_g (lw_at lw_m3 215 rfl) rfl
theorem q766 : (Jvm.Cond.privateMethod ({ cls := "RobotAisles", name := "keep", desc := "(LRobotAisles$RefusedException;)Ljava/lang/UnsupportedOperationException;" } : Jvm.MethodName)) ∈ lw_tbl := lw_at lw_m3 216 rfl
theorem q767 : (Jvm.Cond.instanceMethod ({ cls := "RobotAisles", name := "keep", desc := "(LRobotAisles$RefusedException;)Ljava/lang/UnsupportedOperationException;" } : Jvm.MethodName)) ∈ lw_all := lw_g (lw_at lw_m3 217 rfl) rfl
theorem q768 : (Jvm.Cond.code ({ cls := "RobotAisles", name := "keep", desc := "(LRobotAisles$RefusedException;)Ljava/lang/UnsupportedOperationException;" } : Jvm.MethodName) prog_1_method_10_code (2 : Nat) (Option.some (Jvm.ClassFile.FieldType.object "java/lang/UnsupportedOperationException"))) ∈ lw_all := lw_g (lw_at lw_m3 218 rfl) rfl
theorem q769 : (Jvm.Cond.classLink "RobotAisles" (65 : Nat) "java/lang/UnsupportedOperationException") ∈ lw_all := lw_g (lw_at lw_m3 219 rfl) rfl
theorem q778 : (Jvm.Cond.methodLink "RobotAisles" (67 : Nat) ({ cls := "java/lang/UnsupportedOperationException", name := "<init>", desc := "()V" } : Jvm.MethodName)) ∈ lw_all := lw_g (lw_at lw_m3 228 rfl) rfl
theorem q788 : (Jvm.Cond.instanceMethod ({ cls := "RobotAisles", name := "takeOff", desc := "(I)I" } : Jvm.MethodName)) ∈ lw_all := lw_g (lw_at lw_m3 238 rfl) rfl
theorem q789 : (Jvm.Cond.selects "RobotAisles" ({ cls := "RobotAisles", name := "takeOff", desc := "(I)I" } : Jvm.MethodName) ({ cls := "RobotAisles", name := "takeOff", desc := "(I)I" } : Jvm.MethodName)) ∈ lw_all := lw_g (lw_at lw_m3 239 rfl) rfl
theorem q790 : (Jvm.Cond.codeWith ({ cls := "RobotAisles", name := "takeOff", desc := "(I)I" } : Jvm.MethodName) prog_1_method_13_code (3 : Nat) (Option.some Jvm.ClassFile.FieldType.int) [((0 : Nat), (18 : Nat), (19 : Nat), (48 : Nat))]) ∈ lw_all := lw_g (lw_at lw_m4 0 rfl) rfl
theorem q791 : (Jvm.Cond.methodLink "RobotAisles" (95 : Nat) ({ cls := "RobotAisles$Core", name := "takeOff", desc := "(I)I" } : Jvm.MethodName)) ∈ lw_all := lw_g (lw_at lw_m4 1 rfl) rfl
theorem q804 : (Jvm.Cond.instanceMethod ({ cls := "RobotAisles", name := "order", desc := "(IIII)I" } : Jvm.MethodName)) ∈ lw_all := lw_g (lw_at lw_m4 14 rfl) rfl
theorem q805 : (Jvm.Cond.selects "RobotAisles" ({ cls := "RobotAisles", name := "order", desc := "(IIII)I" } : Jvm.MethodName) ({ cls := "RobotAisles", name := "order", desc := "(IIII)I" } : Jvm.MethodName)) ∈ lw_all := lw_g (lw_at lw_m4 15 rfl) rfl
theorem q806 : (Jvm.Cond.codeWith ({ cls := "RobotAisles", name := "order", desc := "(IIII)I" } : Jvm.MethodName) prog_1_method_15_code (8 : Nat) (Option.some Jvm.ClassFile.FieldType.int) [((0 : Nat), (87 : Nat), (88 : Nat), (48 : Nat))]) ∈ lw_all := lw_g (lw_at lw_m4 16 rfl) rfl
theorem q807 : (Jvm.Cond.methodLink "RobotAisles" (102 : Nat) ({ cls := "RobotAisles$Core", name := "hasCell", desc := "(I)Z" } : Jvm.MethodName)) ∈ lw_all := lw_g (lw_at lw_m4 17 rfl) rfl
theorem q808 : (Jvm.Cond.methodLink "RobotAisles" (99 : Nat) ({ cls := "RobotAisles", name := "refuse", desc := "(ZI)V" } : Jvm.MethodName)) ∈ lw_all := lw_g (lw_at lw_m4 18 rfl) rfl
theorem q809 : (Jvm.Cond.methodLink "RobotAisles" (106 : Nat) ({ cls := "RobotAisles", name := "linesOf", desc := "(III)[I" } : Jvm.MethodName)) ∈ lw_all := lw_g (lw_at lw_m4 19 rfl) rfl
theorem q810 : (Jvm.Cond.static ({ cls := "RobotAisles", name := "linesOf", desc := "(III)[I" } : Jvm.MethodName)) ∈ lw_all := lw_g (lw_at lw_m4 20 rfl) rfl
theorem q811 : (Jvm.Cond.code ({ cls := "RobotAisles", name := "linesOf", desc := "(III)[I" } : Jvm.MethodName) prog_1_method_14_code (4 : Nat) (Option.some (Jvm.ClassFile.FieldType.array Jvm.ClassFile.FieldType.int))) ∈ lw_all := lw_g (lw_at lw_m4 21 rfl) rfl
theorem q812 : (Jvm.Cond.methodLink "RobotAisles" (110 : Nat) ({ cls := "RobotAisles$Core", name := "order", desc := "(I[I)I" } : Jvm.MethodName)) ∈ lw_all := lw_g (lw_at lw_m4 22 rfl) rfl
theorem q821 : (Jvm.Cond.instanceMethod ({ cls := "RobotAisles", name := "assign", desc := "(II)I" } : Jvm.MethodName)) ∈ lw_all := lw_g (lw_at lw_m4 31 rfl) rfl
theorem q822 : (Jvm.Cond.selects "RobotAisles" ({ cls := "RobotAisles", name := "assign", desc := "(II)I" } : Jvm.MethodName) ({ cls := "RobotAisles", name := "assign", desc := "(II)I" } : Jvm.MethodName)) ∈ lw_all := lw_g (lw_at lw_m4 32 rfl) rfl
theorem q823 : (Jvm.Cond.codeWith ({ cls := "RobotAisles", name := "assign", desc := "(II)I" } : Jvm.MethodName) prog_1_method_16_code (4 : Nat) (Option.some Jvm.ClassFile.FieldType.int) [((0 : Nat), (19 : Nat), (20 : Nat), (48 : Nat))]) ∈ lw_all := lw_g (lw_at lw_m4 33 rfl) rfl
theorem q824 : (Jvm.Cond.methodLink "RobotAisles" (114 : Nat) ({ cls := "RobotAisles$Core", name := "assign", desc := "(II)I" } : Jvm.MethodName)) ∈ lw_all := lw_g (lw_at lw_m4 34 rfl) rfl
theorem q840 : (Jvm.Cond.instanceMethod ({ cls := "RobotAisles", name := "release", desc := "(I)I" } : Jvm.MethodName)) ∈ lw_all := lw_g (lw_at lw_m4 50 rfl) rfl
theorem q841 : (Jvm.Cond.selects "RobotAisles" ({ cls := "RobotAisles", name := "release", desc := "(I)I" } : Jvm.MethodName) ({ cls := "RobotAisles", name := "release", desc := "(I)I" } : Jvm.MethodName)) ∈ lw_all := lw_g (lw_at lw_m4 51 rfl) rfl
theorem q842 : (Jvm.Cond.codeWith ({ cls := "RobotAisles", name := "release", desc := "(I)I" } : Jvm.MethodName) prog_1_method_17_code (3 : Nat) (Option.some Jvm.ClassFile.FieldType.int) [((0 : Nat), (18 : Nat), (19 : Nat), (48 : Nat))]) ∈ lw_all := lw_g (lw_at lw_m4 52 rfl) rfl
theorem q843 : (Jvm.Cond.methodLink "RobotAisles" (117 : Nat) ({ cls := "RobotAisles$Core", name := "release", desc := "(I)I" } : Jvm.MethodName)) ∈ lw_all := lw_g (lw_at lw_m4 53 rfl) rfl
theorem q851 : (Jvm.Cond.instanceMethod ({ cls := "RobotAisles", name := "close", desc := "(I)I" } : Jvm.MethodName)) ∈ lw_all := lw_g (lw_at lw_m4 61 rfl) rfl
theorem q852 : (Jvm.Cond.selects "RobotAisles" ({ cls := "RobotAisles", name := "close", desc := "(I)I" } : Jvm.MethodName) ({ cls := "RobotAisles", name := "close", desc := "(I)I" } : Jvm.MethodName)) ∈ lw_all := lw_g (lw_at lw_m4 62 rfl) rfl
theorem q853 : (Jvm.Cond.codeWith ({ cls := "RobotAisles", name := "close", desc := "(I)I" } : Jvm.MethodName) prog_1_method_18_code (3 : Nat) (Option.some Jvm.ClassFile.FieldType.int) [((0 : Nat), (18 : Nat), (19 : Nat), (48 : Nat))]) ∈ lw_all := lw_g (lw_at lw_m4 63 rfl) rfl
theorem q854 : (Jvm.Cond.methodLink "RobotAisles" (120 : Nat) ({ cls := "RobotAisles$Core", name := "close", desc := "(I)I" } : Jvm.MethodName)) ∈ lw_all := lw_g (lw_at lw_m4 64 rfl) rfl
theorem q868 : (Jvm.Cond.instanceMethod ({ cls := "RobotAisles", name := "open", desc := "(I)I" } : Jvm.MethodName)) ∈ lw_all := lw_g (lw_at lw_m4 78 rfl) rfl
theorem q869 : (Jvm.Cond.selects "RobotAisles" ({ cls := "RobotAisles", name := "open", desc := "(I)I" } : Jvm.MethodName) ({ cls := "RobotAisles", name := "open", desc := "(I)I" } : Jvm.MethodName)) ∈ lw_all := lw_g (lw_at lw_m4 79 rfl) rfl
theorem q870 : (Jvm.Cond.codeWith ({ cls := "RobotAisles", name := "open", desc := "(I)I" } : Jvm.MethodName) prog_1_method_19_code (3 : Nat) (Option.some Jvm.ClassFile.FieldType.int) [((0 : Nat), (18 : Nat), (19 : Nat), (48 : Nat))]) ∈ lw_all := lw_g (lw_at lw_m4 80 rfl) rfl
theorem q871 : (Jvm.Cond.methodLink "RobotAisles" (123 : Nat) ({ cls := "RobotAisles$Core", name := "open", desc := "(I)I" } : Jvm.MethodName)) ∈ lw_all := lw_g (lw_at lw_m4 81 rfl) rfl
theorem q880 : (Jvm.Cond.instanceMethod ({ cls := "RobotAisles", name := "set", desc := "(II)I" } : Jvm.MethodName)) ∈ lw_all := lw_g (lw_at lw_m4 90 rfl) rfl
theorem q881 : (Jvm.Cond.selects "RobotAisles" ({ cls := "RobotAisles", name := "set", desc := "(II)I" } : Jvm.MethodName) ({ cls := "RobotAisles", name := "set", desc := "(II)I" } : Jvm.MethodName)) ∈ lw_all := lw_g (lw_at lw_m4 91 rfl) rfl
theorem q882 : (Jvm.Cond.codeWith ({ cls := "RobotAisles", name := "set", desc := "(II)I" } : Jvm.MethodName) prog_1_method_20_code (4 : Nat) (Option.some Jvm.ClassFile.FieldType.int) [((0 : Nat), (19 : Nat), (20 : Nat), (48 : Nat))]) ∈ lw_all := lw_g (lw_at lw_m4 92 rfl) rfl
theorem q883 : (Jvm.Cond.methodLink "RobotAisles" (126 : Nat) ({ cls := "RobotAisles$Core", name := "set", desc := "(II)I" } : Jvm.MethodName)) ∈ lw_all := lw_g (lw_at lw_m4 93 rfl) rfl
theorem q891 : (Jvm.Cond.instanceMethod ({ cls := "RobotAisles", name := "plan", desc := "(II)I" } : Jvm.MethodName)) ∈ lw_all := lw_g (lw_at lw_m4 101 rfl) rfl
theorem q892 : (Jvm.Cond.selects "RobotAisles" ({ cls := "RobotAisles", name := "plan", desc := "(II)I" } : Jvm.MethodName) ({ cls := "RobotAisles", name := "plan", desc := "(II)I" } : Jvm.MethodName)) ∈ lw_all := lw_g (lw_at lw_m4 102 rfl) rfl
theorem q893 : (Jvm.Cond.codeWith ({ cls := "RobotAisles", name := "plan", desc := "(II)I" } : Jvm.MethodName) prog_1_method_21_code (4 : Nat) (Option.some Jvm.ClassFile.FieldType.int) [((0 : Nat), (19 : Nat), (20 : Nat), (48 : Nat))]) ∈ lw_all := lw_g (lw_at lw_m4 103 rfl) rfl
theorem q894 : (Jvm.Cond.methodLink "RobotAisles" (129 : Nat) ({ cls := "RobotAisles$Core", name := "plan", desc := "(II)I" } : Jvm.MethodName)) ∈ lw_all := lw_g (lw_at lw_m4 104 rfl) rfl
theorem q995 : (Jvm.Cond.instanceMethod ({ cls := "RobotAisles", name := "cancel", desc := "(I)I" } : Jvm.MethodName)) ∈ lw_all := lw_g (lw_at lw_m4 205 rfl) rfl
theorem q996 : (Jvm.Cond.selects "RobotAisles" ({ cls := "RobotAisles", name := "cancel", desc := "(I)I" } : Jvm.MethodName) ({ cls := "RobotAisles", name := "cancel", desc := "(I)I" } : Jvm.MethodName)) ∈ lw_all := lw_g (lw_at lw_m4 206 rfl) rfl
theorem q997 : (Jvm.Cond.codeWith ({ cls := "RobotAisles", name := "cancel", desc := "(I)I" } : Jvm.MethodName) prog_1_method_22_code (3 : Nat) (Option.some Jvm.ClassFile.FieldType.int) [((0 : Nat), (18 : Nat), (19 : Nat), (48 : Nat))]) ∈ lw_all := lw_g (lw_at lw_m4 207 rfl) rfl
theorem q998 : (Jvm.Cond.methodLink "RobotAisles" (132 : Nat) ({ cls := "RobotAisles$Core", name := "cancel", desc := "(I)I" } : Jvm.MethodName)) ∈ lw_all := lw_g (lw_at lw_m4 208 rfl) rfl
theorem q1010 : (Jvm.Cond.instanceMethod ({ cls := "RobotAisles", name := "pass", desc := "(I)I" } : Jvm.MethodName)) ∈ lw_all := lw_g (lw_at lw_m4 220 rfl) rfl
theorem q1011 : (Jvm.Cond.selects "RobotAisles" ({ cls := "RobotAisles", name := "pass", desc := "(I)I" } : Jvm.MethodName) ({ cls := "RobotAisles", name := "pass", desc := "(I)I" } : Jvm.MethodName)) ∈ lw_all := lw_g (lw_at lw_m4 221 rfl) rfl
theorem q1012 : (Jvm.Cond.codeWith ({ cls := "RobotAisles", name := "pass", desc := "(I)I" } : Jvm.MethodName) prog_1_method_23_code (3 : Nat) (Option.some Jvm.ClassFile.FieldType.int) [((0 : Nat), (18 : Nat), (19 : Nat), (48 : Nat))]) ∈ lw_all := lw_g (lw_at lw_m4 222 rfl) rfl
theorem q1013 : (Jvm.Cond.methodLink "RobotAisles" (135 : Nat) ({ cls := "RobotAisles$Core", name := "pass", desc := "(I)I" } : Jvm.MethodName)) ∈ lw_all := lw_g (lw_at lw_m4 223 rfl) rfl
theorem q1070 : (Jvm.Cond.instanceMethod ({ cls := "RobotAisles", name := "cell", desc := "(II)I" } : Jvm.MethodName)) ∈ lw_all := lw_g (lw_at lw_m5 40 rfl) rfl
theorem q1071 : (Jvm.Cond.selects "RobotAisles" ({ cls := "RobotAisles", name := "cell", desc := "(II)I" } : Jvm.MethodName) ({ cls := "RobotAisles", name := "cell", desc := "(II)I" } : Jvm.MethodName)) ∈ lw_all := lw_g (lw_at lw_m5 41 rfl) rfl
theorem q1072 : (Jvm.Cond.code ({ cls := "RobotAisles", name := "cell", desc := "(II)I" } : Jvm.MethodName) prog_1_method_30_code (3 : Nat) (Option.some Jvm.ClassFile.FieldType.int)) ∈ lw_all := lw_g (lw_at lw_m5 42 rfl) rfl
theorem q1073 : (Jvm.Cond.methodLink "RobotAisles" (178 : Nat) ({ cls := "RobotAisles", name := "requireCell", desc := "(I)V" } : Jvm.MethodName)) ∈ lw_all := lw_g (lw_at lw_m5 43 rfl) rfl
theorem q1074 : (Jvm.Cond.privateMethod ({ cls := "RobotAisles", name := "requireCell", desc := "(I)V" } : Jvm.MethodName)) ∈ lw_tbl := lw_at lw_m5 44 rfl
theorem q1075 : (Jvm.Cond.instanceMethod ({ cls := "RobotAisles", name := "requireCell", desc := "(I)V" } : Jvm.MethodName)) ∈ lw_all := lw_g (lw_at lw_m5 45 rfl) rfl
theorem q1076 : (Jvm.Cond.code ({ cls := "RobotAisles", name := "requireCell", desc := "(I)V" } : Jvm.MethodName) prog_1_method_28_code (2 : Nat) (Option.none : Option Jvm.ClassFile.FieldType)) ∈ lw_all := lw_g (lw_at lw_m5 46 rfl) rfl
theorem q1077 : (Jvm.Cond.methodLink "RobotAisles" (172 : Nat) ({ cls := "RobotAisles", name := "requireIndex", desc := "(Z)V" } : Jvm.MethodName)) ∈ lw_all := lw_g (lw_at lw_m5 47 rfl) rfl
theorem q1078 : (Jvm.Cond.static ({ cls := "RobotAisles", name := "requireIndex", desc := "(Z)V" } : Jvm.MethodName)) ∈ lw_all := lw_g (lw_at lw_m5 48 rfl) rfl
theorem q1079 : (Jvm.Cond.code ({ cls := "RobotAisles", name := "requireIndex", desc := "(Z)V" } : Jvm.MethodName) prog_1_method_3_code (1 : Nat) (Option.none : Option Jvm.ClassFile.FieldType)) ∈ lw_all := lw_g (lw_at lw_m5 49 rfl) rfl
theorem q1080 : (Jvm.Cond.classLink "RobotAisles" (33 : Nat) "java/lang/IndexOutOfBoundsException") ∈ lw_all := lw_g (lw_at lw_m5 50 rfl) rfl
theorem q1089 : (Jvm.Cond.methodLink "RobotAisles" (35 : Nat) ({ cls := "java/lang/IndexOutOfBoundsException", name := "<init>", desc := "()V" } : Jvm.MethodName)) ∈ lw_all := lw_g (lw_at lw_m5 59 rfl) rfl
theorem q1095 : (Jvm.Cond.methodLink "RobotAisles" (182 : Nat) ({ cls := "RobotAisles", name := "isBetween", desc := "(III)Z" } : Jvm.MethodName)) ∈ lw_all := lw_g (lw_at lw_m5 65 rfl) rfl
theorem q1096 : (Jvm.Cond.methodLink "RobotAisles" (186 : Nat) ({ cls := "RobotAisles", name := "requireArgument", desc := "(Z)V" } : Jvm.MethodName)) ∈ lw_all := lw_g (lw_at lw_m5 66 rfl) rfl
theorem q1097 : (Jvm.Cond.static ({ cls := "RobotAisles", name := "requireArgument", desc := "(Z)V" } : Jvm.MethodName)) ∈ lw_all := lw_g (lw_at lw_m5 67 rfl) rfl
theorem q1098 : (Jvm.Cond.code ({ cls := "RobotAisles", name := "requireArgument", desc := "(Z)V" } : Jvm.MethodName) prog_1_method_4_code (1 : Nat) (Option.none : Option Jvm.ClassFile.FieldType)) ∈ lw_all := lw_g (lw_at lw_m5 68 rfl) rfl
theorem q1099 : (Jvm.Cond.methodLink "RobotAisles" (192 : Nat) ({ cls := "RobotAisles$Core", name := "isFree", desc := "(I)Z" } : Jvm.MethodName)) ∈ lw_all := lw_g (lw_at lw_m5 69 rfl) rfl
theorem q1100 : (Jvm.Cond.methodLink "RobotAisles" (195 : Nat) ({ cls := "RobotAisles$Core", name := "robotAt", desc := "(III)I" } : Jvm.MethodName)) ∈ lw_all := lw_g (lw_at lw_m5 70 rfl) rfl
theorem q1101 : (Jvm.Cond.methodLink "RobotAisles" (199 : Nat) ({ cls := "RobotAisles", name := "neighbors", desc := "(I)I" } : Jvm.MethodName)) ∈ lw_all := lw_g (lw_at lw_m5 71 rfl) rfl
theorem q1102 : (Jvm.Cond.privateMethod ({ cls := "RobotAisles", name := "neighbors", desc := "(I)I" } : Jvm.MethodName)) ∈ lw_tbl := lw_at lw_m5 72 rfl
theorem q1103 : (Jvm.Cond.instanceMethod ({ cls := "RobotAisles", name := "neighbors", desc := "(I)I" } : Jvm.MethodName)) ∈ lw_all := lw_g (lw_at lw_m5 73 rfl) rfl
theorem q1104 : (Jvm.Cond.code ({ cls := "RobotAisles", name := "neighbors", desc := "(I)I" } : Jvm.MethodName) prog_1_method_29_code (4 : Nat) (Option.some Jvm.ClassFile.FieldType.int)) ∈ lw_all := lw_g (lw_at lw_m5 74 rfl) rfl
theorem q1105 : (Jvm.Cond.methodLink "RobotAisles" (175 : Nat) ({ cls := "RobotAisles$Core", name := "neighbor", desc := "(II)I" } : Jvm.MethodName)) ∈ lw_all := lw_g (lw_at lw_m5 75 rfl) rfl
theorem q1110 : (Jvm.Cond.instanceMethod ({ cls := "RobotAisles", name := "letter", desc := "(I)C" } : Jvm.MethodName)) ∈ lw_all := lw_g (lw_at lw_m5 80 rfl) rfl
theorem q1111 : (Jvm.Cond.selects "RobotAisles" ({ cls := "RobotAisles", name := "letter", desc := "(I)C" } : Jvm.MethodName) ({ cls := "RobotAisles", name := "letter", desc := "(I)C" } : Jvm.MethodName)) ∈ lw_all := lw_g (lw_at lw_m5 81 rfl) rfl
theorem q1112 : (Jvm.Cond.code ({ cls := "RobotAisles", name := "letter", desc := "(I)C" } : Jvm.MethodName) prog_1_method_31_code (3 : Nat) (Option.some Jvm.ClassFile.FieldType.char)) ∈ lw_all := lw_g (lw_at lw_m5 82 rfl) rfl
theorem q1113 : (Jvm.Cond.methodLink "RobotAisles" (202 : Nat) ({ cls := "RobotAisles$Core", name := "isClosed", desc := "(I)Z" } : Jvm.MethodName)) ∈ lw_all := lw_g (lw_at lw_m5 83 rfl) rfl
theorem q1114 : (Jvm.Cond.stringRef "RobotAisles" (205 : Nat) ".#+@") ∈ lw_tbl := lw_at lw_m5 84 rfl
theorem q1115 : (Jvm.Cond.methodLink "RobotAisles" (207 : Nat) ({ cls := "java/lang/String", name := "charAt", desc := "(I)C" } : Jvm.MethodName)) ∈ lw_all := lw_g (lw_at lw_m5 85 rfl) rfl
theorem q1138 : (Jvm.Cond.instanceMethod ({ cls := "RobotAisles", name := "distance", desc := "(II)I" } : Jvm.MethodName)) ∈ lw_all := lw_g (lw_at lw_m5 108 rfl) rfl
theorem q1139 : (Jvm.Cond.selects "RobotAisles" ({ cls := "RobotAisles", name := "distance", desc := "(II)I" } : Jvm.MethodName) ({ cls := "RobotAisles", name := "distance", desc := "(II)I" } : Jvm.MethodName)) ∈ lw_all := lw_g (lw_at lw_m5 109 rfl) rfl
theorem q1140 : (Jvm.Cond.code ({ cls := "RobotAisles", name := "distance", desc := "(II)I" } : Jvm.MethodName) prog_1_method_33_code (4 : Nat) (Option.some Jvm.ClassFile.FieldType.int)) ∈ lw_all := lw_g (lw_at lw_m5 110 rfl) rfl
theorem q1141 : (Jvm.Cond.methodLink "RobotAisles" (213 : Nat) ({ cls := "RobotAisles", name := "distancesFrom", desc := "(I)[I" } : Jvm.MethodName)) ∈ lw_all := lw_g (lw_at lw_m5 111 rfl) rfl
theorem q1142 : (Jvm.Cond.privateMethod ({ cls := "RobotAisles", name := "distancesFrom", desc := "(I)[I" } : Jvm.MethodName)) ∈ lw_tbl := lw_at lw_m5 112 rfl
theorem q1143 : (Jvm.Cond.instanceMethod ({ cls := "RobotAisles", name := "distancesFrom", desc := "(I)[I" } : Jvm.MethodName)) ∈ lw_all := lw_g (lw_at lw_m5 113 rfl) rfl
theorem q1144 : (Jvm.Cond.code ({ cls := "RobotAisles", name := "distancesFrom", desc := "(I)[I" } : Jvm.MethodName) prog_1_method_32_code (8 : Nat) (Option.some (Jvm.ClassFile.FieldType.array Jvm.ClassFile.FieldType.int))) ∈ lw_all := lw_g (lw_at lw_m5 114 rfl) rfl
theorem q1145 : (Jvm.Cond.methodLink "RobotAisles" (169 : Nat) ({ cls := "RobotAisles", name := "requireElement", desc := "(Z)V" } : Jvm.MethodName)) ∈ lw_all := lw_g (lw_at lw_m5 115 rfl) rfl
theorem q1146 : (Jvm.Cond.static ({ cls := "RobotAisles", name := "requireElement", desc := "(Z)V" } : Jvm.MethodName)) ∈ lw_all := lw_g (lw_at lw_m5 116 rfl) rfl
theorem q1147 : (Jvm.Cond.code ({ cls := "RobotAisles", name := "requireElement", desc := "(Z)V" } : Jvm.MethodName) prog_1_method_6_code (1 : Nat) (Option.none : Option Jvm.ClassFile.FieldType)) ∈ lw_all := lw_g (lw_at lw_m5 117 rfl) rfl
theorem q1148 : (Jvm.Cond.classLink "RobotAisles" (42 : Nat) "java/util/NoSuchElementException") ∈ lw_all := lw_g (lw_at lw_m5 118 rfl) rfl
theorem q1157 : (Jvm.Cond.methodLink "RobotAisles" (44 : Nat) ({ cls := "java/util/NoSuchElementException", name := "<init>", desc := "()V" } : Jvm.MethodName)) ∈ lw_all := lw_g (lw_at lw_m5 127 rfl) rfl
theorem q1167 : (Jvm.Cond.instanceMethod ({ cls := "RobotAisles", name := "distanceAgain", desc := "(II)I" } : Jvm.MethodName)) ∈ lw_all := lw_g (lw_at lw_m5 137 rfl) rfl
theorem q1168 : (Jvm.Cond.selects "RobotAisles" ({ cls := "RobotAisles", name := "distanceAgain", desc := "(II)I" } : Jvm.MethodName) ({ cls := "RobotAisles", name := "distanceAgain", desc := "(II)I" } : Jvm.MethodName)) ∈ lw_all := lw_g (lw_at lw_m5 138 rfl) rfl
theorem q1169 : (Jvm.Cond.code ({ cls := "RobotAisles", name := "distanceAgain", desc := "(II)I" } : Jvm.MethodName) prog_1_method_34_code (8 : Nat) (Option.some Jvm.ClassFile.FieldType.int)) ∈ lw_all := lw_g (lw_at lw_m5 139 rfl) rfl
theorem q1170 : (Jvm.Cond.classLink "RobotAisles" (217 : Nat) "[[I") ∈ lw_all := lw_g (lw_at lw_m5 140 rfl) rfl
theorem q1172 : (Jvm.Cond.methodLink "RobotAisles" (219 : Nat) ({ cls := "java/lang/Math", name := "min", desc := "(II)I" } : Jvm.MethodName)) ∈ lw_all := lw_g (lw_at lw_m5 142 rfl) rfl
theorem q1177 : (Jvm.Cond.instanceMethod ({ cls := "RobotAisles", name := "reach", desc := "(I)I" } : Jvm.MethodName)) ∈ lw_all := lw_g (lw_at lw_m5 147 rfl) rfl
theorem q1178 : (Jvm.Cond.selects "RobotAisles" ({ cls := "RobotAisles", name := "reach", desc := "(I)I" } : Jvm.MethodName) ({ cls := "RobotAisles", name := "reach", desc := "(I)I" } : Jvm.MethodName)) ∈ lw_all := lw_g (lw_at lw_m5 148 rfl) rfl
theorem q1179 : (Jvm.Cond.code ({ cls := "RobotAisles", name := "reach", desc := "(I)I" } : Jvm.MethodName) prog_1_method_35_code (5 : Nat) (Option.some Jvm.ClassFile.FieldType.int)) ∈ lw_all := lw_g (lw_at lw_m5 149 rfl) rfl
theorem q1184 : (Jvm.Cond.instanceMethod ({ cls := "RobotAisles", name := "farthest", desc := "(I)I" } : Jvm.MethodName)) ∈ lw_all := lw_g (lw_at lw_m5 154 rfl) rfl
theorem q1185 : (Jvm.Cond.selects "RobotAisles" ({ cls := "RobotAisles", name := "farthest", desc := "(I)I" } : Jvm.MethodName) ({ cls := "RobotAisles", name := "farthest", desc := "(I)I" } : Jvm.MethodName)) ∈ lw_all := lw_g (lw_at lw_m5 155 rfl) rfl
theorem q1186 : (Jvm.Cond.code ({ cls := "RobotAisles", name := "farthest", desc := "(I)I" } : Jvm.MethodName) prog_1_method_36_code (5 : Nat) (Option.some Jvm.ClassFile.FieldType.int)) ∈ lw_all := lw_g (lw_at lw_m5 156 rfl) rfl
theorem q1191 : (Jvm.Cond.instanceMethod ({ cls := "RobotAisles", name := "robotOf", desc := "(II)I" } : Jvm.MethodName)) ∈ lw_all := lw_g (lw_at lw_m5 161 rfl) rfl
theorem q1192 : (Jvm.Cond.selects "RobotAisles" ({ cls := "RobotAisles", name := "robotOf", desc := "(II)I" } : Jvm.MethodName) ({ cls := "RobotAisles", name := "robotOf", desc := "(II)I" } : Jvm.MethodName)) ∈ lw_all := lw_g (lw_at lw_m5 162 rfl) rfl
theorem q1193 : (Jvm.Cond.code ({ cls := "RobotAisles", name := "robotOf", desc := "(II)I" } : Jvm.MethodName) prog_1_method_38_code (4 : Nat) (Option.some Jvm.ClassFile.FieldType.int)) ∈ lw_all := lw_g (lw_at lw_m5 163 rfl) rfl
theorem q1194 : (Jvm.Cond.methodLink "RobotAisles" (235 : Nat) ({ cls := "RobotAisles", name := "getRobot", desc := "(I)LRobotAisles$Robot;" } : Jvm.MethodName)) ∈ lw_all := lw_g (lw_at lw_m5 164 rfl) rfl
theorem q1195 : (Jvm.Cond.privateMethod ({ cls := "RobotAisles", name := "getRobot", desc := "(I)LRobotAisles$Robot;" } : Jvm.MethodName)) ∈ lw_tbl := lw_at lw_m5 165 rfl
theorem q1196 : (Jvm.Cond.instanceMethod ({ cls := "RobotAisles", name := "getRobot", desc := "(I)LRobotAisles$Robot;" } : Jvm.MethodName)) ∈ lw_all := lw_g (lw_at lw_m5 166 rfl) rfl
theorem q1197 : (Jvm.Cond.code ({ cls := "RobotAisles", name := "getRobot", desc := "(I)LRobotAisles$Robot;" } : Jvm.MethodName) prog_1_method_37_code (2 : Nat) (Option.some (Jvm.ClassFile.FieldType.object "RobotAisles$Robot"))) ∈ lw_all := lw_g (lw_at lw_m5 167 rfl) rfl
theorem q1198 : (Jvm.Cond.methodLink "RobotAisles" (224 : Nat) ({ cls := "RobotAisles$Core", name := "hasRobot", desc := "(I)Z" } : Jvm.MethodName)) ∈ lw_all := lw_g (lw_at lw_m5 168 rfl) rfl
theorem q1199 : (Jvm.Cond.methodLink "RobotAisles" (230 : Nat) ({ cls := "java/util/ArrayList", name := "get", desc := "(I)Ljava/lang/Object;" } : Jvm.MethodName)) ∈ lw_all := lw_g (lw_at lw_m5 169 rfl) rfl
theorem q1200 : (Jvm.Cond.classLink "RobotAisles" (233 : Nat) "RobotAisles$Robot") ∈ lw_all := lw_g (lw_at lw_m5 170 rfl) rfl
theorem q1201 : (Jvm.Cond.methodLink "RobotAisles" (247 : Nat) ({ cls := "RobotAisles$Robot", name := "ticksLeft", desc := "()I" } : Jvm.MethodName)) ∈ lw_all := lw_g (lw_at lw_m5 171 rfl) rfl
theorem q1202 : (Jvm.Cond.methodLink "RobotAisles" (250 : Nat) ({ cls := "RobotAisles$Robot", name := "hasPlan", desc := "()Z" } : Jvm.MethodName)) ∈ lw_all := lw_g (lw_at lw_m5 172 rfl) rfl
theorem q1203 : (Jvm.Cond.methodLink "RobotAisles" (257 : Nat) ({ cls := "RobotAisles$Core", name := "isLoaded", desc := "(I)Z" } : Jvm.MethodName)) ∈ lw_all := lw_g (lw_at lw_m5 173 rfl) rfl
theorem q1208 : (Jvm.Cond.instanceMethod ({ cls := "RobotAisles", name := "planned", desc := "(II)I" } : Jvm.MethodName)) ∈ lw_all := lw_g (lw_at lw_m5 178 rfl) rfl
theorem q1209 : (Jvm.Cond.selects "RobotAisles" ({ cls := "RobotAisles", name := "planned", desc := "(II)I" } : Jvm.MethodName) ({ cls := "RobotAisles", name := "planned", desc := "(II)I" } : Jvm.MethodName)) ∈ lw_all := lw_g (lw_at lw_m5 179 rfl) rfl
theorem q1210 : (Jvm.Cond.code ({ cls := "RobotAisles", name := "planned", desc := "(II)I" } : Jvm.MethodName) prog_1_method_39_code (4 : Nat) (Option.some Jvm.ClassFile.FieldType.int)) ∈ lw_all := lw_g (lw_at lw_m5 180 rfl) rfl
theorem q1211 : (Jvm.Cond.methodLink "RobotAisles" (263 : Nat) ({ cls := "RobotAisles$Robot", name := "cellAhead", desc := "(I)I" } : Jvm.MethodName)) ∈ lw_all := lw_g (lw_at lw_m5 181 rfl) rfl
theorem q1216 : (Jvm.Cond.instanceMethod ({ cls := "RobotAisles", name := "reserved", desc := "(II)I" } : Jvm.MethodName)) ∈ lw_all := lw_g (lw_at lw_m5 186 rfl) rfl
theorem q1217 : (Jvm.Cond.selects "RobotAisles" ({ cls := "RobotAisles", name := "reserved", desc := "(II)I" } : Jvm.MethodName) ({ cls := "RobotAisles", name := "reserved", desc := "(II)I" } : Jvm.MethodName)) ∈ lw_all := lw_g (lw_at lw_m5 187 rfl) rfl
theorem q1218 : (Jvm.Cond.code ({ cls := "RobotAisles", name := "reserved", desc := "(II)I" } : Jvm.MethodName) prog_1_method_40_code (3 : Nat) (Option.some Jvm.ClassFile.FieldType.int)) ∈ lw_all := lw_g (lw_at lw_m5 188 rfl) rfl
theorem q1223 : (Jvm.Cond.instanceMethod ({ cls := "RobotAisles", name := "arrival", desc := "(II)I" } : Jvm.MethodName)) ∈ lw_all := lw_g (lw_at lw_m5 193 rfl) rfl
theorem q1224 : (Jvm.Cond.selects "RobotAisles" ({ cls := "RobotAisles", name := "arrival", desc := "(II)I" } : Jvm.MethodName) ({ cls := "RobotAisles", name := "arrival", desc := "(II)I" } : Jvm.MethodName)) ∈ lw_all := lw_g (lw_at lw_m5 194 rfl) rfl
theorem q1225 : (Jvm.Cond.code ({ cls := "RobotAisles", name := "arrival", desc := "(II)I" } : Jvm.MethodName) prog_1_method_42_code (3 : Nat) (Option.some Jvm.ClassFile.FieldType.int)) ∈ lw_all := lw_g (lw_at lw_m5 195 rfl) rfl
theorem q1226 : (Jvm.Cond.methodLink "RobotAisles" (277 : Nat) ({ cls := "RobotAisles", name := "arrival", desc := "(IIZ)I" } : Jvm.MethodName)) ∈ lw_all := lw_g (lw_at lw_m5 196 rfl) rfl
theorem q1227 : (Jvm.Cond.privateMethod ({ cls := "RobotAisles", name := "arrival", desc := "(IIZ)I" } : Jvm.MethodName)) ∈ lw_tbl := lw_at lw_m5 197 rfl
theorem q1228 : (Jvm.Cond.instanceMethod ({ cls := "RobotAisles", name := "arrival", desc := "(IIZ)I" } : Jvm.MethodName)) ∈ lw_all := lw_g (lw_at lw_m5 198 rfl) rfl
theorem q1229 : (Jvm.Cond.code ({ cls := "RobotAisles", name := "arrival", desc := "(IIZ)I" } : Jvm.MethodName) prog_1_method_41_code (7 : Nat) (Option.some Jvm.ClassFile.FieldType.int)) ∈ lw_all := lw_g (lw_at lw_m5 199 rfl) rfl
theorem q1230 : (Jvm.Cond.classLink "RobotAisles" (266 : Nat) "RobotAisles$Planner") ∈ lw_all := lw_g (lw_at lw_m5 200 rfl) rfl
theorem q1231 : (Jvm.Cond.methodLink "RobotAisles" (268 : Nat) ({ cls := "RobotAisles$Planner", name := "<init>", desc := "(LRobotAisles$Core;II)V" } : Jvm.MethodName)) ∈ lw_all := lw_g (lw_at lw_m5 201 rfl) rfl
theorem q1232 : (Jvm.Cond.methodLink "RobotAisles" (271 : Nat) ({ cls := "RobotAisles$Planner", name := "arrivalByLayers", desc := "()I" } : Jvm.MethodName)) ∈ lw_all := lw_g (lw_at lw_m5 202 rfl) rfl
theorem q1233 : (Jvm.Cond.methodLink "RobotAisles" (274 : Nat) ({ cls := "RobotAisles$Planner", name := "arrival", desc := "()I" } : Jvm.MethodName)) ∈ lw_all := lw_g (lw_at lw_m5 203 rfl) rfl
theorem q1533 : (Jvm.Cond.instanceMethod ({ cls := "RobotAisles", name := "arrivalAgain", desc := "(II)I" } : Jvm.MethodName)) ∈ lw_all := lw_g (lw_at lw_m7 23 rfl) rfl
theorem q1534 : (Jvm.Cond.selects "RobotAisles" ({ cls := "RobotAisles", name := "arrivalAgain", desc := "(II)I" } : Jvm.MethodName) ({ cls := "RobotAisles", name := "arrivalAgain", desc := "(II)I" } : Jvm.MethodName)) ∈ lw_all := lw_g (lw_at lw_m7 24 rfl) rfl
theorem q1535 : (Jvm.Cond.code ({ cls := "RobotAisles", name := "arrivalAgain", desc := "(II)I" } : Jvm.MethodName) prog_1_method_43_code (3 : Nat) (Option.some Jvm.ClassFile.FieldType.int)) ∈ lw_all := lw_g (lw_at lw_m7 25 rfl) rfl
theorem q1540 : (Jvm.Cond.instanceMethod ({ cls := "RobotAisles", name := "orderOf", desc := "(II)I" } : Jvm.MethodName)) ∈ lw_all := lw_g (lw_at lw_m7 30 rfl) rfl
theorem q1541 : (Jvm.Cond.selects "RobotAisles" ({ cls := "RobotAisles", name := "orderOf", desc := "(II)I" } : Jvm.MethodName) ({ cls := "RobotAisles", name := "orderOf", desc := "(II)I" } : Jvm.MethodName)) ∈ lw_all := lw_g (lw_at lw_m7 31 rfl) rfl
theorem q1542 : (Jvm.Cond.code ({ cls := "RobotAisles", name := "orderOf", desc := "(II)I" } : Jvm.MethodName) prog_1_method_46_code (4 : Nat) (Option.some Jvm.ClassFile.FieldType.int)) ∈ lw_all := lw_g (lw_at lw_m7 32 rfl) rfl
theorem q1543 : (Jvm.Cond.methodLink "RobotAisles" (288 : Nat) ({ cls := "RobotAisles", name := "getOrder", desc := "(I)LRobotAisles$Order;" } : Jvm.MethodName)) ∈ lw_all := lw_g (lw_at lw_m7 33 rfl) rfl
theorem q1544 : (Jvm.Cond.privateMethod ({ cls := "RobotAisles", name := "getOrder", desc := "(I)LRobotAisles$Order;" } : Jvm.MethodName)) ∈ lw_tbl := lw_at lw_m7 34 rfl
theorem q1545 : (Jvm.Cond.instanceMethod ({ cls := "RobotAisles", name := "getOrder", desc := "(I)LRobotAisles$Order;" } : Jvm.MethodName)) ∈ lw_all := lw_g (lw_at lw_m7 35 rfl) rfl
theorem q1546 : (Jvm.Cond.code ({ cls := "RobotAisles", name := "getOrder", desc := "(I)LRobotAisles$Order;" } : Jvm.MethodName) prog_1_method_44_code (2 : Nat) (Option.some (Jvm.ClassFile.FieldType.object "RobotAisles$Order"))) ∈ lw_all := lw_g (lw_at lw_m7 36 rfl) rfl
theorem q1547 : (Jvm.Cond.methodLink "RobotAisles" (280 : Nat) ({ cls := "RobotAisles$Core", name := "hasOrder", desc := "(I)Z" } : Jvm.MethodName)) ∈ lw_all := lw_g (lw_at lw_m7 37 rfl) rfl
theorem q1548 : (Jvm.Cond.classLink "RobotAisles" (286 : Nat) "RobotAisles$Order") ∈ lw_all := lw_g (lw_at lw_m7 38 rfl) rfl
theorem q1549 : (Jvm.Cond.methodLink "RobotAisles" (304 : Nat) ({ cls := "RobotAisles", name := "robotWith", desc := "(I)I" } : Jvm.MethodName)) ∈ lw_all := lw_g (lw_at lw_m7 39 rfl) rfl
theorem q1550 : (Jvm.Cond.privateMethod ({ cls := "RobotAisles", name := "robotWith", desc := "(I)I" } : Jvm.MethodName)) ∈ lw_tbl := lw_at lw_m7 40 rfl
theorem q1551 : (Jvm.Cond.instanceMethod ({ cls := "RobotAisles", name := "robotWith", desc := "(I)I" } : Jvm.MethodName)) ∈ lw_all := lw_g (lw_at lw_m7 41 rfl) rfl
theorem q1552 : (Jvm.Cond.code ({ cls := "RobotAisles", name := "robotWith", desc := "(I)I" } : Jvm.MethodName) prog_1_method_45_code (3 : Nat) (Option.some Jvm.ClassFile.FieldType.int)) ∈ lw_all := lw_g (lw_at lw_m7 42 rfl) rfl
theorem q1557 : (Jvm.Cond.instanceMethod ({ cls := "RobotAisles", name := "line", desc := "(II)I" } : Jvm.MethodName)) ∈ lw_all := lw_g (lw_at lw_m7 47 rfl) rfl
theorem q1558 : (Jvm.Cond.selects "RobotAisles" ({ cls := "RobotAisles", name := "line", desc := "(II)I" } : Jvm.MethodName) ({ cls := "RobotAisles", name := "line", desc := "(II)I" } : Jvm.MethodName)) ∈ lw_all := lw_g (lw_at lw_m7 48 rfl) rfl
theorem q1559 : (Jvm.Cond.code ({ cls := "RobotAisles", name := "line", desc := "(II)I" } : Jvm.MethodName) prog_1_method_47_code (4 : Nat) (Option.some Jvm.ClassFile.FieldType.int)) ∈ lw_all := lw_g (lw_at lw_m7 49 rfl) rfl
theorem q1564 : (Jvm.Cond.instanceMethod ({ cls := "RobotAisles", name := "waiting", desc := "(I)I" } : Jvm.MethodName)) ∈ lw_all := lw_g (lw_at lw_m7 54 rfl) rfl
theorem q1565 : (Jvm.Cond.selects "RobotAisles" ({ cls := "RobotAisles", name := "waiting", desc := "(I)I" } : Jvm.MethodName) ({ cls := "RobotAisles", name := "waiting", desc := "(I)I" } : Jvm.MethodName)) ∈ lw_all := lw_g (lw_at lw_m7 55 rfl) rfl
theorem q1566 : (Jvm.Cond.code ({ cls := "RobotAisles", name := "waiting", desc := "(I)I" } : Jvm.MethodName) prog_1_method_48_code (6 : Nat) (Option.some Jvm.ClassFile.FieldType.int)) ∈ lw_all := lw_g (lw_at lw_m7 56 rfl) rfl
theorem q1567 : (Jvm.Cond.classLink "RobotAisles" (310 : Nat) "java/util/TreeSet") ∈ lw_all := lw_g (lw_at lw_m7 57 rfl) rfl
theorem q1569 : (Jvm.Cond.methodLink "RobotAisles" (312 : Nat) ({ cls := "java/util/TreeSet", name := "<init>", desc := "()V" } : Jvm.MethodName)) ∈ lw_all := lw_g (lw_at lw_m7 59 rfl) rfl
theorem q1617 : (Jvm.Cond.methodLink "RobotAisles" (313 : Nat) ({ cls := "java/util/TreeSet", name := "add", desc := "(Ljava/lang/Object;)Z" } : Jvm.MethodName)) ∈ lw_all := lw_g (lw_at lw_m7 107 rfl) rfl
theorem q1712 : (Jvm.Cond.methodLink "RobotAisles" (314 : Nat) ({ cls := "java/util/TreeSet", name := "size", desc := "()I" } : Jvm.MethodName)) ∈ lw_all := lw_g (lw_at lw_m7 202 rfl) rfl
theorem q1713 : (Jvm.Cond.methodLink "RobotAisles" (315 : Nat) ({ cls := "java/util/TreeSet", name := "iterator", desc := "()Ljava/util/Iterator;" } : Jvm.MethodName)) ∈ lw_all := lw_g (lw_at lw_m7 203 rfl) rfl
theorem q1785 : (Jvm.Cond.interfaceEntry "RobotAisles" (319 : Nat)) ∈ lw_tbl := lw_at lw_m8 35 rfl
theorem q1786 : (Jvm.Cond.methodLink "RobotAisles" (319 : Nat) ({ cls := "java/util/Iterator", name := "hasNext", desc := "()Z" } : Jvm.MethodName)) ∈ lw_all := lw_g (lw_at lw_m8 36 rfl) rfl
theorem q1795 : (Jvm.Cond.interfaceEntry "RobotAisles" (324 : Nat)) ∈ lw_tbl := lw_at lw_m8 45 rfl
theorem q1796 : (Jvm.Cond.methodLink "RobotAisles" (324 : Nat) ({ cls := "java/util/Iterator", name := "next", desc := "()Ljava/lang/Object;" } : Jvm.MethodName)) ∈ lw_all := lw_g (lw_at lw_m8 46 rfl) rfl
theorem q1819 : (Jvm.Cond.instanceMethod ({ cls := "RobotAisles", name := "suited", desc := "(I)I" } : Jvm.MethodName)) ∈ lw_all := lw_g (lw_at lw_m8 69 rfl) rfl
theorem q1820 : (Jvm.Cond.selects "RobotAisles" ({ cls := "RobotAisles", name := "suited", desc := "(I)I" } : Jvm.MethodName) ({ cls := "RobotAisles", name := "suited", desc := "(I)I" } : Jvm.MethodName)) ∈ lw_all := lw_g (lw_at lw_m8 70 rfl) rfl
theorem q1821 : (Jvm.Cond.code ({ cls := "RobotAisles", name := "suited", desc := "(I)I" } : Jvm.MethodName) prog_1_method_50_code (8 : Nat) (Option.some Jvm.ClassFile.FieldType.int)) ∈ lw_all := lw_g (lw_at lw_m8 71 rfl) rfl
theorem q1822 : (Jvm.Cond.methodLink "RobotAisles" (336 : Nat) ({ cls := "RobotAisles", name := "isBetter", desc := "(LRobotAisles$Robot;LRobotAisles$Robot;[I)Z" } : Jvm.MethodName)) ∈ lw_all := lw_g (lw_at lw_m8 72 rfl) rfl
theorem q1823 : (Jvm.Cond.static ({ cls := "RobotAisles", name := "isBetter", desc := "(LRobotAisles$Robot;LRobotAisles$Robot;[I)Z" } : Jvm.MethodName)) ∈ lw_all := lw_g (lw_at lw_m8 73 rfl) rfl
theorem q1824 : (Jvm.Cond.code ({ cls := "RobotAisles", name := "isBetter", desc := "(LRobotAisles$Robot;LRobotAisles$Robot;[I)Z" } : Jvm.MethodName) prog_1_method_49_code (4 : Nat) (Option.some Jvm.ClassFile.FieldType.boolean)) ∈ lw_all := lw_g (lw_at lw_m8 74 rfl) rfl
theorem q1825 : (Jvm.Cond.methodLink "RobotAisles" (331 : Nat) ({ cls := "java/lang/Integer", name := "compare", desc := "(II)I" } : Jvm.MethodName)) ∈ lw_all := lw_g (lw_at lw_m8 75 rfl) rfl
theorem q1830 : (Jvm.Cond.instanceMethod ({ cls := "RobotAisles", name := "tour", desc := "(I)I" } : Jvm.MethodName)) ∈ lw_all := lw_g (lw_at lw_m8 80 rfl) rfl
theorem q1831 : (Jvm.Cond.selects "RobotAisles" ({ cls := "RobotAisles", name := "tour", desc := "(I)I" } : Jvm.MethodName) ({ cls := "RobotAisles", name := "tour", desc := "(I)I" } : Jvm.MethodName)) ∈ lw_all := lw_g (lw_at lw_m8 81 rfl) rfl
theorem q1832 : (Jvm.Cond.code ({ cls := "RobotAisles", name := "tour", desc := "(I)I" } : Jvm.MethodName) prog_1_method_52_code (5 : Nat) (Option.some Jvm.ClassFile.FieldType.int)) ∈ lw_all := lw_g (lw_at lw_m8 82 rfl) rfl
theorem q1833 : (Jvm.Cond.methodLink "RobotAisles" (340 : Nat) ({ cls := "RobotAisles", name := "distance", desc := "(II)I" } : Jvm.MethodName)) ∈ lw_all := lw_g (lw_at lw_m8 83 rfl) rfl
theorem q1834 : (Jvm.Cond.methodLink "RobotAisles" (343 : Nat) ({ cls := "RobotAisles", name := "toStation", desc := "(I)I" } : Jvm.MethodName)) ∈ lw_all := lw_g (lw_at lw_m8 84 rfl) rfl
theorem q1835 : (Jvm.Cond.privateMethod ({ cls := "RobotAisles", name := "toStation", desc := "(I)I" } : Jvm.MethodName)) ∈ lw_tbl := lw_at lw_m8 85 rfl
theorem q1836 : (Jvm.Cond.instanceMethod ({ cls := "RobotAisles", name := "toStation", desc := "(I)I" } : Jvm.MethodName)) ∈ lw_all := lw_g (lw_at lw_m8 86 rfl) rfl
theorem q1837 : (Jvm.Cond.code ({ cls := "RobotAisles", name := "toStation", desc := "(I)I" } : Jvm.MethodName) prog_1_method_51_code (6 : Nat) (Option.some Jvm.ClassFile.FieldType.int)) ∈ lw_all := lw_g (lw_at lw_m8 87 rfl) rfl
theorem q1856 : (Jvm.Cond.instanceMethod ({ cls := "RobotAisles", name := "loaded", desc := "()F" } : Jvm.MethodName)) ∈ lw_all := lw_g (lw_at lw_m8 106 rfl) rfl
theorem q1857 : (Jvm.Cond.selects "RobotAisles" ({ cls := "RobotAisles", name := "loaded", desc := "()F" } : Jvm.MethodName) ({ cls := "RobotAisles", name := "loaded", desc := "()F" } : Jvm.MethodName)) ∈ lw_all := lw_g (lw_at lw_m8 107 rfl) rfl
theorem q1858 : (Jvm.Cond.code ({ cls := "RobotAisles", name := "loaded", desc := "()F" } : Jvm.MethodName) prog_1_method_53_code (3 : Nat) (Option.some Jvm.ClassFile.FieldType.float)) ∈ lw_all := lw_g (lw_at lw_m8 108 rfl) rfl
theorem q1859 : (Jvm.Cond.methodLink "RobotAisles" (346 : Nat) ({ cls := "RobotAisles", name := "requireSome", desc := "(I)V" } : Jvm.MethodName)) ∈ lw_all := lw_g (lw_at lw_m8 109 rfl) rfl
theorem q1860 : (Jvm.Cond.static ({ cls := "RobotAisles", name := "requireSome", desc := "(I)V" } : Jvm.MethodName)) ∈ lw_all := lw_g (lw_at lw_m8 110 rfl) rfl
theorem q1861 : (Jvm.Cond.code ({ cls := "RobotAisles", name := "requireSome", desc := "(I)V" } : Jvm.MethodName) prog_1_method_7_code (1 : Nat) (Option.none : Option Jvm.ClassFile.FieldType)) ∈ lw_all := lw_g (lw_at lw_m8 111 rfl) rfl
theorem q1862 : (Jvm.Cond.classLink "RobotAisles" (45 : Nat) "java/lang/ArithmeticException") ∈ lw_all := lw_g (lw_at lw_m8 112 rfl) rfl
theorem q1863 : (Jvm.Cond.methodLink "RobotAisles" (47 : Nat) ({ cls := "java/lang/ArithmeticException", name := "<init>", desc := "()V" } : Jvm.MethodName)) ∈ lw_all := lw_g (lw_at lw_m8 113 rfl) rfl
theorem q1871 : (Jvm.Cond.instanceMethod ({ cls := "RobotAisles", name := "lateness", desc := "()D" } : Jvm.MethodName)) ∈ lw_all := lw_g (lw_at lw_m8 121 rfl) rfl
theorem q1872 : (Jvm.Cond.selects "RobotAisles" ({ cls := "RobotAisles", name := "lateness", desc := "()D" } : Jvm.MethodName) ({ cls := "RobotAisles", name := "lateness", desc := "()D" } : Jvm.MethodName)) ∈ lw_all := lw_g (lw_at lw_m8 122 rfl) rfl
theorem q1873 : (Jvm.Cond.code ({ cls := "RobotAisles", name := "lateness", desc := "()D" } : Jvm.MethodName) prog_1_method_55_code (5 : Nat) (Option.some Jvm.ClassFile.FieldType.double)) ∈ lw_all := lw_g (lw_at lw_m8 123 rfl) rfl
theorem q1874 : (Jvm.Cond.methodLink "RobotAisles" (349 : Nat) ({ cls := "RobotAisles", name := "inState", desc := "(I)I" } : Jvm.MethodName)) ∈ lw_all := lw_g (lw_at lw_m8 124 rfl) rfl
theorem q1875 : (Jvm.Cond.privateMethod ({ cls := "RobotAisles", name := "inState", desc := "(I)I" } : Jvm.MethodName)) ∈ lw_tbl := lw_at lw_m8 125 rfl
theorem q1876 : (Jvm.Cond.instanceMethod ({ cls := "RobotAisles", name := "inState", desc := "(I)I" } : Jvm.MethodName)) ∈ lw_all := lw_g (lw_at lw_m8 126 rfl) rfl
theorem q1877 : (Jvm.Cond.code ({ cls := "RobotAisles", name := "inState", desc := "(I)I" } : Jvm.MethodName) prog_1_method_54_code (4 : Nat) (Option.some Jvm.ClassFile.FieldType.int)) ∈ lw_all := lw_g (lw_at lw_m8 127 rfl) rfl
theorem q1882 : (Jvm.Cond.instanceMethod ({ cls := "RobotAisles", name := "reason", desc := "(Z)I" } : Jvm.MethodName)) ∈ lw_all := lw_g (lw_at lw_m8 132 rfl) rfl
theorem q1883 : (Jvm.Cond.selects "RobotAisles" ({ cls := "RobotAisles", name := "reason", desc := "(Z)I" } : Jvm.MethodName) ({ cls := "RobotAisles", name := "reason", desc := "(Z)I" } : Jvm.MethodName)) ∈ lw_all := lw_g (lw_at lw_m8 133 rfl) rfl
theorem q1884 : (Jvm.Cond.code ({ cls := "RobotAisles", name := "reason", desc := "(Z)I" } : Jvm.MethodName) prog_1_method_27_code (2 : Nat) (Option.some Jvm.ClassFile.FieldType.int)) ∈ lw_all := lw_g (lw_at lw_m8 134 rfl) rfl
theorem q1889 : (Jvm.Cond.instanceMethod ({ cls := "RobotAisles", name := "account", desc := "(I)I" } : Jvm.MethodName)) ∈ lw_all := lw_g (lw_at lw_m8 139 rfl) rfl
theorem q1890 : (Jvm.Cond.selects "RobotAisles" ({ cls := "RobotAisles", name := "account", desc := "(I)I" } : Jvm.MethodName) ({ cls := "RobotAisles", name := "account", desc := "(I)I" } : Jvm.MethodName)) ∈ lw_all := lw_g (lw_at lw_m8 140 rfl) rfl
theorem q1891 : (Jvm.Cond.code ({ cls := "RobotAisles", name := "account", desc := "(I)I" } : Jvm.MethodName) prog_1_method_58_code (2 : Nat) (Option.some Jvm.ClassFile.FieldType.int)) ∈ lw_all := lw_g (lw_at lw_m8 141 rfl) rfl
theorem q1892 : (Jvm.Cond.methodLink "RobotAisles" (362 : Nat) ({ cls := "java/lang/Long", name := "bitCount", desc := "(J)I" } : Jvm.MethodName)) ∈ lw_all := lw_g (lw_at lw_m8 142 rfl) rfl
theorem q1893 : (Jvm.Cond.methodLink "RobotAisles" (371 : Nat) ({ cls := "RobotAisles", name := "sumOverRobots", desc := "(Z)I" } : Jvm.MethodName)) ∈ lw_all := lw_g (lw_at lw_m8 143 rfl) rfl
theorem q1894 : (Jvm.Cond.privateMethod ({ cls := "RobotAisles", name := "sumOverRobots", desc := "(Z)I" } : Jvm.MethodName)) ∈ lw_tbl := lw_at lw_m8 144 rfl
theorem q1895 : (Jvm.Cond.instanceMethod ({ cls := "RobotAisles", name := "sumOverRobots", desc := "(Z)I" } : Jvm.MethodName)) ∈ lw_all := lw_g (lw_at lw_m8 145 rfl) rfl
theorem q1896 : (Jvm.Cond.code ({ cls := "RobotAisles", name := "sumOverRobots", desc := "(Z)I" } : Jvm.MethodName) prog_1_method_56_code (4 : Nat) (Option.some Jvm.ClassFile.FieldType.int)) ∈ lw_all := lw_g (lw_at lw_m8 146 rfl) rfl
theorem q1897 : (Jvm.Cond.methodLink "RobotAisles" (375 : Nat) ({ cls := "RobotAisles", name := "picked", desc := "()I" } : Jvm.MethodName)) ∈ lw_all := lw_g (lw_at lw_m8 147 rfl) rfl
theorem q1898 : (Jvm.Cond.privateMethod ({ cls := "RobotAisles", name := "picked", desc := "()I" } : Jvm.MethodName)) ∈ lw_tbl := lw_at lw_m8 148 rfl
theorem q1899 : (Jvm.Cond.instanceMethod ({ cls := "RobotAisles", name := "picked", desc := "()I" } : Jvm.MethodName)) ∈ lw_all := lw_g (lw_at lw_m8 149 rfl) rfl
theorem q1900 : (Jvm.Cond.code ({ cls := "RobotAisles", name := "picked", desc := "()I" } : Jvm.MethodName) prog_1_method_57_code (3 : Nat) (Option.some Jvm.ClassFile.FieldType.int)) ∈ lw_all := lw_g (lw_at lw_m8 150 rfl) rfl
theorem q1905 : (Jvm.Cond.instanceMethod ({ cls := "RobotAisles", name := "undo", desc := "()I" } : Jvm.MethodName)) ∈ lw_all := lw_g (lw_at lw_m8 155 rfl) rfl
theorem q1906 : (Jvm.Cond.selects "RobotAisles" ({ cls := "RobotAisles", name := "undo", desc := "()I" } : Jvm.MethodName) ({ cls := "RobotAisles", name := "undo", desc := "()I" } : Jvm.MethodName)) ∈ lw_all := lw_g (lw_at lw_m8 156 rfl) rfl
theorem q1907 : (Jvm.Cond.code ({ cls := "RobotAisles", name := "undo", desc := "()I" } : Jvm.MethodName) prog_1_method_59_code (1 : Nat) (Option.some Jvm.ClassFile.FieldType.int)) ∈ lw_all := lw_g (lw_at lw_m8 157 rfl) rfl
theorem q1908 : (Jvm.Cond.methodLink "RobotAisles" (377 : Nat) ({ cls := "java/util/ArrayList", name := "isEmpty", desc := "()Z" } : Jvm.MethodName)) ∈ lw_all := lw_g (lw_at lw_m8 158 rfl) rfl
theorem q1916 : (Jvm.Cond.instanceMethod ({ cls := "RobotAisles", name := "restore", desc := "()I" } : Jvm.MethodName)) ∈ lw_all := lw_g (lw_at lw_m8 166 rfl) rfl
theorem q1917 : (Jvm.Cond.selects "RobotAisles" ({ cls := "RobotAisles", name := "restore", desc := "()I" } : Jvm.MethodName) ({ cls := "RobotAisles", name := "restore", desc := "()I" } : Jvm.MethodName)) ∈ lw_all := lw_g (lw_at lw_m8 167 rfl) rfl
theorem q1918 : (Jvm.Cond.code ({ cls := "RobotAisles", name := "restore", desc := "()I" } : Jvm.MethodName) prog_1_method_61_code (1 : Nat) (Option.some Jvm.ClassFile.FieldType.int)) ∈ lw_all := lw_g (lw_at lw_m8 168 rfl) rfl
theorem q1919 : (Jvm.Cond.methodLink "RobotAisles" (383 : Nat) ({ cls := "java/util/ArrayList", name := "clear", desc := "()V" } : Jvm.MethodName)) ∈ lw_all := lw_g (lw_at lw_m8 169 rfl) rfl
theorem q2286 : (Jvm.Cond.castable "RobotAisles" "java/lang/Object") ∈ lw_tbl := lw_at lw_m10 56 rfl
theorem in_X1 : ∀ w ∈ wsX10, w ∈ lw_all := lw_in wsX10 [209, 211, 213, 215, 217, 219, 221, 223] (by decide +kernel) (by decide +kernel)
