/-! BurrowlineLaw -/
set_option maxRecDepth 100000
def RX0 : String := "BurrowlineLaw"
abbrev cX0_pass : ByteArray := method_3_code
def yX0_pass : MethodName := ⟨RX0, "pass", "(LBurrowline;I[J)I"⟩
def dkwX0_pass_0 : List UInt8 := [44, 3, 42, 27, 182, 0, 7, 133, 80, 167, 0, 9, 78, 4, 172, 78, 5, 172, 3, 172]
abbrev dktX0_pass_0 : List UInt8 := dkwX0_pass_0 ++ []
theorem dksX0_pass_0 : cX0_pass.data.toList.drop 0 = dktX0_pass_0 := by decide +kernel
theorem dX0_pass_0 : decode cX0_pass 0 = .ok (.aload_n 2, 1) := dk_44 (dk_at dksX0_pass_0 0 rfl rfl)
theorem dX0_pass_1 : decode cX0_pass 1 = .ok (.iconst 0, 1) := dk_3 (dk_at dksX0_pass_0 1 rfl rfl)
theorem dX0_pass_2 : decode cX0_pass 2 = .ok (.aload_n 0, 1) := dk_42 (dk_at dksX0_pass_0 2 rfl rfl)
theorem dX0_pass_3 : decode cX0_pass 3 = .ok (.iload_n 1, 1) := dk_27 (dk_at dksX0_pass_0 3 rfl rfl)
theorem dX0_pass_4 : decode cX0_pass 4 = .ok (.invokevirtual 7, 3) := dk_182 0 7 (dk_at dksX0_pass_0 4 rfl rfl)
theorem dX0_pass_7 : decode cX0_pass 7 = .ok (.i2l, 1) := dk_133 (dk_at dksX0_pass_0 7 rfl rfl)
theorem dX0_pass_8 : decode cX0_pass 8 = .ok (.lastore, 1) := dk_80 (dk_at dksX0_pass_0 8 rfl rfl)
theorem dX0_pass_9 : decode cX0_pass 9 = .ok (.goto 9, 3) := dk_167 0 9 (dk_at dksX0_pass_0 9 rfl rfl)
theorem dX0_pass_12 : decode cX0_pass 12 = .ok (.astore_n 3, 1) := dk_78 (dk_at dksX0_pass_0 12 rfl rfl)
theorem dX0_pass_13 : decode cX0_pass 13 = .ok (.iconst 1, 1) := dk_4 (dk_at dksX0_pass_0 13 rfl rfl)
theorem dX0_pass_14 : decode cX0_pass 14 = .ok (.ireturn, 1) := dk_172 (dk_at dksX0_pass_0 14 rfl rfl)
theorem dX0_pass_15 : decode cX0_pass 15 = .ok (.astore_n 3, 1) := dk_78 (dk_at dksX0_pass_0 15 rfl rfl)
theorem dX0_pass_16 : decode cX0_pass 16 = .ok (.iconst 2, 1) := dk_5 (dk_at dksX0_pass_0 16 rfl rfl)
theorem dX0_pass_17 : decode cX0_pass 17 = .ok (.ireturn, 1) := dk_172 (dk_at dksX0_pass_0 17 rfl rfl)
theorem dX0_pass_18 : decode cX0_pass 18 = .ok (.iconst 0, 1) := dk_3 (dk_at dksX0_pass_0 18 rfl rfl)
theorem dX0_pass_19 : decode cX0_pass 19 = .ok (.ireturn, 1) := dk_172 (dk_at dksX0_pass_0 19 rfl rfl)
abbrev cX0_move : ByteArray := method_4_code
def yX0_move : MethodName := ⟨RX0, "move", "(LBurrowline;II[J)I"⟩
def dkwX0_move_0 : List UInt8 := [45, 3, 42, 27, 28, 182, 0, 17, 133, 80, 167, 0, 11, 58, 4, 4, 172, 58, 4, 5, 172, 3, 172]
abbrev dktX0_move_0 : List UInt8 := dkwX0_move_0 ++ []
theorem dksX0_move_0 : cX0_move.data.toList.drop 0 = dktX0_move_0 := by decide +kernel
theorem dX0_move_0 : decode cX0_move 0 = .ok (.aload_n 3, 1) := dk_45 (dk_at dksX0_move_0 0 rfl rfl)
theorem dX0_move_1 : decode cX0_move 1 = .ok (.iconst 0, 1) := dk_3 (dk_at dksX0_move_0 1 rfl rfl)
theorem dX0_move_2 : decode cX0_move 2 = .ok (.aload_n 0, 1) := dk_42 (dk_at dksX0_move_0 2 rfl rfl)
theorem dX0_move_3 : decode cX0_move 3 = .ok (.iload_n 1, 1) := dk_27 (dk_at dksX0_move_0 3 rfl rfl)
theorem dX0_move_4 : decode cX0_move 4 = .ok (.iload_n 2, 1) := dk_28 (dk_at dksX0_move_0 4 rfl rfl)
theorem dX0_move_5 : decode cX0_move 5 = .ok (.invokevirtual 17, 3) := dk_182 0 17 (dk_at dksX0_move_0 5 rfl rfl)
theorem dX0_move_8 : decode cX0_move 8 = .ok (.i2l, 1) := dk_133 (dk_at dksX0_move_0 8 rfl rfl)
theorem dX0_move_9 : decode cX0_move 9 = .ok (.lastore, 1) := dk_80 (dk_at dksX0_move_0 9 rfl rfl)
theorem dX0_move_10 : decode cX0_move 10 = .ok (.goto 11, 3) := dk_167 0 11 (dk_at dksX0_move_0 10 rfl rfl)
theorem dX0_move_13 : decode cX0_move 13 = .ok (.astore 4, 2) := dk_58 4 (dk_at dksX0_move_0 13 rfl rfl)
theorem dX0_move_15 : decode cX0_move 15 = .ok (.iconst 1, 1) := dk_4 (dk_at dksX0_move_0 15 rfl rfl)
theorem dX0_move_16 : decode cX0_move 16 = .ok (.ireturn, 1) := dk_172 (dk_at dksX0_move_0 16 rfl rfl)
theorem dX0_move_17 : decode cX0_move 17 = .ok (.astore 4, 2) := dk_58 4 (dk_at dksX0_move_0 17 rfl rfl)
theorem dX0_move_19 : decode cX0_move 19 = .ok (.iconst 2, 1) := dk_5 (dk_at dksX0_move_0 19 rfl rfl)
theorem dX0_move_20 : decode cX0_move 20 = .ok (.ireturn, 1) := dk_172 (dk_at dksX0_move_0 20 rfl rfl)
theorem dX0_move_21 : decode cX0_move 21 = .ok (.iconst 0, 1) := dk_3 (dk_at dksX0_move_0 21 rfl rfl)
theorem dX0_move_22 : decode cX0_move 22 = .ok (.ireturn, 1) := dk_172 (dk_at dksX0_move_0 22 rfl rfl)
abbrev cX0_load : ByteArray := method_5_code
def yX0_load : MethodName := ⟨RX0, "load", "(LBurrowline;IZ[J)I"⟩
def dkwX0_load_1 : List UInt8 := [3, 172]
abbrev dktX0_load_1 : List UInt8 := dkwX0_load_1 ++ []
def dkwX0_load_0 : List UInt8 := [45, 3, 42, 27, 28, 182, 0, 23, 153, 0, 7, 10, 167, 0, 4, 9, 80, 167, 0, 7, 58, 4, 4, 172]
abbrev dktX0_load_0 : List UInt8 := dkwX0_load_0 ++ dktX0_load_1
theorem dksX0_load_0 : cX0_load.data.toList.drop 0 = dktX0_load_0 := by decide +kernel
theorem dksX0_load_1 : cX0_load.data.toList.drop 24 = dktX0_load_1 := dk_seg dksX0_load_0 24 rfl rfl
theorem dX0_load_0 : decode cX0_load 0 = .ok (.aload_n 3, 1) := dk_45 (dk_at dksX0_load_0 0 rfl rfl)
theorem dX0_load_1 : decode cX0_load 1 = .ok (.iconst 0, 1) := dk_3 (dk_at dksX0_load_0 1 rfl rfl)
theorem dX0_load_2 : decode cX0_load 2 = .ok (.aload_n 0, 1) := dk_42 (dk_at dksX0_load_0 2 rfl rfl)
theorem dX0_load_3 : decode cX0_load 3 = .ok (.iload_n 1, 1) := dk_27 (dk_at dksX0_load_0 3 rfl rfl)
theorem dX0_load_4 : decode cX0_load 4 = .ok (.iload_n 2, 1) := dk_28 (dk_at dksX0_load_0 4 rfl rfl)
theorem dX0_load_5 : decode cX0_load 5 = .ok (.invokevirtual 23, 3) := dk_182 0 23 (dk_at dksX0_load_0 5 rfl rfl)
theorem dX0_load_8 : decode cX0_load 8 = .ok (.ifCond .eq 7, 3) := dk_153 0 7 (dk_at dksX0_load_0 8 rfl rfl)
theorem dX0_load_11 : decode cX0_load 11 = .ok (.lconst 1, 1) := dk_10 (dk_at dksX0_load_0 11 rfl rfl)
theorem dX0_load_12 : decode cX0_load 12 = .ok (.goto 4, 3) := dk_167 0 4 (dk_at dksX0_load_0 12 rfl rfl)
theorem dX0_load_15 : decode cX0_load 15 = .ok (.lconst 0, 1) := dk_9 (dk_at dksX0_load_0 15 rfl rfl)
theorem dX0_load_16 : decode cX0_load 16 = .ok (.lastore, 1) := dk_80 (dk_at dksX0_load_0 16 rfl rfl)
theorem dX0_load_17 : decode cX0_load 17 = .ok (.goto 7, 3) := dk_167 0 7 (dk_at dksX0_load_0 17 rfl rfl)
theorem dX0_load_20 : decode cX0_load 20 = .ok (.astore 4, 2) := dk_58 4 (dk_at dksX0_load_0 20 rfl rfl)
theorem dX0_load_22 : decode cX0_load 22 = .ok (.iconst 1, 1) := dk_4 (dk_at dksX0_load_0 22 rfl rfl)
theorem dX0_load_23 : decode cX0_load 23 = .ok (.ireturn, 1) := dk_172 (dk_at dksX0_load_0 23 rfl rfl)
theorem dX0_load_24 : decode cX0_load 24 = .ok (.iconst 0, 1) := dk_3 (dk_at dksX0_load_1 0 rfl rfl)
theorem dX0_load_25 : decode cX0_load 25 = .ok (.ireturn, 1) := dk_172 (dk_at dksX0_load_1 1 rfl rfl)
abbrev cX0_allow : ByteArray := method_6_code
def yX0_allow : MethodName := ⟨RX0, "allow", "(LBurrowline;IIII[J)I"⟩
def dkwX0_allow_1 : List UInt8 := [172, 58, 6, 6, 172, 3, 172]
abbrev dktX0_allow_1 : List UInt8 := dkwX0_allow_1 ++ []
def dkwX0_allow_0 : List UInt8 := [25, 5, 3, 42, 27, 28, 29, 21, 4, 182, 0, 27, 133, 80, 167, 0, 15, 58, 6, 4, 172, 58, 6, 5]
abbrev dktX0_allow_0 : List UInt8 := dkwX0_allow_0 ++ dktX0_allow_1
theorem dksX0_allow_0 : cX0_allow.data.toList.drop 0 = dktX0_allow_0 := by decide +kernel
theorem dksX0_allow_1 : cX0_allow.data.toList.drop 24 = dktX0_allow_1 := dk_seg dksX0_allow_0 24 rfl rfl
theorem dX0_allow_0 : decode cX0_allow 0 = .ok (.aload 5, 2) := dk_25 5 (dk_at dksX0_allow_0 0 rfl rfl)
theorem dX0_allow_2 : decode cX0_allow 2 = .ok (.iconst 0, 1) := dk_3 (dk_at dksX0_allow_0 2 rfl rfl)
theorem dX0_allow_3 : decode cX0_allow 3 = .ok (.aload_n 0, 1) := dk_42 (dk_at dksX0_allow_0 3 rfl rfl)
theorem dX0_allow_4 : decode cX0_allow 4 = .ok (.iload_n 1, 1) := dk_27 (dk_at dksX0_allow_0 4 rfl rfl)
theorem dX0_allow_5 : decode cX0_allow 5 = .ok (.iload_n 2, 1) := dk_28 (dk_at dksX0_allow_0 5 rfl rfl)
theorem dX0_allow_6 : decode cX0_allow 6 = .ok (.iload_n 3, 1) := dk_29 (dk_at dksX0_allow_0 6 rfl rfl)
theorem dX0_allow_7 : decode cX0_allow 7 = .ok (.iload 4, 2) := dk_21 4 (dk_at dksX0_allow_0 7 rfl rfl)
theorem dX0_allow_9 : decode cX0_allow 9 = .ok (.invokevirtual 27, 3) := dk_182 0 27 (dk_at dksX0_allow_0 9 rfl rfl)
theorem dX0_allow_12 : decode cX0_allow 12 = .ok (.i2l, 1) := dk_133 (dk_at dksX0_allow_0 12 rfl rfl)
theorem dX0_allow_13 : decode cX0_allow 13 = .ok (.lastore, 1) := dk_80 (dk_at dksX0_allow_0 13 rfl rfl)
theorem dX0_allow_14 : decode cX0_allow 14 = .ok (.goto 15, 3) := dk_167 0 15 (dk_at dksX0_allow_0 14 rfl rfl)
theorem dX0_allow_17 : decode cX0_allow 17 = .ok (.astore 6, 2) := dk_58 6 (dk_at dksX0_allow_0 17 rfl rfl)
theorem dX0_allow_19 : decode cX0_allow 19 = .ok (.iconst 1, 1) := dk_4 (dk_at dksX0_allow_0 19 rfl rfl)
theorem dX0_allow_20 : decode cX0_allow 20 = .ok (.ireturn, 1) := dk_172 (dk_at dksX0_allow_0 20 rfl rfl)
theorem dX0_allow_21 : decode cX0_allow 21 = .ok (.astore 6, 2) := dk_58 6 (dk_at dksX0_allow_0 21 rfl rfl)
theorem dX0_allow_23 : decode cX0_allow 23 = .ok (.iconst 2, 1) := dk_5 (dk_at dksX0_allow_0 23 rfl rfl)
theorem dX0_allow_24 : decode cX0_allow 24 = .ok (.ireturn, 1) := dk_172 (dk_at dksX0_allow_1 0 rfl rfl)
theorem dX0_allow_25 : decode cX0_allow 25 = .ok (.astore 6, 2) := dk_58 6 (dk_at dksX0_allow_1 1 rfl rfl)
theorem dX0_allow_27 : decode cX0_allow 27 = .ok (.iconst 3, 1) := dk_6 (dk_at dksX0_allow_1 3 rfl rfl)
theorem dX0_allow_28 : decode cX0_allow 28 = .ok (.ireturn, 1) := dk_172 (dk_at dksX0_allow_1 4 rfl rfl)
theorem dX0_allow_29 : decode cX0_allow 29 = .ok (.iconst 0, 1) := dk_3 (dk_at dksX0_allow_1 5 rfl rfl)
theorem dX0_allow_30 : decode cX0_allow 30 = .ok (.ireturn, 1) := dk_172 (dk_at dksX0_allow_1 6 rfl rfl)
abbrev cX0_forbid : ByteArray := method_7_code
def yX0_forbid : MethodName := ⟨RX0, "forbid", "(LBurrowline;III[J)I"⟩
def dkwX0_forbid_1 : List UInt8 := [58, 5, 6, 172, 3, 172]
abbrev dktX0_forbid_1 : List UInt8 := dkwX0_forbid_1 ++ []
def dkwX0_forbid_0 : List UInt8 := [25, 4, 3, 42, 27, 28, 29, 182, 0, 31, 133, 80, 167, 0, 15, 58, 5, 4, 172, 58, 5, 5, 172]
abbrev dktX0_forbid_0 : List UInt8 := dkwX0_forbid_0 ++ dktX0_forbid_1
theorem dksX0_forbid_0 : cX0_forbid.data.toList.drop 0 = dktX0_forbid_0 := by decide +kernel
theorem dksX0_forbid_1 : cX0_forbid.data.toList.drop 23 = dktX0_forbid_1 := dk_seg dksX0_forbid_0 23 rfl rfl
theorem dX0_forbid_0 : decode cX0_forbid 0 = .ok (.aload 4, 2) := dk_25 4 (dk_at dksX0_forbid_0 0 rfl rfl)
theorem dX0_forbid_2 : decode cX0_forbid 2 = .ok (.iconst 0, 1) := dk_3 (dk_at dksX0_forbid_0 2 rfl rfl)
theorem dX0_forbid_3 : decode cX0_forbid 3 = .ok (.aload_n 0, 1) := dk_42 (dk_at dksX0_forbid_0 3 rfl rfl)
theorem dX0_forbid_4 : decode cX0_forbid 4 = .ok (.iload_n 1, 1) := dk_27 (dk_at dksX0_forbid_0 4 rfl rfl)
theorem dX0_forbid_5 : decode cX0_forbid 5 = .ok (.iload_n 2, 1) := dk_28 (dk_at dksX0_forbid_0 5 rfl rfl)
theorem dX0_forbid_6 : decode cX0_forbid 6 = .ok (.iload_n 3, 1) := dk_29 (dk_at dksX0_forbid_0 6 rfl rfl)
theorem dX0_forbid_7 : decode cX0_forbid 7 = .ok (.invokevirtual 31, 3) := dk_182 0 31 (dk_at dksX0_forbid_0 7 rfl rfl)
theorem dX0_forbid_10 : decode cX0_forbid 10 = .ok (.i2l, 1) := dk_133 (dk_at dksX0_forbid_0 10 rfl rfl)
theorem dX0_forbid_11 : decode cX0_forbid 11 = .ok (.lastore, 1) := dk_80 (dk_at dksX0_forbid_0 11 rfl rfl)
theorem dX0_forbid_12 : decode cX0_forbid 12 = .ok (.goto 15, 3) := dk_167 0 15 (dk_at dksX0_forbid_0 12 rfl rfl)
theorem dX0_forbid_15 : decode cX0_forbid 15 = .ok (.astore 5, 2) := dk_58 5 (dk_at dksX0_forbid_0 15 rfl rfl)
theorem dX0_forbid_17 : decode cX0_forbid 17 = .ok (.iconst 1, 1) := dk_4 (dk_at dksX0_forbid_0 17 rfl rfl)
theorem dX0_forbid_18 : decode cX0_forbid 18 = .ok (.ireturn, 1) := dk_172 (dk_at dksX0_forbid_0 18 rfl rfl)
theorem dX0_forbid_19 : decode cX0_forbid 19 = .ok (.astore 5, 2) := dk_58 5 (dk_at dksX0_forbid_0 19 rfl rfl)
theorem dX0_forbid_21 : decode cX0_forbid 21 = .ok (.iconst 2, 1) := dk_5 (dk_at dksX0_forbid_0 21 rfl rfl)
theorem dX0_forbid_22 : decode cX0_forbid 22 = .ok (.ireturn, 1) := dk_172 (dk_at dksX0_forbid_0 22 rfl rfl)
theorem dX0_forbid_23 : decode cX0_forbid 23 = .ok (.astore 5, 2) := dk_58 5 (dk_at dksX0_forbid_1 0 rfl rfl)
theorem dX0_forbid_25 : decode cX0_forbid 25 = .ok (.iconst 3, 1) := dk_6 (dk_at dksX0_forbid_1 2 rfl rfl)
theorem dX0_forbid_26 : decode cX0_forbid 26 = .ok (.ireturn, 1) := dk_172 (dk_at dksX0_forbid_1 3 rfl rfl)
theorem dX0_forbid_27 : decode cX0_forbid 27 = .ok (.iconst 0, 1) := dk_3 (dk_at dksX0_forbid_1 4 rfl rfl)
theorem dX0_forbid_28 : decode cX0_forbid 28 = .ok (.ireturn, 1) := dk_172 (dk_at dksX0_forbid_1 5 rfl rfl)
abbrev cX0_send : ByteArray := method_8_code
def yX0_send : MethodName := ⟨RX0, "send", "(LBurrowline;IIII[J)I"⟩
def dkwX0_send_1 : List UInt8 := [172, 3, 172]
abbrev dktX0_send_1 : List UInt8 := dkwX0_send_1 ++ []
def dkwX0_send_0 : List UInt8 := [25, 5, 3, 42, 27, 28, 29, 21, 4, 182, 0, 37, 133, 80, 167, 0, 11, 58, 6, 4, 172, 58, 6, 5]
abbrev dktX0_send_0 : List UInt8 := dkwX0_send_0 ++ dktX0_send_1
theorem dksX0_send_0 : cX0_send.data.toList.drop 0 = dktX0_send_0 := by decide +kernel
theorem dksX0_send_1 : cX0_send.data.toList.drop 24 = dktX0_send_1 := dk_seg dksX0_send_0 24 rfl rfl
theorem dX0_send_0 : decode cX0_send 0 = .ok (.aload 5, 2) := dk_25 5 (dk_at dksX0_send_0 0 rfl rfl)
theorem dX0_send_2 : decode cX0_send 2 = .ok (.iconst 0, 1) := dk_3 (dk_at dksX0_send_0 2 rfl rfl)
theorem dX0_send_3 : decode cX0_send 3 = .ok (.aload_n 0, 1) := dk_42 (dk_at dksX0_send_0 3 rfl rfl)
theorem dX0_send_4 : decode cX0_send 4 = .ok (.iload_n 1, 1) := dk_27 (dk_at dksX0_send_0 4 rfl rfl)
theorem dX0_send_5 : decode cX0_send 5 = .ok (.iload_n 2, 1) := dk_28 (dk_at dksX0_send_0 5 rfl rfl)
theorem dX0_send_6 : decode cX0_send 6 = .ok (.iload_n 3, 1) := dk_29 (dk_at dksX0_send_0 6 rfl rfl)
theorem dX0_send_7 : decode cX0_send 7 = .ok (.iload 4, 2) := dk_21 4 (dk_at dksX0_send_0 7 rfl rfl)
theorem dX0_send_9 : decode cX0_send 9 = .ok (.invokevirtual 37, 3) := dk_182 0 37 (dk_at dksX0_send_0 9 rfl rfl)
theorem dX0_send_12 : decode cX0_send 12 = .ok (.i2l, 1) := dk_133 (dk_at dksX0_send_0 12 rfl rfl)
theorem dX0_send_13 : decode cX0_send 13 = .ok (.lastore, 1) := dk_80 (dk_at dksX0_send_0 13 rfl rfl)
theorem dX0_send_14 : decode cX0_send 14 = .ok (.goto 11, 3) := dk_167 0 11 (dk_at dksX0_send_0 14 rfl rfl)
theorem dX0_send_17 : decode cX0_send 17 = .ok (.astore 6, 2) := dk_58 6 (dk_at dksX0_send_0 17 rfl rfl)
theorem dX0_send_19 : decode cX0_send 19 = .ok (.iconst 1, 1) := dk_4 (dk_at dksX0_send_0 19 rfl rfl)
theorem dX0_send_20 : decode cX0_send 20 = .ok (.ireturn, 1) := dk_172 (dk_at dksX0_send_0 20 rfl rfl)
theorem dX0_send_21 : decode cX0_send 21 = .ok (.astore 6, 2) := dk_58 6 (dk_at dksX0_send_0 21 rfl rfl)
theorem dX0_send_23 : decode cX0_send 23 = .ok (.iconst 2, 1) := dk_5 (dk_at dksX0_send_0 23 rfl rfl)
theorem dX0_send_24 : decode cX0_send 24 = .ok (.ireturn, 1) := dk_172 (dk_at dksX0_send_1 0 rfl rfl)
theorem dX0_send_25 : decode cX0_send 25 = .ok (.iconst 0, 1) := dk_3 (dk_at dksX0_send_1 1 rfl rfl)
theorem dX0_send_26 : decode cX0_send 26 = .ok (.ireturn, 1) := dk_172 (dk_at dksX0_send_1 2 rfl rfl)
abbrev cX0_keep : ByteArray := method_9_code
def yX0_keep : MethodName := ⟨RX0, "keep", "(LBurrowline;II[J)I"⟩
def dkwX0_keep_1 : List UInt8 := [58, 4, 5, 172, 3, 172]
abbrev dktX0_keep_1 : List UInt8 := dkwX0_keep_1 ++ []
def dkwX0_keep_0 : List UInt8 := [45, 3, 42, 27, 28, 182, 0, 40, 153, 0, 7, 10, 167, 0, 4, 9, 80, 167, 0, 11, 58, 4, 4, 172]
abbrev dktX0_keep_0 : List UInt8 := dkwX0_keep_0 ++ dktX0_keep_1
theorem dksX0_keep_0 : cX0_keep.data.toList.drop 0 = dktX0_keep_0 := by decide +kernel
theorem dksX0_keep_1 : cX0_keep.data.toList.drop 24 = dktX0_keep_1 := dk_seg dksX0_keep_0 24 rfl rfl
theorem dX0_keep_0 : decode cX0_keep 0 = .ok (.aload_n 3, 1) := dk_45 (dk_at dksX0_keep_0 0 rfl rfl)
theorem dX0_keep_1 : decode cX0_keep 1 = .ok (.iconst 0, 1) := dk_3 (dk_at dksX0_keep_0 1 rfl rfl)
theorem dX0_keep_2 : decode cX0_keep 2 = .ok (.aload_n 0, 1) := dk_42 (dk_at dksX0_keep_0 2 rfl rfl)
theorem dX0_keep_3 : decode cX0_keep 3 = .ok (.iload_n 1, 1) := dk_27 (dk_at dksX0_keep_0 3 rfl rfl)
theorem dX0_keep_4 : decode cX0_keep 4 = .ok (.iload_n 2, 1) := dk_28 (dk_at dksX0_keep_0 4 rfl rfl)
theorem dX0_keep_5 : decode cX0_keep 5 = .ok (.invokevirtual 40, 3) := dk_182 0 40 (dk_at dksX0_keep_0 5 rfl rfl)
theorem dX0_keep_8 : decode cX0_keep 8 = .ok (.ifCond .eq 7, 3) := dk_153 0 7 (dk_at dksX0_keep_0 8 rfl rfl)
theorem dX0_keep_11 : decode cX0_keep 11 = .ok (.lconst 1, 1) := dk_10 (dk_at dksX0_keep_0 11 rfl rfl)
theorem dX0_keep_12 : decode cX0_keep 12 = .ok (.goto 4, 3) := dk_167 0 4 (dk_at dksX0_keep_0 12 rfl rfl)
theorem dX0_keep_15 : decode cX0_keep 15 = .ok (.lconst 0, 1) := dk_9 (dk_at dksX0_keep_0 15 rfl rfl)
theorem dX0_keep_16 : decode cX0_keep 16 = .ok (.lastore, 1) := dk_80 (dk_at dksX0_keep_0 16 rfl rfl)
theorem dX0_keep_17 : decode cX0_keep 17 = .ok (.goto 11, 3) := dk_167 0 11 (dk_at dksX0_keep_0 17 rfl rfl)
theorem dX0_keep_20 : decode cX0_keep 20 = .ok (.astore 4, 2) := dk_58 4 (dk_at dksX0_keep_0 20 rfl rfl)
theorem dX0_keep_22 : decode cX0_keep 22 = .ok (.iconst 1, 1) := dk_4 (dk_at dksX0_keep_0 22 rfl rfl)
theorem dX0_keep_23 : decode cX0_keep 23 = .ok (.ireturn, 1) := dk_172 (dk_at dksX0_keep_0 23 rfl rfl)
theorem dX0_keep_24 : decode cX0_keep 24 = .ok (.astore 4, 2) := dk_58 4 (dk_at dksX0_keep_1 0 rfl rfl)
theorem dX0_keep_26 : decode cX0_keep 26 = .ok (.iconst 2, 1) := dk_5 (dk_at dksX0_keep_1 2 rfl rfl)
theorem dX0_keep_27 : decode cX0_keep 27 = .ok (.ireturn, 1) := dk_172 (dk_at dksX0_keep_1 3 rfl rfl)
theorem dX0_keep_28 : decode cX0_keep 28 = .ok (.iconst 0, 1) := dk_3 (dk_at dksX0_keep_1 4 rfl rfl)
theorem dX0_keep_29 : decode cX0_keep 29 = .ok (.ireturn, 1) := dk_172 (dk_at dksX0_keep_1 5 rfl rfl)
abbrev cX0_greet : ByteArray := method_10_code
def yX0_greet : MethodName := ⟨RX0, "greet", "(LBurrowline;II[J)I"⟩
def dkwX0_greet_1 : List UInt8 := [172, 3, 172]
abbrev dktX0_greet_1 : List UInt8 := dkwX0_greet_1 ++ []
def dkwX0_greet_0 : List UInt8 := [45, 3, 42, 27, 28, 182, 0, 44, 133, 80, 167, 0, 15, 58, 4, 4, 172, 58, 4, 5, 172, 58, 4, 6]
abbrev dktX0_greet_0 : List UInt8 := dkwX0_greet_0 ++ dktX0_greet_1
theorem dksX0_greet_0 : cX0_greet.data.toList.drop 0 = dktX0_greet_0 := by decide +kernel
theorem dksX0_greet_1 : cX0_greet.data.toList.drop 24 = dktX0_greet_1 := dk_seg dksX0_greet_0 24 rfl rfl
theorem dX0_greet_0 : decode cX0_greet 0 = .ok (.aload_n 3, 1) := dk_45 (dk_at dksX0_greet_0 0 rfl rfl)
theorem dX0_greet_1 : decode cX0_greet 1 = .ok (.iconst 0, 1) := dk_3 (dk_at dksX0_greet_0 1 rfl rfl)
theorem dX0_greet_2 : decode cX0_greet 2 = .ok (.aload_n 0, 1) := dk_42 (dk_at dksX0_greet_0 2 rfl rfl)
theorem dX0_greet_3 : decode cX0_greet 3 = .ok (.iload_n 1, 1) := dk_27 (dk_at dksX0_greet_0 3 rfl rfl)
theorem dX0_greet_4 : decode cX0_greet 4 = .ok (.iload_n 2, 1) := dk_28 (dk_at dksX0_greet_0 4 rfl rfl)
theorem dX0_greet_5 : decode cX0_greet 5 = .ok (.invokevirtual 44, 3) := dk_182 0 44 (dk_at dksX0_greet_0 5 rfl rfl)
theorem dX0_greet_8 : decode cX0_greet 8 = .ok (.i2l, 1) := dk_133 (dk_at dksX0_greet_0 8 rfl rfl)
theorem dX0_greet_9 : decode cX0_greet 9 = .ok (.lastore, 1) := dk_80 (dk_at dksX0_greet_0 9 rfl rfl)
theorem dX0_greet_10 : decode cX0_greet 10 = .ok (.goto 15, 3) := dk_167 0 15 (dk_at dksX0_greet_0 10 rfl rfl)
theorem dX0_greet_13 : decode cX0_greet 13 = .ok (.astore 4, 2) := dk_58 4 (dk_at dksX0_greet_0 13 rfl rfl)
theorem dX0_greet_15 : decode cX0_greet 15 = .ok (.iconst 1, 1) := dk_4 (dk_at dksX0_greet_0 15 rfl rfl)
theorem dX0_greet_16 : decode cX0_greet 16 = .ok (.ireturn, 1) := dk_172 (dk_at dksX0_greet_0 16 rfl rfl)
theorem dX0_greet_17 : decode cX0_greet 17 = .ok (.astore 4, 2) := dk_58 4 (dk_at dksX0_greet_0 17 rfl rfl)
theorem dX0_greet_19 : decode cX0_greet 19 = .ok (.iconst 2, 1) := dk_5 (dk_at dksX0_greet_0 19 rfl rfl)
theorem dX0_greet_20 : decode cX0_greet 20 = .ok (.ireturn, 1) := dk_172 (dk_at dksX0_greet_0 20 rfl rfl)
theorem dX0_greet_21 : decode cX0_greet 21 = .ok (.astore 4, 2) := dk_58 4 (dk_at dksX0_greet_0 21 rfl rfl)
theorem dX0_greet_23 : decode cX0_greet 23 = .ok (.iconst 3, 1) := dk_6 (dk_at dksX0_greet_0 23 rfl rfl)
theorem dX0_greet_24 : decode cX0_greet 24 = .ok (.ireturn, 1) := dk_172 (dk_at dksX0_greet_1 0 rfl rfl)
theorem dX0_greet_25 : decode cX0_greet 25 = .ok (.iconst 0, 1) := dk_3 (dk_at dksX0_greet_1 1 rfl rfl)
theorem dX0_greet_26 : decode cX0_greet 26 = .ok (.ireturn, 1) := dk_172 (dk_at dksX0_greet_1 2 rfl rfl)
abbrev cX0_deliver : ByteArray := method_11_code
def yX0_deliver : MethodName := ⟨RX0, "deliver", "(LBurrowline;I[J)I"⟩
def dkwX0_deliver_0 : List UInt8 := [44, 3, 42, 27, 182, 0, 47, 133, 80, 167, 0, 6, 78, 4, 172, 3, 172]
abbrev dktX0_deliver_0 : List UInt8 := dkwX0_deliver_0 ++ []
theorem dksX0_deliver_0 : cX0_deliver.data.toList.drop 0 = dktX0_deliver_0 := by decide +kernel
theorem dX0_deliver_0 : decode cX0_deliver 0 = .ok (.aload_n 2, 1) := dk_44 (dk_at dksX0_deliver_0 0 rfl rfl)
theorem dX0_deliver_1 : decode cX0_deliver 1 = .ok (.iconst 0, 1) := dk_3 (dk_at dksX0_deliver_0 1 rfl rfl)
theorem dX0_deliver_2 : decode cX0_deliver 2 = .ok (.aload_n 0, 1) := dk_42 (dk_at dksX0_deliver_0 2 rfl rfl)
theorem dX0_deliver_3 : decode cX0_deliver 3 = .ok (.iload_n 1, 1) := dk_27 (dk_at dksX0_deliver_0 3 rfl rfl)
theorem dX0_deliver_4 : decode cX0_deliver 4 = .ok (.invokevirtual 47, 3) := dk_182 0 47 (dk_at dksX0_deliver_0 4 rfl rfl)
theorem dX0_deliver_7 : decode cX0_deliver 7 = .ok (.i2l, 1) := dk_133 (dk_at dksX0_deliver_0 7 rfl rfl)
theorem dX0_deliver_8 : decode cX0_deliver 8 = .ok (.lastore, 1) := dk_80 (dk_at dksX0_deliver_0 8 rfl rfl)
theorem dX0_deliver_9 : decode cX0_deliver 9 = .ok (.goto 6, 3) := dk_167 0 6 (dk_at dksX0_deliver_0 9 rfl rfl)
theorem dX0_deliver_12 : decode cX0_deliver 12 = .ok (.astore_n 3, 1) := dk_78 (dk_at dksX0_deliver_0 12 rfl rfl)
theorem dX0_deliver_13 : decode cX0_deliver 13 = .ok (.iconst 1, 1) := dk_4 (dk_at dksX0_deliver_0 13 rfl rfl)
theorem dX0_deliver_14 : decode cX0_deliver 14 = .ok (.ireturn, 1) := dk_172 (dk_at dksX0_deliver_0 14 rfl rfl)
theorem dX0_deliver_15 : decode cX0_deliver 15 = .ok (.iconst 0, 1) := dk_3 (dk_at dksX0_deliver_0 15 rfl rfl)
theorem dX0_deliver_16 : decode cX0_deliver 16 = .ok (.ireturn, 1) := dk_172 (dk_at dksX0_deliver_0 16 rfl rfl)
abbrev cX0_lose : ByteArray := method_12_code
def yX0_lose : MethodName := ⟨RX0, "lose", "(LBurrowline;I[J)I"⟩
def dkwX0_lose_0 : List UInt8 := [44, 3, 42, 27, 182, 0, 50, 133, 80, 167, 0, 6, 78, 4, 172, 3, 172]
abbrev dktX0_lose_0 : List UInt8 := dkwX0_lose_0 ++ []
theorem dksX0_lose_0 : cX0_lose.data.toList.drop 0 = dktX0_lose_0 := by decide +kernel
theorem dX0_lose_0 : decode cX0_lose 0 = .ok (.aload_n 2, 1) := dk_44 (dk_at dksX0_lose_0 0 rfl rfl)
theorem dX0_lose_1 : decode cX0_lose 1 = .ok (.iconst 0, 1) := dk_3 (dk_at dksX0_lose_0 1 rfl rfl)
theorem dX0_lose_2 : decode cX0_lose 2 = .ok (.aload_n 0, 1) := dk_42 (dk_at dksX0_lose_0 2 rfl rfl)
theorem dX0_lose_3 : decode cX0_lose 3 = .ok (.iload_n 1, 1) := dk_27 (dk_at dksX0_lose_0 3 rfl rfl)
theorem dX0_lose_4 : decode cX0_lose 4 = .ok (.invokevirtual 50, 3) := dk_182 0 50 (dk_at dksX0_lose_0 4 rfl rfl)
theorem dX0_lose_7 : decode cX0_lose 7 = .ok (.i2l, 1) := dk_133 (dk_at dksX0_lose_0 7 rfl rfl)
theorem dX0_lose_8 : decode cX0_lose 8 = .ok (.lastore, 1) := dk_80 (dk_at dksX0_lose_0 8 rfl rfl)
theorem dX0_lose_9 : decode cX0_lose 9 = .ok (.goto 6, 3) := dk_167 0 6 (dk_at dksX0_lose_0 9 rfl rfl)
theorem dX0_lose_12 : decode cX0_lose 12 = .ok (.astore_n 3, 1) := dk_78 (dk_at dksX0_lose_0 12 rfl rfl)
theorem dX0_lose_13 : decode cX0_lose 13 = .ok (.iconst 1, 1) := dk_4 (dk_at dksX0_lose_0 13 rfl rfl)
theorem dX0_lose_14 : decode cX0_lose 14 = .ok (.ireturn, 1) := dk_172 (dk_at dksX0_lose_0 14 rfl rfl)
theorem dX0_lose_15 : decode cX0_lose 15 = .ok (.iconst 0, 1) := dk_3 (dk_at dksX0_lose_0 15 rfl rfl)
theorem dX0_lose_16 : decode cX0_lose 16 = .ok (.ireturn, 1) := dk_172 (dk_at dksX0_lose_0 16 rfl rfl)
abbrev cX0_twice : ByteArray := method_13_code
def yX0_twice : MethodName := ⟨RX0, "twice", "(LBurrowline;I[J)I"⟩
def dkwX0_twice_0 : List UInt8 := [44, 3, 42, 27, 182, 0, 53, 133, 80, 167, 0, 9, 78, 4, 172, 78, 5, 172, 3, 172]
abbrev dktX0_twice_0 : List UInt8 := dkwX0_twice_0 ++ []
theorem dksX0_twice_0 : cX0_twice.data.toList.drop 0 = dktX0_twice_0 := by decide +kernel
theorem dX0_twice_0 : decode cX0_twice 0 = .ok (.aload_n 2, 1) := dk_44 (dk_at dksX0_twice_0 0 rfl rfl)
theorem dX0_twice_1 : decode cX0_twice 1 = .ok (.iconst 0, 1) := dk_3 (dk_at dksX0_twice_0 1 rfl rfl)
theorem dX0_twice_2 : decode cX0_twice 2 = .ok (.aload_n 0, 1) := dk_42 (dk_at dksX0_twice_0 2 rfl rfl)
theorem dX0_twice_3 : decode cX0_twice 3 = .ok (.iload_n 1, 1) := dk_27 (dk_at dksX0_twice_0 3 rfl rfl)
theorem dX0_twice_4 : decode cX0_twice 4 = .ok (.invokevirtual 53, 3) := dk_182 0 53 (dk_at dksX0_twice_0 4 rfl rfl)
theorem dX0_twice_7 : decode cX0_twice 7 = .ok (.i2l, 1) := dk_133 (dk_at dksX0_twice_0 7 rfl rfl)
theorem dX0_twice_8 : decode cX0_twice 8 = .ok (.lastore, 1) := dk_80 (dk_at dksX0_twice_0 8 rfl rfl)
theorem dX0_twice_9 : decode cX0_twice 9 = .ok (.goto 9, 3) := dk_167 0 9 (dk_at dksX0_twice_0 9 rfl rfl)
theorem dX0_twice_12 : decode cX0_twice 12 = .ok (.astore_n 3, 1) := dk_78 (dk_at dksX0_twice_0 12 rfl rfl)
theorem dX0_twice_13 : decode cX0_twice 13 = .ok (.iconst 1, 1) := dk_4 (dk_at dksX0_twice_0 13 rfl rfl)
theorem dX0_twice_14 : decode cX0_twice 14 = .ok (.ireturn, 1) := dk_172 (dk_at dksX0_twice_0 14 rfl rfl)
theorem dX0_twice_15 : decode cX0_twice 15 = .ok (.astore_n 3, 1) := dk_78 (dk_at dksX0_twice_0 15 rfl rfl)
theorem dX0_twice_16 : decode cX0_twice 16 = .ok (.iconst 2, 1) := dk_5 (dk_at dksX0_twice_0 16 rfl rfl)
theorem dX0_twice_17 : decode cX0_twice 17 = .ok (.ireturn, 1) := dk_172 (dk_at dksX0_twice_0 17 rfl rfl)
theorem dX0_twice_18 : decode cX0_twice 18 = .ok (.iconst 0, 1) := dk_3 (dk_at dksX0_twice_0 18 rfl rfl)
theorem dX0_twice_19 : decode cX0_twice 19 = .ok (.ireturn, 1) := dk_172 (dk_at dksX0_twice_0 19 rfl rfl)
abbrev cX0_turn : ByteArray := method_14_code
def yX0_turn : MethodName := ⟨RX0, "turn", "(LBurrowline;III[J)I"⟩
def dkwX0_turn_1 : List UInt8 := [58, 5, 6, 172, 3, 172]
abbrev dktX0_turn_1 : List UInt8 := dkwX0_turn_1 ++ []
def dkwX0_turn_0 : List UInt8 := [25, 4, 3, 42, 27, 28, 29, 182, 0, 56, 133, 80, 167, 0, 15, 58, 5, 4, 172, 58, 5, 5, 172]
abbrev dktX0_turn_0 : List UInt8 := dkwX0_turn_0 ++ dktX0_turn_1
theorem dksX0_turn_0 : cX0_turn.data.toList.drop 0 = dktX0_turn_0 := by decide +kernel
theorem dksX0_turn_1 : cX0_turn.data.toList.drop 23 = dktX0_turn_1 := dk_seg dksX0_turn_0 23 rfl rfl
theorem dX0_turn_0 : decode cX0_turn 0 = .ok (.aload 4, 2) := dk_25 4 (dk_at dksX0_turn_0 0 rfl rfl)
theorem dX0_turn_2 : decode cX0_turn 2 = .ok (.iconst 0, 1) := dk_3 (dk_at dksX0_turn_0 2 rfl rfl)
theorem dX0_turn_3 : decode cX0_turn 3 = .ok (.aload_n 0, 1) := dk_42 (dk_at dksX0_turn_0 3 rfl rfl)
theorem dX0_turn_4 : decode cX0_turn 4 = .ok (.iload_n 1, 1) := dk_27 (dk_at dksX0_turn_0 4 rfl rfl)
theorem dX0_turn_5 : decode cX0_turn 5 = .ok (.iload_n 2, 1) := dk_28 (dk_at dksX0_turn_0 5 rfl rfl)
theorem dX0_turn_6 : decode cX0_turn 6 = .ok (.iload_n 3, 1) := dk_29 (dk_at dksX0_turn_0 6 rfl rfl)
theorem dX0_turn_7 : decode cX0_turn 7 = .ok (.invokevirtual 56, 3) := dk_182 0 56 (dk_at dksX0_turn_0 7 rfl rfl)
theorem dX0_turn_10 : decode cX0_turn 10 = .ok (.i2l, 1) := dk_133 (dk_at dksX0_turn_0 10 rfl rfl)
theorem dX0_turn_11 : decode cX0_turn 11 = .ok (.lastore, 1) := dk_80 (dk_at dksX0_turn_0 11 rfl rfl)
theorem dX0_turn_12 : decode cX0_turn 12 = .ok (.goto 15, 3) := dk_167 0 15 (dk_at dksX0_turn_0 12 rfl rfl)
theorem dX0_turn_15 : decode cX0_turn 15 = .ok (.astore 5, 2) := dk_58 5 (dk_at dksX0_turn_0 15 rfl rfl)
theorem dX0_turn_17 : decode cX0_turn 17 = .ok (.iconst 1, 1) := dk_4 (dk_at dksX0_turn_0 17 rfl rfl)
theorem dX0_turn_18 : decode cX0_turn 18 = .ok (.ireturn, 1) := dk_172 (dk_at dksX0_turn_0 18 rfl rfl)
theorem dX0_turn_19 : decode cX0_turn 19 = .ok (.astore 5, 2) := dk_58 5 (dk_at dksX0_turn_0 19 rfl rfl)
theorem dX0_turn_21 : decode cX0_turn 21 = .ok (.iconst 2, 1) := dk_5 (dk_at dksX0_turn_0 21 rfl rfl)
theorem dX0_turn_22 : decode cX0_turn 22 = .ok (.ireturn, 1) := dk_172 (dk_at dksX0_turn_0 22 rfl rfl)
theorem dX0_turn_23 : decode cX0_turn 23 = .ok (.astore 5, 2) := dk_58 5 (dk_at dksX0_turn_1 0 rfl rfl)
theorem dX0_turn_25 : decode cX0_turn 25 = .ok (.iconst 3, 1) := dk_6 (dk_at dksX0_turn_1 2 rfl rfl)
theorem dX0_turn_26 : decode cX0_turn 26 = .ok (.ireturn, 1) := dk_172 (dk_at dksX0_turn_1 3 rfl rfl)
theorem dX0_turn_27 : decode cX0_turn 27 = .ok (.iconst 0, 1) := dk_3 (dk_at dksX0_turn_1 4 rfl rfl)
theorem dX0_turn_28 : decode cX0_turn 28 = .ok (.ireturn, 1) := dk_172 (dk_at dksX0_turn_1 5 rfl rfl)
abbrev cX0_reroute : ByteArray := method_15_code
def yX0_reroute : MethodName := ⟨RX0, "reroute", "(LBurrowline;II[J)I"⟩
def dkwX0_reroute_0 : List UInt8 := [45, 3, 42, 27, 28, 182, 0, 59, 133, 80, 167, 0, 11, 58, 4, 4, 172, 58, 4, 5, 172, 3, 172]
abbrev dktX0_reroute_0 : List UInt8 := dkwX0_reroute_0 ++ []
theorem dksX0_reroute_0 : cX0_reroute.data.toList.drop 0 = dktX0_reroute_0 := by decide +kernel
theorem dX0_reroute_0 : decode cX0_reroute 0 = .ok (.aload_n 3, 1) := dk_45 (dk_at dksX0_reroute_0 0 rfl rfl)
theorem dX0_reroute_1 : decode cX0_reroute 1 = .ok (.iconst 0, 1) := dk_3 (dk_at dksX0_reroute_0 1 rfl rfl)
theorem dX0_reroute_2 : decode cX0_reroute 2 = .ok (.aload_n 0, 1) := dk_42 (dk_at dksX0_reroute_0 2 rfl rfl)
theorem dX0_reroute_3 : decode cX0_reroute 3 = .ok (.iload_n 1, 1) := dk_27 (dk_at dksX0_reroute_0 3 rfl rfl)
theorem dX0_reroute_4 : decode cX0_reroute 4 = .ok (.iload_n 2, 1) := dk_28 (dk_at dksX0_reroute_0 4 rfl rfl)
theorem dX0_reroute_5 : decode cX0_reroute 5 = .ok (.invokevirtual 59, 3) := dk_182 0 59 (dk_at dksX0_reroute_0 5 rfl rfl)
theorem dX0_reroute_8 : decode cX0_reroute 8 = .ok (.i2l, 1) := dk_133 (dk_at dksX0_reroute_0 8 rfl rfl)
theorem dX0_reroute_9 : decode cX0_reroute 9 = .ok (.lastore, 1) := dk_80 (dk_at dksX0_reroute_0 9 rfl rfl)
theorem dX0_reroute_10 : decode cX0_reroute 10 = .ok (.goto 11, 3) := dk_167 0 11 (dk_at dksX0_reroute_0 10 rfl rfl)
theorem dX0_reroute_13 : decode cX0_reroute 13 = .ok (.astore 4, 2) := dk_58 4 (dk_at dksX0_reroute_0 13 rfl rfl)
theorem dX0_reroute_15 : decode cX0_reroute 15 = .ok (.iconst 1, 1) := dk_4 (dk_at dksX0_reroute_0 15 rfl rfl)
theorem dX0_reroute_16 : decode cX0_reroute 16 = .ok (.ireturn, 1) := dk_172 (dk_at dksX0_reroute_0 16 rfl rfl)
theorem dX0_reroute_17 : decode cX0_reroute 17 = .ok (.astore 4, 2) := dk_58 4 (dk_at dksX0_reroute_0 17 rfl rfl)
theorem dX0_reroute_19 : decode cX0_reroute 19 = .ok (.iconst 2, 1) := dk_5 (dk_at dksX0_reroute_0 19 rfl rfl)
theorem dX0_reroute_20 : decode cX0_reroute 20 = .ok (.ireturn, 1) := dk_172 (dk_at dksX0_reroute_0 20 rfl rfl)
theorem dX0_reroute_21 : decode cX0_reroute 21 = .ok (.iconst 0, 1) := dk_3 (dk_at dksX0_reroute_0 21 rfl rfl)
theorem dX0_reroute_22 : decode cX0_reroute 22 = .ok (.ireturn, 1) := dk_172 (dk_at dksX0_reroute_0 22 rfl rfl)
abbrev cX0_later : ByteArray := method_16_code
def yX0_later : MethodName := ⟨RX0, "later", "(LBurrowline;I[J)I"⟩
def dkwX0_later_0 : List UInt8 := [44, 3, 42, 27, 182, 0, 62, 133, 80, 167, 0, 6, 78, 4, 172, 3, 172]
abbrev dktX0_later_0 : List UInt8 := dkwX0_later_0 ++ []
theorem dksX0_later_0 : cX0_later.data.toList.drop 0 = dktX0_later_0 := by decide +kernel
theorem dX0_later_0 : decode cX0_later 0 = .ok (.aload_n 2, 1) := dk_44 (dk_at dksX0_later_0 0 rfl rfl)
theorem dX0_later_1 : decode cX0_later 1 = .ok (.iconst 0, 1) := dk_3 (dk_at dksX0_later_0 1 rfl rfl)
theorem dX0_later_2 : decode cX0_later 2 = .ok (.aload_n 0, 1) := dk_42 (dk_at dksX0_later_0 2 rfl rfl)
theorem dX0_later_3 : decode cX0_later 3 = .ok (.iload_n 1, 1) := dk_27 (dk_at dksX0_later_0 3 rfl rfl)
theorem dX0_later_4 : decode cX0_later 4 = .ok (.invokevirtual 62, 3) := dk_182 0 62 (dk_at dksX0_later_0 4 rfl rfl)
theorem dX0_later_7 : decode cX0_later 7 = .ok (.i2l, 1) := dk_133 (dk_at dksX0_later_0 7 rfl rfl)
theorem dX0_later_8 : decode cX0_later 8 = .ok (.lastore, 1) := dk_80 (dk_at dksX0_later_0 8 rfl rfl)
theorem dX0_later_9 : decode cX0_later 9 = .ok (.goto 6, 3) := dk_167 0 6 (dk_at dksX0_later_0 9 rfl rfl)
theorem dX0_later_12 : decode cX0_later 12 = .ok (.astore_n 3, 1) := dk_78 (dk_at dksX0_later_0 12 rfl rfl)
theorem dX0_later_13 : decode cX0_later 13 = .ok (.iconst 1, 1) := dk_4 (dk_at dksX0_later_0 13 rfl rfl)
theorem dX0_later_14 : decode cX0_later 14 = .ok (.ireturn, 1) := dk_172 (dk_at dksX0_later_0 14 rfl rfl)
theorem dX0_later_15 : decode cX0_later 15 = .ok (.iconst 0, 1) := dk_3 (dk_at dksX0_later_0 15 rfl rfl)
theorem dX0_later_16 : decode cX0_later 16 = .ok (.ireturn, 1) := dk_172 (dk_at dksX0_later_0 16 rfl rfl)
abbrev cX0_letter : ByteArray := method_17_code
def yX0_letter : MethodName := ⟨RX0, "letter", "(LBurrowline;II[J)I"⟩
def dkwX0_letter_0 : List UInt8 := [45, 3, 42, 27, 28, 182, 0, 65, 133, 80, 167, 0, 11, 58, 4, 4, 172, 58, 4, 5, 172, 3, 172]
abbrev dktX0_letter_0 : List UInt8 := dkwX0_letter_0 ++ []
theorem dksX0_letter_0 : cX0_letter.data.toList.drop 0 = dktX0_letter_0 := by decide +kernel
theorem dX0_letter_0 : decode cX0_letter 0 = .ok (.aload_n 3, 1) := dk_45 (dk_at dksX0_letter_0 0 rfl rfl)
theorem dX0_letter_1 : decode cX0_letter 1 = .ok (.iconst 0, 1) := dk_3 (dk_at dksX0_letter_0 1 rfl rfl)
theorem dX0_letter_2 : decode cX0_letter 2 = .ok (.aload_n 0, 1) := dk_42 (dk_at dksX0_letter_0 2 rfl rfl)
theorem dX0_letter_3 : decode cX0_letter 3 = .ok (.iload_n 1, 1) := dk_27 (dk_at dksX0_letter_0 3 rfl rfl)
theorem dX0_letter_4 : decode cX0_letter 4 = .ok (.iload_n 2, 1) := dk_28 (dk_at dksX0_letter_0 4 rfl rfl)
theorem dX0_letter_5 : decode cX0_letter 5 = .ok (.invokevirtual 65, 3) := dk_182 0 65 (dk_at dksX0_letter_0 5 rfl rfl)
theorem dX0_letter_8 : decode cX0_letter 8 = .ok (.i2l, 1) := dk_133 (dk_at dksX0_letter_0 8 rfl rfl)
theorem dX0_letter_9 : decode cX0_letter 9 = .ok (.lastore, 1) := dk_80 (dk_at dksX0_letter_0 9 rfl rfl)
theorem dX0_letter_10 : decode cX0_letter 10 = .ok (.goto 11, 3) := dk_167 0 11 (dk_at dksX0_letter_0 10 rfl rfl)
theorem dX0_letter_13 : decode cX0_letter 13 = .ok (.astore 4, 2) := dk_58 4 (dk_at dksX0_letter_0 13 rfl rfl)
theorem dX0_letter_15 : decode cX0_letter 15 = .ok (.iconst 1, 1) := dk_4 (dk_at dksX0_letter_0 15 rfl rfl)
theorem dX0_letter_16 : decode cX0_letter 16 = .ok (.ireturn, 1) := dk_172 (dk_at dksX0_letter_0 16 rfl rfl)
theorem dX0_letter_17 : decode cX0_letter 17 = .ok (.astore 4, 2) := dk_58 4 (dk_at dksX0_letter_0 17 rfl rfl)
theorem dX0_letter_19 : decode cX0_letter 19 = .ok (.iconst 2, 1) := dk_5 (dk_at dksX0_letter_0 19 rfl rfl)
theorem dX0_letter_20 : decode cX0_letter 20 = .ok (.ireturn, 1) := dk_172 (dk_at dksX0_letter_0 20 rfl rfl)
theorem dX0_letter_21 : decode cX0_letter 21 = .ok (.iconst 0, 1) := dk_3 (dk_at dksX0_letter_0 21 rfl rfl)
theorem dX0_letter_22 : decode cX0_letter 22 = .ok (.ireturn, 1) := dk_172 (dk_at dksX0_letter_0 22 rfl rfl)
abbrev cX0_isTurned : ByteArray := method_18_code
def yX0_isTurned : MethodName := ⟨RX0, "isTurned", "(LBurrowline;I[J)I"⟩
def dkwX0_isTurned_0 : List UInt8 := [44, 3, 42, 27, 182, 0, 68, 153, 0, 7, 10, 167, 0, 4, 9, 80, 167, 0, 6, 78, 4, 172, 3, 172]
abbrev dktX0_isTurned_0 : List UInt8 := dkwX0_isTurned_0 ++ []
theorem dksX0_isTurned_0 : cX0_isTurned.data.toList.drop 0 = dktX0_isTurned_0 := by decide +kernel
theorem dX0_isTurned_0 : decode cX0_isTurned 0 = .ok (.aload_n 2, 1) := dk_44 (dk_at dksX0_isTurned_0 0 rfl rfl)
theorem dX0_isTurned_1 : decode cX0_isTurned 1 = .ok (.iconst 0, 1) := dk_3 (dk_at dksX0_isTurned_0 1 rfl rfl)
theorem dX0_isTurned_2 : decode cX0_isTurned 2 = .ok (.aload_n 0, 1) := dk_42 (dk_at dksX0_isTurned_0 2 rfl rfl)
theorem dX0_isTurned_3 : decode cX0_isTurned 3 = .ok (.iload_n 1, 1) := dk_27 (dk_at dksX0_isTurned_0 3 rfl rfl)
theorem dX0_isTurned_4 : decode cX0_isTurned 4 = .ok (.invokevirtual 68, 3) := dk_182 0 68 (dk_at dksX0_isTurned_0 4 rfl rfl)
theorem dX0_isTurned_7 : decode cX0_isTurned 7 = .ok (.ifCond .eq 7, 3) := dk_153 0 7 (dk_at dksX0_isTurned_0 7 rfl rfl)
theorem dX0_isTurned_10 : decode cX0_isTurned 10 = .ok (.lconst 1, 1) := dk_10 (dk_at dksX0_isTurned_0 10 rfl rfl)
theorem dX0_isTurned_11 : decode cX0_isTurned 11 = .ok (.goto 4, 3) := dk_167 0 4 (dk_at dksX0_isTurned_0 11 rfl rfl)
theorem dX0_isTurned_14 : decode cX0_isTurned 14 = .ok (.lconst 0, 1) := dk_9 (dk_at dksX0_isTurned_0 14 rfl rfl)
theorem dX0_isTurned_15 : decode cX0_isTurned 15 = .ok (.lastore, 1) := dk_80 (dk_at dksX0_isTurned_0 15 rfl rfl)
theorem dX0_isTurned_16 : decode cX0_isTurned 16 = .ok (.goto 6, 3) := dk_167 0 6 (dk_at dksX0_isTurned_0 16 rfl rfl)
theorem dX0_isTurned_19 : decode cX0_isTurned 19 = .ok (.astore_n 3, 1) := dk_78 (dk_at dksX0_isTurned_0 19 rfl rfl)
theorem dX0_isTurned_20 : decode cX0_isTurned 20 = .ok (.iconst 1, 1) := dk_4 (dk_at dksX0_isTurned_0 20 rfl rfl)
theorem dX0_isTurned_21 : decode cX0_isTurned 21 = .ok (.ireturn, 1) := dk_172 (dk_at dksX0_isTurned_0 21 rfl rfl)
theorem dX0_isTurned_22 : decode cX0_isTurned 22 = .ok (.iconst 0, 1) := dk_3 (dk_at dksX0_isTurned_0 22 rfl rfl)
theorem dX0_isTurned_23 : decode cX0_isTurned 23 = .ok (.ireturn, 1) := dk_172 (dk_at dksX0_isTurned_0 23 rfl rfl)
abbrev cX0_address : ByteArray := method_19_code
def yX0_address : MethodName := ⟨RX0, "address", "(LBurrowline;I[J)I"⟩
def dkwX0_address_0 : List UInt8 := [44, 3, 42, 27, 182, 0, 72, 133, 80, 167, 0, 6, 78, 4, 172, 3, 172]
abbrev dktX0_address_0 : List UInt8 := dkwX0_address_0 ++ []
theorem dksX0_address_0 : cX0_address.data.toList.drop 0 = dktX0_address_0 := by decide +kernel
theorem dX0_address_0 : decode cX0_address 0 = .ok (.aload_n 2, 1) := dk_44 (dk_at dksX0_address_0 0 rfl rfl)
theorem dX0_address_1 : decode cX0_address 1 = .ok (.iconst 0, 1) := dk_3 (dk_at dksX0_address_0 1 rfl rfl)
theorem dX0_address_2 : decode cX0_address 2 = .ok (.aload_n 0, 1) := dk_42 (dk_at dksX0_address_0 2 rfl rfl)
theorem dX0_address_3 : decode cX0_address 3 = .ok (.iload_n 1, 1) := dk_27 (dk_at dksX0_address_0 3 rfl rfl)
theorem dX0_address_4 : decode cX0_address 4 = .ok (.invokevirtual 72, 3) := dk_182 0 72 (dk_at dksX0_address_0 4 rfl rfl)
theorem dX0_address_7 : decode cX0_address 7 = .ok (.i2l, 1) := dk_133 (dk_at dksX0_address_0 7 rfl rfl)
theorem dX0_address_8 : decode cX0_address 8 = .ok (.lastore, 1) := dk_80 (dk_at dksX0_address_0 8 rfl rfl)
theorem dX0_address_9 : decode cX0_address 9 = .ok (.goto 6, 3) := dk_167 0 6 (dk_at dksX0_address_0 9 rfl rfl)
theorem dX0_address_12 : decode cX0_address 12 = .ok (.astore_n 3, 1) := dk_78 (dk_at dksX0_address_0 12 rfl rfl)
theorem dX0_address_13 : decode cX0_address 13 = .ok (.iconst 1, 1) := dk_4 (dk_at dksX0_address_0 13 rfl rfl)
theorem dX0_address_14 : decode cX0_address 14 = .ok (.ireturn, 1) := dk_172 (dk_at dksX0_address_0 14 rfl rfl)
theorem dX0_address_15 : decode cX0_address 15 = .ok (.iconst 0, 1) := dk_3 (dk_at dksX0_address_0 15 rfl rfl)
theorem dX0_address_16 : decode cX0_address 16 = .ok (.ireturn, 1) := dk_172 (dk_at dksX0_address_0 16 rfl rfl)
abbrev cX0_known : ByteArray := method_20_code
def yX0_known : MethodName := ⟨RX0, "known", "(LBurrowline;II[J)I"⟩
def dkwX0_known_0 : List UInt8 := [45, 3, 42, 27, 28, 182, 0, 75, 133, 80, 167, 0, 11, 58, 4, 4, 172, 58, 4, 5, 172, 3, 172]
abbrev dktX0_known_0 : List UInt8 := dkwX0_known_0 ++ []
theorem dksX0_known_0 : cX0_known.data.toList.drop 0 = dktX0_known_0 := by decide +kernel
theorem dX0_known_0 : decode cX0_known 0 = .ok (.aload_n 3, 1) := dk_45 (dk_at dksX0_known_0 0 rfl rfl)
theorem dX0_known_1 : decode cX0_known 1 = .ok (.iconst 0, 1) := dk_3 (dk_at dksX0_known_0 1 rfl rfl)
theorem dX0_known_2 : decode cX0_known 2 = .ok (.aload_n 0, 1) := dk_42 (dk_at dksX0_known_0 2 rfl rfl)
theorem dX0_known_3 : decode cX0_known 3 = .ok (.iload_n 1, 1) := dk_27 (dk_at dksX0_known_0 3 rfl rfl)
theorem dX0_known_4 : decode cX0_known 4 = .ok (.iload_n 2, 1) := dk_28 (dk_at dksX0_known_0 4 rfl rfl)
theorem dX0_known_5 : decode cX0_known 5 = .ok (.invokevirtual 75, 3) := dk_182 0 75 (dk_at dksX0_known_0 5 rfl rfl)
theorem dX0_known_8 : decode cX0_known 8 = .ok (.i2l, 1) := dk_133 (dk_at dksX0_known_0 8 rfl rfl)
theorem dX0_known_9 : decode cX0_known 9 = .ok (.lastore, 1) := dk_80 (dk_at dksX0_known_0 9 rfl rfl)
theorem dX0_known_10 : decode cX0_known 10 = .ok (.goto 11, 3) := dk_167 0 11 (dk_at dksX0_known_0 10 rfl rfl)
theorem dX0_known_13 : decode cX0_known 13 = .ok (.astore 4, 2) := dk_58 4 (dk_at dksX0_known_0 13 rfl rfl)
theorem dX0_known_15 : decode cX0_known 15 = .ok (.iconst 1, 1) := dk_4 (dk_at dksX0_known_0 15 rfl rfl)
theorem dX0_known_16 : decode cX0_known 16 = .ok (.ireturn, 1) := dk_172 (dk_at dksX0_known_0 16 rfl rfl)
theorem dX0_known_17 : decode cX0_known 17 = .ok (.astore 4, 2) := dk_58 4 (dk_at dksX0_known_0 17 rfl rfl)
theorem dX0_known_19 : decode cX0_known 19 = .ok (.iconst 2, 1) := dk_5 (dk_at dksX0_known_0 19 rfl rfl)
theorem dX0_known_20 : decode cX0_known 20 = .ok (.ireturn, 1) := dk_172 (dk_at dksX0_known_0 20 rfl rfl)
theorem dX0_known_21 : decode cX0_known 21 = .ok (.iconst 0, 1) := dk_3 (dk_at dksX0_known_0 21 rfl rfl)
theorem dX0_known_22 : decode cX0_known 22 = .ok (.ireturn, 1) := dk_172 (dk_at dksX0_known_0 22 rfl rfl)
abbrev cX0_route : ByteArray := method_21_code
def yX0_route : MethodName := ⟨RX0, "route", "(LBurrowline;II[J)I"⟩
def dkwX0_route_0 : List UInt8 := [45, 3, 42, 27, 28, 182, 0, 78, 133, 80, 167, 0, 11, 58, 4, 4, 172, 58, 4, 5, 172, 3, 172]
abbrev dktX0_route_0 : List UInt8 := dkwX0_route_0 ++ []
theorem dksX0_route_0 : cX0_route.data.toList.drop 0 = dktX0_route_0 := by decide +kernel
theorem dX0_route_0 : decode cX0_route 0 = .ok (.aload_n 3, 1) := dk_45 (dk_at dksX0_route_0 0 rfl rfl)
theorem dX0_route_1 : decode cX0_route 1 = .ok (.iconst 0, 1) := dk_3 (dk_at dksX0_route_0 1 rfl rfl)
theorem dX0_route_2 : decode cX0_route 2 = .ok (.aload_n 0, 1) := dk_42 (dk_at dksX0_route_0 2 rfl rfl)
theorem dX0_route_3 : decode cX0_route 3 = .ok (.iload_n 1, 1) := dk_27 (dk_at dksX0_route_0 3 rfl rfl)
theorem dX0_route_4 : decode cX0_route 4 = .ok (.iload_n 2, 1) := dk_28 (dk_at dksX0_route_0 4 rfl rfl)
theorem dX0_route_5 : decode cX0_route 5 = .ok (.invokevirtual 78, 3) := dk_182 0 78 (dk_at dksX0_route_0 5 rfl rfl)
theorem dX0_route_8 : decode cX0_route 8 = .ok (.i2l, 1) := dk_133 (dk_at dksX0_route_0 8 rfl rfl)
theorem dX0_route_9 : decode cX0_route 9 = .ok (.lastore, 1) := dk_80 (dk_at dksX0_route_0 9 rfl rfl)
theorem dX0_route_10 : decode cX0_route 10 = .ok (.goto 11, 3) := dk_167 0 11 (dk_at dksX0_route_0 10 rfl rfl)
theorem dX0_route_13 : decode cX0_route 13 = .ok (.astore 4, 2) := dk_58 4 (dk_at dksX0_route_0 13 rfl rfl)
theorem dX0_route_15 : decode cX0_route 15 = .ok (.iconst 1, 1) := dk_4 (dk_at dksX0_route_0 15 rfl rfl)
theorem dX0_route_16 : decode cX0_route 16 = .ok (.ireturn, 1) := dk_172 (dk_at dksX0_route_0 16 rfl rfl)
theorem dX0_route_17 : decode cX0_route 17 = .ok (.astore 4, 2) := dk_58 4 (dk_at dksX0_route_0 17 rfl rfl)
theorem dX0_route_19 : decode cX0_route 19 = .ok (.iconst 2, 1) := dk_5 (dk_at dksX0_route_0 19 rfl rfl)
theorem dX0_route_20 : decode cX0_route 20 = .ok (.ireturn, 1) := dk_172 (dk_at dksX0_route_0 20 rfl rfl)
theorem dX0_route_21 : decode cX0_route 21 = .ok (.iconst 0, 1) := dk_3 (dk_at dksX0_route_0 21 rfl rfl)
theorem dX0_route_22 : decode cX0_route 22 = .ok (.ireturn, 1) := dk_172 (dk_at dksX0_route_0 22 rfl rfl)
abbrev cX0_session : ByteArray := method_22_code
def yX0_session : MethodName := ⟨RX0, "session", "(LBurrowline;IIII[J)I"⟩
def dkwX0_session_1 : List UInt8 := [172, 58, 6, 6, 172, 3, 172]
abbrev dktX0_session_1 : List UInt8 := dkwX0_session_1 ++ []
def dkwX0_session_0 : List UInt8 := [25, 5, 3, 42, 27, 28, 29, 21, 4, 182, 0, 81, 133, 80, 167, 0, 15, 58, 6, 4, 172, 58, 6, 5]
abbrev dktX0_session_0 : List UInt8 := dkwX0_session_0 ++ dktX0_session_1
theorem dksX0_session_0 : cX0_session.data.toList.drop 0 = dktX0_session_0 := by decide +kernel
theorem dksX0_session_1 : cX0_session.data.toList.drop 24 = dktX0_session_1 := dk_seg dksX0_session_0 24 rfl rfl
theorem dX0_session_0 : decode cX0_session 0 = .ok (.aload 5, 2) := dk_25 5 (dk_at dksX0_session_0 0 rfl rfl)
theorem dX0_session_2 : decode cX0_session 2 = .ok (.iconst 0, 1) := dk_3 (dk_at dksX0_session_0 2 rfl rfl)
theorem dX0_session_3 : decode cX0_session 3 = .ok (.aload_n 0, 1) := dk_42 (dk_at dksX0_session_0 3 rfl rfl)
theorem dX0_session_4 : decode cX0_session 4 = .ok (.iload_n 1, 1) := dk_27 (dk_at dksX0_session_0 4 rfl rfl)
theorem dX0_session_5 : decode cX0_session 5 = .ok (.iload_n 2, 1) := dk_28 (dk_at dksX0_session_0 5 rfl rfl)
theorem dX0_session_6 : decode cX0_session 6 = .ok (.iload_n 3, 1) := dk_29 (dk_at dksX0_session_0 6 rfl rfl)
theorem dX0_session_7 : decode cX0_session 7 = .ok (.iload 4, 2) := dk_21 4 (dk_at dksX0_session_0 7 rfl rfl)
theorem dX0_session_9 : decode cX0_session 9 = .ok (.invokevirtual 81, 3) := dk_182 0 81 (dk_at dksX0_session_0 9 rfl rfl)
theorem dX0_session_12 : decode cX0_session 12 = .ok (.i2l, 1) := dk_133 (dk_at dksX0_session_0 12 rfl rfl)
theorem dX0_session_13 : decode cX0_session 13 = .ok (.lastore, 1) := dk_80 (dk_at dksX0_session_0 13 rfl rfl)
theorem dX0_session_14 : decode cX0_session 14 = .ok (.goto 15, 3) := dk_167 0 15 (dk_at dksX0_session_0 14 rfl rfl)
theorem dX0_session_17 : decode cX0_session 17 = .ok (.astore 6, 2) := dk_58 6 (dk_at dksX0_session_0 17 rfl rfl)
theorem dX0_session_19 : decode cX0_session 19 = .ok (.iconst 1, 1) := dk_4 (dk_at dksX0_session_0 19 rfl rfl)
theorem dX0_session_20 : decode cX0_session 20 = .ok (.ireturn, 1) := dk_172 (dk_at dksX0_session_0 20 rfl rfl)
theorem dX0_session_21 : decode cX0_session 21 = .ok (.astore 6, 2) := dk_58 6 (dk_at dksX0_session_0 21 rfl rfl)
theorem dX0_session_23 : decode cX0_session 23 = .ok (.iconst 2, 1) := dk_5 (dk_at dksX0_session_0 23 rfl rfl)
theorem dX0_session_24 : decode cX0_session 24 = .ok (.ireturn, 1) := dk_172 (dk_at dksX0_session_1 0 rfl rfl)
theorem dX0_session_25 : decode cX0_session 25 = .ok (.astore 6, 2) := dk_58 6 (dk_at dksX0_session_1 1 rfl rfl)
theorem dX0_session_27 : decode cX0_session 27 = .ok (.iconst 3, 1) := dk_6 (dk_at dksX0_session_1 3 rfl rfl)
theorem dX0_session_28 : decode cX0_session 28 = .ok (.ireturn, 1) := dk_172 (dk_at dksX0_session_1 4 rfl rfl)
theorem dX0_session_29 : decode cX0_session 29 = .ok (.iconst 0, 1) := dk_3 (dk_at dksX0_session_1 5 rfl rfl)
theorem dX0_session_30 : decode cX0_session 30 = .ok (.ireturn, 1) := dk_172 (dk_at dksX0_session_1 6 rfl rfl)
abbrev cX0_isUsable : ByteArray := method_23_code
def yX0_isUsable : MethodName := ⟨RX0, "isUsable", "(LBurrowline;II[J)I"⟩
def dkwX0_isUsable_1 : List UInt8 := [58, 4, 5, 172, 3, 172]
abbrev dktX0_isUsable_1 : List UInt8 := dkwX0_isUsable_1 ++ []
def dkwX0_isUsable_0 : List UInt8 := [45, 3, 42, 27, 28, 182, 0, 84, 153, 0, 7, 10, 167, 0, 4, 9, 80, 167, 0, 11, 58, 4, 4, 172]
abbrev dktX0_isUsable_0 : List UInt8 := dkwX0_isUsable_0 ++ dktX0_isUsable_1
theorem dksX0_isUsable_0 : cX0_isUsable.data.toList.drop 0 = dktX0_isUsable_0 := by decide +kernel
theorem dksX0_isUsable_1 : cX0_isUsable.data.toList.drop 24 = dktX0_isUsable_1 := dk_seg dksX0_isUsable_0 24 rfl rfl
theorem dX0_isUsable_0 : decode cX0_isUsable 0 = .ok (.aload_n 3, 1) := dk_45 (dk_at dksX0_isUsable_0 0 rfl rfl)
theorem dX0_isUsable_1 : decode cX0_isUsable 1 = .ok (.iconst 0, 1) := dk_3 (dk_at dksX0_isUsable_0 1 rfl rfl)
theorem dX0_isUsable_2 : decode cX0_isUsable 2 = .ok (.aload_n 0, 1) := dk_42 (dk_at dksX0_isUsable_0 2 rfl rfl)
theorem dX0_isUsable_3 : decode cX0_isUsable 3 = .ok (.iload_n 1, 1) := dk_27 (dk_at dksX0_isUsable_0 3 rfl rfl)
theorem dX0_isUsable_4 : decode cX0_isUsable 4 = .ok (.iload_n 2, 1) := dk_28 (dk_at dksX0_isUsable_0 4 rfl rfl)
theorem dX0_isUsable_5 : decode cX0_isUsable 5 = .ok (.invokevirtual 84, 3) := dk_182 0 84 (dk_at dksX0_isUsable_0 5 rfl rfl)
theorem dX0_isUsable_8 : decode cX0_isUsable 8 = .ok (.ifCond .eq 7, 3) := dk_153 0 7 (dk_at dksX0_isUsable_0 8 rfl rfl)
theorem dX0_isUsable_11 : decode cX0_isUsable 11 = .ok (.lconst 1, 1) := dk_10 (dk_at dksX0_isUsable_0 11 rfl rfl)
theorem dX0_isUsable_12 : decode cX0_isUsable 12 = .ok (.goto 4, 3) := dk_167 0 4 (dk_at dksX0_isUsable_0 12 rfl rfl)
theorem dX0_isUsable_15 : decode cX0_isUsable 15 = .ok (.lconst 0, 1) := dk_9 (dk_at dksX0_isUsable_0 15 rfl rfl)
theorem dX0_isUsable_16 : decode cX0_isUsable 16 = .ok (.lastore, 1) := dk_80 (dk_at dksX0_isUsable_0 16 rfl rfl)
theorem dX0_isUsable_17 : decode cX0_isUsable 17 = .ok (.goto 11, 3) := dk_167 0 11 (dk_at dksX0_isUsable_0 17 rfl rfl)
theorem dX0_isUsable_20 : decode cX0_isUsable 20 = .ok (.astore 4, 2) := dk_58 4 (dk_at dksX0_isUsable_0 20 rfl rfl)
theorem dX0_isUsable_22 : decode cX0_isUsable 22 = .ok (.iconst 1, 1) := dk_4 (dk_at dksX0_isUsable_0 22 rfl rfl)
theorem dX0_isUsable_23 : decode cX0_isUsable 23 = .ok (.ireturn, 1) := dk_172 (dk_at dksX0_isUsable_0 23 rfl rfl)
theorem dX0_isUsable_24 : decode cX0_isUsable 24 = .ok (.astore 4, 2) := dk_58 4 (dk_at dksX0_isUsable_1 0 rfl rfl)
theorem dX0_isUsable_26 : decode cX0_isUsable 26 = .ok (.iconst 2, 1) := dk_5 (dk_at dksX0_isUsable_1 2 rfl rfl)
theorem dX0_isUsable_27 : decode cX0_isUsable 27 = .ok (.ireturn, 1) := dk_172 (dk_at dksX0_isUsable_1 3 rfl rfl)
theorem dX0_isUsable_28 : decode cX0_isUsable 28 = .ok (.iconst 0, 1) := dk_3 (dk_at dksX0_isUsable_1 4 rfl rfl)
theorem dX0_isUsable_29 : decode cX0_isUsable 29 = .ok (.ireturn, 1) := dk_172 (dk_at dksX0_isUsable_1 5 rfl rfl)
abbrev cX0_flight : ByteArray := method_24_code
def yX0_flight : MethodName := ⟨RX0, "flight", "(LBurrowline;II[J)I"⟩
def dkwX0_flight_0 : List UInt8 := [45, 3, 42, 27, 28, 182, 0, 87, 133, 80, 167, 0, 11, 58, 4, 4, 172, 58, 4, 5, 172, 3, 172]
abbrev dktX0_flight_0 : List UInt8 := dkwX0_flight_0 ++ []
theorem dksX0_flight_0 : cX0_flight.data.toList.drop 0 = dktX0_flight_0 := by decide +kernel
theorem dX0_flight_0 : decode cX0_flight 0 = .ok (.aload_n 3, 1) := dk_45 (dk_at dksX0_flight_0 0 rfl rfl)
theorem dX0_flight_1 : decode cX0_flight 1 = .ok (.iconst 0, 1) := dk_3 (dk_at dksX0_flight_0 1 rfl rfl)
theorem dX0_flight_2 : decode cX0_flight 2 = .ok (.aload_n 0, 1) := dk_42 (dk_at dksX0_flight_0 2 rfl rfl)
theorem dX0_flight_3 : decode cX0_flight 3 = .ok (.iload_n 1, 1) := dk_27 (dk_at dksX0_flight_0 3 rfl rfl)
theorem dX0_flight_4 : decode cX0_flight 4 = .ok (.iload_n 2, 1) := dk_28 (dk_at dksX0_flight_0 4 rfl rfl)
theorem dX0_flight_5 : decode cX0_flight 5 = .ok (.invokevirtual 87, 3) := dk_182 0 87 (dk_at dksX0_flight_0 5 rfl rfl)
theorem dX0_flight_8 : decode cX0_flight 8 = .ok (.i2l, 1) := dk_133 (dk_at dksX0_flight_0 8 rfl rfl)
theorem dX0_flight_9 : decode cX0_flight 9 = .ok (.lastore, 1) := dk_80 (dk_at dksX0_flight_0 9 rfl rfl)
theorem dX0_flight_10 : decode cX0_flight 10 = .ok (.goto 11, 3) := dk_167 0 11 (dk_at dksX0_flight_0 10 rfl rfl)
theorem dX0_flight_13 : decode cX0_flight 13 = .ok (.astore 4, 2) := dk_58 4 (dk_at dksX0_flight_0 13 rfl rfl)
theorem dX0_flight_15 : decode cX0_flight 15 = .ok (.iconst 1, 1) := dk_4 (dk_at dksX0_flight_0 15 rfl rfl)
theorem dX0_flight_16 : decode cX0_flight 16 = .ok (.ireturn, 1) := dk_172 (dk_at dksX0_flight_0 16 rfl rfl)
theorem dX0_flight_17 : decode cX0_flight 17 = .ok (.astore 4, 2) := dk_58 4 (dk_at dksX0_flight_0 17 rfl rfl)
theorem dX0_flight_19 : decode cX0_flight 19 = .ok (.iconst 2, 1) := dk_5 (dk_at dksX0_flight_0 19 rfl rfl)
theorem dX0_flight_20 : decode cX0_flight 20 = .ok (.ireturn, 1) := dk_172 (dk_at dksX0_flight_0 20 rfl rfl)
theorem dX0_flight_21 : decode cX0_flight 21 = .ok (.iconst 0, 1) := dk_3 (dk_at dksX0_flight_0 21 rfl rfl)
theorem dX0_flight_22 : decode cX0_flight 22 = .ok (.ireturn, 1) := dk_172 (dk_at dksX0_flight_0 22 rfl rfl)
abbrev cX0_waiting : ByteArray := method_25_code
def yX0_waiting : MethodName := ⟨RX0, "waiting", "(LBurrowline;II[J)I"⟩
def dkwX0_waiting_0 : List UInt8 := [45, 3, 42, 27, 28, 182, 0, 90, 133, 80, 167, 0, 11, 58, 4, 4, 172, 58, 4, 5, 172, 3, 172]
abbrev dktX0_waiting_0 : List UInt8 := dkwX0_waiting_0 ++ []
theorem dksX0_waiting_0 : cX0_waiting.data.toList.drop 0 = dktX0_waiting_0 := by decide +kernel
theorem dX0_waiting_0 : decode cX0_waiting 0 = .ok (.aload_n 3, 1) := dk_45 (dk_at dksX0_waiting_0 0 rfl rfl)
theorem dX0_waiting_1 : decode cX0_waiting 1 = .ok (.iconst 0, 1) := dk_3 (dk_at dksX0_waiting_0 1 rfl rfl)
theorem dX0_waiting_2 : decode cX0_waiting 2 = .ok (.aload_n 0, 1) := dk_42 (dk_at dksX0_waiting_0 2 rfl rfl)
theorem dX0_waiting_3 : decode cX0_waiting 3 = .ok (.iload_n 1, 1) := dk_27 (dk_at dksX0_waiting_0 3 rfl rfl)
theorem dX0_waiting_4 : decode cX0_waiting 4 = .ok (.iload_n 2, 1) := dk_28 (dk_at dksX0_waiting_0 4 rfl rfl)
theorem dX0_waiting_5 : decode cX0_waiting 5 = .ok (.invokevirtual 90, 3) := dk_182 0 90 (dk_at dksX0_waiting_0 5 rfl rfl)
theorem dX0_waiting_8 : decode cX0_waiting 8 = .ok (.i2l, 1) := dk_133 (dk_at dksX0_waiting_0 8 rfl rfl)
theorem dX0_waiting_9 : decode cX0_waiting 9 = .ok (.lastore, 1) := dk_80 (dk_at dksX0_waiting_0 9 rfl rfl)
theorem dX0_waiting_10 : decode cX0_waiting 10 = .ok (.goto 11, 3) := dk_167 0 11 (dk_at dksX0_waiting_0 10 rfl rfl)
theorem dX0_waiting_13 : decode cX0_waiting 13 = .ok (.astore 4, 2) := dk_58 4 (dk_at dksX0_waiting_0 13 rfl rfl)
theorem dX0_waiting_15 : decode cX0_waiting 15 = .ok (.iconst 1, 1) := dk_4 (dk_at dksX0_waiting_0 15 rfl rfl)
theorem dX0_waiting_16 : decode cX0_waiting 16 = .ok (.ireturn, 1) := dk_172 (dk_at dksX0_waiting_0 16 rfl rfl)
theorem dX0_waiting_17 : decode cX0_waiting 17 = .ok (.astore 4, 2) := dk_58 4 (dk_at dksX0_waiting_0 17 rfl rfl)
theorem dX0_waiting_19 : decode cX0_waiting 19 = .ok (.iconst 2, 1) := dk_5 (dk_at dksX0_waiting_0 19 rfl rfl)
theorem dX0_waiting_20 : decode cX0_waiting 20 = .ok (.ireturn, 1) := dk_172 (dk_at dksX0_waiting_0 20 rfl rfl)
theorem dX0_waiting_21 : decode cX0_waiting 21 = .ok (.iconst 0, 1) := dk_3 (dk_at dksX0_waiting_0 21 rfl rfl)
theorem dX0_waiting_22 : decode cX0_waiting 22 = .ok (.ireturn, 1) := dk_172 (dk_at dksX0_waiting_0 22 rfl rfl)
abbrev cX0_cookie : ByteArray := method_26_code
def yX0_cookie : MethodName := ⟨RX0, "cookie", "(LBurrowline;II[J)I"⟩
def dkwX0_cookie_0 : List UInt8 := [45, 3, 42, 27, 28, 182, 0, 93, 133, 80, 167, 0, 11, 58, 4, 4, 172, 58, 4, 5, 172, 3, 172]
abbrev dktX0_cookie_0 : List UInt8 := dkwX0_cookie_0 ++ []
theorem dksX0_cookie_0 : cX0_cookie.data.toList.drop 0 = dktX0_cookie_0 := by decide +kernel
theorem dX0_cookie_0 : decode cX0_cookie 0 = .ok (.aload_n 3, 1) := dk_45 (dk_at dksX0_cookie_0 0 rfl rfl)
theorem dX0_cookie_1 : decode cX0_cookie 1 = .ok (.iconst 0, 1) := dk_3 (dk_at dksX0_cookie_0 1 rfl rfl)
theorem dX0_cookie_2 : decode cX0_cookie 2 = .ok (.aload_n 0, 1) := dk_42 (dk_at dksX0_cookie_0 2 rfl rfl)
theorem dX0_cookie_3 : decode cX0_cookie 3 = .ok (.iload_n 1, 1) := dk_27 (dk_at dksX0_cookie_0 3 rfl rfl)
theorem dX0_cookie_4 : decode cX0_cookie 4 = .ok (.iload_n 2, 1) := dk_28 (dk_at dksX0_cookie_0 4 rfl rfl)
theorem dX0_cookie_5 : decode cX0_cookie 5 = .ok (.invokevirtual 93, 3) := dk_182 0 93 (dk_at dksX0_cookie_0 5 rfl rfl)
theorem dX0_cookie_8 : decode cX0_cookie 8 = .ok (.i2l, 1) := dk_133 (dk_at dksX0_cookie_0 8 rfl rfl)
theorem dX0_cookie_9 : decode cX0_cookie 9 = .ok (.lastore, 1) := dk_80 (dk_at dksX0_cookie_0 9 rfl rfl)
theorem dX0_cookie_10 : decode cX0_cookie 10 = .ok (.goto 11, 3) := dk_167 0 11 (dk_at dksX0_cookie_0 10 rfl rfl)
theorem dX0_cookie_13 : decode cX0_cookie 13 = .ok (.astore 4, 2) := dk_58 4 (dk_at dksX0_cookie_0 13 rfl rfl)
theorem dX0_cookie_15 : decode cX0_cookie 15 = .ok (.iconst 1, 1) := dk_4 (dk_at dksX0_cookie_0 15 rfl rfl)
theorem dX0_cookie_16 : decode cX0_cookie 16 = .ok (.ireturn, 1) := dk_172 (dk_at dksX0_cookie_0 16 rfl rfl)
theorem dX0_cookie_17 : decode cX0_cookie 17 = .ok (.astore 4, 2) := dk_58 4 (dk_at dksX0_cookie_0 17 rfl rfl)
theorem dX0_cookie_19 : decode cX0_cookie 19 = .ok (.iconst 2, 1) := dk_5 (dk_at dksX0_cookie_0 19 rfl rfl)
theorem dX0_cookie_20 : decode cX0_cookie 20 = .ok (.ireturn, 1) := dk_172 (dk_at dksX0_cookie_0 20 rfl rfl)
theorem dX0_cookie_21 : decode cX0_cookie 21 = .ok (.iconst 0, 1) := dk_3 (dk_at dksX0_cookie_0 21 rfl rfl)
theorem dX0_cookie_22 : decode cX0_cookie 22 = .ok (.ireturn, 1) := dk_172 (dk_at dksX0_cookie_0 22 rfl rfl)
abbrev cX0_stamp : ByteArray := method_27_code
def yX0_stamp : MethodName := ⟨RX0, "stamp", "(LBurrowline;IIZ[J)I"⟩
def dkwX0_stamp_1 : List UInt8 := [172]
abbrev dktX0_stamp_1 : List UInt8 := dkwX0_stamp_1 ++ []
def dkwX0_stamp_0 : List UInt8 := [25, 4, 3, 42, 27, 28, 29, 182, 0, 96, 133, 80, 167, 0, 11, 58, 5, 4, 172, 58, 5, 5, 172, 3]
abbrev dktX0_stamp_0 : List UInt8 := dkwX0_stamp_0 ++ dktX0_stamp_1
theorem dksX0_stamp_0 : cX0_stamp.data.toList.drop 0 = dktX0_stamp_0 := by decide +kernel
theorem dksX0_stamp_1 : cX0_stamp.data.toList.drop 24 = dktX0_stamp_1 := dk_seg dksX0_stamp_0 24 rfl rfl
theorem dX0_stamp_0 : decode cX0_stamp 0 = .ok (.aload 4, 2) := dk_25 4 (dk_at dksX0_stamp_0 0 rfl rfl)
theorem dX0_stamp_2 : decode cX0_stamp 2 = .ok (.iconst 0, 1) := dk_3 (dk_at dksX0_stamp_0 2 rfl rfl)
theorem dX0_stamp_3 : decode cX0_stamp 3 = .ok (.aload_n 0, 1) := dk_42 (dk_at dksX0_stamp_0 3 rfl rfl)
theorem dX0_stamp_4 : decode cX0_stamp 4 = .ok (.iload_n 1, 1) := dk_27 (dk_at dksX0_stamp_0 4 rfl rfl)
theorem dX0_stamp_5 : decode cX0_stamp 5 = .ok (.iload_n 2, 1) := dk_28 (dk_at dksX0_stamp_0 5 rfl rfl)
theorem dX0_stamp_6 : decode cX0_stamp 6 = .ok (.iload_n 3, 1) := dk_29 (dk_at dksX0_stamp_0 6 rfl rfl)
theorem dX0_stamp_7 : decode cX0_stamp 7 = .ok (.invokevirtual 96, 3) := dk_182 0 96 (dk_at dksX0_stamp_0 7 rfl rfl)
theorem dX0_stamp_10 : decode cX0_stamp 10 = .ok (.i2l, 1) := dk_133 (dk_at dksX0_stamp_0 10 rfl rfl)
theorem dX0_stamp_11 : decode cX0_stamp 11 = .ok (.lastore, 1) := dk_80 (dk_at dksX0_stamp_0 11 rfl rfl)
theorem dX0_stamp_12 : decode cX0_stamp 12 = .ok (.goto 11, 3) := dk_167 0 11 (dk_at dksX0_stamp_0 12 rfl rfl)
theorem dX0_stamp_15 : decode cX0_stamp 15 = .ok (.astore 5, 2) := dk_58 5 (dk_at dksX0_stamp_0 15 rfl rfl)
theorem dX0_stamp_17 : decode cX0_stamp 17 = .ok (.iconst 1, 1) := dk_4 (dk_at dksX0_stamp_0 17 rfl rfl)
theorem dX0_stamp_18 : decode cX0_stamp 18 = .ok (.ireturn, 1) := dk_172 (dk_at dksX0_stamp_0 18 rfl rfl)
theorem dX0_stamp_19 : decode cX0_stamp 19 = .ok (.astore 5, 2) := dk_58 5 (dk_at dksX0_stamp_0 19 rfl rfl)
theorem dX0_stamp_21 : decode cX0_stamp 21 = .ok (.iconst 2, 1) := dk_5 (dk_at dksX0_stamp_0 21 rfl rfl)
theorem dX0_stamp_22 : decode cX0_stamp 22 = .ok (.ireturn, 1) := dk_172 (dk_at dksX0_stamp_0 22 rfl rfl)
theorem dX0_stamp_23 : decode cX0_stamp 23 = .ok (.iconst 0, 1) := dk_3 (dk_at dksX0_stamp_0 23 rfl rfl)
theorem dX0_stamp_24 : decode cX0_stamp 24 = .ok (.ireturn, 1) := dk_172 (dk_at dksX0_stamp_1 0 rfl rfl)
abbrev cX0_outs : ByteArray := method_28_code
def yX0_outs : MethodName := ⟨RX0, "outs", "(LBurrowline;I[J)I"⟩
def dkwX0_outs_0 : List UInt8 := [44, 3, 42, 27, 182, 0, 100, 133, 80, 167, 0, 6, 78, 4, 172, 3, 172]
abbrev dktX0_outs_0 : List UInt8 := dkwX0_outs_0 ++ []
theorem dksX0_outs_0 : cX0_outs.data.toList.drop 0 = dktX0_outs_0 := by decide +kernel
theorem dX0_outs_0 : decode cX0_outs 0 = .ok (.aload_n 2, 1) := dk_44 (dk_at dksX0_outs_0 0 rfl rfl)
theorem dX0_outs_1 : decode cX0_outs 1 = .ok (.iconst 0, 1) := dk_3 (dk_at dksX0_outs_0 1 rfl rfl)
theorem dX0_outs_2 : decode cX0_outs 2 = .ok (.aload_n 0, 1) := dk_42 (dk_at dksX0_outs_0 2 rfl rfl)
theorem dX0_outs_3 : decode cX0_outs 3 = .ok (.iload_n 1, 1) := dk_27 (dk_at dksX0_outs_0 3 rfl rfl)
theorem dX0_outs_4 : decode cX0_outs 4 = .ok (.invokevirtual 100, 3) := dk_182 0 100 (dk_at dksX0_outs_0 4 rfl rfl)
theorem dX0_outs_7 : decode cX0_outs 7 = .ok (.i2l, 1) := dk_133 (dk_at dksX0_outs_0 7 rfl rfl)
theorem dX0_outs_8 : decode cX0_outs 8 = .ok (.lastore, 1) := dk_80 (dk_at dksX0_outs_0 8 rfl rfl)
theorem dX0_outs_9 : decode cX0_outs 9 = .ok (.goto 6, 3) := dk_167 0 6 (dk_at dksX0_outs_0 9 rfl rfl)
theorem dX0_outs_12 : decode cX0_outs 12 = .ok (.astore_n 3, 1) := dk_78 (dk_at dksX0_outs_0 12 rfl rfl)
theorem dX0_outs_13 : decode cX0_outs 13 = .ok (.iconst 1, 1) := dk_4 (dk_at dksX0_outs_0 13 rfl rfl)
theorem dX0_outs_14 : decode cX0_outs 14 = .ok (.ireturn, 1) := dk_172 (dk_at dksX0_outs_0 14 rfl rfl)
theorem dX0_outs_15 : decode cX0_outs 15 = .ok (.iconst 0, 1) := dk_3 (dk_at dksX0_outs_0 15 rfl rfl)
theorem dX0_outs_16 : decode cX0_outs 16 = .ok (.ireturn, 1) := dk_172 (dk_at dksX0_outs_0 16 rfl rfl)
abbrev cX0_out : ByteArray := method_29_code
def yX0_out : MethodName := ⟨RX0, "out", "(LBurrowline;III[J)I"⟩
def dkwX0_out_1 : List UInt8 := [172]
abbrev dktX0_out_1 : List UInt8 := dkwX0_out_1 ++ []
def dkwX0_out_0 : List UInt8 := [25, 4, 3, 42, 27, 28, 29, 182, 0, 103, 133, 80, 167, 0, 11, 58, 5, 4, 172, 58, 5, 5, 172, 3]
abbrev dktX0_out_0 : List UInt8 := dkwX0_out_0 ++ dktX0_out_1
theorem dksX0_out_0 : cX0_out.data.toList.drop 0 = dktX0_out_0 := by decide +kernel
theorem dksX0_out_1 : cX0_out.data.toList.drop 24 = dktX0_out_1 := dk_seg dksX0_out_0 24 rfl rfl
theorem dX0_out_0 : decode cX0_out 0 = .ok (.aload 4, 2) := dk_25 4 (dk_at dksX0_out_0 0 rfl rfl)
theorem dX0_out_2 : decode cX0_out 2 = .ok (.iconst 0, 1) := dk_3 (dk_at dksX0_out_0 2 rfl rfl)
theorem dX0_out_3 : decode cX0_out 3 = .ok (.aload_n 0, 1) := dk_42 (dk_at dksX0_out_0 3 rfl rfl)
theorem dX0_out_4 : decode cX0_out 4 = .ok (.iload_n 1, 1) := dk_27 (dk_at dksX0_out_0 4 rfl rfl)
theorem dX0_out_5 : decode cX0_out 5 = .ok (.iload_n 2, 1) := dk_28 (dk_at dksX0_out_0 5 rfl rfl)
theorem dX0_out_6 : decode cX0_out 6 = .ok (.iload_n 3, 1) := dk_29 (dk_at dksX0_out_0 6 rfl rfl)
theorem dX0_out_7 : decode cX0_out 7 = .ok (.invokevirtual 103, 3) := dk_182 0 103 (dk_at dksX0_out_0 7 rfl rfl)
theorem dX0_out_10 : decode cX0_out 10 = .ok (.i2l, 1) := dk_133 (dk_at dksX0_out_0 10 rfl rfl)
theorem dX0_out_11 : decode cX0_out 11 = .ok (.lastore, 1) := dk_80 (dk_at dksX0_out_0 11 rfl rfl)
theorem dX0_out_12 : decode cX0_out 12 = .ok (.goto 11, 3) := dk_167 0 11 (dk_at dksX0_out_0 12 rfl rfl)
theorem dX0_out_15 : decode cX0_out 15 = .ok (.astore 5, 2) := dk_58 5 (dk_at dksX0_out_0 15 rfl rfl)
theorem dX0_out_17 : decode cX0_out 17 = .ok (.iconst 1, 1) := dk_4 (dk_at dksX0_out_0 17 rfl rfl)
theorem dX0_out_18 : decode cX0_out 18 = .ok (.ireturn, 1) := dk_172 (dk_at dksX0_out_0 18 rfl rfl)
theorem dX0_out_19 : decode cX0_out 19 = .ok (.astore 5, 2) := dk_58 5 (dk_at dksX0_out_0 19 rfl rfl)
theorem dX0_out_21 : decode cX0_out 21 = .ok (.iconst 2, 1) := dk_5 (dk_at dksX0_out_0 21 rfl rfl)
theorem dX0_out_22 : decode cX0_out 22 = .ok (.ireturn, 1) := dk_172 (dk_at dksX0_out_0 22 rfl rfl)
theorem dX0_out_23 : decode cX0_out 23 = .ok (.iconst 0, 1) := dk_3 (dk_at dksX0_out_0 23 rfl rfl)
theorem dX0_out_24 : decode cX0_out 24 = .ok (.ireturn, 1) := dk_172 (dk_at dksX0_out_1 0 rfl rfl)
abbrev cX0_drops : ByteArray := method_30_code
def yX0_drops : MethodName := ⟨RX0, "drops", "(LBurrowline;I[J)I"⟩
def dkwX0_drops_0 : List UInt8 := [44, 3, 42, 27, 182, 0, 106, 133, 80, 167, 0, 6, 78, 4, 172, 3, 172]
abbrev dktX0_drops_0 : List UInt8 := dkwX0_drops_0 ++ []
theorem dksX0_drops_0 : cX0_drops.data.toList.drop 0 = dktX0_drops_0 := by decide +kernel
theorem dX0_drops_0 : decode cX0_drops 0 = .ok (.aload_n 2, 1) := dk_44 (dk_at dksX0_drops_0 0 rfl rfl)
theorem dX0_drops_1 : decode cX0_drops 1 = .ok (.iconst 0, 1) := dk_3 (dk_at dksX0_drops_0 1 rfl rfl)
theorem dX0_drops_2 : decode cX0_drops 2 = .ok (.aload_n 0, 1) := dk_42 (dk_at dksX0_drops_0 2 rfl rfl)
theorem dX0_drops_3 : decode cX0_drops 3 = .ok (.iload_n 1, 1) := dk_27 (dk_at dksX0_drops_0 3 rfl rfl)
theorem dX0_drops_4 : decode cX0_drops 4 = .ok (.invokevirtual 106, 3) := dk_182 0 106 (dk_at dksX0_drops_0 4 rfl rfl)
theorem dX0_drops_7 : decode cX0_drops 7 = .ok (.i2l, 1) := dk_133 (dk_at dksX0_drops_0 7 rfl rfl)
theorem dX0_drops_8 : decode cX0_drops 8 = .ok (.lastore, 1) := dk_80 (dk_at dksX0_drops_0 8 rfl rfl)
theorem dX0_drops_9 : decode cX0_drops 9 = .ok (.goto 6, 3) := dk_167 0 6 (dk_at dksX0_drops_0 9 rfl rfl)
theorem dX0_drops_12 : decode cX0_drops 12 = .ok (.astore_n 3, 1) := dk_78 (dk_at dksX0_drops_0 12 rfl rfl)
theorem dX0_drops_13 : decode cX0_drops 13 = .ok (.iconst 1, 1) := dk_4 (dk_at dksX0_drops_0 13 rfl rfl)
theorem dX0_drops_14 : decode cX0_drops 14 = .ok (.ireturn, 1) := dk_172 (dk_at dksX0_drops_0 14 rfl rfl)
theorem dX0_drops_15 : decode cX0_drops 15 = .ok (.iconst 0, 1) := dk_3 (dk_at dksX0_drops_0 15 rfl rfl)
theorem dX0_drops_16 : decode cX0_drops 16 = .ok (.ireturn, 1) := dk_172 (dk_at dksX0_drops_0 16 rfl rfl)
abbrev cX0_publicOf : ByteArray := method_31_code
def yX0_publicOf : MethodName := ⟨RX0, "publicOf", "(LBurrowline;I[J)I"⟩
def dkwX0_publicOf_0 : List UInt8 := [44, 3, 42, 27, 182, 0, 109, 133, 80, 167, 0, 6, 78, 4, 172, 3, 172]
abbrev dktX0_publicOf_0 : List UInt8 := dkwX0_publicOf_0 ++ []
theorem dksX0_publicOf_0 : cX0_publicOf.data.toList.drop 0 = dktX0_publicOf_0 := by decide +kernel
theorem dX0_publicOf_0 : decode cX0_publicOf 0 = .ok (.aload_n 2, 1) := dk_44 (dk_at dksX0_publicOf_0 0 rfl rfl)
theorem dX0_publicOf_1 : decode cX0_publicOf 1 = .ok (.iconst 0, 1) := dk_3 (dk_at dksX0_publicOf_0 1 rfl rfl)
theorem dX0_publicOf_2 : decode cX0_publicOf 2 = .ok (.aload_n 0, 1) := dk_42 (dk_at dksX0_publicOf_0 2 rfl rfl)
theorem dX0_publicOf_3 : decode cX0_publicOf 3 = .ok (.iload_n 1, 1) := dk_27 (dk_at dksX0_publicOf_0 3 rfl rfl)
theorem dX0_publicOf_4 : decode cX0_publicOf 4 = .ok (.invokevirtual 109, 3) := dk_182 0 109 (dk_at dksX0_publicOf_0 4 rfl rfl)
theorem dX0_publicOf_7 : decode cX0_publicOf 7 = .ok (.i2l, 1) := dk_133 (dk_at dksX0_publicOf_0 7 rfl rfl)
theorem dX0_publicOf_8 : decode cX0_publicOf 8 = .ok (.lastore, 1) := dk_80 (dk_at dksX0_publicOf_0 8 rfl rfl)
theorem dX0_publicOf_9 : decode cX0_publicOf 9 = .ok (.goto 6, 3) := dk_167 0 6 (dk_at dksX0_publicOf_0 9 rfl rfl)
theorem dX0_publicOf_12 : decode cX0_publicOf 12 = .ok (.astore_n 3, 1) := dk_78 (dk_at dksX0_publicOf_0 12 rfl rfl)
theorem dX0_publicOf_13 : decode cX0_publicOf 13 = .ok (.iconst 1, 1) := dk_4 (dk_at dksX0_publicOf_0 13 rfl rfl)
theorem dX0_publicOf_14 : decode cX0_publicOf 14 = .ok (.ireturn, 1) := dk_172 (dk_at dksX0_publicOf_0 14 rfl rfl)
theorem dX0_publicOf_15 : decode cX0_publicOf 15 = .ok (.iconst 0, 1) := dk_3 (dk_at dksX0_publicOf_0 15 rfl rfl)
theorem dX0_publicOf_16 : decode cX0_publicOf 16 = .ok (.ireturn, 1) := dk_172 (dk_at dksX0_publicOf_0 16 rfl rfl)
abbrev cX0_shared : ByteArray := method_32_code
def yX0_shared : MethodName := ⟨RX0, "shared", "(LBurrowline;II[J)I"⟩
def dkwX0_shared_0 : List UInt8 := [45, 3, 42, 27, 28, 182, 0, 112, 133, 80, 167, 0, 7, 58, 4, 4, 172, 3, 172]
abbrev dktX0_shared_0 : List UInt8 := dkwX0_shared_0 ++ []
theorem dksX0_shared_0 : cX0_shared.data.toList.drop 0 = dktX0_shared_0 := by decide +kernel
theorem dX0_shared_0 : decode cX0_shared 0 = .ok (.aload_n 3, 1) := dk_45 (dk_at dksX0_shared_0 0 rfl rfl)
theorem dX0_shared_1 : decode cX0_shared 1 = .ok (.iconst 0, 1) := dk_3 (dk_at dksX0_shared_0 1 rfl rfl)
theorem dX0_shared_2 : decode cX0_shared 2 = .ok (.aload_n 0, 1) := dk_42 (dk_at dksX0_shared_0 2 rfl rfl)
theorem dX0_shared_3 : decode cX0_shared 3 = .ok (.iload_n 1, 1) := dk_27 (dk_at dksX0_shared_0 3 rfl rfl)
theorem dX0_shared_4 : decode cX0_shared 4 = .ok (.iload_n 2, 1) := dk_28 (dk_at dksX0_shared_0 4 rfl rfl)
theorem dX0_shared_5 : decode cX0_shared 5 = .ok (.invokevirtual 112, 3) := dk_182 0 112 (dk_at dksX0_shared_0 5 rfl rfl)
theorem dX0_shared_8 : decode cX0_shared 8 = .ok (.i2l, 1) := dk_133 (dk_at dksX0_shared_0 8 rfl rfl)
theorem dX0_shared_9 : decode cX0_shared 9 = .ok (.lastore, 1) := dk_80 (dk_at dksX0_shared_0 9 rfl rfl)
theorem dX0_shared_10 : decode cX0_shared 10 = .ok (.goto 7, 3) := dk_167 0 7 (dk_at dksX0_shared_0 10 rfl rfl)
theorem dX0_shared_13 : decode cX0_shared 13 = .ok (.astore 4, 2) := dk_58 4 (dk_at dksX0_shared_0 13 rfl rfl)
theorem dX0_shared_15 : decode cX0_shared 15 = .ok (.iconst 1, 1) := dk_4 (dk_at dksX0_shared_0 15 rfl rfl)
theorem dX0_shared_16 : decode cX0_shared 16 = .ok (.ireturn, 1) := dk_172 (dk_at dksX0_shared_0 16 rfl rfl)
theorem dX0_shared_17 : decode cX0_shared 17 = .ok (.iconst 0, 1) := dk_3 (dk_at dksX0_shared_0 17 rfl rfl)
theorem dX0_shared_18 : decode cX0_shared 18 = .ok (.ireturn, 1) := dk_172 (dk_at dksX0_shared_0 18 rfl rfl)
abbrev cX0_seal : ByteArray := method_33_code
def yX0_seal : MethodName := ⟨RX0, "seal", "(LBurrowline;IIII[J)I"⟩
def dkwX0_seal_0 : List UInt8 := [25, 5, 3, 42, 27, 28, 29, 21, 4, 182, 0, 115, 133, 80, 167, 0, 7, 58, 6, 4, 172, 3, 172]
abbrev dktX0_seal_0 : List UInt8 := dkwX0_seal_0 ++ []
theorem dksX0_seal_0 : cX0_seal.data.toList.drop 0 = dktX0_seal_0 := by decide +kernel
theorem dX0_seal_0 : decode cX0_seal 0 = .ok (.aload 5, 2) := dk_25 5 (dk_at dksX0_seal_0 0 rfl rfl)
theorem dX0_seal_2 : decode cX0_seal 2 = .ok (.iconst 0, 1) := dk_3 (dk_at dksX0_seal_0 2 rfl rfl)
theorem dX0_seal_3 : decode cX0_seal 3 = .ok (.aload_n 0, 1) := dk_42 (dk_at dksX0_seal_0 3 rfl rfl)
theorem dX0_seal_4 : decode cX0_seal 4 = .ok (.iload_n 1, 1) := dk_27 (dk_at dksX0_seal_0 4 rfl rfl)
theorem dX0_seal_5 : decode cX0_seal 5 = .ok (.iload_n 2, 1) := dk_28 (dk_at dksX0_seal_0 5 rfl rfl)
theorem dX0_seal_6 : decode cX0_seal 6 = .ok (.iload_n 3, 1) := dk_29 (dk_at dksX0_seal_0 6 rfl rfl)
theorem dX0_seal_7 : decode cX0_seal 7 = .ok (.iload 4, 2) := dk_21 4 (dk_at dksX0_seal_0 7 rfl rfl)
theorem dX0_seal_9 : decode cX0_seal 9 = .ok (.invokevirtual 115, 3) := dk_182 0 115 (dk_at dksX0_seal_0 9 rfl rfl)
theorem dX0_seal_12 : decode cX0_seal 12 = .ok (.i2l, 1) := dk_133 (dk_at dksX0_seal_0 12 rfl rfl)
theorem dX0_seal_13 : decode cX0_seal 13 = .ok (.lastore, 1) := dk_80 (dk_at dksX0_seal_0 13 rfl rfl)
theorem dX0_seal_14 : decode cX0_seal 14 = .ok (.goto 7, 3) := dk_167 0 7 (dk_at dksX0_seal_0 14 rfl rfl)
theorem dX0_seal_17 : decode cX0_seal 17 = .ok (.astore 6, 2) := dk_58 6 (dk_at dksX0_seal_0 17 rfl rfl)
theorem dX0_seal_19 : decode cX0_seal 19 = .ok (.iconst 1, 1) := dk_4 (dk_at dksX0_seal_0 19 rfl rfl)
theorem dX0_seal_20 : decode cX0_seal 20 = .ok (.ireturn, 1) := dk_172 (dk_at dksX0_seal_0 20 rfl rfl)
theorem dX0_seal_21 : decode cX0_seal 21 = .ok (.iconst 0, 1) := dk_3 (dk_at dksX0_seal_0 21 rfl rfl)
theorem dX0_seal_22 : decode cX0_seal 22 = .ok (.ireturn, 1) := dk_172 (dk_at dksX0_seal_0 22 rfl rfl)
theorem q59 : (Jvm.Cond.initialized "BurrowlineLaw") ∈ lw_all := lw_g (lw_at lw_m1 0 rfl) rfl
theorem q87 : (Jvm.Cond.classLink "BurrowlineLaw" (8 : Nat) "Burrowline") ∈ lw_all := lw_g (lw_at lw_m1 28 rfl) rfl
theorem q89 : (Jvm.Cond.methodLink "BurrowlineLaw" (118 : Nat) ({ cls := "Burrowline", name := "<init>", desc := "()V" } : Jvm.MethodName)) ∈ lw_all := lw_g (lw_at lw_m1 30 rfl) rfl
theorem q294 : (Jvm.Cond.methodLink "BurrowlineLaw" (175 : Nat) ({ cls := "Burrowline", name := "now", desc := "()I" } : Jvm.MethodName)) ∈ lw_all := lw_g (lw_at lw_m1 235 rfl) rfl
theorem q298 : (Jvm.Cond.methodLink "BurrowlineLaw" (179 : Nat) ({ cls := "Burrowline", name := "letters", desc := "()I" } : Jvm.MethodName)) ∈ lw_all := lw_g (lw_at lw_m1 239 rfl) rfl
theorem q306 : (Jvm.Cond.methodLink "BurrowlineLaw" (235 : Nat) ({ cls := "Burrowline", name := "share", desc := "()F" } : Jvm.MethodName)) ∈ lw_all := lw_g (lw_at lw_m2 7 rfl) rfl
theorem q310 : (Jvm.Cond.methodLink "BurrowlineLaw" (240 : Nat) ({ cls := "Burrowline", name := "meanAge", desc := "()D" } : Jvm.MethodName)) ∈ lw_all := lw_g (lw_at lw_m2 11 rfl) rfl
theorem q318 : (Jvm.Cond.methodLink "BurrowlineLaw" (245 : Nat) ({ cls := "Burrowline", name := "isSound", desc := "()Z" } : Jvm.MethodName)) ∈ lw_all := lw_g (lw_at lw_m2 19 rfl) rfl
theorem q462 : (Jvm.Cond.methodLink "BurrowlineLaw" (250 : Nat) ({ cls := "Burrowline", name := "checksum", desc := "()J" } : Jvm.MethodName)) ∈ lw_all := lw_g (lw_at lw_m2 163 rfl) rfl
theorem q487 : (Jvm.Cond.methodLink "BurrowlineLaw" (122 : Nat) ({ cls := "BurrowlineLaw", name := "pass", desc := "(LBurrowline;I[J)I" } : Jvm.MethodName)) ∈ lw_all := lw_g (lw_at lw_m2 188 rfl) rfl
theorem q488 : (Jvm.Cond.static ({ cls := "BurrowlineLaw", name := "pass", desc := "(LBurrowline;I[J)I" } : Jvm.MethodName)) ∈ lw_all := lw_g (lw_at lw_m2 189 rfl) rfl
theorem q489 : (Jvm.Cond.codeWith ({ cls := "BurrowlineLaw", name := "pass", desc := "(LBurrowline;I[J)I" } : Jvm.MethodName) method_3_code (4 : Nat) (Option.some Jvm.ClassFile.FieldType.int) [((0 : Nat), (9 : Nat), (12 : Nat), (13 : Nat)), ((0 : Nat), (9 : Nat), (15 : Nat), (15 : Nat))]) ∈ lw_all := lw_g (lw_at lw_m2 190 rfl) rfl
theorem q490 : (Jvm.Cond.classLink "BurrowlineLaw" (13 : Nat) "java/lang/IllegalArgumentException") ∈ lw_all := lw_g (lw_at lw_m2 191 rfl) rfl
theorem q491 : (Jvm.Cond.classLink "BurrowlineLaw" (15 : Nat) "java/lang/IllegalStateException") ∈ lw_all := lw_g (lw_at lw_m2 192 rfl) rfl
theorem q492 : (Jvm.Cond.methodLink "BurrowlineLaw" (7 : Nat) ({ cls := "Burrowline", name := "pass", desc := "(I)I" } : Jvm.MethodName)) ∈ lw_all := lw_g (lw_at lw_m2 193 rfl) rfl
theorem q538 : (Jvm.Cond.methodLink "BurrowlineLaw" (132 : Nat) ({ cls := "BurrowlineLaw", name := "move", desc := "(LBurrowline;II[J)I" } : Jvm.MethodName)) ∈ lw_all := lw_g (lw_at lw_m2 239 rfl) rfl
theorem q539 : (Jvm.Cond.static ({ cls := "BurrowlineLaw", name := "move", desc := "(LBurrowline;II[J)I" } : Jvm.MethodName)) ∈ lw_all := lw_g (lw_at lw_m3 0 rfl) rfl
theorem q540 : (Jvm.Cond.codeWith ({ cls := "BurrowlineLaw", name := "move", desc := "(LBurrowline;II[J)I" } : Jvm.MethodName) method_4_code (5 : Nat) (Option.some Jvm.ClassFile.FieldType.int) [((0 : Nat), (10 : Nat), (13 : Nat), (21 : Nat)), ((0 : Nat), (10 : Nat), (17 : Nat), (13 : Nat))]) ∈ lw_all := lw_g (lw_at lw_m3 1 rfl) rfl
theorem q541 : (Jvm.Cond.classLink "BurrowlineLaw" (21 : Nat) "java/lang/IndexOutOfBoundsException") ∈ lw_all := lw_g (lw_at lw_m3 2 rfl) rfl
theorem q565 : (Jvm.Cond.methodLink "BurrowlineLaw" (17 : Nat) ({ cls := "Burrowline", name := "move", desc := "(II)I" } : Jvm.MethodName)) ∈ lw_all := lw_g (lw_at lw_m3 26 rfl) rfl
theorem q586 : (Jvm.Cond.methodLink "BurrowlineLaw" (136 : Nat) ({ cls := "BurrowlineLaw", name := "load", desc := "(LBurrowline;IZ[J)I" } : Jvm.MethodName)) ∈ lw_all := lw_g (lw_at lw_m3 47 rfl) rfl
theorem q587 : (Jvm.Cond.static ({ cls := "BurrowlineLaw", name := "load", desc := "(LBurrowline;IZ[J)I" } : Jvm.MethodName)) ∈ lw_all := lw_g (lw_at lw_m3 48 rfl) rfl
theorem q588 : (Jvm.Cond.codeWith ({ cls := "BurrowlineLaw", name := "load", desc := "(LBurrowline;IZ[J)I" } : Jvm.MethodName) method_5_code (5 : Nat) (Option.some Jvm.ClassFile.FieldType.int) [((0 : Nat), (17 : Nat), (20 : Nat), (21 : Nat))]) ∈ lw_all := lw_g (lw_at lw_m3 49 rfl) rfl
theorem q589 : (Jvm.Cond.methodLink "BurrowlineLaw" (23 : Nat) ({ cls := "Burrowline", name := "load", desc := "(IZ)Z" } : Jvm.MethodName)) ∈ lw_all := lw_g (lw_at lw_m3 50 rfl) rfl
theorem q593 : (Jvm.Cond.methodLink "BurrowlineLaw" (140 : Nat) ({ cls := "BurrowlineLaw", name := "allow", desc := "(LBurrowline;IIII[J)I" } : Jvm.MethodName)) ∈ lw_all := lw_g (lw_at lw_m3 54 rfl) rfl
theorem q594 : (Jvm.Cond.static ({ cls := "BurrowlineLaw", name := "allow", desc := "(LBurrowline;IIII[J)I" } : Jvm.MethodName)) ∈ lw_all := lw_g (lw_at lw_m3 55 rfl) rfl
theorem q595 : (Jvm.Cond.codeWith ({ cls := "BurrowlineLaw", name := "allow", desc := "(LBurrowline;IIII[J)I" } : Jvm.MethodName) method_6_code (7 : Nat) (Option.some Jvm.ClassFile.FieldType.int) [((0 : Nat), (14 : Nat), (17 : Nat), (21 : Nat)), ((0 : Nat), (14 : Nat), (21 : Nat), (13 : Nat)), ((0 : Nat), (14 : Nat), (25 : Nat), (15 : Nat))]) ∈ lw_all := lw_g (lw_at lw_m3 56 rfl) rfl
theorem q596 : (Jvm.Cond.methodLink "BurrowlineLaw" (27 : Nat) ({ cls := "Burrowline", name := "allow", desc := "(IIII)I" } : Jvm.MethodName)) ∈ lw_all := lw_g (lw_at lw_m3 57 rfl) rfl
theorem q609 : (Jvm.Cond.methodLink "BurrowlineLaw" (144 : Nat) ({ cls := "BurrowlineLaw", name := "forbid", desc := "(LBurrowline;III[J)I" } : Jvm.MethodName)) ∈ lw_all := lw_g (lw_at lw_m3 70 rfl) rfl
theorem q610 : (Jvm.Cond.static ({ cls := "BurrowlineLaw", name := "forbid", desc := "(LBurrowline;III[J)I" } : Jvm.MethodName)) ∈ lw_all := lw_g (lw_at lw_m3 71 rfl) rfl
theorem q611 : (Jvm.Cond.codeWith ({ cls := "BurrowlineLaw", name := "forbid", desc := "(LBurrowline;III[J)I" } : Jvm.MethodName) method_7_code (6 : Nat) (Option.some Jvm.ClassFile.FieldType.int) [((0 : Nat), (12 : Nat), (15 : Nat), (21 : Nat)), ((0 : Nat), (12 : Nat), (19 : Nat), (13 : Nat)), ((0 : Nat), (12 : Nat), (23 : Nat), (35 : Nat))]) ∈ lw_all := lw_g (lw_at lw_m3 72 rfl) rfl
theorem q612 : (Jvm.Cond.classLink "BurrowlineLaw" (35 : Nat) "java/util/NoSuchElementException") ∈ lw_all := lw_g (lw_at lw_m3 73 rfl) rfl
theorem q613 : (Jvm.Cond.methodLink "BurrowlineLaw" (31 : Nat) ({ cls := "Burrowline", name := "forbid", desc := "(III)I" } : Jvm.MethodName)) ∈ lw_all := lw_g (lw_at lw_m3 74 rfl) rfl
theorem q622 : (Jvm.Cond.methodLink "BurrowlineLaw" (148 : Nat) ({ cls := "BurrowlineLaw", name := "send", desc := "(LBurrowline;IIII[J)I" } : Jvm.MethodName)) ∈ lw_all := lw_g (lw_at lw_m3 83 rfl) rfl
theorem q623 : (Jvm.Cond.static ({ cls := "BurrowlineLaw", name := "send", desc := "(LBurrowline;IIII[J)I" } : Jvm.MethodName)) ∈ lw_all := lw_g (lw_at lw_m3 84 rfl) rfl
theorem q624 : (Jvm.Cond.codeWith ({ cls := "BurrowlineLaw", name := "send", desc := "(LBurrowline;IIII[J)I" } : Jvm.MethodName) method_8_code (7 : Nat) (Option.some Jvm.ClassFile.FieldType.int) [((0 : Nat), (14 : Nat), (17 : Nat), (21 : Nat)), ((0 : Nat), (14 : Nat), (21 : Nat), (13 : Nat))]) ∈ lw_all := lw_g (lw_at lw_m3 85 rfl) rfl
theorem q625 : (Jvm.Cond.methodLink "BurrowlineLaw" (37 : Nat) ({ cls := "Burrowline", name := "send", desc := "(IIII)I" } : Jvm.MethodName)) ∈ lw_all := lw_g (lw_at lw_m3 86 rfl) rfl
theorem q746 : (Jvm.Cond.methodLink "BurrowlineLaw" (151 : Nat) ({ cls := "BurrowlineLaw", name := "keep", desc := "(LBurrowline;II[J)I" } : Jvm.MethodName)) ∈ lw_all := lw_g (lw_at lw_m3 207 rfl) rfl
theorem q747 : (Jvm.Cond.static ({ cls := "BurrowlineLaw", name := "keep", desc := "(LBurrowline;II[J)I" } : Jvm.MethodName)) ∈ lw_all := lw_g (lw_at lw_m3 208 rfl) rfl
theorem q748 : (Jvm.Cond.codeWith ({ cls := "BurrowlineLaw", name := "keep", desc := "(LBurrowline;II[J)I" } : Jvm.MethodName) method_9_code (5 : Nat) (Option.some Jvm.ClassFile.FieldType.int) [((0 : Nat), (17 : Nat), (20 : Nat), (21 : Nat)), ((0 : Nat), (17 : Nat), (24 : Nat), (13 : Nat))]) ∈ lw_all := lw_g (lw_at lw_m3 209 rfl) rfl
theorem q749 : (Jvm.Cond.methodLink "BurrowlineLaw" (40 : Nat) ({ cls := "Burrowline", name := "keep", desc := "(II)Z" } : Jvm.MethodName)) ∈ lw_all := lw_g (lw_at lw_m3 210 rfl) rfl
theorem q757 : (Jvm.Cond.methodLink "BurrowlineLaw" (154 : Nat) ({ cls := "BurrowlineLaw", name := "greet", desc := "(LBurrowline;II[J)I" } : Jvm.MethodName)) ∈ lw_all := lw_g (lw_at lw_m3 218 rfl) rfl
theorem q758 : (Jvm.Cond.static ({ cls := "BurrowlineLaw", name := "greet", desc := "(LBurrowline;II[J)I" } : Jvm.MethodName)) ∈ lw_all := lw_g (lw_at lw_m3 219 rfl) rfl
theorem q759 : (Jvm.Cond.codeWith ({ cls := "BurrowlineLaw", name := "greet", desc := "(LBurrowline;II[J)I" } : Jvm.MethodName) method_10_code (5 : Nat) (Option.some Jvm.ClassFile.FieldType.int) [((0 : Nat), (10 : Nat), (13 : Nat), (21 : Nat)), ((0 : Nat), (10 : Nat), (17 : Nat), (13 : Nat)), ((0 : Nat), (10 : Nat), (21 : Nat), (15 : Nat))]) ∈ lw_all := lw_g (lw_at lw_m3 220 rfl) rfl
theorem q760 : (Jvm.Cond.methodLink "BurrowlineLaw" (44 : Nat) ({ cls := "Burrowline", name := "greet", desc := "(II)I" } : Jvm.MethodName)) ∈ lw_all := lw_g (lw_at lw_m3 221 rfl) rfl
theorem q765 : (Jvm.Cond.methodLink "BurrowlineLaw" (157 : Nat) ({ cls := "BurrowlineLaw", name := "deliver", desc := "(LBurrowline;I[J)I" } : Jvm.MethodName)) ∈ lw_all := lw_g (lw_at lw_m3 226 rfl) rfl
theorem q766 : (Jvm.Cond.static ({ cls := "BurrowlineLaw", name := "deliver", desc := "(LBurrowline;I[J)I" } : Jvm.MethodName)) ∈ lw_all := lw_g (lw_at lw_m3 227 rfl) rfl
theorem q767 : (Jvm.Cond.codeWith ({ cls := "BurrowlineLaw", name := "deliver", desc := "(LBurrowline;I[J)I" } : Jvm.MethodName) method_11_code (4 : Nat) (Option.some Jvm.ClassFile.FieldType.int) [((0 : Nat), (9 : Nat), (12 : Nat), (21 : Nat))]) ∈ lw_all := lw_g (lw_at lw_m3 228 rfl) rfl
theorem q768 : (Jvm.Cond.methodLink "BurrowlineLaw" (47 : Nat) ({ cls := "Burrowline", name := "deliver", desc := "(I)I" } : Jvm.MethodName)) ∈ lw_all := lw_g (lw_at lw_m3 229 rfl) rfl
theorem q876 : (Jvm.Cond.methodLink "BurrowlineLaw" (160 : Nat) ({ cls := "BurrowlineLaw", name := "lose", desc := "(LBurrowline;I[J)I" } : Jvm.MethodName)) ∈ lw_all := lw_g (lw_at lw_m4 97 rfl) rfl
theorem q877 : (Jvm.Cond.static ({ cls := "BurrowlineLaw", name := "lose", desc := "(LBurrowline;I[J)I" } : Jvm.MethodName)) ∈ lw_all := lw_g (lw_at lw_m4 98 rfl) rfl
theorem q878 : (Jvm.Cond.codeWith ({ cls := "BurrowlineLaw", name := "lose", desc := "(LBurrowline;I[J)I" } : Jvm.MethodName) method_12_code (4 : Nat) (Option.some Jvm.ClassFile.FieldType.int) [((0 : Nat), (9 : Nat), (12 : Nat), (21 : Nat))]) ∈ lw_all := lw_g (lw_at lw_m4 99 rfl) rfl
theorem q879 : (Jvm.Cond.methodLink "BurrowlineLaw" (50 : Nat) ({ cls := "Burrowline", name := "lose", desc := "(I)I" } : Jvm.MethodName)) ∈ lw_all := lw_g (lw_at lw_m4 100 rfl) rfl
theorem q883 : (Jvm.Cond.methodLink "BurrowlineLaw" (163 : Nat) ({ cls := "BurrowlineLaw", name := "twice", desc := "(LBurrowline;I[J)I" } : Jvm.MethodName)) ∈ lw_all := lw_g (lw_at lw_m4 104 rfl) rfl
theorem q884 : (Jvm.Cond.static ({ cls := "BurrowlineLaw", name := "twice", desc := "(LBurrowline;I[J)I" } : Jvm.MethodName)) ∈ lw_all := lw_g (lw_at lw_m4 105 rfl) rfl
theorem q885 : (Jvm.Cond.codeWith ({ cls := "BurrowlineLaw", name := "twice", desc := "(LBurrowline;I[J)I" } : Jvm.MethodName) method_13_code (4 : Nat) (Option.some Jvm.ClassFile.FieldType.int) [((0 : Nat), (9 : Nat), (12 : Nat), (21 : Nat)), ((0 : Nat), (9 : Nat), (15 : Nat), (15 : Nat))]) ∈ lw_all := lw_g (lw_at lw_m4 106 rfl) rfl
theorem q886 : (Jvm.Cond.methodLink "BurrowlineLaw" (53 : Nat) ({ cls := "Burrowline", name := "twice", desc := "(I)I" } : Jvm.MethodName)) ∈ lw_all := lw_g (lw_at lw_m4 107 rfl) rfl
theorem q894 : (Jvm.Cond.methodLink "BurrowlineLaw" (166 : Nat) ({ cls := "BurrowlineLaw", name := "turn", desc := "(LBurrowline;III[J)I" } : Jvm.MethodName)) ∈ lw_all := lw_g (lw_at lw_m4 115 rfl) rfl
theorem q895 : (Jvm.Cond.static ({ cls := "BurrowlineLaw", name := "turn", desc := "(LBurrowline;III[J)I" } : Jvm.MethodName)) ∈ lw_all := lw_g (lw_at lw_m4 116 rfl) rfl
theorem q896 : (Jvm.Cond.codeWith ({ cls := "BurrowlineLaw", name := "turn", desc := "(LBurrowline;III[J)I" } : Jvm.MethodName) method_14_code (6 : Nat) (Option.some Jvm.ClassFile.FieldType.int) [((0 : Nat), (12 : Nat), (15 : Nat), (21 : Nat)), ((0 : Nat), (12 : Nat), (19 : Nat), (13 : Nat)), ((0 : Nat), (12 : Nat), (23 : Nat), (15 : Nat))]) ∈ lw_all := lw_g (lw_at lw_m4 117 rfl) rfl
theorem q897 : (Jvm.Cond.methodLink "BurrowlineLaw" (56 : Nat) ({ cls := "Burrowline", name := "turn", desc := "(III)I" } : Jvm.MethodName)) ∈ lw_all := lw_g (lw_at lw_m4 118 rfl) rfl
theorem q910 : (Jvm.Cond.methodLink "BurrowlineLaw" (169 : Nat) ({ cls := "BurrowlineLaw", name := "reroute", desc := "(LBurrowline;II[J)I" } : Jvm.MethodName)) ∈ lw_all := lw_g (lw_at lw_m4 131 rfl) rfl
theorem q911 : (Jvm.Cond.static ({ cls := "BurrowlineLaw", name := "reroute", desc := "(LBurrowline;II[J)I" } : Jvm.MethodName)) ∈ lw_all := lw_g (lw_at lw_m4 132 rfl) rfl
theorem q912 : (Jvm.Cond.codeWith ({ cls := "BurrowlineLaw", name := "reroute", desc := "(LBurrowline;II[J)I" } : Jvm.MethodName) method_15_code (5 : Nat) (Option.some Jvm.ClassFile.FieldType.int) [((0 : Nat), (10 : Nat), (13 : Nat), (21 : Nat)), ((0 : Nat), (10 : Nat), (17 : Nat), (13 : Nat))]) ∈ lw_all := lw_g (lw_at lw_m4 133 rfl) rfl
theorem q913 : (Jvm.Cond.methodLink "BurrowlineLaw" (59 : Nat) ({ cls := "Burrowline", name := "reroute", desc := "(II)I" } : Jvm.MethodName)) ∈ lw_all := lw_g (lw_at lw_m4 134 rfl) rfl
theorem q917 : (Jvm.Cond.methodLink "BurrowlineLaw" (172 : Nat) ({ cls := "BurrowlineLaw", name := "later", desc := "(LBurrowline;I[J)I" } : Jvm.MethodName)) ∈ lw_all := lw_g (lw_at lw_m4 138 rfl) rfl
theorem q918 : (Jvm.Cond.static ({ cls := "BurrowlineLaw", name := "later", desc := "(LBurrowline;I[J)I" } : Jvm.MethodName)) ∈ lw_all := lw_g (lw_at lw_m4 139 rfl) rfl
theorem q919 : (Jvm.Cond.codeWith ({ cls := "BurrowlineLaw", name := "later", desc := "(LBurrowline;I[J)I" } : Jvm.MethodName) method_16_code (4 : Nat) (Option.some Jvm.ClassFile.FieldType.int) [((0 : Nat), (9 : Nat), (12 : Nat), (21 : Nat))]) ∈ lw_all := lw_g (lw_at lw_m4 140 rfl) rfl
theorem q920 : (Jvm.Cond.methodLink "BurrowlineLaw" (62 : Nat) ({ cls := "Burrowline", name := "later", desc := "(I)I" } : Jvm.MethodName)) ∈ lw_all := lw_g (lw_at lw_m4 141 rfl) rfl
theorem q924 : (Jvm.Cond.methodLink "BurrowlineLaw" (183 : Nat) ({ cls := "BurrowlineLaw", name := "letter", desc := "(LBurrowline;II[J)I" } : Jvm.MethodName)) ∈ lw_all := lw_g (lw_at lw_m4 145 rfl) rfl
theorem q925 : (Jvm.Cond.static ({ cls := "BurrowlineLaw", name := "letter", desc := "(LBurrowline;II[J)I" } : Jvm.MethodName)) ∈ lw_all := lw_g (lw_at lw_m4 146 rfl) rfl
theorem q926 : (Jvm.Cond.codeWith ({ cls := "BurrowlineLaw", name := "letter", desc := "(LBurrowline;II[J)I" } : Jvm.MethodName) method_17_code (5 : Nat) (Option.some Jvm.ClassFile.FieldType.int) [((0 : Nat), (10 : Nat), (13 : Nat), (21 : Nat)), ((0 : Nat), (10 : Nat), (17 : Nat), (13 : Nat))]) ∈ lw_all := lw_g (lw_at lw_m4 147 rfl) rfl
theorem q927 : (Jvm.Cond.methodLink "BurrowlineLaw" (65 : Nat) ({ cls := "Burrowline", name := "letter", desc := "(II)I" } : Jvm.MethodName)) ∈ lw_all := lw_g (lw_at lw_m4 148 rfl) rfl
theorem q932 : (Jvm.Cond.methodLink "BurrowlineLaw" (186 : Nat) ({ cls := "BurrowlineLaw", name := "isTurned", desc := "(LBurrowline;I[J)I" } : Jvm.MethodName)) ∈ lw_all := lw_g (lw_at lw_m4 153 rfl) rfl
theorem q933 : (Jvm.Cond.static ({ cls := "BurrowlineLaw", name := "isTurned", desc := "(LBurrowline;I[J)I" } : Jvm.MethodName)) ∈ lw_all := lw_g (lw_at lw_m4 154 rfl) rfl
theorem q934 : (Jvm.Cond.codeWith ({ cls := "BurrowlineLaw", name := "isTurned", desc := "(LBurrowline;I[J)I" } : Jvm.MethodName) method_18_code (4 : Nat) (Option.some Jvm.ClassFile.FieldType.int) [((0 : Nat), (16 : Nat), (19 : Nat), (21 : Nat))]) ∈ lw_all := lw_g (lw_at lw_m4 155 rfl) rfl
theorem q935 : (Jvm.Cond.methodLink "BurrowlineLaw" (68 : Nat) ({ cls := "Burrowline", name := "isTurned", desc := "(I)Z" } : Jvm.MethodName)) ∈ lw_all := lw_g (lw_at lw_m4 156 rfl) rfl
theorem q939 : (Jvm.Cond.methodLink "BurrowlineLaw" (189 : Nat) ({ cls := "BurrowlineLaw", name := "address", desc := "(LBurrowline;I[J)I" } : Jvm.MethodName)) ∈ lw_all := lw_g (lw_at lw_m4 160 rfl) rfl
theorem q940 : (Jvm.Cond.static ({ cls := "BurrowlineLaw", name := "address", desc := "(LBurrowline;I[J)I" } : Jvm.MethodName)) ∈ lw_all := lw_g (lw_at lw_m4 161 rfl) rfl
theorem q941 : (Jvm.Cond.codeWith ({ cls := "BurrowlineLaw", name := "address", desc := "(LBurrowline;I[J)I" } : Jvm.MethodName) method_19_code (4 : Nat) (Option.some Jvm.ClassFile.FieldType.int) [((0 : Nat), (9 : Nat), (12 : Nat), (21 : Nat))]) ∈ lw_all := lw_g (lw_at lw_m4 162 rfl) rfl
theorem q942 : (Jvm.Cond.methodLink "BurrowlineLaw" (72 : Nat) ({ cls := "Burrowline", name := "address", desc := "(I)I" } : Jvm.MethodName)) ∈ lw_all := lw_g (lw_at lw_m4 163 rfl) rfl
theorem q946 : (Jvm.Cond.methodLink "BurrowlineLaw" (192 : Nat) ({ cls := "BurrowlineLaw", name := "known", desc := "(LBurrowline;II[J)I" } : Jvm.MethodName)) ∈ lw_all := lw_g (lw_at lw_m4 167 rfl) rfl
theorem q947 : (Jvm.Cond.static ({ cls := "BurrowlineLaw", name := "known", desc := "(LBurrowline;II[J)I" } : Jvm.MethodName)) ∈ lw_all := lw_g (lw_at lw_m4 168 rfl) rfl
theorem q948 : (Jvm.Cond.codeWith ({ cls := "BurrowlineLaw", name := "known", desc := "(LBurrowline;II[J)I" } : Jvm.MethodName) method_20_code (5 : Nat) (Option.some Jvm.ClassFile.FieldType.int) [((0 : Nat), (10 : Nat), (13 : Nat), (21 : Nat)), ((0 : Nat), (10 : Nat), (17 : Nat), (13 : Nat))]) ∈ lw_all := lw_g (lw_at lw_m4 169 rfl) rfl
theorem q949 : (Jvm.Cond.methodLink "BurrowlineLaw" (75 : Nat) ({ cls := "Burrowline", name := "known", desc := "(II)I" } : Jvm.MethodName)) ∈ lw_all := lw_g (lw_at lw_m4 170 rfl) rfl
theorem q953 : (Jvm.Cond.methodLink "BurrowlineLaw" (195 : Nat) ({ cls := "BurrowlineLaw", name := "route", desc := "(LBurrowline;II[J)I" } : Jvm.MethodName)) ∈ lw_all := lw_g (lw_at lw_m4 174 rfl) rfl
theorem q954 : (Jvm.Cond.static ({ cls := "BurrowlineLaw", name := "route", desc := "(LBurrowline;II[J)I" } : Jvm.MethodName)) ∈ lw_all := lw_g (lw_at lw_m4 175 rfl) rfl
theorem q955 : (Jvm.Cond.codeWith ({ cls := "BurrowlineLaw", name := "route", desc := "(LBurrowline;II[J)I" } : Jvm.MethodName) method_21_code (5 : Nat) (Option.some Jvm.ClassFile.FieldType.int) [((0 : Nat), (10 : Nat), (13 : Nat), (21 : Nat)), ((0 : Nat), (10 : Nat), (17 : Nat), (13 : Nat))]) ∈ lw_all := lw_g (lw_at lw_m4 176 rfl) rfl
theorem q956 : (Jvm.Cond.methodLink "BurrowlineLaw" (78 : Nat) ({ cls := "Burrowline", name := "route", desc := "(II)I" } : Jvm.MethodName)) ∈ lw_all := lw_g (lw_at lw_m4 177 rfl) rfl
theorem q961 : (Jvm.Cond.methodLink "BurrowlineLaw" (198 : Nat) ({ cls := "BurrowlineLaw", name := "session", desc := "(LBurrowline;IIII[J)I" } : Jvm.MethodName)) ∈ lw_all := lw_g (lw_at lw_m4 182 rfl) rfl
theorem q962 : (Jvm.Cond.static ({ cls := "BurrowlineLaw", name := "session", desc := "(LBurrowline;IIII[J)I" } : Jvm.MethodName)) ∈ lw_all := lw_g (lw_at lw_m4 183 rfl) rfl
theorem q963 : (Jvm.Cond.codeWith ({ cls := "BurrowlineLaw", name := "session", desc := "(LBurrowline;IIII[J)I" } : Jvm.MethodName) method_22_code (7 : Nat) (Option.some Jvm.ClassFile.FieldType.int) [((0 : Nat), (14 : Nat), (17 : Nat), (21 : Nat)), ((0 : Nat), (14 : Nat), (21 : Nat), (13 : Nat)), ((0 : Nat), (14 : Nat), (25 : Nat), (35 : Nat))]) ∈ lw_all := lw_g (lw_at lw_m4 184 rfl) rfl
theorem q964 : (Jvm.Cond.methodLink "BurrowlineLaw" (81 : Nat) ({ cls := "Burrowline", name := "session", desc := "(IIII)I" } : Jvm.MethodName)) ∈ lw_all := lw_g (lw_at lw_m4 185 rfl) rfl
theorem q969 : (Jvm.Cond.methodLink "BurrowlineLaw" (201 : Nat) ({ cls := "BurrowlineLaw", name := "isUsable", desc := "(LBurrowline;II[J)I" } : Jvm.MethodName)) ∈ lw_all := lw_g (lw_at lw_m4 190 rfl) rfl
theorem q970 : (Jvm.Cond.static ({ cls := "BurrowlineLaw", name := "isUsable", desc := "(LBurrowline;II[J)I" } : Jvm.MethodName)) ∈ lw_all := lw_g (lw_at lw_m4 191 rfl) rfl
theorem q971 : (Jvm.Cond.codeWith ({ cls := "BurrowlineLaw", name := "isUsable", desc := "(LBurrowline;II[J)I" } : Jvm.MethodName) method_23_code (5 : Nat) (Option.some Jvm.ClassFile.FieldType.int) [((0 : Nat), (17 : Nat), (20 : Nat), (21 : Nat)), ((0 : Nat), (17 : Nat), (24 : Nat), (13 : Nat))]) ∈ lw_all := lw_g (lw_at lw_m4 192 rfl) rfl
theorem q972 : (Jvm.Cond.methodLink "BurrowlineLaw" (84 : Nat) ({ cls := "Burrowline", name := "isUsable", desc := "(II)Z" } : Jvm.MethodName)) ∈ lw_all := lw_g (lw_at lw_m4 193 rfl) rfl
theorem q976 : (Jvm.Cond.methodLink "BurrowlineLaw" (204 : Nat) ({ cls := "BurrowlineLaw", name := "flight", desc := "(LBurrowline;II[J)I" } : Jvm.MethodName)) ∈ lw_all := lw_g (lw_at lw_m4 197 rfl) rfl
theorem q977 : (Jvm.Cond.static ({ cls := "BurrowlineLaw", name := "flight", desc := "(LBurrowline;II[J)I" } : Jvm.MethodName)) ∈ lw_all := lw_g (lw_at lw_m4 198 rfl) rfl
theorem q978 : (Jvm.Cond.codeWith ({ cls := "BurrowlineLaw", name := "flight", desc := "(LBurrowline;II[J)I" } : Jvm.MethodName) method_24_code (5 : Nat) (Option.some Jvm.ClassFile.FieldType.int) [((0 : Nat), (10 : Nat), (13 : Nat), (21 : Nat)), ((0 : Nat), (10 : Nat), (17 : Nat), (13 : Nat))]) ∈ lw_all := lw_g (lw_at lw_m4 199 rfl) rfl
theorem q979 : (Jvm.Cond.methodLink "BurrowlineLaw" (87 : Nat) ({ cls := "Burrowline", name := "flight", desc := "(II)I" } : Jvm.MethodName)) ∈ lw_all := lw_g (lw_at lw_m4 200 rfl) rfl
theorem q983 : (Jvm.Cond.methodLink "BurrowlineLaw" (207 : Nat) ({ cls := "BurrowlineLaw", name := "waiting", desc := "(LBurrowline;II[J)I" } : Jvm.MethodName)) ∈ lw_all := lw_g (lw_at lw_m4 204 rfl) rfl
theorem q984 : (Jvm.Cond.static ({ cls := "BurrowlineLaw", name := "waiting", desc := "(LBurrowline;II[J)I" } : Jvm.MethodName)) ∈ lw_all := lw_g (lw_at lw_m4 205 rfl) rfl
theorem q985 : (Jvm.Cond.codeWith ({ cls := "BurrowlineLaw", name := "waiting", desc := "(LBurrowline;II[J)I" } : Jvm.MethodName) method_25_code (5 : Nat) (Option.some Jvm.ClassFile.FieldType.int) [((0 : Nat), (10 : Nat), (13 : Nat), (21 : Nat)), ((0 : Nat), (10 : Nat), (17 : Nat), (13 : Nat))]) ∈ lw_all := lw_g (lw_at lw_m4 206 rfl) rfl
theorem q986 : (Jvm.Cond.methodLink "BurrowlineLaw" (90 : Nat) ({ cls := "Burrowline", name := "waiting", desc := "(II)I" } : Jvm.MethodName)) ∈ lw_all := lw_g (lw_at lw_m4 207 rfl) rfl
theorem q990 : (Jvm.Cond.methodLink "BurrowlineLaw" (210 : Nat) ({ cls := "BurrowlineLaw", name := "cookie", desc := "(LBurrowline;II[J)I" } : Jvm.MethodName)) ∈ lw_all := lw_g (lw_at lw_m4 211 rfl) rfl
theorem q991 : (Jvm.Cond.static ({ cls := "BurrowlineLaw", name := "cookie", desc := "(LBurrowline;II[J)I" } : Jvm.MethodName)) ∈ lw_all := lw_g (lw_at lw_m4 212 rfl) rfl
theorem q992 : (Jvm.Cond.codeWith ({ cls := "BurrowlineLaw", name := "cookie", desc := "(LBurrowline;II[J)I" } : Jvm.MethodName) method_26_code (5 : Nat) (Option.some Jvm.ClassFile.FieldType.int) [((0 : Nat), (10 : Nat), (13 : Nat), (21 : Nat)), ((0 : Nat), (10 : Nat), (17 : Nat), (13 : Nat))]) ∈ lw_all := lw_g (lw_at lw_m4 213 rfl) rfl
theorem q993 : (Jvm.Cond.methodLink "BurrowlineLaw" (93 : Nat) ({ cls := "Burrowline", name := "cookie", desc := "(II)I" } : Jvm.MethodName)) ∈ lw_all := lw_g (lw_at lw_m4 214 rfl) rfl
theorem q997 : (Jvm.Cond.methodLink "BurrowlineLaw" (213 : Nat) ({ cls := "BurrowlineLaw", name := "stamp", desc := "(LBurrowline;IIZ[J)I" } : Jvm.MethodName)) ∈ lw_all := lw_g (lw_at lw_m4 218 rfl) rfl
theorem q998 : (Jvm.Cond.static ({ cls := "BurrowlineLaw", name := "stamp", desc := "(LBurrowline;IIZ[J)I" } : Jvm.MethodName)) ∈ lw_all := lw_g (lw_at lw_m4 219 rfl) rfl
theorem q999 : (Jvm.Cond.codeWith ({ cls := "BurrowlineLaw", name := "stamp", desc := "(LBurrowline;IIZ[J)I" } : Jvm.MethodName) method_27_code (6 : Nat) (Option.some Jvm.ClassFile.FieldType.int) [((0 : Nat), (12 : Nat), (15 : Nat), (21 : Nat)), ((0 : Nat), (12 : Nat), (19 : Nat), (13 : Nat))]) ∈ lw_all := lw_g (lw_at lw_m4 220 rfl) rfl
theorem q1000 : (Jvm.Cond.methodLink "BurrowlineLaw" (96 : Nat) ({ cls := "Burrowline", name := "stamp", desc := "(IIZ)I" } : Jvm.MethodName)) ∈ lw_all := lw_g (lw_at lw_m4 221 rfl) rfl
theorem q1004 : (Jvm.Cond.methodLink "BurrowlineLaw" (217 : Nat) ({ cls := "BurrowlineLaw", name := "outs", desc := "(LBurrowline;I[J)I" } : Jvm.MethodName)) ∈ lw_all := lw_g (lw_at lw_m4 225 rfl) rfl
theorem q1005 : (Jvm.Cond.static ({ cls := "BurrowlineLaw", name := "outs", desc := "(LBurrowline;I[J)I" } : Jvm.MethodName)) ∈ lw_all := lw_g (lw_at lw_m4 226 rfl) rfl
theorem q1006 : (Jvm.Cond.codeWith ({ cls := "BurrowlineLaw", name := "outs", desc := "(LBurrowline;I[J)I" } : Jvm.MethodName) method_28_code (4 : Nat) (Option.some Jvm.ClassFile.FieldType.int) [((0 : Nat), (9 : Nat), (12 : Nat), (21 : Nat))]) ∈ lw_all := lw_g (lw_at lw_m4 227 rfl) rfl
theorem q1007 : (Jvm.Cond.methodLink "BurrowlineLaw" (100 : Nat) ({ cls := "Burrowline", name := "outs", desc := "(I)I" } : Jvm.MethodName)) ∈ lw_all := lw_g (lw_at lw_m4 228 rfl) rfl
theorem q1011 : (Jvm.Cond.methodLink "BurrowlineLaw" (220 : Nat) ({ cls := "BurrowlineLaw", name := "out", desc := "(LBurrowline;III[J)I" } : Jvm.MethodName)) ∈ lw_all := lw_g (lw_at lw_m4 232 rfl) rfl
theorem q1012 : (Jvm.Cond.static ({ cls := "BurrowlineLaw", name := "out", desc := "(LBurrowline;III[J)I" } : Jvm.MethodName)) ∈ lw_all := lw_g (lw_at lw_m4 233 rfl) rfl
theorem q1013 : (Jvm.Cond.codeWith ({ cls := "BurrowlineLaw", name := "out", desc := "(LBurrowline;III[J)I" } : Jvm.MethodName) method_29_code (6 : Nat) (Option.some Jvm.ClassFile.FieldType.int) [((0 : Nat), (12 : Nat), (15 : Nat), (21 : Nat)), ((0 : Nat), (12 : Nat), (19 : Nat), (13 : Nat))]) ∈ lw_all := lw_g (lw_at lw_m4 234 rfl) rfl
theorem q1014 : (Jvm.Cond.methodLink "BurrowlineLaw" (103 : Nat) ({ cls := "Burrowline", name := "out", desc := "(III)I" } : Jvm.MethodName)) ∈ lw_all := lw_g (lw_at lw_m4 235 rfl) rfl
theorem q1019 : (Jvm.Cond.methodLink "BurrowlineLaw" (223 : Nat) ({ cls := "BurrowlineLaw", name := "drops", desc := "(LBurrowline;I[J)I" } : Jvm.MethodName)) ∈ lw_all := lw_g (lw_at lw_m5 0 rfl) rfl
theorem q1020 : (Jvm.Cond.static ({ cls := "BurrowlineLaw", name := "drops", desc := "(LBurrowline;I[J)I" } : Jvm.MethodName)) ∈ lw_all := lw_g (lw_at lw_m5 1 rfl) rfl
theorem q1021 : (Jvm.Cond.codeWith ({ cls := "BurrowlineLaw", name := "drops", desc := "(LBurrowline;I[J)I" } : Jvm.MethodName) method_30_code (4 : Nat) (Option.some Jvm.ClassFile.FieldType.int) [((0 : Nat), (9 : Nat), (12 : Nat), (13 : Nat))]) ∈ lw_all := lw_g (lw_at lw_m5 2 rfl) rfl
theorem q1022 : (Jvm.Cond.methodLink "BurrowlineLaw" (106 : Nat) ({ cls := "Burrowline", name := "drops", desc := "(I)I" } : Jvm.MethodName)) ∈ lw_all := lw_g (lw_at lw_m5 3 rfl) rfl
theorem q1027 : (Jvm.Cond.methodLink "BurrowlineLaw" (226 : Nat) ({ cls := "BurrowlineLaw", name := "publicOf", desc := "(LBurrowline;I[J)I" } : Jvm.MethodName)) ∈ lw_all := lw_g (lw_at lw_m5 8 rfl) rfl
theorem q1028 : (Jvm.Cond.static ({ cls := "BurrowlineLaw", name := "publicOf", desc := "(LBurrowline;I[J)I" } : Jvm.MethodName)) ∈ lw_all := lw_g (lw_at lw_m5 9 rfl) rfl
theorem q1029 : (Jvm.Cond.codeWith ({ cls := "BurrowlineLaw", name := "publicOf", desc := "(LBurrowline;I[J)I" } : Jvm.MethodName) method_31_code (4 : Nat) (Option.some Jvm.ClassFile.FieldType.int) [((0 : Nat), (9 : Nat), (12 : Nat), (13 : Nat))]) ∈ lw_all := lw_g (lw_at lw_m5 10 rfl) rfl
theorem q1030 : (Jvm.Cond.methodLink "BurrowlineLaw" (109 : Nat) ({ cls := "Burrowline", name := "publicOf", desc := "(I)I" } : Jvm.MethodName)) ∈ lw_all := lw_g (lw_at lw_m5 11 rfl) rfl
theorem q1036 : (Jvm.Cond.methodLink "BurrowlineLaw" (229 : Nat) ({ cls := "BurrowlineLaw", name := "shared", desc := "(LBurrowline;II[J)I" } : Jvm.MethodName)) ∈ lw_all := lw_g (lw_at lw_m5 17 rfl) rfl
theorem q1037 : (Jvm.Cond.static ({ cls := "BurrowlineLaw", name := "shared", desc := "(LBurrowline;II[J)I" } : Jvm.MethodName)) ∈ lw_all := lw_g (lw_at lw_m5 18 rfl) rfl
theorem q1038 : (Jvm.Cond.codeWith ({ cls := "BurrowlineLaw", name := "shared", desc := "(LBurrowline;II[J)I" } : Jvm.MethodName) method_32_code (5 : Nat) (Option.some Jvm.ClassFile.FieldType.int) [((0 : Nat), (10 : Nat), (13 : Nat), (13 : Nat))]) ∈ lw_all := lw_g (lw_at lw_m5 19 rfl) rfl
theorem q1039 : (Jvm.Cond.methodLink "BurrowlineLaw" (112 : Nat) ({ cls := "Burrowline", name := "shared", desc := "(II)I" } : Jvm.MethodName)) ∈ lw_all := lw_g (lw_at lw_m5 20 rfl) rfl
theorem q1044 : (Jvm.Cond.methodLink "BurrowlineLaw" (232 : Nat) ({ cls := "BurrowlineLaw", name := "seal", desc := "(LBurrowline;IIII[J)I" } : Jvm.MethodName)) ∈ lw_all := lw_g (lw_at lw_m5 25 rfl) rfl
theorem q1045 : (Jvm.Cond.static ({ cls := "BurrowlineLaw", name := "seal", desc := "(LBurrowline;IIII[J)I" } : Jvm.MethodName)) ∈ lw_all := lw_g (lw_at lw_m5 26 rfl) rfl
theorem q1046 : (Jvm.Cond.codeWith ({ cls := "BurrowlineLaw", name := "seal", desc := "(LBurrowline;IIII[J)I" } : Jvm.MethodName) method_33_code (7 : Nat) (Option.some Jvm.ClassFile.FieldType.int) [((0 : Nat), (14 : Nat), (17 : Nat), (13 : Nat))]) ∈ lw_all := lw_g (lw_at lw_m5 27 rfl) rfl
theorem q1047 : (Jvm.Cond.methodLink "BurrowlineLaw" (115 : Nat) ({ cls := "Burrowline", name := "seal", desc := "(IIII)I" } : Jvm.MethodName)) ∈ lw_all := lw_g (lw_at lw_m5 28 rfl) rfl
theorem q1056 : (Jvm.Cond.classLink "BurrowlineLaw" (119 : Nat) "BurrowlineModel") ∈ lw_all := lw_g (lw_at lw_m5 37 rfl) rfl
theorem q1058 : (Jvm.Cond.methodLink "BurrowlineLaw" (121 : Nat) ({ cls := "BurrowlineModel", name := "<init>", desc := "()V" } : Jvm.MethodName)) ∈ lw_all := lw_g (lw_at lw_m5 39 rfl) rfl
theorem q1153 : (Jvm.Cond.methodLink "BurrowlineLaw" (128 : Nat) ({ cls := "BurrowlineModel", name := "thrown", desc := "()I" } : Jvm.MethodName)) ∈ lw_all := lw_g (lw_at lw_m5 134 rfl) rfl
theorem q1157 : (Jvm.Cond.methodLink "BurrowlineLaw" (127 : Nat) ({ cls := "BurrowlineModel", name := "pass", desc := "(I)I" } : Jvm.MethodName)) ∈ lw_all := lw_g (lw_at lw_m5 138 rfl) rfl
theorem q1170 : (Jvm.Cond.methodLink "BurrowlineLaw" (135 : Nat) ({ cls := "BurrowlineModel", name := "move", desc := "(II)I" } : Jvm.MethodName)) ∈ lw_all := lw_g (lw_at lw_m5 151 rfl) rfl
theorem q1179 : (Jvm.Cond.methodLink "BurrowlineLaw" (139 : Nat) ({ cls := "BurrowlineModel", name := "load", desc := "(IZ)Z" } : Jvm.MethodName)) ∈ lw_all := lw_g (lw_at lw_m5 160 rfl) rfl
theorem q1183 : (Jvm.Cond.methodLink "BurrowlineLaw" (143 : Nat) ({ cls := "BurrowlineModel", name := "allow", desc := "(IIII)I" } : Jvm.MethodName)) ∈ lw_all := lw_g (lw_at lw_m5 164 rfl) rfl
theorem q1199 : (Jvm.Cond.methodLink "BurrowlineLaw" (147 : Nat) ({ cls := "BurrowlineModel", name := "forbid", desc := "(III)I" } : Jvm.MethodName)) ∈ lw_all := lw_g (lw_at lw_m5 180 rfl) rfl
theorem q1203 : (Jvm.Cond.methodLink "BurrowlineLaw" (150 : Nat) ({ cls := "BurrowlineModel", name := "send", desc := "(IIII)I" } : Jvm.MethodName)) ∈ lw_all := lw_g (lw_at lw_m5 184 rfl) rfl
theorem q1282 : (Jvm.Cond.methodLink "BurrowlineLaw" (153 : Nat) ({ cls := "BurrowlineModel", name := "keep", desc := "(II)Z" } : Jvm.MethodName)) ∈ lw_all := lw_g (lw_at lw_m6 23 rfl) rfl
theorem q1286 : (Jvm.Cond.methodLink "BurrowlineLaw" (156 : Nat) ({ cls := "BurrowlineModel", name := "greet", desc := "(II)I" } : Jvm.MethodName)) ∈ lw_all := lw_g (lw_at lw_m6 27 rfl) rfl
theorem q1290 : (Jvm.Cond.methodLink "BurrowlineLaw" (159 : Nat) ({ cls := "BurrowlineModel", name := "deliver", desc := "(I)I" } : Jvm.MethodName)) ∈ lw_all := lw_g (lw_at lw_m6 31 rfl) rfl
theorem q1340 : (Jvm.Cond.methodLink "BurrowlineLaw" (162 : Nat) ({ cls := "BurrowlineModel", name := "lose", desc := "(I)I" } : Jvm.MethodName)) ∈ lw_all := lw_g (lw_at lw_m6 81 rfl) rfl
theorem q1344 : (Jvm.Cond.methodLink "BurrowlineLaw" (165 : Nat) ({ cls := "BurrowlineModel", name := "twice", desc := "(I)I" } : Jvm.MethodName)) ∈ lw_all := lw_g (lw_at lw_m6 85 rfl) rfl
theorem q1354 : (Jvm.Cond.methodLink "BurrowlineLaw" (168 : Nat) ({ cls := "BurrowlineModel", name := "turn", desc := "(III)I" } : Jvm.MethodName)) ∈ lw_all := lw_g (lw_at lw_m6 95 rfl) rfl
theorem q1366 : (Jvm.Cond.methodLink "BurrowlineLaw" (171 : Nat) ({ cls := "BurrowlineModel", name := "reroute", desc := "(II)I" } : Jvm.MethodName)) ∈ lw_all := lw_g (lw_at lw_m6 107 rfl) rfl
theorem q1370 : (Jvm.Cond.methodLink "BurrowlineLaw" (174 : Nat) ({ cls := "BurrowlineModel", name := "later", desc := "(I)I" } : Jvm.MethodName)) ∈ lw_all := lw_g (lw_at lw_m6 111 rfl) rfl
theorem q1374 : (Jvm.Cond.methodLink "BurrowlineLaw" (178 : Nat) ({ cls := "BurrowlineModel", name := "now", desc := "()I" } : Jvm.MethodName)) ∈ lw_all := lw_g (lw_at lw_m6 115 rfl) rfl
theorem q1378 : (Jvm.Cond.methodLink "BurrowlineLaw" (182 : Nat) ({ cls := "BurrowlineModel", name := "letters", desc := "()I" } : Jvm.MethodName)) ∈ lw_all := lw_g (lw_at lw_m6 119 rfl) rfl
theorem q1382 : (Jvm.Cond.methodLink "BurrowlineLaw" (185 : Nat) ({ cls := "BurrowlineModel", name := "letter", desc := "(II)I" } : Jvm.MethodName)) ∈ lw_all := lw_g (lw_at lw_m6 123 rfl) rfl
theorem q1386 : (Jvm.Cond.methodLink "BurrowlineLaw" (188 : Nat) ({ cls := "BurrowlineModel", name := "isTurned", desc := "(I)Z" } : Jvm.MethodName)) ∈ lw_all := lw_g (lw_at lw_m6 127 rfl) rfl
theorem q1394 : (Jvm.Cond.methodLink "BurrowlineLaw" (191 : Nat) ({ cls := "BurrowlineModel", name := "address", desc := "(I)I" } : Jvm.MethodName)) ∈ lw_all := lw_g (lw_at lw_m6 135 rfl) rfl
theorem q1398 : (Jvm.Cond.methodLink "BurrowlineLaw" (194 : Nat) ({ cls := "BurrowlineModel", name := "known", desc := "(II)I" } : Jvm.MethodName)) ∈ lw_all := lw_g (lw_at lw_m6 139 rfl) rfl
theorem q1402 : (Jvm.Cond.methodLink "BurrowlineLaw" (197 : Nat) ({ cls := "BurrowlineModel", name := "route", desc := "(II)I" } : Jvm.MethodName)) ∈ lw_all := lw_g (lw_at lw_m6 143 rfl) rfl
theorem q1406 : (Jvm.Cond.methodLink "BurrowlineLaw" (200 : Nat) ({ cls := "BurrowlineModel", name := "session", desc := "(IIII)I" } : Jvm.MethodName)) ∈ lw_all := lw_g (lw_at lw_m6 147 rfl) rfl
theorem q1410 : (Jvm.Cond.methodLink "BurrowlineLaw" (203 : Nat) ({ cls := "BurrowlineModel", name := "isUsable", desc := "(II)Z" } : Jvm.MethodName)) ∈ lw_all := lw_g (lw_at lw_m6 151 rfl) rfl
theorem q1414 : (Jvm.Cond.methodLink "BurrowlineLaw" (206 : Nat) ({ cls := "BurrowlineModel", name := "flight", desc := "(II)I" } : Jvm.MethodName)) ∈ lw_all := lw_g (lw_at lw_m6 155 rfl) rfl
theorem q1418 : (Jvm.Cond.methodLink "BurrowlineLaw" (209 : Nat) ({ cls := "BurrowlineModel", name := "waiting", desc := "(II)I" } : Jvm.MethodName)) ∈ lw_all := lw_g (lw_at lw_m6 159 rfl) rfl
theorem q1422 : (Jvm.Cond.methodLink "BurrowlineLaw" (212 : Nat) ({ cls := "BurrowlineModel", name := "cookie", desc := "(II)I" } : Jvm.MethodName)) ∈ lw_all := lw_g (lw_at lw_m6 163 rfl) rfl
theorem q1426 : (Jvm.Cond.methodLink "BurrowlineLaw" (216 : Nat) ({ cls := "BurrowlineModel", name := "stamp", desc := "(IIZ)I" } : Jvm.MethodName)) ∈ lw_all := lw_g (lw_at lw_m6 167 rfl) rfl
theorem q1430 : (Jvm.Cond.methodLink "BurrowlineLaw" (219 : Nat) ({ cls := "BurrowlineModel", name := "outs", desc := "(I)I" } : Jvm.MethodName)) ∈ lw_all := lw_g (lw_at lw_m6 171 rfl) rfl
theorem q1434 : (Jvm.Cond.methodLink "BurrowlineLaw" (222 : Nat) ({ cls := "BurrowlineModel", name := "out", desc := "(III)I" } : Jvm.MethodName)) ∈ lw_all := lw_g (lw_at lw_m6 175 rfl) rfl
theorem q1439 : (Jvm.Cond.methodLink "BurrowlineLaw" (225 : Nat) ({ cls := "BurrowlineModel", name := "drops", desc := "(I)I" } : Jvm.MethodName)) ∈ lw_all := lw_g (lw_at lw_m6 180 rfl) rfl
theorem q1444 : (Jvm.Cond.methodLink "BurrowlineLaw" (228 : Nat) ({ cls := "BurrowlineModel", name := "publicOf", desc := "(I)I" } : Jvm.MethodName)) ∈ lw_all := lw_g (lw_at lw_m6 185 rfl) rfl
theorem q1449 : (Jvm.Cond.methodLink "BurrowlineLaw" (231 : Nat) ({ cls := "BurrowlineModel", name := "shared", desc := "(II)I" } : Jvm.MethodName)) ∈ lw_all := lw_g (lw_at lw_m6 190 rfl) rfl
theorem q1454 : (Jvm.Cond.methodLink "BurrowlineLaw" (234 : Nat) ({ cls := "BurrowlineModel", name := "seal", desc := "(IIII)I" } : Jvm.MethodName)) ∈ lw_all := lw_g (lw_at lw_m6 195 rfl) rfl
theorem q1460 : (Jvm.Cond.methodLink "BurrowlineLaw" (239 : Nat) ({ cls := "BurrowlineModel", name := "share", desc := "()F" } : Jvm.MethodName)) ∈ lw_all := lw_g (lw_at lw_m6 201 rfl) rfl
theorem q1464 : (Jvm.Cond.methodLink "BurrowlineLaw" (244 : Nat) ({ cls := "BurrowlineModel", name := "meanAge", desc := "()D" } : Jvm.MethodName)) ∈ lw_all := lw_g (lw_at lw_m6 205 rfl) rfl
theorem q1468 : (Jvm.Cond.methodLink "BurrowlineLaw" (249 : Nat) ({ cls := "BurrowlineModel", name := "isSound", desc := "()Z" } : Jvm.MethodName)) ∈ lw_all := lw_g (lw_at lw_m6 209 rfl) rfl
theorem q1472 : (Jvm.Cond.methodLink "BurrowlineLaw" (254 : Nat) ({ cls := "BurrowlineModel", name := "checksum", desc := "()J" } : Jvm.MethodName)) ∈ lw_all := lw_g (lw_at lw_m6 213 rfl) rfl
/-! the law's own entry -/
set_option maxRecDepth 100000
abbrev cL_law : ByteArray := code
def dkwL_law_102 : List UInt8 := [182, 0, 254, 148, 153, 0, 5, 3, 172, 132, 4, 5, 167, 246, 51, 4, 172]
abbrev dktL_law_102 : List UInt8 := dkwL_law_102 ++ []
def dkwL_law_101 : List UInt8 := [3, 172, 167, 0, 30, 43, 182, 0, 245, 44, 182, 0, 249, 159, 0, 19, 3, 172, 43, 182, 0, 250, 44]
abbrev dktL_law_101 : List UInt8 := dkwL_law_101 ++ dktL_law_102
def dkwL_law_100 : List UInt8 := [24, 5, 24, 7, 151, 153, 0, 21, 24, 5, 24, 5, 151, 153, 0, 11, 24, 7, 24, 7, 151, 154, 0, 5]
abbrev dktL_law_100 : List UInt8 := dkwL_law_100 ++ dktL_law_101
def dkwL_law_99 : List UInt8 := [24, 7, 151, 154, 0, 5, 3, 172, 167, 0, 71, 43, 182, 0, 240, 57, 5, 44, 182, 0, 244, 57, 7]
abbrev dktL_law_99 : List UInt8 := dkwL_law_99 ++ dktL_law_100
def dkwL_law_98 : List UInt8 := [182, 0, 239, 141, 57, 7, 24, 5, 24, 7, 151, 153, 0, 21, 24, 5, 24, 5, 151, 153, 0, 11, 24, 7]
abbrev dktL_law_98 : List UInt8 := dkwL_law_98 ++ dktL_law_99
def dkwL_law_97 : List UInt8 := [45, 3, 47, 21, 6, 133, 148, 153, 0, 5, 3, 172, 167, 0, 114, 43, 182, 0, 235, 141, 57, 5, 44]
abbrev dktL_law_97 : List UInt8 := dkwL_law_97 ++ dktL_law_98
def dkwL_law_96 : List UInt8 := [7, 96, 46, 182, 0, 234, 54, 6, 44, 182, 0, 128, 21, 5, 159, 0, 5, 3, 172, 21, 5, 154, 0, 15]
abbrev dktL_law_96 : List UInt8 := dkwL_law_96 ++ dktL_law_97
def dkwL_law_95 : List UInt8 := [54, 5, 44, 42, 21, 4, 4, 96, 46, 42, 21, 4, 5, 96, 46, 42, 21, 4, 6, 96, 46, 42, 21, 4]
abbrev dktL_law_95 : List UInt8 := dkwL_law_95 ++ dktL_law_96
def dkwL_law_94 : List UInt8 := [46, 42, 21, 4, 5, 96, 46, 42, 21, 4, 6, 96, 46, 42, 21, 4, 7, 96, 46, 45, 184, 0, 232]
abbrev dktL_law_94 : List UInt8 := dkwL_law_94 ++ dktL_law_95
def dkwL_law_93 : List UInt8 := [154, 0, 15, 45, 3, 47, 21, 6, 133, 148, 153, 0, 5, 3, 172, 167, 0, 206, 43, 42, 21, 4, 4, 96]
abbrev dktL_law_93 : List UInt8 := dkwL_law_93 ++ dktL_law_94
def dkwL_law_92 : List UInt8 := [42, 21, 4, 5, 96, 46, 182, 0, 231, 54, 6, 44, 182, 0, 128, 21, 5, 159, 0, 5, 3, 172, 21, 5]
abbrev dktL_law_92 : List UInt8 := dkwL_law_92 ++ dktL_law_93
def dkwL_law_91 : List UInt8 := [21, 4, 4, 96, 46, 42, 21, 4, 5, 96, 46, 45, 184, 0, 229, 54, 5, 44, 42, 21, 4, 4, 96, 46]
abbrev dktL_law_91 : List UInt8 := dkwL_law_91 ++ dktL_law_92
def dkwL_law_90 : List UInt8 := [172, 21, 5, 154, 0, 15, 45, 3, 47, 21, 6, 133, 148, 153, 0, 5, 3, 172, 167, 1, 18, 43, 42]
abbrev dktL_law_90 : List UInt8 := dkwL_law_90 ++ dktL_law_91
def dkwL_law_89 : List UInt8 := [54, 5, 44, 42, 21, 4, 4, 96, 46, 182, 0, 228, 54, 6, 44, 182, 0, 128, 21, 5, 159, 0, 5, 3]
abbrev dktL_law_89 : List UInt8 := dkwL_law_89 ++ dktL_law_90
def dkwL_law_88 : List UInt8 := [21, 6, 133, 148, 153, 0, 5, 3, 172, 167, 1, 74, 43, 42, 21, 4, 4, 96, 46, 45, 184, 0, 226]
abbrev dktL_law_88 : List UInt8 := dkwL_law_88 ++ dktL_law_89
def dkwL_law_87 : List UInt8 := [182, 0, 225, 54, 6, 44, 182, 0, 128, 21, 5, 159, 0, 5, 3, 172, 21, 5, 154, 0, 15, 45, 3, 47]
abbrev dktL_law_87 : List UInt8 := dkwL_law_87 ++ dktL_law_88
def dkwL_law_86 : List UInt8 := [167, 1, 130, 43, 42, 21, 4, 4, 96, 46, 45, 184, 0, 223, 54, 5, 44, 42, 21, 4, 4, 96, 46]
abbrev dktL_law_86 : List UInt8 := dkwL_law_86 ++ dktL_law_87
def dkwL_law_85 : List UInt8 := [21, 5, 159, 0, 5, 3, 172, 21, 5, 154, 0, 15, 45, 3, 47, 21, 6, 133, 148, 153, 0, 5, 3, 172]
abbrev dktL_law_85 : List UInt8 := dkwL_law_85 ++ dktL_law_86
def dkwL_law_84 : List UInt8 := [96, 46, 42, 21, 4, 5, 96, 46, 42, 21, 4, 6, 96, 46, 182, 0, 222, 54, 6, 44, 182, 0, 128]
abbrev dktL_law_84 : List UInt8 := dkwL_law_84 ++ dktL_law_85
def dkwL_law_83 : List UInt8 := [46, 42, 21, 4, 5, 96, 46, 42, 21, 4, 6, 96, 46, 45, 184, 0, 220, 54, 5, 44, 42, 21, 4, 4]
abbrev dktL_law_83 : List UInt8 := dkwL_law_83 ++ dktL_law_84
def dkwL_law_82 : List UInt8 := [154, 0, 15, 45, 3, 47, 21, 6, 133, 148, 153, 0, 5, 3, 172, 167, 1, 210, 43, 42, 21, 4, 4, 96]
abbrev dktL_law_82 : List UInt8 := dkwL_law_82 ++ dktL_law_83
def dkwL_law_81 : List UInt8 := [21, 4, 4, 96, 46, 182, 0, 219, 54, 6, 44, 182, 0, 128, 21, 5, 159, 0, 5, 3, 172, 21, 5]
abbrev dktL_law_81 : List UInt8 := dkwL_law_81 ++ dktL_law_82
def dkwL_law_80 : List UInt8 := [148, 153, 0, 5, 3, 172, 167, 2, 10, 43, 42, 21, 4, 4, 96, 46, 45, 184, 0, 217, 54, 5, 44, 42]
abbrev dktL_law_80 : List UInt8 := dkwL_law_80 ++ dktL_law_81
def dkwL_law_79 : List UInt8 := [54, 6, 44, 182, 0, 128, 21, 5, 159, 0, 5, 3, 172, 21, 5, 154, 0, 15, 45, 3, 47, 21, 6, 133]
abbrev dktL_law_79 : List UInt8 := dkwL_law_79 ++ dktL_law_80
def dkwL_law_78 : List UInt8 := [42, 21, 4, 5, 96, 46, 42, 21, 4, 6, 96, 46, 153, 0, 7, 4, 167, 0, 4, 3, 182, 0, 216]
abbrev dktL_law_78 : List UInt8 := dkwL_law_78 ++ dktL_law_79
def dkwL_law_77 : List UInt8 := [6, 96, 46, 153, 0, 7, 4, 167, 0, 4, 3, 45, 184, 0, 213, 54, 5, 44, 42, 21, 4, 4, 96, 46]
abbrev dktL_law_77 : List UInt8 := dkwL_law_77 ++ dktL_law_78
def dkwL_law_76 : List UInt8 := [153, 0, 5, 3, 172, 167, 2, 106, 43, 42, 21, 4, 4, 96, 46, 42, 21, 4, 5, 96, 46, 42, 21, 4]
abbrev dktL_law_76 : List UInt8 := dkwL_law_76 ++ dktL_law_77
def dkwL_law_75 : List UInt8 := [182, 0, 128, 21, 5, 159, 0, 5, 3, 172, 21, 5, 154, 0, 15, 45, 3, 47, 21, 6, 133, 148]
abbrev dktL_law_75 : List UInt8 := dkwL_law_75 ++ dktL_law_76
def dkwL_law_74 : List UInt8 := [184, 0, 210, 54, 5, 44, 42, 21, 4, 4, 96, 46, 42, 21, 4, 5, 96, 46, 182, 0, 212, 54, 6, 44]
abbrev dktL_law_74 : List UInt8 := dkwL_law_74 ++ dktL_law_75
def dkwL_law_73 : List UInt8 := [153, 0, 5, 3, 172, 167, 2, 174, 43, 42, 21, 4, 4, 96, 46, 42, 21, 4, 5, 96, 46, 45]
abbrev dktL_law_73 : List UInt8 := dkwL_law_73 ++ dktL_law_74
def dkwL_law_72 : List UInt8 := [182, 0, 128, 21, 5, 159, 0, 5, 3, 172, 21, 5, 154, 0, 15, 45, 3, 47, 21, 6, 133, 148]
abbrev dktL_law_72 : List UInt8 := dkwL_law_72 ++ dktL_law_73
def dkwL_law_71 : List UInt8 := [184, 0, 207, 54, 5, 44, 42, 21, 4, 4, 96, 46, 42, 21, 4, 5, 96, 46, 182, 0, 209, 54, 6, 44]
abbrev dktL_law_71 : List UInt8 := dkwL_law_71 ++ dktL_law_72
def dkwL_law_70 : List UInt8 := [153, 0, 5, 3, 172, 167, 2, 242, 43, 42, 21, 4, 4, 96, 46, 42, 21, 4, 5, 96, 46, 45]
abbrev dktL_law_70 : List UInt8 := dkwL_law_70 ++ dktL_law_71
def dkwL_law_69 : List UInt8 := [182, 0, 128, 21, 5, 159, 0, 5, 3, 172, 21, 5, 154, 0, 15, 45, 3, 47, 21, 6, 133, 148]
abbrev dktL_law_69 : List UInt8 := dkwL_law_69 ++ dktL_law_70
def dkwL_law_68 : List UInt8 := [184, 0, 204, 54, 5, 44, 42, 21, 4, 4, 96, 46, 42, 21, 4, 5, 96, 46, 182, 0, 206, 54, 6, 44]
abbrev dktL_law_68 : List UInt8 := dkwL_law_68 ++ dktL_law_69
def dkwL_law_67 : List UInt8 := [153, 0, 5, 3, 172, 167, 3, 54, 43, 42, 21, 4, 4, 96, 46, 42, 21, 4, 5, 96, 46, 45]
abbrev dktL_law_67 : List UInt8 := dkwL_law_67 ++ dktL_law_68
def dkwL_law_66 : List UInt8 := [159, 0, 5, 3, 172, 21, 5, 154, 0, 22, 45, 3, 47, 21, 6, 153, 0, 7, 10, 167, 0, 4, 9, 148]
abbrev dktL_law_66 : List UInt8 := dkwL_law_66 ++ dktL_law_67
def dkwL_law_65 : List UInt8 := [21, 4, 4, 96, 46, 42, 21, 4, 5, 96, 46, 182, 0, 203, 54, 6, 44, 182, 0, 128, 21, 5]
abbrev dktL_law_65 : List UInt8 := dkwL_law_65 ++ dktL_law_66
def dkwL_law_64 : List UInt8 := [167, 3, 129, 43, 42, 21, 4, 4, 96, 46, 42, 21, 4, 5, 96, 46, 45, 184, 0, 201, 54, 5, 44, 42]
abbrev dktL_law_64 : List UInt8 := dkwL_law_64 ++ dktL_law_65
def dkwL_law_63 : List UInt8 := [159, 0, 5, 3, 172, 21, 5, 154, 0, 15, 45, 3, 47, 21, 6, 133, 148, 153, 0, 5, 3, 172]
abbrev dktL_law_63 : List UInt8 := dkwL_law_63 ++ dktL_law_64
def dkwL_law_62 : List UInt8 := [42, 21, 4, 6, 96, 46, 42, 21, 4, 7, 96, 46, 182, 0, 200, 54, 6, 44, 182, 0, 128, 21, 5]
abbrev dktL_law_62 : List UInt8 := dkwL_law_62 ++ dktL_law_63
def dkwL_law_61 : List UInt8 := [21, 4, 7, 96, 46, 45, 184, 0, 198, 54, 5, 44, 42, 21, 4, 4, 96, 46, 42, 21, 4, 5, 96, 46]
abbrev dktL_law_61 : List UInt8 := dkwL_law_61 ++ dktL_law_62
def dkwL_law_60 : List UInt8 := [167, 3, 221, 43, 42, 21, 4, 4, 96, 46, 42, 21, 4, 5, 96, 46, 42, 21, 4, 6, 96, 46, 42]
abbrev dktL_law_60 : List UInt8 := dkwL_law_60 ++ dktL_law_61
def dkwL_law_59 : List UInt8 := [159, 0, 5, 3, 172, 21, 5, 154, 0, 15, 45, 3, 47, 21, 6, 133, 148, 153, 0, 5, 3, 172]
abbrev dktL_law_59 : List UInt8 := dkwL_law_59 ++ dktL_law_60
def dkwL_law_58 : List UInt8 := [21, 4, 4, 96, 46, 42, 21, 4, 5, 96, 46, 182, 0, 197, 54, 6, 44, 182, 0, 128, 21, 5]
abbrev dktL_law_58 : List UInt8 := dkwL_law_58 ++ dktL_law_59
def dkwL_law_57 : List UInt8 := [167, 4, 33, 43, 42, 21, 4, 4, 96, 46, 42, 21, 4, 5, 96, 46, 45, 184, 0, 195, 54, 5, 44, 42]
abbrev dktL_law_57 : List UInt8 := dkwL_law_57 ++ dktL_law_58
def dkwL_law_56 : List UInt8 := [159, 0, 5, 3, 172, 21, 5, 154, 0, 15, 45, 3, 47, 21, 6, 133, 148, 153, 0, 5, 3, 172]
abbrev dktL_law_56 : List UInt8 := dkwL_law_56 ++ dktL_law_57
def dkwL_law_55 : List UInt8 := [21, 4, 4, 96, 46, 42, 21, 4, 5, 96, 46, 182, 0, 194, 54, 6, 44, 182, 0, 128, 21, 5]
abbrev dktL_law_55 : List UInt8 := dkwL_law_55 ++ dktL_law_56
def dkwL_law_54 : List UInt8 := [167, 4, 101, 43, 42, 21, 4, 4, 96, 46, 42, 21, 4, 5, 96, 46, 45, 184, 0, 192, 54, 5, 44, 42]
abbrev dktL_law_54 : List UInt8 := dkwL_law_54 ++ dktL_law_55
def dkwL_law_53 : List UInt8 := [21, 5, 159, 0, 5, 3, 172, 21, 5, 154, 0, 15, 45, 3, 47, 21, 6, 133, 148, 153, 0, 5, 3, 172]
abbrev dktL_law_53 : List UInt8 := dkwL_law_53 ++ dktL_law_54
def dkwL_law_52 : List UInt8 := [96, 46, 45, 184, 0, 189, 54, 5, 44, 42, 21, 4, 4, 96, 46, 182, 0, 191, 54, 6, 44, 182, 0, 128]
abbrev dktL_law_52 : List UInt8 := dkwL_law_52 ++ dktL_law_53
def dkwL_law_51 : List UInt8 := [21, 6, 153, 0, 7, 10, 167, 0, 4, 9, 148, 153, 0, 5, 3, 172, 167, 4, 157, 43, 42, 21, 4, 4]
abbrev dktL_law_51 : List UInt8 := dkwL_law_51 ++ dktL_law_52
def dkwL_law_50 : List UInt8 := [182, 0, 188, 54, 6, 44, 182, 0, 128, 21, 5, 159, 0, 5, 3, 172, 21, 5, 154, 0, 22, 45, 3, 47]
abbrev dktL_law_50 : List UInt8 := dkwL_law_50 ++ dktL_law_51
def dkwL_law_49 : List UInt8 := [167, 4, 220, 43, 42, 21, 4, 4, 96, 46, 45, 184, 0, 186, 54, 5, 44, 42, 21, 4, 4, 96, 46]
abbrev dktL_law_49 : List UInt8 := dkwL_law_49 ++ dktL_law_50
def dkwL_law_48 : List UInt8 := [159, 0, 5, 3, 172, 21, 5, 154, 0, 15, 45, 3, 47, 21, 6, 133, 148, 153, 0, 5, 3, 172]
abbrev dktL_law_48 : List UInt8 := dkwL_law_48 ++ dktL_law_49
def dkwL_law_47 : List UInt8 := [44, 42, 21, 4, 4, 96, 46, 42, 21, 4, 5, 96, 46, 182, 0, 185, 54, 6, 44, 182, 0, 128, 21, 5]
abbrev dktL_law_47 : List UInt8 := dkwL_law_47 ++ dktL_law_48
def dkwL_law_46 : List UInt8 := [159, 5, 34, 3, 172, 43, 42, 21, 4, 4, 96, 46, 42, 21, 4, 5, 96, 46, 45, 184, 0, 183, 54, 5]
abbrev dktL_law_46 : List UInt8 := dkwL_law_46 ++ dktL_law_47
def dkwL_law_45 : List UInt8 := [167, 5, 58, 43, 182, 0, 175, 44, 182, 0, 178, 159, 5, 47, 3, 172, 43, 182, 0, 179, 44, 182, 0, 182]
abbrev dktL_law_45 : List UInt8 := dkwL_law_45 ++ dktL_law_46
def dkwL_law_44 : List UInt8 := [21, 5, 159, 0, 5, 3, 172, 21, 5, 154, 0, 15, 45, 3, 47, 21, 6, 133, 148, 153, 0, 5, 3, 172]
abbrev dktL_law_44 : List UInt8 := dkwL_law_44 ++ dktL_law_45
def dkwL_law_43 : List UInt8 := [46, 45, 184, 0, 172, 54, 5, 44, 42, 21, 4, 4, 96, 46, 182, 0, 174, 54, 6, 44, 182, 0, 128]
abbrev dktL_law_43 : List UInt8 := dkwL_law_43 ++ dktL_law_44
def dkwL_law_42 : List UInt8 := [154, 0, 15, 45, 3, 47, 21, 6, 133, 148, 153, 0, 5, 3, 172, 167, 5, 114, 43, 42, 21, 4, 4, 96]
abbrev dktL_law_42 : List UInt8 := dkwL_law_42 ++ dktL_law_43
def dkwL_law_41 : List UInt8 := [21, 4, 5, 96, 46, 182, 0, 171, 54, 6, 44, 182, 0, 128, 21, 5, 159, 0, 5, 3, 172, 21, 5]
abbrev dktL_law_41 : List UInt8 := dkwL_law_41 ++ dktL_law_42
def dkwL_law_40 : List UInt8 := [4, 96, 46, 42, 21, 4, 5, 96, 46, 45, 184, 0, 169, 54, 5, 44, 42, 21, 4, 4, 96, 46, 42]
abbrev dktL_law_40 : List UInt8 := dkwL_law_40 ++ dktL_law_41
def dkwL_law_39 : List UInt8 := [21, 5, 154, 0, 15, 45, 3, 47, 21, 6, 133, 148, 153, 0, 5, 3, 172, 167, 5, 182, 43, 42, 21, 4]
abbrev dktL_law_39 : List UInt8 := dkwL_law_39 ++ dktL_law_40
def dkwL_law_38 : List UInt8 := [96, 46, 42, 21, 4, 6, 96, 46, 182, 0, 168, 54, 6, 44, 182, 0, 128, 21, 5, 159, 0, 5, 3, 172]
abbrev dktL_law_38 : List UInt8 := dkwL_law_38 ++ dktL_law_39
def dkwL_law_37 : List UInt8 := [46, 42, 21, 4, 6, 96, 46, 45, 184, 0, 166, 54, 5, 44, 42, 21, 4, 4, 96, 46, 42, 21, 4, 5]
abbrev dktL_law_37 : List UInt8 := dkwL_law_37 ++ dktL_law_38
def dkwL_law_36 : List UInt8 := [21, 6, 133, 148, 153, 0, 5, 3, 172, 167, 6, 6, 43, 42, 21, 4, 4, 96, 46, 42, 21, 4, 5, 96]
abbrev dktL_law_36 : List UInt8 := dkwL_law_36 ++ dktL_law_37
def dkwL_law_35 : List UInt8 := [182, 0, 165, 54, 6, 44, 182, 0, 128, 21, 5, 159, 0, 5, 3, 172, 21, 5, 154, 0, 15, 45, 3, 47]
abbrev dktL_law_35 : List UInt8 := dkwL_law_35 ++ dktL_law_36
def dkwL_law_34 : List UInt8 := [167, 6, 62, 43, 42, 21, 4, 4, 96, 46, 45, 184, 0, 163, 54, 5, 44, 42, 21, 4, 4, 96, 46]
abbrev dktL_law_34 : List UInt8 := dkwL_law_34 ++ dktL_law_35
def dkwL_law_33 : List UInt8 := [21, 5, 159, 0, 5, 3, 172, 21, 5, 154, 0, 15, 45, 3, 47, 21, 6, 133, 148, 153, 0, 5, 3, 172]
abbrev dktL_law_33 : List UInt8 := dkwL_law_33 ++ dktL_law_34
def dkwL_law_32 : List UInt8 := [46, 45, 184, 0, 160, 54, 5, 44, 42, 21, 4, 4, 96, 46, 182, 0, 162, 54, 6, 44, 182, 0, 128]
abbrev dktL_law_32 : List UInt8 := dkwL_law_32 ++ dktL_law_33
def dkwL_law_31 : List UInt8 := [154, 0, 15, 45, 3, 47, 21, 6, 133, 148, 153, 0, 5, 3, 172, 167, 6, 118, 43, 42, 21, 4, 4, 96]
abbrev dktL_law_31 : List UInt8 := dkwL_law_31 ++ dktL_law_32
def dkwL_law_30 : List UInt8 := [21, 4, 4, 96, 46, 182, 0, 159, 54, 6, 44, 182, 0, 128, 21, 5, 159, 0, 5, 3, 172, 21, 5]
abbrev dktL_law_30 : List UInt8 := dkwL_law_30 ++ dktL_law_31
def dkwL_law_29 : List UInt8 := [148, 153, 0, 5, 3, 172, 167, 6, 174, 43, 42, 21, 4, 4, 96, 46, 45, 184, 0, 157, 54, 5, 44, 42]
abbrev dktL_law_29 : List UInt8 := dkwL_law_29 ++ dktL_law_30
def dkwL_law_28 : List UInt8 := [54, 6, 44, 182, 0, 128, 21, 5, 159, 0, 5, 3, 172, 21, 5, 154, 0, 15, 45, 3, 47, 21, 6, 133]
abbrev dktL_law_28 : List UInt8 := dkwL_law_28 ++ dktL_law_29
def dkwL_law_27 : List UInt8 := [96, 46, 45, 184, 0, 154, 54, 5, 44, 42, 21, 4, 4, 96, 46, 42, 21, 4, 5, 96, 46, 182, 0, 156]
abbrev dktL_law_27 : List UInt8 := dkwL_law_27 ++ dktL_law_28
def dkwL_law_26 : List UInt8 := [167, 0, 4, 9, 148, 153, 0, 5, 3, 172, 167, 6, 242, 43, 42, 21, 4, 4, 96, 46, 42, 21, 4, 5]
abbrev dktL_law_26 : List UInt8 := dkwL_law_26 ++ dktL_law_27
def dkwL_law_25 : List UInt8 := [182, 0, 128, 21, 5, 159, 0, 5, 3, 172, 21, 5, 154, 0, 22, 45, 3, 47, 21, 6, 153, 0, 7, 10]
abbrev dktL_law_25 : List UInt8 := dkwL_law_25 ++ dktL_law_26
def dkwL_law_24 : List UInt8 := [184, 0, 151, 54, 5, 44, 42, 21, 4, 4, 96, 46, 42, 21, 4, 5, 96, 46, 182, 0, 153, 54, 6, 44]
abbrev dktL_law_24 : List UInt8 := dkwL_law_24 ++ dktL_law_25
def dkwL_law_23 : List UInt8 := [148, 153, 0, 5, 3, 172, 167, 7, 61, 43, 42, 21, 4, 4, 96, 46, 42, 21, 4, 5, 96, 46, 45]
abbrev dktL_law_23 : List UInt8 := dkwL_law_23 ++ dktL_law_24
def dkwL_law_22 : List UInt8 := [54, 6, 44, 182, 0, 128, 21, 5, 159, 0, 5, 3, 172, 21, 5, 154, 0, 15, 45, 3, 47, 21, 6, 133]
abbrev dktL_law_22 : List UInt8 := dkwL_law_22 ++ dktL_law_23
def dkwL_law_21 : List UInt8 := [96, 46, 42, 21, 4, 5, 96, 46, 42, 21, 4, 6, 96, 46, 42, 21, 4, 7, 96, 46, 182, 0, 150]
abbrev dktL_law_21 : List UInt8 := dkwL_law_21 ++ dktL_law_22
def dkwL_law_20 : List UInt8 := [46, 42, 21, 4, 6, 96, 46, 42, 21, 4, 7, 96, 46, 45, 184, 0, 148, 54, 5, 44, 42, 21, 4, 4]
abbrev dktL_law_20 : List UInt8 := dkwL_law_20 ++ dktL_law_21
def dkwL_law_19 : List UInt8 := [21, 6, 133, 148, 153, 0, 5, 3, 172, 167, 7, 153, 43, 42, 21, 4, 4, 96, 46, 42, 21, 4, 5, 96]
abbrev dktL_law_19 : List UInt8 := dkwL_law_19 ++ dktL_law_20
def dkwL_law_18 : List UInt8 := [182, 0, 147, 54, 6, 44, 182, 0, 128, 21, 5, 159, 0, 5, 3, 172, 21, 5, 154, 0, 15, 45, 3, 47]
abbrev dktL_law_18 : List UInt8 := dkwL_law_18 ++ dktL_law_19
def dkwL_law_17 : List UInt8 := [184, 0, 144, 54, 5, 44, 42, 21, 4, 4, 96, 46, 42, 21, 4, 5, 96, 46, 42, 21, 4, 6, 96, 46]
abbrev dktL_law_17 : List UInt8 := dkwL_law_17 ++ dktL_law_18
def dkwL_law_16 : List UInt8 := [167, 7, 233, 43, 42, 21, 4, 4, 96, 46, 42, 21, 4, 5, 96, 46, 42, 21, 4, 6, 96, 46, 45]
abbrev dktL_law_16 : List UInt8 := dkwL_law_16 ++ dktL_law_17
def dkwL_law_15 : List UInt8 := [159, 0, 5, 3, 172, 21, 5, 154, 0, 15, 45, 3, 47, 21, 6, 133, 148, 153, 0, 5, 3, 172]
abbrev dktL_law_15 : List UInt8 := dkwL_law_15 ++ dktL_law_16
def dkwL_law_14 : List UInt8 := [42, 21, 4, 6, 96, 46, 42, 21, 4, 7, 96, 46, 182, 0, 143, 54, 6, 44, 182, 0, 128, 21, 5]
abbrev dktL_law_14 : List UInt8 := dkwL_law_14 ++ dktL_law_15
def dkwL_law_13 : List UInt8 := [21, 4, 7, 96, 46, 45, 184, 0, 140, 54, 5, 44, 42, 21, 4, 4, 96, 46, 42, 21, 4, 5, 96, 46]
abbrev dktL_law_13 : List UInt8 := dkwL_law_13 ++ dktL_law_14
def dkwL_law_12 : List UInt8 := [167, 8, 69, 43, 42, 21, 4, 4, 96, 46, 42, 21, 4, 5, 96, 46, 42, 21, 4, 6, 96, 46, 42]
abbrev dktL_law_12 : List UInt8 := dkwL_law_12 ++ dktL_law_13
def dkwL_law_11 : List UInt8 := [21, 5, 154, 0, 22, 45, 3, 47, 21, 6, 153, 0, 7, 10, 167, 0, 4, 9, 148, 153, 0, 5, 3, 172]
abbrev dktL_law_11 : List UInt8 := dkwL_law_11 ++ dktL_law_12
def dkwL_law_10 : List UInt8 := [153, 0, 7, 4, 167, 0, 4, 3, 182, 0, 139, 54, 6, 44, 182, 0, 128, 21, 5, 159, 0, 5, 3, 172]
abbrev dktL_law_10 : List UInt8 := dkwL_law_10 ++ dktL_law_11
def dkwL_law_9 : List UInt8 := [4, 167, 0, 4, 3, 45, 184, 0, 136, 54, 5, 44, 42, 21, 4, 4, 96, 46, 42, 21, 4, 5, 96, 46]
abbrev dktL_law_9 : List UInt8 := dkwL_law_9 ++ dktL_law_10
def dkwL_law_8 : List UInt8 := [153, 0, 5, 3, 172, 167, 8, 160, 43, 42, 21, 4, 4, 96, 46, 42, 21, 4, 5, 96, 46, 153, 0, 7]
abbrev dktL_law_8 : List UInt8 := dkwL_law_8 ++ dktL_law_9
def dkwL_law_7 : List UInt8 := [182, 0, 128, 21, 5, 159, 0, 5, 3, 172, 21, 5, 154, 0, 15, 45, 3, 47, 21, 6, 133, 148]
abbrev dktL_law_7 : List UInt8 := dkwL_law_7 ++ dktL_law_8
def dkwL_law_6 : List UInt8 := [184, 0, 132, 54, 5, 44, 42, 21, 4, 4, 96, 46, 42, 21, 4, 5, 96, 46, 182, 0, 135, 54, 6, 44]
abbrev dktL_law_6 : List UInt8 := dkwL_law_6 ++ dktL_law_7
def dkwL_law_5 : List UInt8 := [148, 153, 0, 5, 3, 172, 167, 8, 228, 43, 42, 21, 4, 4, 96, 46, 42, 21, 4, 5, 96, 46, 45]
abbrev dktL_law_5 : List UInt8 := dkwL_law_5 ++ dktL_law_6
def dkwL_law_4 : List UInt8 := [54, 6, 44, 182, 0, 128, 21, 5, 159, 0, 5, 3, 172, 21, 5, 154, 0, 15, 45, 3, 47, 21, 6, 133]
abbrev dktL_law_4 : List UInt8 := dkwL_law_4 ++ dktL_law_5
def dkwL_law_3 : List UInt8 := [43, 42, 21, 4, 4, 96, 46, 45, 184, 0, 122, 54, 5, 44, 42, 21, 4, 4, 96, 46, 182, 0, 127]
abbrev dktL_law_3 : List UInt8 := dkwL_law_3 ++ dktL_law_4
def dkwL_law_2 : List UInt8 := [170, 0, 0, 9, 186, 0, 0, 0, 0, 0, 0, 0, 36, 0, 0, 0, 161, 0, 0, 0, 217, 0, 0, 1, 29, 0, 0, 1, 120, 0, 0, 1, 212, 0, 0, 2, 36, 0, 0, 2, 128, 0, 0, 2, 203, 0, 0, 3, 15, 0, 0, 3, 71, 0, 0, 3, 127, 0, 0, 3, 183, 0, 0, 4, 7, 0, 0, 4, 75, 0, 0, 4, 131, 0, 0, 4, 144, 0, 0, 4, 157, 0, 0, 4, 225, 0, 0, 5, 32, 0, 0, 5, 88, 0, 0, 5, 156, 0, 0, 5, 224, 0, 0, 6, 60, 0, 0, 6, 135, 0, 0, 6, 203, 0, 0, 7, 15, 0, 0, 7, 83, 0, 0, 7, 179, 0, 0, 7, 235, 0, 0, 8, 59, 0, 0, 8, 115, 0, 0, 8, 171, 0, 0, 8, 239, 0, 0, 9, 75, 0, 0, 9, 118, 0, 0, 9, 159, 0, 0, 9, 172]
abbrev dktL_law_2 : List UInt8 := dkwL_law_2 ++ dktL_law_3
def dkwL_law_1 : List UInt8 := [21, 4, 42, 190, 8, 100, 163, 9, 202, 42, 21, 4, 46, 16, 63, 126]
abbrev dktL_law_1 : List UInt8 := dkwL_law_1 ++ dktL_law_2
def dkwL_law_0 : List UInt8 := [187, 0, 8, 89, 183, 0, 118, 76, 187, 0, 119, 89, 183, 0, 121, 77, 4, 188, 11, 78, 3, 54, 4]
abbrev dktL_law_0 : List UInt8 := dkwL_law_0 ++ dktL_law_1
theorem dksL_law_0 : cL_law.data.toList.drop 0 = dktL_law_0 := by decide +kernel
theorem dksL_law_1 : cL_law.data.toList.drop 23 = dktL_law_1 := dk_seg dksL_law_0 23 rfl rfl
theorem dksL_law_2 : cL_law.data.toList.drop 39 = dktL_law_2 := dk_seg dksL_law_1 16 rfl rfl
theorem dksL_law_3 : cL_law.data.toList.drop 200 = dktL_law_3 := dk_seg dksL_law_2 161 rfl rfl
theorem dksL_law_4 : cL_law.data.toList.drop 223 = dktL_law_4 := dk_seg dksL_law_3 23 rfl rfl
theorem dksL_law_5 : cL_law.data.toList.drop 247 = dktL_law_5 := dk_seg dksL_law_4 24 rfl rfl
theorem dksL_law_6 : cL_law.data.toList.drop 270 = dktL_law_6 := dk_seg dksL_law_5 23 rfl rfl
theorem dksL_law_7 : cL_law.data.toList.drop 294 = dktL_law_7 := dk_seg dksL_law_6 24 rfl rfl
theorem dksL_law_8 : cL_law.data.toList.drop 316 = dktL_law_8 := dk_seg dksL_law_7 22 rfl rfl
theorem dksL_law_9 : cL_law.data.toList.drop 340 = dktL_law_9 := dk_seg dksL_law_8 24 rfl rfl
theorem dksL_law_10 : cL_law.data.toList.drop 364 = dktL_law_10 := dk_seg dksL_law_9 24 rfl rfl
theorem dksL_law_11 : cL_law.data.toList.drop 388 = dktL_law_11 := dk_seg dksL_law_10 24 rfl rfl
theorem dksL_law_12 : cL_law.data.toList.drop 412 = dktL_law_12 := dk_seg dksL_law_11 24 rfl rfl
theorem dksL_law_13 : cL_law.data.toList.drop 435 = dktL_law_13 := dk_seg dksL_law_12 23 rfl rfl
theorem dksL_law_14 : cL_law.data.toList.drop 459 = dktL_law_14 := dk_seg dksL_law_13 24 rfl rfl
theorem dksL_law_15 : cL_law.data.toList.drop 482 = dktL_law_15 := dk_seg dksL_law_14 23 rfl rfl
theorem dksL_law_16 : cL_law.data.toList.drop 504 = dktL_law_16 := dk_seg dksL_law_15 22 rfl rfl
theorem dksL_law_17 : cL_law.data.toList.drop 527 = dktL_law_17 := dk_seg dksL_law_16 23 rfl rfl
theorem dksL_law_18 : cL_law.data.toList.drop 551 = dktL_law_18 := dk_seg dksL_law_17 24 rfl rfl
theorem dksL_law_19 : cL_law.data.toList.drop 575 = dktL_law_19 := dk_seg dksL_law_18 24 rfl rfl
theorem dksL_law_20 : cL_law.data.toList.drop 599 = dktL_law_20 := dk_seg dksL_law_19 24 rfl rfl
theorem dksL_law_21 : cL_law.data.toList.drop 623 = dktL_law_21 := dk_seg dksL_law_20 24 rfl rfl
theorem dksL_law_22 : cL_law.data.toList.drop 646 = dktL_law_22 := dk_seg dksL_law_21 23 rfl rfl
theorem dksL_law_23 : cL_law.data.toList.drop 670 = dktL_law_23 := dk_seg dksL_law_22 24 rfl rfl
theorem dksL_law_24 : cL_law.data.toList.drop 693 = dktL_law_24 := dk_seg dksL_law_23 23 rfl rfl
theorem dksL_law_25 : cL_law.data.toList.drop 717 = dktL_law_25 := dk_seg dksL_law_24 24 rfl rfl
theorem dksL_law_26 : cL_law.data.toList.drop 741 = dktL_law_26 := dk_seg dksL_law_25 24 rfl rfl
theorem dksL_law_27 : cL_law.data.toList.drop 765 = dktL_law_27 := dk_seg dksL_law_26 24 rfl rfl
theorem dksL_law_28 : cL_law.data.toList.drop 789 = dktL_law_28 := dk_seg dksL_law_27 24 rfl rfl
theorem dksL_law_29 : cL_law.data.toList.drop 813 = dktL_law_29 := dk_seg dksL_law_28 24 rfl rfl
theorem dksL_law_30 : cL_law.data.toList.drop 837 = dktL_law_30 := dk_seg dksL_law_29 24 rfl rfl
theorem dksL_law_31 : cL_law.data.toList.drop 860 = dktL_law_31 := dk_seg dksL_law_30 23 rfl rfl
theorem dksL_law_32 : cL_law.data.toList.drop 884 = dktL_law_32 := dk_seg dksL_law_31 24 rfl rfl
theorem dksL_law_33 : cL_law.data.toList.drop 907 = dktL_law_33 := dk_seg dksL_law_32 23 rfl rfl
theorem dksL_law_34 : cL_law.data.toList.drop 931 = dktL_law_34 := dk_seg dksL_law_33 24 rfl rfl
theorem dksL_law_35 : cL_law.data.toList.drop 954 = dktL_law_35 := dk_seg dksL_law_34 23 rfl rfl
theorem dksL_law_36 : cL_law.data.toList.drop 978 = dktL_law_36 := dk_seg dksL_law_35 24 rfl rfl
theorem dksL_law_37 : cL_law.data.toList.drop 1002 = dktL_law_37 := dk_seg dksL_law_36 24 rfl rfl
theorem dksL_law_38 : cL_law.data.toList.drop 1026 = dktL_law_38 := dk_seg dksL_law_37 24 rfl rfl
theorem dksL_law_39 : cL_law.data.toList.drop 1050 = dktL_law_39 := dk_seg dksL_law_38 24 rfl rfl
theorem dksL_law_40 : cL_law.data.toList.drop 1074 = dktL_law_40 := dk_seg dksL_law_39 24 rfl rfl
theorem dksL_law_41 : cL_law.data.toList.drop 1097 = dktL_law_41 := dk_seg dksL_law_40 23 rfl rfl
theorem dksL_law_42 : cL_law.data.toList.drop 1120 = dktL_law_42 := dk_seg dksL_law_41 23 rfl rfl
theorem dksL_law_43 : cL_law.data.toList.drop 1144 = dktL_law_43 := dk_seg dksL_law_42 24 rfl rfl
theorem dksL_law_44 : cL_law.data.toList.drop 1167 = dktL_law_44 := dk_seg dksL_law_43 23 rfl rfl
theorem dksL_law_45 : cL_law.data.toList.drop 1191 = dktL_law_45 := dk_seg dksL_law_44 24 rfl rfl
theorem dksL_law_46 : cL_law.data.toList.drop 1215 = dktL_law_46 := dk_seg dksL_law_45 24 rfl rfl
theorem dksL_law_47 : cL_law.data.toList.drop 1239 = dktL_law_47 := dk_seg dksL_law_46 24 rfl rfl
theorem dksL_law_48 : cL_law.data.toList.drop 1263 = dktL_law_48 := dk_seg dksL_law_47 24 rfl rfl
theorem dksL_law_49 : cL_law.data.toList.drop 1285 = dktL_law_49 := dk_seg dksL_law_48 22 rfl rfl
theorem dksL_law_50 : cL_law.data.toList.drop 1308 = dktL_law_50 := dk_seg dksL_law_49 23 rfl rfl
theorem dksL_law_51 : cL_law.data.toList.drop 1332 = dktL_law_51 := dk_seg dksL_law_50 24 rfl rfl
theorem dksL_law_52 : cL_law.data.toList.drop 1356 = dktL_law_52 := dk_seg dksL_law_51 24 rfl rfl
theorem dksL_law_53 : cL_law.data.toList.drop 1380 = dktL_law_53 := dk_seg dksL_law_52 24 rfl rfl
theorem dksL_law_54 : cL_law.data.toList.drop 1404 = dktL_law_54 := dk_seg dksL_law_53 24 rfl rfl
theorem dksL_law_55 : cL_law.data.toList.drop 1428 = dktL_law_55 := dk_seg dksL_law_54 24 rfl rfl
theorem dksL_law_56 : cL_law.data.toList.drop 1450 = dktL_law_56 := dk_seg dksL_law_55 22 rfl rfl
theorem dksL_law_57 : cL_law.data.toList.drop 1472 = dktL_law_57 := dk_seg dksL_law_56 22 rfl rfl
theorem dksL_law_58 : cL_law.data.toList.drop 1496 = dktL_law_58 := dk_seg dksL_law_57 24 rfl rfl
theorem dksL_law_59 : cL_law.data.toList.drop 1518 = dktL_law_59 := dk_seg dksL_law_58 22 rfl rfl
theorem dksL_law_60 : cL_law.data.toList.drop 1540 = dktL_law_60 := dk_seg dksL_law_59 22 rfl rfl
theorem dksL_law_61 : cL_law.data.toList.drop 1563 = dktL_law_61 := dk_seg dksL_law_60 23 rfl rfl
theorem dksL_law_62 : cL_law.data.toList.drop 1587 = dktL_law_62 := dk_seg dksL_law_61 24 rfl rfl
theorem dksL_law_63 : cL_law.data.toList.drop 1610 = dktL_law_63 := dk_seg dksL_law_62 23 rfl rfl
theorem dksL_law_64 : cL_law.data.toList.drop 1632 = dktL_law_64 := dk_seg dksL_law_63 22 rfl rfl
theorem dksL_law_65 : cL_law.data.toList.drop 1656 = dktL_law_65 := dk_seg dksL_law_64 24 rfl rfl
theorem dksL_law_66 : cL_law.data.toList.drop 1678 = dktL_law_66 := dk_seg dksL_law_65 22 rfl rfl
theorem dksL_law_67 : cL_law.data.toList.drop 1702 = dktL_law_67 := dk_seg dksL_law_66 24 rfl rfl
theorem dksL_law_68 : cL_law.data.toList.drop 1724 = dktL_law_68 := dk_seg dksL_law_67 22 rfl rfl
theorem dksL_law_69 : cL_law.data.toList.drop 1748 = dktL_law_69 := dk_seg dksL_law_68 24 rfl rfl
theorem dksL_law_70 : cL_law.data.toList.drop 1770 = dktL_law_70 := dk_seg dksL_law_69 22 rfl rfl
theorem dksL_law_71 : cL_law.data.toList.drop 1792 = dktL_law_71 := dk_seg dksL_law_70 22 rfl rfl
theorem dksL_law_72 : cL_law.data.toList.drop 1816 = dktL_law_72 := dk_seg dksL_law_71 24 rfl rfl
theorem dksL_law_73 : cL_law.data.toList.drop 1838 = dktL_law_73 := dk_seg dksL_law_72 22 rfl rfl
theorem dksL_law_74 : cL_law.data.toList.drop 1860 = dktL_law_74 := dk_seg dksL_law_73 22 rfl rfl
theorem dksL_law_75 : cL_law.data.toList.drop 1884 = dktL_law_75 := dk_seg dksL_law_74 24 rfl rfl
theorem dksL_law_76 : cL_law.data.toList.drop 1906 = dktL_law_76 := dk_seg dksL_law_75 22 rfl rfl
theorem dksL_law_77 : cL_law.data.toList.drop 1930 = dktL_law_77 := dk_seg dksL_law_76 24 rfl rfl
theorem dksL_law_78 : cL_law.data.toList.drop 1954 = dktL_law_78 := dk_seg dksL_law_77 24 rfl rfl
theorem dksL_law_79 : cL_law.data.toList.drop 1977 = dktL_law_79 := dk_seg dksL_law_78 23 rfl rfl
theorem dksL_law_80 : cL_law.data.toList.drop 2001 = dktL_law_80 := dk_seg dksL_law_79 24 rfl rfl
theorem dksL_law_81 : cL_law.data.toList.drop 2025 = dktL_law_81 := dk_seg dksL_law_80 24 rfl rfl
theorem dksL_law_82 : cL_law.data.toList.drop 2048 = dktL_law_82 := dk_seg dksL_law_81 23 rfl rfl
theorem dksL_law_83 : cL_law.data.toList.drop 2072 = dktL_law_83 := dk_seg dksL_law_82 24 rfl rfl
theorem dksL_law_84 : cL_law.data.toList.drop 2096 = dktL_law_84 := dk_seg dksL_law_83 24 rfl rfl
theorem dksL_law_85 : cL_law.data.toList.drop 2119 = dktL_law_85 := dk_seg dksL_law_84 23 rfl rfl
theorem dksL_law_86 : cL_law.data.toList.drop 2143 = dktL_law_86 := dk_seg dksL_law_85 24 rfl rfl
theorem dksL_law_87 : cL_law.data.toList.drop 2166 = dktL_law_87 := dk_seg dksL_law_86 23 rfl rfl
theorem dksL_law_88 : cL_law.data.toList.drop 2190 = dktL_law_88 := dk_seg dksL_law_87 24 rfl rfl
theorem dksL_law_89 : cL_law.data.toList.drop 2213 = dktL_law_89 := dk_seg dksL_law_88 23 rfl rfl
theorem dksL_law_90 : cL_law.data.toList.drop 2237 = dktL_law_90 := dk_seg dksL_law_89 24 rfl rfl
theorem dksL_law_91 : cL_law.data.toList.drop 2260 = dktL_law_91 := dk_seg dksL_law_90 23 rfl rfl
theorem dksL_law_92 : cL_law.data.toList.drop 2284 = dktL_law_92 := dk_seg dksL_law_91 24 rfl rfl
theorem dksL_law_93 : cL_law.data.toList.drop 2308 = dktL_law_93 := dk_seg dksL_law_92 24 rfl rfl
theorem dksL_law_94 : cL_law.data.toList.drop 2332 = dktL_law_94 := dk_seg dksL_law_93 24 rfl rfl
theorem dksL_law_95 : cL_law.data.toList.drop 2355 = dktL_law_95 := dk_seg dksL_law_94 23 rfl rfl
theorem dksL_law_96 : cL_law.data.toList.drop 2379 = dktL_law_96 := dk_seg dksL_law_95 24 rfl rfl
theorem dksL_law_97 : cL_law.data.toList.drop 2403 = dktL_law_97 := dk_seg dksL_law_96 24 rfl rfl
theorem dksL_law_98 : cL_law.data.toList.drop 2426 = dktL_law_98 := dk_seg dksL_law_97 23 rfl rfl
theorem dksL_law_99 : cL_law.data.toList.drop 2450 = dktL_law_99 := dk_seg dksL_law_98 24 rfl rfl
theorem dksL_law_100 : cL_law.data.toList.drop 2473 = dktL_law_100 := dk_seg dksL_law_99 23 rfl rfl
theorem dksL_law_101 : cL_law.data.toList.drop 2497 = dktL_law_101 := dk_seg dksL_law_100 24 rfl rfl
theorem dksL_law_102 : cL_law.data.toList.drop 2520 = dktL_law_102 := dk_seg dksL_law_101 23 rfl rfl
theorem dL_law_0 : decode cL_law 0 = .ok (.new 8, 3) := dk_187 0 8 (dk_at dksL_law_0 0 rfl rfl)
theorem dL_law_3 : decode cL_law 3 = .ok (.dup, 1) := dk_89 (dk_at dksL_law_0 3 rfl rfl)
theorem dL_law_4 : decode cL_law 4 = .ok (.invokespecial 118, 3) := dk_183 0 118 (dk_at dksL_law_0 4 rfl rfl)
theorem dL_law_7 : decode cL_law 7 = .ok (.astore_n 1, 1) := dk_76 (dk_at dksL_law_0 7 rfl rfl)
theorem dL_law_8 : decode cL_law 8 = .ok (.new 119, 3) := dk_187 0 119 (dk_at dksL_law_0 8 rfl rfl)
theorem dL_law_11 : decode cL_law 11 = .ok (.dup, 1) := dk_89 (dk_at dksL_law_0 11 rfl rfl)
theorem dL_law_12 : decode cL_law 12 = .ok (.invokespecial 121, 3) := dk_183 0 121 (dk_at dksL_law_0 12 rfl rfl)
theorem dL_law_15 : decode cL_law 15 = .ok (.astore_n 2, 1) := dk_77 (dk_at dksL_law_0 15 rfl rfl)
theorem dL_law_16 : decode cL_law 16 = .ok (.iconst 1, 1) := dk_4 (dk_at dksL_law_0 16 rfl rfl)
theorem dL_law_17 : decode cL_law 17 = .ok (.newarray .long, 2) := dk_188_11 (dk_at dksL_law_0 17 rfl rfl)
theorem dL_law_19 : decode cL_law 19 = .ok (.astore_n 3, 1) := dk_78 (dk_at dksL_law_0 19 rfl rfl)
theorem dL_law_20 : decode cL_law 20 = .ok (.iconst 0, 1) := dk_3 (dk_at dksL_law_0 20 rfl rfl)
theorem dL_law_21 : decode cL_law 21 = .ok (.istore 4, 2) := dk_54 4 (dk_at dksL_law_0 21 rfl rfl)
theorem dL_law_23 : decode cL_law 23 = .ok (.iload 4, 2) := dk_21 4 (dk_at dksL_law_1 0 rfl rfl)
theorem dL_law_25 : decode cL_law 25 = .ok (.aload_n 0, 1) := dk_42 (dk_at dksL_law_1 2 rfl rfl)
theorem dL_law_26 : decode cL_law 26 = .ok (.arraylength, 1) := dk_190 (dk_at dksL_law_1 3 rfl rfl)
theorem dL_law_27 : decode cL_law 27 = .ok (.iconst 5, 1) := dk_8 (dk_at dksL_law_1 4 rfl rfl)
theorem dL_law_28 : decode cL_law 28 = .ok (.isub, 1) := dk_100 (dk_at dksL_law_1 5 rfl rfl)
theorem dL_law_29 : decode cL_law 29 = .ok (.if_icmp .gt 2506, 3) := dk_163 9 202 (dk_at dksL_law_1 6 rfl rfl)
theorem dL_law_32 : decode cL_law 32 = .ok (.aload_n 0, 1) := dk_42 (dk_at dksL_law_1 9 rfl rfl)
theorem dL_law_33 : decode cL_law 33 = .ok (.iload 4, 2) := dk_21 4 (dk_at dksL_law_1 10 rfl rfl)
theorem dL_law_35 : decode cL_law 35 = .ok (.iaload, 1) := dk_46 (dk_at dksL_law_1 12 rfl rfl)
theorem dL_law_36 : decode cL_law 36 = .ok (.bipush 63, 2) := dk_16 63 (dk_at dksL_law_1 13 rfl rfl)
theorem dL_law_38 : decode cL_law 38 = .ok (.iand, 1) := dk_126 (dk_at dksL_law_1 15 rfl rfl)
theorem dL_law_39 : decode cL_law 39 = .ok (.tableswitch 2490 0 36 #[161, 217, 285, 376, 468, 548, 640, 715, 783, 839, 895, 951, 1031, 1099, 1155, 1168, 1181, 1249, 1312, 1368, 1436, 1504, 1596, 1671, 1739, 1807, 1875, 1971, 2027, 2107, 2163, 2219, 2287, 2379, 2422, 2463, 2476], 161) := by decide +kernel
theorem dL_law_200 : decode cL_law 200 = .ok (.aload_n 1, 1) := dk_43 (dk_at dksL_law_3 0 rfl rfl)
theorem dL_law_201 : decode cL_law 201 = .ok (.aload_n 0, 1) := dk_42 (dk_at dksL_law_3 1 rfl rfl)
theorem dL_law_202 : decode cL_law 202 = .ok (.iload 4, 2) := dk_21 4 (dk_at dksL_law_3 2 rfl rfl)
theorem dL_law_204 : decode cL_law 204 = .ok (.iconst 1, 1) := dk_4 (dk_at dksL_law_3 4 rfl rfl)
theorem dL_law_205 : decode cL_law 205 = .ok (.iadd, 1) := dk_96 (dk_at dksL_law_3 5 rfl rfl)
theorem dL_law_206 : decode cL_law 206 = .ok (.iaload, 1) := dk_46 (dk_at dksL_law_3 6 rfl rfl)
theorem dL_law_207 : decode cL_law 207 = .ok (.aload_n 3, 1) := dk_45 (dk_at dksL_law_3 7 rfl rfl)
theorem dL_law_208 : decode cL_law 208 = .ok (.invokestatic 122, 3) := dk_184 0 122 (dk_at dksL_law_3 8 rfl rfl)
theorem dL_law_211 : decode cL_law 211 = .ok (.istore 5, 2) := dk_54 5 (dk_at dksL_law_3 11 rfl rfl)
theorem dL_law_213 : decode cL_law 213 = .ok (.aload_n 2, 1) := dk_44 (dk_at dksL_law_3 13 rfl rfl)
theorem dL_law_214 : decode cL_law 214 = .ok (.aload_n 0, 1) := dk_42 (dk_at dksL_law_3 14 rfl rfl)
theorem dL_law_215 : decode cL_law 215 = .ok (.iload 4, 2) := dk_21 4 (dk_at dksL_law_3 15 rfl rfl)
theorem dL_law_217 : decode cL_law 217 = .ok (.iconst 1, 1) := dk_4 (dk_at dksL_law_3 17 rfl rfl)
theorem dL_law_218 : decode cL_law 218 = .ok (.iadd, 1) := dk_96 (dk_at dksL_law_3 18 rfl rfl)
theorem dL_law_219 : decode cL_law 219 = .ok (.iaload, 1) := dk_46 (dk_at dksL_law_3 19 rfl rfl)
theorem dL_law_220 : decode cL_law 220 = .ok (.invokevirtual 127, 3) := dk_182 0 127 (dk_at dksL_law_3 20 rfl rfl)
theorem dL_law_223 : decode cL_law 223 = .ok (.istore 6, 2) := dk_54 6 (dk_at dksL_law_4 0 rfl rfl)
theorem dL_law_225 : decode cL_law 225 = .ok (.aload_n 2, 1) := dk_44 (dk_at dksL_law_4 2 rfl rfl)
theorem dL_law_226 : decode cL_law 226 = .ok (.invokevirtual 128, 3) := dk_182 0 128 (dk_at dksL_law_4 3 rfl rfl)
theorem dL_law_229 : decode cL_law 229 = .ok (.iload 5, 2) := dk_21 5 (dk_at dksL_law_4 6 rfl rfl)
theorem dL_law_231 : decode cL_law 231 = .ok (.if_icmp .eq 5, 3) := dk_159 0 5 (dk_at dksL_law_4 8 rfl rfl)
theorem dL_law_234 : decode cL_law 234 = .ok (.iconst 0, 1) := dk_3 (dk_at dksL_law_4 11 rfl rfl)
theorem dL_law_235 : decode cL_law 235 = .ok (.ireturn, 1) := dk_172 (dk_at dksL_law_4 12 rfl rfl)
theorem dL_law_236 : decode cL_law 236 = .ok (.iload 5, 2) := dk_21 5 (dk_at dksL_law_4 13 rfl rfl)
theorem dL_law_238 : decode cL_law 238 = .ok (.ifCond .ne 15, 3) := dk_154 0 15 (dk_at dksL_law_4 15 rfl rfl)
theorem dL_law_241 : decode cL_law 241 = .ok (.aload_n 3, 1) := dk_45 (dk_at dksL_law_4 18 rfl rfl)
theorem dL_law_242 : decode cL_law 242 = .ok (.iconst 0, 1) := dk_3 (dk_at dksL_law_4 19 rfl rfl)
theorem dL_law_243 : decode cL_law 243 = .ok (.laload, 1) := dk_47 (dk_at dksL_law_4 20 rfl rfl)
theorem dL_law_244 : decode cL_law 244 = .ok (.iload 6, 2) := dk_21 6 (dk_at dksL_law_4 21 rfl rfl)
theorem dL_law_246 : decode cL_law 246 = .ok (.i2l, 1) := dk_133 (dk_at dksL_law_4 23 rfl rfl)
theorem dL_law_247 : decode cL_law 247 = .ok (.lcmp, 1) := dk_148 (dk_at dksL_law_5 0 rfl rfl)
theorem dL_law_248 : decode cL_law 248 = .ok (.ifCond .eq 5, 3) := dk_153 0 5 (dk_at dksL_law_5 1 rfl rfl)
theorem dL_law_251 : decode cL_law 251 = .ok (.iconst 0, 1) := dk_3 (dk_at dksL_law_5 4 rfl rfl)
theorem dL_law_252 : decode cL_law 252 = .ok (.ireturn, 1) := dk_172 (dk_at dksL_law_5 5 rfl rfl)
theorem dL_law_253 : decode cL_law 253 = .ok (.goto 2276, 3) := dk_167 8 228 (dk_at dksL_law_5 6 rfl rfl)
theorem dL_law_256 : decode cL_law 256 = .ok (.aload_n 1, 1) := dk_43 (dk_at dksL_law_5 9 rfl rfl)
theorem dL_law_257 : decode cL_law 257 = .ok (.aload_n 0, 1) := dk_42 (dk_at dksL_law_5 10 rfl rfl)
theorem dL_law_258 : decode cL_law 258 = .ok (.iload 4, 2) := dk_21 4 (dk_at dksL_law_5 11 rfl rfl)
theorem dL_law_260 : decode cL_law 260 = .ok (.iconst 1, 1) := dk_4 (dk_at dksL_law_5 13 rfl rfl)
theorem dL_law_261 : decode cL_law 261 = .ok (.iadd, 1) := dk_96 (dk_at dksL_law_5 14 rfl rfl)
theorem dL_law_262 : decode cL_law 262 = .ok (.iaload, 1) := dk_46 (dk_at dksL_law_5 15 rfl rfl)
theorem dL_law_263 : decode cL_law 263 = .ok (.aload_n 0, 1) := dk_42 (dk_at dksL_law_5 16 rfl rfl)
theorem dL_law_264 : decode cL_law 264 = .ok (.iload 4, 2) := dk_21 4 (dk_at dksL_law_5 17 rfl rfl)
theorem dL_law_266 : decode cL_law 266 = .ok (.iconst 2, 1) := dk_5 (dk_at dksL_law_5 19 rfl rfl)
theorem dL_law_267 : decode cL_law 267 = .ok (.iadd, 1) := dk_96 (dk_at dksL_law_5 20 rfl rfl)
theorem dL_law_268 : decode cL_law 268 = .ok (.iaload, 1) := dk_46 (dk_at dksL_law_5 21 rfl rfl)
theorem dL_law_269 : decode cL_law 269 = .ok (.aload_n 3, 1) := dk_45 (dk_at dksL_law_5 22 rfl rfl)
theorem dL_law_270 : decode cL_law 270 = .ok (.invokestatic 132, 3) := dk_184 0 132 (dk_at dksL_law_6 0 rfl rfl)
theorem dL_law_273 : decode cL_law 273 = .ok (.istore 5, 2) := dk_54 5 (dk_at dksL_law_6 3 rfl rfl)
theorem dL_law_275 : decode cL_law 275 = .ok (.aload_n 2, 1) := dk_44 (dk_at dksL_law_6 5 rfl rfl)
theorem dL_law_276 : decode cL_law 276 = .ok (.aload_n 0, 1) := dk_42 (dk_at dksL_law_6 6 rfl rfl)
theorem dL_law_277 : decode cL_law 277 = .ok (.iload 4, 2) := dk_21 4 (dk_at dksL_law_6 7 rfl rfl)
theorem dL_law_279 : decode cL_law 279 = .ok (.iconst 1, 1) := dk_4 (dk_at dksL_law_6 9 rfl rfl)
theorem dL_law_280 : decode cL_law 280 = .ok (.iadd, 1) := dk_96 (dk_at dksL_law_6 10 rfl rfl)
theorem dL_law_281 : decode cL_law 281 = .ok (.iaload, 1) := dk_46 (dk_at dksL_law_6 11 rfl rfl)
theorem dL_law_282 : decode cL_law 282 = .ok (.aload_n 0, 1) := dk_42 (dk_at dksL_law_6 12 rfl rfl)
theorem dL_law_283 : decode cL_law 283 = .ok (.iload 4, 2) := dk_21 4 (dk_at dksL_law_6 13 rfl rfl)
theorem dL_law_285 : decode cL_law 285 = .ok (.iconst 2, 1) := dk_5 (dk_at dksL_law_6 15 rfl rfl)
theorem dL_law_286 : decode cL_law 286 = .ok (.iadd, 1) := dk_96 (dk_at dksL_law_6 16 rfl rfl)
theorem dL_law_287 : decode cL_law 287 = .ok (.iaload, 1) := dk_46 (dk_at dksL_law_6 17 rfl rfl)
theorem dL_law_288 : decode cL_law 288 = .ok (.invokevirtual 135, 3) := dk_182 0 135 (dk_at dksL_law_6 18 rfl rfl)
theorem dL_law_291 : decode cL_law 291 = .ok (.istore 6, 2) := dk_54 6 (dk_at dksL_law_6 21 rfl rfl)
theorem dL_law_293 : decode cL_law 293 = .ok (.aload_n 2, 1) := dk_44 (dk_at dksL_law_6 23 rfl rfl)
theorem dL_law_294 : decode cL_law 294 = .ok (.invokevirtual 128, 3) := dk_182 0 128 (dk_at dksL_law_7 0 rfl rfl)
theorem dL_law_297 : decode cL_law 297 = .ok (.iload 5, 2) := dk_21 5 (dk_at dksL_law_7 3 rfl rfl)
theorem dL_law_299 : decode cL_law 299 = .ok (.if_icmp .eq 5, 3) := dk_159 0 5 (dk_at dksL_law_7 5 rfl rfl)
theorem dL_law_302 : decode cL_law 302 = .ok (.iconst 0, 1) := dk_3 (dk_at dksL_law_7 8 rfl rfl)
theorem dL_law_303 : decode cL_law 303 = .ok (.ireturn, 1) := dk_172 (dk_at dksL_law_7 9 rfl rfl)
theorem dL_law_304 : decode cL_law 304 = .ok (.iload 5, 2) := dk_21 5 (dk_at dksL_law_7 10 rfl rfl)
theorem dL_law_306 : decode cL_law 306 = .ok (.ifCond .ne 15, 3) := dk_154 0 15 (dk_at dksL_law_7 12 rfl rfl)
theorem dL_law_309 : decode cL_law 309 = .ok (.aload_n 3, 1) := dk_45 (dk_at dksL_law_7 15 rfl rfl)
theorem dL_law_310 : decode cL_law 310 = .ok (.iconst 0, 1) := dk_3 (dk_at dksL_law_7 16 rfl rfl)
theorem dL_law_311 : decode cL_law 311 = .ok (.laload, 1) := dk_47 (dk_at dksL_law_7 17 rfl rfl)
theorem dL_law_312 : decode cL_law 312 = .ok (.iload 6, 2) := dk_21 6 (dk_at dksL_law_7 18 rfl rfl)
theorem dL_law_314 : decode cL_law 314 = .ok (.i2l, 1) := dk_133 (dk_at dksL_law_7 20 rfl rfl)
theorem dL_law_315 : decode cL_law 315 = .ok (.lcmp, 1) := dk_148 (dk_at dksL_law_7 21 rfl rfl)
theorem dL_law_316 : decode cL_law 316 = .ok (.ifCond .eq 5, 3) := dk_153 0 5 (dk_at dksL_law_8 0 rfl rfl)
theorem dL_law_319 : decode cL_law 319 = .ok (.iconst 0, 1) := dk_3 (dk_at dksL_law_8 3 rfl rfl)
theorem dL_law_320 : decode cL_law 320 = .ok (.ireturn, 1) := dk_172 (dk_at dksL_law_8 4 rfl rfl)
theorem dL_law_321 : decode cL_law 321 = .ok (.goto 2208, 3) := dk_167 8 160 (dk_at dksL_law_8 5 rfl rfl)
theorem dL_law_324 : decode cL_law 324 = .ok (.aload_n 1, 1) := dk_43 (dk_at dksL_law_8 8 rfl rfl)
theorem dL_law_325 : decode cL_law 325 = .ok (.aload_n 0, 1) := dk_42 (dk_at dksL_law_8 9 rfl rfl)
theorem dL_law_326 : decode cL_law 326 = .ok (.iload 4, 2) := dk_21 4 (dk_at dksL_law_8 10 rfl rfl)
theorem dL_law_328 : decode cL_law 328 = .ok (.iconst 1, 1) := dk_4 (dk_at dksL_law_8 12 rfl rfl)
theorem dL_law_329 : decode cL_law 329 = .ok (.iadd, 1) := dk_96 (dk_at dksL_law_8 13 rfl rfl)
theorem dL_law_330 : decode cL_law 330 = .ok (.iaload, 1) := dk_46 (dk_at dksL_law_8 14 rfl rfl)
theorem dL_law_331 : decode cL_law 331 = .ok (.aload_n 0, 1) := dk_42 (dk_at dksL_law_8 15 rfl rfl)
theorem dL_law_332 : decode cL_law 332 = .ok (.iload 4, 2) := dk_21 4 (dk_at dksL_law_8 16 rfl rfl)
theorem dL_law_334 : decode cL_law 334 = .ok (.iconst 2, 1) := dk_5 (dk_at dksL_law_8 18 rfl rfl)
theorem dL_law_335 : decode cL_law 335 = .ok (.iadd, 1) := dk_96 (dk_at dksL_law_8 19 rfl rfl)
theorem dL_law_336 : decode cL_law 336 = .ok (.iaload, 1) := dk_46 (dk_at dksL_law_8 20 rfl rfl)
theorem dL_law_337 : decode cL_law 337 = .ok (.ifCond .eq 7, 3) := dk_153 0 7 (dk_at dksL_law_8 21 rfl rfl)
theorem dL_law_340 : decode cL_law 340 = .ok (.iconst 1, 1) := dk_4 (dk_at dksL_law_9 0 rfl rfl)
theorem dL_law_341 : decode cL_law 341 = .ok (.goto 4, 3) := dk_167 0 4 (dk_at dksL_law_9 1 rfl rfl)
theorem dL_law_344 : decode cL_law 344 = .ok (.iconst 0, 1) := dk_3 (dk_at dksL_law_9 4 rfl rfl)
theorem dL_law_345 : decode cL_law 345 = .ok (.aload_n 3, 1) := dk_45 (dk_at dksL_law_9 5 rfl rfl)
theorem dL_law_346 : decode cL_law 346 = .ok (.invokestatic 136, 3) := dk_184 0 136 (dk_at dksL_law_9 6 rfl rfl)
theorem dL_law_349 : decode cL_law 349 = .ok (.istore 5, 2) := dk_54 5 (dk_at dksL_law_9 9 rfl rfl)
theorem dL_law_351 : decode cL_law 351 = .ok (.aload_n 2, 1) := dk_44 (dk_at dksL_law_9 11 rfl rfl)
theorem dL_law_352 : decode cL_law 352 = .ok (.aload_n 0, 1) := dk_42 (dk_at dksL_law_9 12 rfl rfl)
theorem dL_law_353 : decode cL_law 353 = .ok (.iload 4, 2) := dk_21 4 (dk_at dksL_law_9 13 rfl rfl)
theorem dL_law_355 : decode cL_law 355 = .ok (.iconst 1, 1) := dk_4 (dk_at dksL_law_9 15 rfl rfl)
theorem dL_law_356 : decode cL_law 356 = .ok (.iadd, 1) := dk_96 (dk_at dksL_law_9 16 rfl rfl)
theorem dL_law_357 : decode cL_law 357 = .ok (.iaload, 1) := dk_46 (dk_at dksL_law_9 17 rfl rfl)
theorem dL_law_358 : decode cL_law 358 = .ok (.aload_n 0, 1) := dk_42 (dk_at dksL_law_9 18 rfl rfl)
theorem dL_law_359 : decode cL_law 359 = .ok (.iload 4, 2) := dk_21 4 (dk_at dksL_law_9 19 rfl rfl)
theorem dL_law_361 : decode cL_law 361 = .ok (.iconst 2, 1) := dk_5 (dk_at dksL_law_9 21 rfl rfl)
theorem dL_law_362 : decode cL_law 362 = .ok (.iadd, 1) := dk_96 (dk_at dksL_law_9 22 rfl rfl)
theorem dL_law_363 : decode cL_law 363 = .ok (.iaload, 1) := dk_46 (dk_at dksL_law_9 23 rfl rfl)
theorem dL_law_364 : decode cL_law 364 = .ok (.ifCond .eq 7, 3) := dk_153 0 7 (dk_at dksL_law_10 0 rfl rfl)
theorem dL_law_367 : decode cL_law 367 = .ok (.iconst 1, 1) := dk_4 (dk_at dksL_law_10 3 rfl rfl)
theorem dL_law_368 : decode cL_law 368 = .ok (.goto 4, 3) := dk_167 0 4 (dk_at dksL_law_10 4 rfl rfl)
theorem dL_law_371 : decode cL_law 371 = .ok (.iconst 0, 1) := dk_3 (dk_at dksL_law_10 7 rfl rfl)
theorem dL_law_372 : decode cL_law 372 = .ok (.invokevirtual 139, 3) := dk_182 0 139 (dk_at dksL_law_10 8 rfl rfl)
theorem dL_law_375 : decode cL_law 375 = .ok (.istore 6, 2) := dk_54 6 (dk_at dksL_law_10 11 rfl rfl)
theorem dL_law_377 : decode cL_law 377 = .ok (.aload_n 2, 1) := dk_44 (dk_at dksL_law_10 13 rfl rfl)
theorem dL_law_378 : decode cL_law 378 = .ok (.invokevirtual 128, 3) := dk_182 0 128 (dk_at dksL_law_10 14 rfl rfl)
theorem dL_law_381 : decode cL_law 381 = .ok (.iload 5, 2) := dk_21 5 (dk_at dksL_law_10 17 rfl rfl)
theorem dL_law_383 : decode cL_law 383 = .ok (.if_icmp .eq 5, 3) := dk_159 0 5 (dk_at dksL_law_10 19 rfl rfl)
theorem dL_law_386 : decode cL_law 386 = .ok (.iconst 0, 1) := dk_3 (dk_at dksL_law_10 22 rfl rfl)
theorem dL_law_387 : decode cL_law 387 = .ok (.ireturn, 1) := dk_172 (dk_at dksL_law_10 23 rfl rfl)
theorem dL_law_388 : decode cL_law 388 = .ok (.iload 5, 2) := dk_21 5 (dk_at dksL_law_11 0 rfl rfl)
theorem dL_law_390 : decode cL_law 390 = .ok (.ifCond .ne 22, 3) := dk_154 0 22 (dk_at dksL_law_11 2 rfl rfl)
theorem dL_law_393 : decode cL_law 393 = .ok (.aload_n 3, 1) := dk_45 (dk_at dksL_law_11 5 rfl rfl)
theorem dL_law_394 : decode cL_law 394 = .ok (.iconst 0, 1) := dk_3 (dk_at dksL_law_11 6 rfl rfl)
theorem dL_law_395 : decode cL_law 395 = .ok (.laload, 1) := dk_47 (dk_at dksL_law_11 7 rfl rfl)
theorem dL_law_396 : decode cL_law 396 = .ok (.iload 6, 2) := dk_21 6 (dk_at dksL_law_11 8 rfl rfl)
theorem dL_law_398 : decode cL_law 398 = .ok (.ifCond .eq 7, 3) := dk_153 0 7 (dk_at dksL_law_11 10 rfl rfl)
theorem dL_law_401 : decode cL_law 401 = .ok (.lconst 1, 1) := dk_10 (dk_at dksL_law_11 13 rfl rfl)
theorem dL_law_402 : decode cL_law 402 = .ok (.goto 4, 3) := dk_167 0 4 (dk_at dksL_law_11 14 rfl rfl)
theorem dL_law_405 : decode cL_law 405 = .ok (.lconst 0, 1) := dk_9 (dk_at dksL_law_11 17 rfl rfl)
theorem dL_law_406 : decode cL_law 406 = .ok (.lcmp, 1) := dk_148 (dk_at dksL_law_11 18 rfl rfl)
theorem dL_law_407 : decode cL_law 407 = .ok (.ifCond .eq 5, 3) := dk_153 0 5 (dk_at dksL_law_11 19 rfl rfl)
theorem dL_law_410 : decode cL_law 410 = .ok (.iconst 0, 1) := dk_3 (dk_at dksL_law_11 22 rfl rfl)
theorem dL_law_411 : decode cL_law 411 = .ok (.ireturn, 1) := dk_172 (dk_at dksL_law_11 23 rfl rfl)
theorem dL_law_412 : decode cL_law 412 = .ok (.goto 2117, 3) := dk_167 8 69 (dk_at dksL_law_12 0 rfl rfl)
theorem dL_law_415 : decode cL_law 415 = .ok (.aload_n 1, 1) := dk_43 (dk_at dksL_law_12 3 rfl rfl)
theorem dL_law_416 : decode cL_law 416 = .ok (.aload_n 0, 1) := dk_42 (dk_at dksL_law_12 4 rfl rfl)
theorem dL_law_417 : decode cL_law 417 = .ok (.iload 4, 2) := dk_21 4 (dk_at dksL_law_12 5 rfl rfl)
theorem dL_law_419 : decode cL_law 419 = .ok (.iconst 1, 1) := dk_4 (dk_at dksL_law_12 7 rfl rfl)
theorem dL_law_420 : decode cL_law 420 = .ok (.iadd, 1) := dk_96 (dk_at dksL_law_12 8 rfl rfl)
theorem dL_law_421 : decode cL_law 421 = .ok (.iaload, 1) := dk_46 (dk_at dksL_law_12 9 rfl rfl)
theorem dL_law_422 : decode cL_law 422 = .ok (.aload_n 0, 1) := dk_42 (dk_at dksL_law_12 10 rfl rfl)
theorem dL_law_423 : decode cL_law 423 = .ok (.iload 4, 2) := dk_21 4 (dk_at dksL_law_12 11 rfl rfl)
theorem dL_law_425 : decode cL_law 425 = .ok (.iconst 2, 1) := dk_5 (dk_at dksL_law_12 13 rfl rfl)
theorem dL_law_426 : decode cL_law 426 = .ok (.iadd, 1) := dk_96 (dk_at dksL_law_12 14 rfl rfl)
theorem dL_law_427 : decode cL_law 427 = .ok (.iaload, 1) := dk_46 (dk_at dksL_law_12 15 rfl rfl)
theorem dL_law_428 : decode cL_law 428 = .ok (.aload_n 0, 1) := dk_42 (dk_at dksL_law_12 16 rfl rfl)
theorem dL_law_429 : decode cL_law 429 = .ok (.iload 4, 2) := dk_21 4 (dk_at dksL_law_12 17 rfl rfl)
theorem dL_law_431 : decode cL_law 431 = .ok (.iconst 3, 1) := dk_6 (dk_at dksL_law_12 19 rfl rfl)
theorem dL_law_432 : decode cL_law 432 = .ok (.iadd, 1) := dk_96 (dk_at dksL_law_12 20 rfl rfl)
theorem dL_law_433 : decode cL_law 433 = .ok (.iaload, 1) := dk_46 (dk_at dksL_law_12 21 rfl rfl)
theorem dL_law_434 : decode cL_law 434 = .ok (.aload_n 0, 1) := dk_42 (dk_at dksL_law_12 22 rfl rfl)
theorem dL_law_435 : decode cL_law 435 = .ok (.iload 4, 2) := dk_21 4 (dk_at dksL_law_13 0 rfl rfl)
theorem dL_law_437 : decode cL_law 437 = .ok (.iconst 4, 1) := dk_7 (dk_at dksL_law_13 2 rfl rfl)
theorem dL_law_438 : decode cL_law 438 = .ok (.iadd, 1) := dk_96 (dk_at dksL_law_13 3 rfl rfl)
theorem dL_law_439 : decode cL_law 439 = .ok (.iaload, 1) := dk_46 (dk_at dksL_law_13 4 rfl rfl)
theorem dL_law_440 : decode cL_law 440 = .ok (.aload_n 3, 1) := dk_45 (dk_at dksL_law_13 5 rfl rfl)
theorem dL_law_441 : decode cL_law 441 = .ok (.invokestatic 140, 3) := dk_184 0 140 (dk_at dksL_law_13 6 rfl rfl)
theorem dL_law_444 : decode cL_law 444 = .ok (.istore 5, 2) := dk_54 5 (dk_at dksL_law_13 9 rfl rfl)
theorem dL_law_446 : decode cL_law 446 = .ok (.aload_n 2, 1) := dk_44 (dk_at dksL_law_13 11 rfl rfl)
theorem dL_law_447 : decode cL_law 447 = .ok (.aload_n 0, 1) := dk_42 (dk_at dksL_law_13 12 rfl rfl)
theorem dL_law_448 : decode cL_law 448 = .ok (.iload 4, 2) := dk_21 4 (dk_at dksL_law_13 13 rfl rfl)
theorem dL_law_450 : decode cL_law 450 = .ok (.iconst 1, 1) := dk_4 (dk_at dksL_law_13 15 rfl rfl)
theorem dL_law_451 : decode cL_law 451 = .ok (.iadd, 1) := dk_96 (dk_at dksL_law_13 16 rfl rfl)
theorem dL_law_452 : decode cL_law 452 = .ok (.iaload, 1) := dk_46 (dk_at dksL_law_13 17 rfl rfl)
theorem dL_law_453 : decode cL_law 453 = .ok (.aload_n 0, 1) := dk_42 (dk_at dksL_law_13 18 rfl rfl)
theorem dL_law_454 : decode cL_law 454 = .ok (.iload 4, 2) := dk_21 4 (dk_at dksL_law_13 19 rfl rfl)
theorem dL_law_456 : decode cL_law 456 = .ok (.iconst 2, 1) := dk_5 (dk_at dksL_law_13 21 rfl rfl)
theorem dL_law_457 : decode cL_law 457 = .ok (.iadd, 1) := dk_96 (dk_at dksL_law_13 22 rfl rfl)
theorem dL_law_458 : decode cL_law 458 = .ok (.iaload, 1) := dk_46 (dk_at dksL_law_13 23 rfl rfl)
theorem dL_law_459 : decode cL_law 459 = .ok (.aload_n 0, 1) := dk_42 (dk_at dksL_law_14 0 rfl rfl)
theorem dL_law_460 : decode cL_law 460 = .ok (.iload 4, 2) := dk_21 4 (dk_at dksL_law_14 1 rfl rfl)
theorem dL_law_462 : decode cL_law 462 = .ok (.iconst 3, 1) := dk_6 (dk_at dksL_law_14 3 rfl rfl)
theorem dL_law_463 : decode cL_law 463 = .ok (.iadd, 1) := dk_96 (dk_at dksL_law_14 4 rfl rfl)
theorem dL_law_464 : decode cL_law 464 = .ok (.iaload, 1) := dk_46 (dk_at dksL_law_14 5 rfl rfl)
theorem dL_law_465 : decode cL_law 465 = .ok (.aload_n 0, 1) := dk_42 (dk_at dksL_law_14 6 rfl rfl)
theorem dL_law_466 : decode cL_law 466 = .ok (.iload 4, 2) := dk_21 4 (dk_at dksL_law_14 7 rfl rfl)
theorem dL_law_468 : decode cL_law 468 = .ok (.iconst 4, 1) := dk_7 (dk_at dksL_law_14 9 rfl rfl)
theorem dL_law_469 : decode cL_law 469 = .ok (.iadd, 1) := dk_96 (dk_at dksL_law_14 10 rfl rfl)
theorem dL_law_470 : decode cL_law 470 = .ok (.iaload, 1) := dk_46 (dk_at dksL_law_14 11 rfl rfl)
theorem dL_law_471 : decode cL_law 471 = .ok (.invokevirtual 143, 3) := dk_182 0 143 (dk_at dksL_law_14 12 rfl rfl)
theorem dL_law_474 : decode cL_law 474 = .ok (.istore 6, 2) := dk_54 6 (dk_at dksL_law_14 15 rfl rfl)
theorem dL_law_476 : decode cL_law 476 = .ok (.aload_n 2, 1) := dk_44 (dk_at dksL_law_14 17 rfl rfl)
theorem dL_law_477 : decode cL_law 477 = .ok (.invokevirtual 128, 3) := dk_182 0 128 (dk_at dksL_law_14 18 rfl rfl)
theorem dL_law_480 : decode cL_law 480 = .ok (.iload 5, 2) := dk_21 5 (dk_at dksL_law_14 21 rfl rfl)
theorem dL_law_482 : decode cL_law 482 = .ok (.if_icmp .eq 5, 3) := dk_159 0 5 (dk_at dksL_law_15 0 rfl rfl)
theorem dL_law_485 : decode cL_law 485 = .ok (.iconst 0, 1) := dk_3 (dk_at dksL_law_15 3 rfl rfl)
theorem dL_law_486 : decode cL_law 486 = .ok (.ireturn, 1) := dk_172 (dk_at dksL_law_15 4 rfl rfl)
theorem dL_law_487 : decode cL_law 487 = .ok (.iload 5, 2) := dk_21 5 (dk_at dksL_law_15 5 rfl rfl)
theorem dL_law_489 : decode cL_law 489 = .ok (.ifCond .ne 15, 3) := dk_154 0 15 (dk_at dksL_law_15 7 rfl rfl)
theorem dL_law_492 : decode cL_law 492 = .ok (.aload_n 3, 1) := dk_45 (dk_at dksL_law_15 10 rfl rfl)
theorem dL_law_493 : decode cL_law 493 = .ok (.iconst 0, 1) := dk_3 (dk_at dksL_law_15 11 rfl rfl)
theorem dL_law_494 : decode cL_law 494 = .ok (.laload, 1) := dk_47 (dk_at dksL_law_15 12 rfl rfl)
theorem dL_law_495 : decode cL_law 495 = .ok (.iload 6, 2) := dk_21 6 (dk_at dksL_law_15 13 rfl rfl)
theorem dL_law_497 : decode cL_law 497 = .ok (.i2l, 1) := dk_133 (dk_at dksL_law_15 15 rfl rfl)
theorem dL_law_498 : decode cL_law 498 = .ok (.lcmp, 1) := dk_148 (dk_at dksL_law_15 16 rfl rfl)
theorem dL_law_499 : decode cL_law 499 = .ok (.ifCond .eq 5, 3) := dk_153 0 5 (dk_at dksL_law_15 17 rfl rfl)
theorem dL_law_502 : decode cL_law 502 = .ok (.iconst 0, 1) := dk_3 (dk_at dksL_law_15 20 rfl rfl)
theorem dL_law_503 : decode cL_law 503 = .ok (.ireturn, 1) := dk_172 (dk_at dksL_law_15 21 rfl rfl)
theorem dL_law_504 : decode cL_law 504 = .ok (.goto 2025, 3) := dk_167 7 233 (dk_at dksL_law_16 0 rfl rfl)
theorem dL_law_507 : decode cL_law 507 = .ok (.aload_n 1, 1) := dk_43 (dk_at dksL_law_16 3 rfl rfl)
theorem dL_law_508 : decode cL_law 508 = .ok (.aload_n 0, 1) := dk_42 (dk_at dksL_law_16 4 rfl rfl)
theorem dL_law_509 : decode cL_law 509 = .ok (.iload 4, 2) := dk_21 4 (dk_at dksL_law_16 5 rfl rfl)
theorem dL_law_511 : decode cL_law 511 = .ok (.iconst 1, 1) := dk_4 (dk_at dksL_law_16 7 rfl rfl)
theorem dL_law_512 : decode cL_law 512 = .ok (.iadd, 1) := dk_96 (dk_at dksL_law_16 8 rfl rfl)
theorem dL_law_513 : decode cL_law 513 = .ok (.iaload, 1) := dk_46 (dk_at dksL_law_16 9 rfl rfl)
theorem dL_law_514 : decode cL_law 514 = .ok (.aload_n 0, 1) := dk_42 (dk_at dksL_law_16 10 rfl rfl)
theorem dL_law_515 : decode cL_law 515 = .ok (.iload 4, 2) := dk_21 4 (dk_at dksL_law_16 11 rfl rfl)
theorem dL_law_517 : decode cL_law 517 = .ok (.iconst 2, 1) := dk_5 (dk_at dksL_law_16 13 rfl rfl)
theorem dL_law_518 : decode cL_law 518 = .ok (.iadd, 1) := dk_96 (dk_at dksL_law_16 14 rfl rfl)
theorem dL_law_519 : decode cL_law 519 = .ok (.iaload, 1) := dk_46 (dk_at dksL_law_16 15 rfl rfl)
theorem dL_law_520 : decode cL_law 520 = .ok (.aload_n 0, 1) := dk_42 (dk_at dksL_law_16 16 rfl rfl)
theorem dL_law_521 : decode cL_law 521 = .ok (.iload 4, 2) := dk_21 4 (dk_at dksL_law_16 17 rfl rfl)
theorem dL_law_523 : decode cL_law 523 = .ok (.iconst 3, 1) := dk_6 (dk_at dksL_law_16 19 rfl rfl)
theorem dL_law_524 : decode cL_law 524 = .ok (.iadd, 1) := dk_96 (dk_at dksL_law_16 20 rfl rfl)
theorem dL_law_525 : decode cL_law 525 = .ok (.iaload, 1) := dk_46 (dk_at dksL_law_16 21 rfl rfl)
theorem dL_law_526 : decode cL_law 526 = .ok (.aload_n 3, 1) := dk_45 (dk_at dksL_law_16 22 rfl rfl)
theorem dL_law_527 : decode cL_law 527 = .ok (.invokestatic 144, 3) := dk_184 0 144 (dk_at dksL_law_17 0 rfl rfl)
theorem dL_law_530 : decode cL_law 530 = .ok (.istore 5, 2) := dk_54 5 (dk_at dksL_law_17 3 rfl rfl)
theorem dL_law_532 : decode cL_law 532 = .ok (.aload_n 2, 1) := dk_44 (dk_at dksL_law_17 5 rfl rfl)
theorem dL_law_533 : decode cL_law 533 = .ok (.aload_n 0, 1) := dk_42 (dk_at dksL_law_17 6 rfl rfl)
theorem dL_law_534 : decode cL_law 534 = .ok (.iload 4, 2) := dk_21 4 (dk_at dksL_law_17 7 rfl rfl)
theorem dL_law_536 : decode cL_law 536 = .ok (.iconst 1, 1) := dk_4 (dk_at dksL_law_17 9 rfl rfl)
theorem dL_law_537 : decode cL_law 537 = .ok (.iadd, 1) := dk_96 (dk_at dksL_law_17 10 rfl rfl)
theorem dL_law_538 : decode cL_law 538 = .ok (.iaload, 1) := dk_46 (dk_at dksL_law_17 11 rfl rfl)
theorem dL_law_539 : decode cL_law 539 = .ok (.aload_n 0, 1) := dk_42 (dk_at dksL_law_17 12 rfl rfl)
theorem dL_law_540 : decode cL_law 540 = .ok (.iload 4, 2) := dk_21 4 (dk_at dksL_law_17 13 rfl rfl)
theorem dL_law_542 : decode cL_law 542 = .ok (.iconst 2, 1) := dk_5 (dk_at dksL_law_17 15 rfl rfl)
theorem dL_law_543 : decode cL_law 543 = .ok (.iadd, 1) := dk_96 (dk_at dksL_law_17 16 rfl rfl)
theorem dL_law_544 : decode cL_law 544 = .ok (.iaload, 1) := dk_46 (dk_at dksL_law_17 17 rfl rfl)
theorem dL_law_545 : decode cL_law 545 = .ok (.aload_n 0, 1) := dk_42 (dk_at dksL_law_17 18 rfl rfl)
theorem dL_law_546 : decode cL_law 546 = .ok (.iload 4, 2) := dk_21 4 (dk_at dksL_law_17 19 rfl rfl)
theorem dL_law_548 : decode cL_law 548 = .ok (.iconst 3, 1) := dk_6 (dk_at dksL_law_17 21 rfl rfl)
theorem dL_law_549 : decode cL_law 549 = .ok (.iadd, 1) := dk_96 (dk_at dksL_law_17 22 rfl rfl)
theorem dL_law_550 : decode cL_law 550 = .ok (.iaload, 1) := dk_46 (dk_at dksL_law_17 23 rfl rfl)
theorem dL_law_551 : decode cL_law 551 = .ok (.invokevirtual 147, 3) := dk_182 0 147 (dk_at dksL_law_18 0 rfl rfl)
theorem dL_law_554 : decode cL_law 554 = .ok (.istore 6, 2) := dk_54 6 (dk_at dksL_law_18 3 rfl rfl)
theorem dL_law_556 : decode cL_law 556 = .ok (.aload_n 2, 1) := dk_44 (dk_at dksL_law_18 5 rfl rfl)
theorem dL_law_557 : decode cL_law 557 = .ok (.invokevirtual 128, 3) := dk_182 0 128 (dk_at dksL_law_18 6 rfl rfl)
theorem dL_law_560 : decode cL_law 560 = .ok (.iload 5, 2) := dk_21 5 (dk_at dksL_law_18 9 rfl rfl)
theorem dL_law_562 : decode cL_law 562 = .ok (.if_icmp .eq 5, 3) := dk_159 0 5 (dk_at dksL_law_18 11 rfl rfl)
theorem dL_law_565 : decode cL_law 565 = .ok (.iconst 0, 1) := dk_3 (dk_at dksL_law_18 14 rfl rfl)
theorem dL_law_566 : decode cL_law 566 = .ok (.ireturn, 1) := dk_172 (dk_at dksL_law_18 15 rfl rfl)
theorem dL_law_567 : decode cL_law 567 = .ok (.iload 5, 2) := dk_21 5 (dk_at dksL_law_18 16 rfl rfl)
theorem dL_law_569 : decode cL_law 569 = .ok (.ifCond .ne 15, 3) := dk_154 0 15 (dk_at dksL_law_18 18 rfl rfl)
theorem dL_law_572 : decode cL_law 572 = .ok (.aload_n 3, 1) := dk_45 (dk_at dksL_law_18 21 rfl rfl)
theorem dL_law_573 : decode cL_law 573 = .ok (.iconst 0, 1) := dk_3 (dk_at dksL_law_18 22 rfl rfl)
theorem dL_law_574 : decode cL_law 574 = .ok (.laload, 1) := dk_47 (dk_at dksL_law_18 23 rfl rfl)
theorem dL_law_575 : decode cL_law 575 = .ok (.iload 6, 2) := dk_21 6 (dk_at dksL_law_19 0 rfl rfl)
theorem dL_law_577 : decode cL_law 577 = .ok (.i2l, 1) := dk_133 (dk_at dksL_law_19 2 rfl rfl)
theorem dL_law_578 : decode cL_law 578 = .ok (.lcmp, 1) := dk_148 (dk_at dksL_law_19 3 rfl rfl)
theorem dL_law_579 : decode cL_law 579 = .ok (.ifCond .eq 5, 3) := dk_153 0 5 (dk_at dksL_law_19 4 rfl rfl)
theorem dL_law_582 : decode cL_law 582 = .ok (.iconst 0, 1) := dk_3 (dk_at dksL_law_19 7 rfl rfl)
theorem dL_law_583 : decode cL_law 583 = .ok (.ireturn, 1) := dk_172 (dk_at dksL_law_19 8 rfl rfl)
theorem dL_law_584 : decode cL_law 584 = .ok (.goto 1945, 3) := dk_167 7 153 (dk_at dksL_law_19 9 rfl rfl)
theorem dL_law_587 : decode cL_law 587 = .ok (.aload_n 1, 1) := dk_43 (dk_at dksL_law_19 12 rfl rfl)
theorem dL_law_588 : decode cL_law 588 = .ok (.aload_n 0, 1) := dk_42 (dk_at dksL_law_19 13 rfl rfl)
theorem dL_law_589 : decode cL_law 589 = .ok (.iload 4, 2) := dk_21 4 (dk_at dksL_law_19 14 rfl rfl)
theorem dL_law_591 : decode cL_law 591 = .ok (.iconst 1, 1) := dk_4 (dk_at dksL_law_19 16 rfl rfl)
theorem dL_law_592 : decode cL_law 592 = .ok (.iadd, 1) := dk_96 (dk_at dksL_law_19 17 rfl rfl)
theorem dL_law_593 : decode cL_law 593 = .ok (.iaload, 1) := dk_46 (dk_at dksL_law_19 18 rfl rfl)
theorem dL_law_594 : decode cL_law 594 = .ok (.aload_n 0, 1) := dk_42 (dk_at dksL_law_19 19 rfl rfl)
theorem dL_law_595 : decode cL_law 595 = .ok (.iload 4, 2) := dk_21 4 (dk_at dksL_law_19 20 rfl rfl)
theorem dL_law_597 : decode cL_law 597 = .ok (.iconst 2, 1) := dk_5 (dk_at dksL_law_19 22 rfl rfl)
theorem dL_law_598 : decode cL_law 598 = .ok (.iadd, 1) := dk_96 (dk_at dksL_law_19 23 rfl rfl)
theorem dL_law_599 : decode cL_law 599 = .ok (.iaload, 1) := dk_46 (dk_at dksL_law_20 0 rfl rfl)
theorem dL_law_600 : decode cL_law 600 = .ok (.aload_n 0, 1) := dk_42 (dk_at dksL_law_20 1 rfl rfl)
theorem dL_law_601 : decode cL_law 601 = .ok (.iload 4, 2) := dk_21 4 (dk_at dksL_law_20 2 rfl rfl)
theorem dL_law_603 : decode cL_law 603 = .ok (.iconst 3, 1) := dk_6 (dk_at dksL_law_20 4 rfl rfl)
theorem dL_law_604 : decode cL_law 604 = .ok (.iadd, 1) := dk_96 (dk_at dksL_law_20 5 rfl rfl)
theorem dL_law_605 : decode cL_law 605 = .ok (.iaload, 1) := dk_46 (dk_at dksL_law_20 6 rfl rfl)
theorem dL_law_606 : decode cL_law 606 = .ok (.aload_n 0, 1) := dk_42 (dk_at dksL_law_20 7 rfl rfl)
theorem dL_law_607 : decode cL_law 607 = .ok (.iload 4, 2) := dk_21 4 (dk_at dksL_law_20 8 rfl rfl)
theorem dL_law_609 : decode cL_law 609 = .ok (.iconst 4, 1) := dk_7 (dk_at dksL_law_20 10 rfl rfl)
theorem dL_law_610 : decode cL_law 610 = .ok (.iadd, 1) := dk_96 (dk_at dksL_law_20 11 rfl rfl)
theorem dL_law_611 : decode cL_law 611 = .ok (.iaload, 1) := dk_46 (dk_at dksL_law_20 12 rfl rfl)
theorem dL_law_612 : decode cL_law 612 = .ok (.aload_n 3, 1) := dk_45 (dk_at dksL_law_20 13 rfl rfl)
theorem dL_law_613 : decode cL_law 613 = .ok (.invokestatic 148, 3) := dk_184 0 148 (dk_at dksL_law_20 14 rfl rfl)
theorem dL_law_616 : decode cL_law 616 = .ok (.istore 5, 2) := dk_54 5 (dk_at dksL_law_20 17 rfl rfl)
theorem dL_law_618 : decode cL_law 618 = .ok (.aload_n 2, 1) := dk_44 (dk_at dksL_law_20 19 rfl rfl)
theorem dL_law_619 : decode cL_law 619 = .ok (.aload_n 0, 1) := dk_42 (dk_at dksL_law_20 20 rfl rfl)
theorem dL_law_620 : decode cL_law 620 = .ok (.iload 4, 2) := dk_21 4 (dk_at dksL_law_20 21 rfl rfl)
theorem dL_law_622 : decode cL_law 622 = .ok (.iconst 1, 1) := dk_4 (dk_at dksL_law_20 23 rfl rfl)
theorem dL_law_623 : decode cL_law 623 = .ok (.iadd, 1) := dk_96 (dk_at dksL_law_21 0 rfl rfl)
theorem dL_law_624 : decode cL_law 624 = .ok (.iaload, 1) := dk_46 (dk_at dksL_law_21 1 rfl rfl)
theorem dL_law_625 : decode cL_law 625 = .ok (.aload_n 0, 1) := dk_42 (dk_at dksL_law_21 2 rfl rfl)
theorem dL_law_626 : decode cL_law 626 = .ok (.iload 4, 2) := dk_21 4 (dk_at dksL_law_21 3 rfl rfl)
theorem dL_law_628 : decode cL_law 628 = .ok (.iconst 2, 1) := dk_5 (dk_at dksL_law_21 5 rfl rfl)
theorem dL_law_629 : decode cL_law 629 = .ok (.iadd, 1) := dk_96 (dk_at dksL_law_21 6 rfl rfl)
theorem dL_law_630 : decode cL_law 630 = .ok (.iaload, 1) := dk_46 (dk_at dksL_law_21 7 rfl rfl)
theorem dL_law_631 : decode cL_law 631 = .ok (.aload_n 0, 1) := dk_42 (dk_at dksL_law_21 8 rfl rfl)
theorem dL_law_632 : decode cL_law 632 = .ok (.iload 4, 2) := dk_21 4 (dk_at dksL_law_21 9 rfl rfl)
theorem dL_law_634 : decode cL_law 634 = .ok (.iconst 3, 1) := dk_6 (dk_at dksL_law_21 11 rfl rfl)
theorem dL_law_635 : decode cL_law 635 = .ok (.iadd, 1) := dk_96 (dk_at dksL_law_21 12 rfl rfl)
theorem dL_law_636 : decode cL_law 636 = .ok (.iaload, 1) := dk_46 (dk_at dksL_law_21 13 rfl rfl)
theorem dL_law_637 : decode cL_law 637 = .ok (.aload_n 0, 1) := dk_42 (dk_at dksL_law_21 14 rfl rfl)
theorem dL_law_638 : decode cL_law 638 = .ok (.iload 4, 2) := dk_21 4 (dk_at dksL_law_21 15 rfl rfl)
theorem dL_law_640 : decode cL_law 640 = .ok (.iconst 4, 1) := dk_7 (dk_at dksL_law_21 17 rfl rfl)
theorem dL_law_641 : decode cL_law 641 = .ok (.iadd, 1) := dk_96 (dk_at dksL_law_21 18 rfl rfl)
theorem dL_law_642 : decode cL_law 642 = .ok (.iaload, 1) := dk_46 (dk_at dksL_law_21 19 rfl rfl)
theorem dL_law_643 : decode cL_law 643 = .ok (.invokevirtual 150, 3) := dk_182 0 150 (dk_at dksL_law_21 20 rfl rfl)
theorem dL_law_646 : decode cL_law 646 = .ok (.istore 6, 2) := dk_54 6 (dk_at dksL_law_22 0 rfl rfl)
theorem dL_law_648 : decode cL_law 648 = .ok (.aload_n 2, 1) := dk_44 (dk_at dksL_law_22 2 rfl rfl)
theorem dL_law_649 : decode cL_law 649 = .ok (.invokevirtual 128, 3) := dk_182 0 128 (dk_at dksL_law_22 3 rfl rfl)
theorem dL_law_652 : decode cL_law 652 = .ok (.iload 5, 2) := dk_21 5 (dk_at dksL_law_22 6 rfl rfl)
theorem dL_law_654 : decode cL_law 654 = .ok (.if_icmp .eq 5, 3) := dk_159 0 5 (dk_at dksL_law_22 8 rfl rfl)
theorem dL_law_657 : decode cL_law 657 = .ok (.iconst 0, 1) := dk_3 (dk_at dksL_law_22 11 rfl rfl)
theorem dL_law_658 : decode cL_law 658 = .ok (.ireturn, 1) := dk_172 (dk_at dksL_law_22 12 rfl rfl)
theorem dL_law_659 : decode cL_law 659 = .ok (.iload 5, 2) := dk_21 5 (dk_at dksL_law_22 13 rfl rfl)
theorem dL_law_661 : decode cL_law 661 = .ok (.ifCond .ne 15, 3) := dk_154 0 15 (dk_at dksL_law_22 15 rfl rfl)
theorem dL_law_664 : decode cL_law 664 = .ok (.aload_n 3, 1) := dk_45 (dk_at dksL_law_22 18 rfl rfl)
theorem dL_law_665 : decode cL_law 665 = .ok (.iconst 0, 1) := dk_3 (dk_at dksL_law_22 19 rfl rfl)
theorem dL_law_666 : decode cL_law 666 = .ok (.laload, 1) := dk_47 (dk_at dksL_law_22 20 rfl rfl)
theorem dL_law_667 : decode cL_law 667 = .ok (.iload 6, 2) := dk_21 6 (dk_at dksL_law_22 21 rfl rfl)
theorem dL_law_669 : decode cL_law 669 = .ok (.i2l, 1) := dk_133 (dk_at dksL_law_22 23 rfl rfl)
theorem dL_law_670 : decode cL_law 670 = .ok (.lcmp, 1) := dk_148 (dk_at dksL_law_23 0 rfl rfl)
theorem dL_law_671 : decode cL_law 671 = .ok (.ifCond .eq 5, 3) := dk_153 0 5 (dk_at dksL_law_23 1 rfl rfl)
theorem dL_law_674 : decode cL_law 674 = .ok (.iconst 0, 1) := dk_3 (dk_at dksL_law_23 4 rfl rfl)
theorem dL_law_675 : decode cL_law 675 = .ok (.ireturn, 1) := dk_172 (dk_at dksL_law_23 5 rfl rfl)
theorem dL_law_676 : decode cL_law 676 = .ok (.goto 1853, 3) := dk_167 7 61 (dk_at dksL_law_23 6 rfl rfl)
theorem dL_law_679 : decode cL_law 679 = .ok (.aload_n 1, 1) := dk_43 (dk_at dksL_law_23 9 rfl rfl)
theorem dL_law_680 : decode cL_law 680 = .ok (.aload_n 0, 1) := dk_42 (dk_at dksL_law_23 10 rfl rfl)
theorem dL_law_681 : decode cL_law 681 = .ok (.iload 4, 2) := dk_21 4 (dk_at dksL_law_23 11 rfl rfl)
theorem dL_law_683 : decode cL_law 683 = .ok (.iconst 1, 1) := dk_4 (dk_at dksL_law_23 13 rfl rfl)
theorem dL_law_684 : decode cL_law 684 = .ok (.iadd, 1) := dk_96 (dk_at dksL_law_23 14 rfl rfl)
theorem dL_law_685 : decode cL_law 685 = .ok (.iaload, 1) := dk_46 (dk_at dksL_law_23 15 rfl rfl)
theorem dL_law_686 : decode cL_law 686 = .ok (.aload_n 0, 1) := dk_42 (dk_at dksL_law_23 16 rfl rfl)
theorem dL_law_687 : decode cL_law 687 = .ok (.iload 4, 2) := dk_21 4 (dk_at dksL_law_23 17 rfl rfl)
theorem dL_law_689 : decode cL_law 689 = .ok (.iconst 2, 1) := dk_5 (dk_at dksL_law_23 19 rfl rfl)
theorem dL_law_690 : decode cL_law 690 = .ok (.iadd, 1) := dk_96 (dk_at dksL_law_23 20 rfl rfl)
theorem dL_law_691 : decode cL_law 691 = .ok (.iaload, 1) := dk_46 (dk_at dksL_law_23 21 rfl rfl)
theorem dL_law_692 : decode cL_law 692 = .ok (.aload_n 3, 1) := dk_45 (dk_at dksL_law_23 22 rfl rfl)
theorem dL_law_693 : decode cL_law 693 = .ok (.invokestatic 151, 3) := dk_184 0 151 (dk_at dksL_law_24 0 rfl rfl)
theorem dL_law_696 : decode cL_law 696 = .ok (.istore 5, 2) := dk_54 5 (dk_at dksL_law_24 3 rfl rfl)
theorem dL_law_698 : decode cL_law 698 = .ok (.aload_n 2, 1) := dk_44 (dk_at dksL_law_24 5 rfl rfl)
theorem dL_law_699 : decode cL_law 699 = .ok (.aload_n 0, 1) := dk_42 (dk_at dksL_law_24 6 rfl rfl)
theorem dL_law_700 : decode cL_law 700 = .ok (.iload 4, 2) := dk_21 4 (dk_at dksL_law_24 7 rfl rfl)
theorem dL_law_702 : decode cL_law 702 = .ok (.iconst 1, 1) := dk_4 (dk_at dksL_law_24 9 rfl rfl)
theorem dL_law_703 : decode cL_law 703 = .ok (.iadd, 1) := dk_96 (dk_at dksL_law_24 10 rfl rfl)
theorem dL_law_704 : decode cL_law 704 = .ok (.iaload, 1) := dk_46 (dk_at dksL_law_24 11 rfl rfl)
theorem dL_law_705 : decode cL_law 705 = .ok (.aload_n 0, 1) := dk_42 (dk_at dksL_law_24 12 rfl rfl)
theorem dL_law_706 : decode cL_law 706 = .ok (.iload 4, 2) := dk_21 4 (dk_at dksL_law_24 13 rfl rfl)
theorem dL_law_708 : decode cL_law 708 = .ok (.iconst 2, 1) := dk_5 (dk_at dksL_law_24 15 rfl rfl)
theorem dL_law_709 : decode cL_law 709 = .ok (.iadd, 1) := dk_96 (dk_at dksL_law_24 16 rfl rfl)
theorem dL_law_710 : decode cL_law 710 = .ok (.iaload, 1) := dk_46 (dk_at dksL_law_24 17 rfl rfl)
theorem dL_law_711 : decode cL_law 711 = .ok (.invokevirtual 153, 3) := dk_182 0 153 (dk_at dksL_law_24 18 rfl rfl)
theorem dL_law_714 : decode cL_law 714 = .ok (.istore 6, 2) := dk_54 6 (dk_at dksL_law_24 21 rfl rfl)
theorem dL_law_716 : decode cL_law 716 = .ok (.aload_n 2, 1) := dk_44 (dk_at dksL_law_24 23 rfl rfl)
theorem dL_law_717 : decode cL_law 717 = .ok (.invokevirtual 128, 3) := dk_182 0 128 (dk_at dksL_law_25 0 rfl rfl)
theorem dL_law_720 : decode cL_law 720 = .ok (.iload 5, 2) := dk_21 5 (dk_at dksL_law_25 3 rfl rfl)
theorem dL_law_722 : decode cL_law 722 = .ok (.if_icmp .eq 5, 3) := dk_159 0 5 (dk_at dksL_law_25 5 rfl rfl)
theorem dL_law_725 : decode cL_law 725 = .ok (.iconst 0, 1) := dk_3 (dk_at dksL_law_25 8 rfl rfl)
theorem dL_law_726 : decode cL_law 726 = .ok (.ireturn, 1) := dk_172 (dk_at dksL_law_25 9 rfl rfl)
theorem dL_law_727 : decode cL_law 727 = .ok (.iload 5, 2) := dk_21 5 (dk_at dksL_law_25 10 rfl rfl)
theorem dL_law_729 : decode cL_law 729 = .ok (.ifCond .ne 22, 3) := dk_154 0 22 (dk_at dksL_law_25 12 rfl rfl)
theorem dL_law_732 : decode cL_law 732 = .ok (.aload_n 3, 1) := dk_45 (dk_at dksL_law_25 15 rfl rfl)
theorem dL_law_733 : decode cL_law 733 = .ok (.iconst 0, 1) := dk_3 (dk_at dksL_law_25 16 rfl rfl)
theorem dL_law_734 : decode cL_law 734 = .ok (.laload, 1) := dk_47 (dk_at dksL_law_25 17 rfl rfl)
theorem dL_law_735 : decode cL_law 735 = .ok (.iload 6, 2) := dk_21 6 (dk_at dksL_law_25 18 rfl rfl)
theorem dL_law_737 : decode cL_law 737 = .ok (.ifCond .eq 7, 3) := dk_153 0 7 (dk_at dksL_law_25 20 rfl rfl)
theorem dL_law_740 : decode cL_law 740 = .ok (.lconst 1, 1) := dk_10 (dk_at dksL_law_25 23 rfl rfl)
theorem dL_law_741 : decode cL_law 741 = .ok (.goto 4, 3) := dk_167 0 4 (dk_at dksL_law_26 0 rfl rfl)
theorem dL_law_744 : decode cL_law 744 = .ok (.lconst 0, 1) := dk_9 (dk_at dksL_law_26 3 rfl rfl)
theorem dL_law_745 : decode cL_law 745 = .ok (.lcmp, 1) := dk_148 (dk_at dksL_law_26 4 rfl rfl)
theorem dL_law_746 : decode cL_law 746 = .ok (.ifCond .eq 5, 3) := dk_153 0 5 (dk_at dksL_law_26 5 rfl rfl)
theorem dL_law_749 : decode cL_law 749 = .ok (.iconst 0, 1) := dk_3 (dk_at dksL_law_26 8 rfl rfl)
theorem dL_law_750 : decode cL_law 750 = .ok (.ireturn, 1) := dk_172 (dk_at dksL_law_26 9 rfl rfl)
theorem dL_law_751 : decode cL_law 751 = .ok (.goto 1778, 3) := dk_167 6 242 (dk_at dksL_law_26 10 rfl rfl)
theorem dL_law_754 : decode cL_law 754 = .ok (.aload_n 1, 1) := dk_43 (dk_at dksL_law_26 13 rfl rfl)
theorem dL_law_755 : decode cL_law 755 = .ok (.aload_n 0, 1) := dk_42 (dk_at dksL_law_26 14 rfl rfl)
theorem dL_law_756 : decode cL_law 756 = .ok (.iload 4, 2) := dk_21 4 (dk_at dksL_law_26 15 rfl rfl)
theorem dL_law_758 : decode cL_law 758 = .ok (.iconst 1, 1) := dk_4 (dk_at dksL_law_26 17 rfl rfl)
theorem dL_law_759 : decode cL_law 759 = .ok (.iadd, 1) := dk_96 (dk_at dksL_law_26 18 rfl rfl)
theorem dL_law_760 : decode cL_law 760 = .ok (.iaload, 1) := dk_46 (dk_at dksL_law_26 19 rfl rfl)
theorem dL_law_761 : decode cL_law 761 = .ok (.aload_n 0, 1) := dk_42 (dk_at dksL_law_26 20 rfl rfl)
theorem dL_law_762 : decode cL_law 762 = .ok (.iload 4, 2) := dk_21 4 (dk_at dksL_law_26 21 rfl rfl)
theorem dL_law_764 : decode cL_law 764 = .ok (.iconst 2, 1) := dk_5 (dk_at dksL_law_26 23 rfl rfl)
theorem dL_law_765 : decode cL_law 765 = .ok (.iadd, 1) := dk_96 (dk_at dksL_law_27 0 rfl rfl)
theorem dL_law_766 : decode cL_law 766 = .ok (.iaload, 1) := dk_46 (dk_at dksL_law_27 1 rfl rfl)
theorem dL_law_767 : decode cL_law 767 = .ok (.aload_n 3, 1) := dk_45 (dk_at dksL_law_27 2 rfl rfl)
theorem dL_law_768 : decode cL_law 768 = .ok (.invokestatic 154, 3) := dk_184 0 154 (dk_at dksL_law_27 3 rfl rfl)
theorem dL_law_771 : decode cL_law 771 = .ok (.istore 5, 2) := dk_54 5 (dk_at dksL_law_27 6 rfl rfl)
theorem dL_law_773 : decode cL_law 773 = .ok (.aload_n 2, 1) := dk_44 (dk_at dksL_law_27 8 rfl rfl)
theorem dL_law_774 : decode cL_law 774 = .ok (.aload_n 0, 1) := dk_42 (dk_at dksL_law_27 9 rfl rfl)
theorem dL_law_775 : decode cL_law 775 = .ok (.iload 4, 2) := dk_21 4 (dk_at dksL_law_27 10 rfl rfl)
theorem dL_law_777 : decode cL_law 777 = .ok (.iconst 1, 1) := dk_4 (dk_at dksL_law_27 12 rfl rfl)
theorem dL_law_778 : decode cL_law 778 = .ok (.iadd, 1) := dk_96 (dk_at dksL_law_27 13 rfl rfl)
theorem dL_law_779 : decode cL_law 779 = .ok (.iaload, 1) := dk_46 (dk_at dksL_law_27 14 rfl rfl)
theorem dL_law_780 : decode cL_law 780 = .ok (.aload_n 0, 1) := dk_42 (dk_at dksL_law_27 15 rfl rfl)
theorem dL_law_781 : decode cL_law 781 = .ok (.iload 4, 2) := dk_21 4 (dk_at dksL_law_27 16 rfl rfl)
theorem dL_law_783 : decode cL_law 783 = .ok (.iconst 2, 1) := dk_5 (dk_at dksL_law_27 18 rfl rfl)
theorem dL_law_784 : decode cL_law 784 = .ok (.iadd, 1) := dk_96 (dk_at dksL_law_27 19 rfl rfl)
theorem dL_law_785 : decode cL_law 785 = .ok (.iaload, 1) := dk_46 (dk_at dksL_law_27 20 rfl rfl)
theorem dL_law_786 : decode cL_law 786 = .ok (.invokevirtual 156, 3) := dk_182 0 156 (dk_at dksL_law_27 21 rfl rfl)
theorem dL_law_789 : decode cL_law 789 = .ok (.istore 6, 2) := dk_54 6 (dk_at dksL_law_28 0 rfl rfl)
theorem dL_law_791 : decode cL_law 791 = .ok (.aload_n 2, 1) := dk_44 (dk_at dksL_law_28 2 rfl rfl)
theorem dL_law_792 : decode cL_law 792 = .ok (.invokevirtual 128, 3) := dk_182 0 128 (dk_at dksL_law_28 3 rfl rfl)
theorem dL_law_795 : decode cL_law 795 = .ok (.iload 5, 2) := dk_21 5 (dk_at dksL_law_28 6 rfl rfl)
theorem dL_law_797 : decode cL_law 797 = .ok (.if_icmp .eq 5, 3) := dk_159 0 5 (dk_at dksL_law_28 8 rfl rfl)
theorem dL_law_800 : decode cL_law 800 = .ok (.iconst 0, 1) := dk_3 (dk_at dksL_law_28 11 rfl rfl)
theorem dL_law_801 : decode cL_law 801 = .ok (.ireturn, 1) := dk_172 (dk_at dksL_law_28 12 rfl rfl)
theorem dL_law_802 : decode cL_law 802 = .ok (.iload 5, 2) := dk_21 5 (dk_at dksL_law_28 13 rfl rfl)
theorem dL_law_804 : decode cL_law 804 = .ok (.ifCond .ne 15, 3) := dk_154 0 15 (dk_at dksL_law_28 15 rfl rfl)
theorem dL_law_807 : decode cL_law 807 = .ok (.aload_n 3, 1) := dk_45 (dk_at dksL_law_28 18 rfl rfl)
theorem dL_law_808 : decode cL_law 808 = .ok (.iconst 0, 1) := dk_3 (dk_at dksL_law_28 19 rfl rfl)
theorem dL_law_809 : decode cL_law 809 = .ok (.laload, 1) := dk_47 (dk_at dksL_law_28 20 rfl rfl)
theorem dL_law_810 : decode cL_law 810 = .ok (.iload 6, 2) := dk_21 6 (dk_at dksL_law_28 21 rfl rfl)
theorem dL_law_812 : decode cL_law 812 = .ok (.i2l, 1) := dk_133 (dk_at dksL_law_28 23 rfl rfl)
theorem dL_law_813 : decode cL_law 813 = .ok (.lcmp, 1) := dk_148 (dk_at dksL_law_29 0 rfl rfl)
theorem dL_law_814 : decode cL_law 814 = .ok (.ifCond .eq 5, 3) := dk_153 0 5 (dk_at dksL_law_29 1 rfl rfl)
theorem dL_law_817 : decode cL_law 817 = .ok (.iconst 0, 1) := dk_3 (dk_at dksL_law_29 4 rfl rfl)
theorem dL_law_818 : decode cL_law 818 = .ok (.ireturn, 1) := dk_172 (dk_at dksL_law_29 5 rfl rfl)
theorem dL_law_819 : decode cL_law 819 = .ok (.goto 1710, 3) := dk_167 6 174 (dk_at dksL_law_29 6 rfl rfl)
theorem dL_law_822 : decode cL_law 822 = .ok (.aload_n 1, 1) := dk_43 (dk_at dksL_law_29 9 rfl rfl)
theorem dL_law_823 : decode cL_law 823 = .ok (.aload_n 0, 1) := dk_42 (dk_at dksL_law_29 10 rfl rfl)
theorem dL_law_824 : decode cL_law 824 = .ok (.iload 4, 2) := dk_21 4 (dk_at dksL_law_29 11 rfl rfl)
theorem dL_law_826 : decode cL_law 826 = .ok (.iconst 1, 1) := dk_4 (dk_at dksL_law_29 13 rfl rfl)
theorem dL_law_827 : decode cL_law 827 = .ok (.iadd, 1) := dk_96 (dk_at dksL_law_29 14 rfl rfl)
theorem dL_law_828 : decode cL_law 828 = .ok (.iaload, 1) := dk_46 (dk_at dksL_law_29 15 rfl rfl)
theorem dL_law_829 : decode cL_law 829 = .ok (.aload_n 3, 1) := dk_45 (dk_at dksL_law_29 16 rfl rfl)
theorem dL_law_830 : decode cL_law 830 = .ok (.invokestatic 157, 3) := dk_184 0 157 (dk_at dksL_law_29 17 rfl rfl)
theorem dL_law_833 : decode cL_law 833 = .ok (.istore 5, 2) := dk_54 5 (dk_at dksL_law_29 20 rfl rfl)
theorem dL_law_835 : decode cL_law 835 = .ok (.aload_n 2, 1) := dk_44 (dk_at dksL_law_29 22 rfl rfl)
theorem dL_law_836 : decode cL_law 836 = .ok (.aload_n 0, 1) := dk_42 (dk_at dksL_law_29 23 rfl rfl)
theorem dL_law_837 : decode cL_law 837 = .ok (.iload 4, 2) := dk_21 4 (dk_at dksL_law_30 0 rfl rfl)
theorem dL_law_839 : decode cL_law 839 = .ok (.iconst 1, 1) := dk_4 (dk_at dksL_law_30 2 rfl rfl)
theorem dL_law_840 : decode cL_law 840 = .ok (.iadd, 1) := dk_96 (dk_at dksL_law_30 3 rfl rfl)
theorem dL_law_841 : decode cL_law 841 = .ok (.iaload, 1) := dk_46 (dk_at dksL_law_30 4 rfl rfl)
theorem dL_law_842 : decode cL_law 842 = .ok (.invokevirtual 159, 3) := dk_182 0 159 (dk_at dksL_law_30 5 rfl rfl)
theorem dL_law_845 : decode cL_law 845 = .ok (.istore 6, 2) := dk_54 6 (dk_at dksL_law_30 8 rfl rfl)
theorem dL_law_847 : decode cL_law 847 = .ok (.aload_n 2, 1) := dk_44 (dk_at dksL_law_30 10 rfl rfl)
theorem dL_law_848 : decode cL_law 848 = .ok (.invokevirtual 128, 3) := dk_182 0 128 (dk_at dksL_law_30 11 rfl rfl)
theorem dL_law_851 : decode cL_law 851 = .ok (.iload 5, 2) := dk_21 5 (dk_at dksL_law_30 14 rfl rfl)
theorem dL_law_853 : decode cL_law 853 = .ok (.if_icmp .eq 5, 3) := dk_159 0 5 (dk_at dksL_law_30 16 rfl rfl)
theorem dL_law_856 : decode cL_law 856 = .ok (.iconst 0, 1) := dk_3 (dk_at dksL_law_30 19 rfl rfl)
theorem dL_law_857 : decode cL_law 857 = .ok (.ireturn, 1) := dk_172 (dk_at dksL_law_30 20 rfl rfl)
theorem dL_law_858 : decode cL_law 858 = .ok (.iload 5, 2) := dk_21 5 (dk_at dksL_law_30 21 rfl rfl)
theorem dL_law_860 : decode cL_law 860 = .ok (.ifCond .ne 15, 3) := dk_154 0 15 (dk_at dksL_law_31 0 rfl rfl)
theorem dL_law_863 : decode cL_law 863 = .ok (.aload_n 3, 1) := dk_45 (dk_at dksL_law_31 3 rfl rfl)
theorem dL_law_864 : decode cL_law 864 = .ok (.iconst 0, 1) := dk_3 (dk_at dksL_law_31 4 rfl rfl)
theorem dL_law_865 : decode cL_law 865 = .ok (.laload, 1) := dk_47 (dk_at dksL_law_31 5 rfl rfl)
theorem dL_law_866 : decode cL_law 866 = .ok (.iload 6, 2) := dk_21 6 (dk_at dksL_law_31 6 rfl rfl)
theorem dL_law_868 : decode cL_law 868 = .ok (.i2l, 1) := dk_133 (dk_at dksL_law_31 8 rfl rfl)
theorem dL_law_869 : decode cL_law 869 = .ok (.lcmp, 1) := dk_148 (dk_at dksL_law_31 9 rfl rfl)
theorem dL_law_870 : decode cL_law 870 = .ok (.ifCond .eq 5, 3) := dk_153 0 5 (dk_at dksL_law_31 10 rfl rfl)
theorem dL_law_873 : decode cL_law 873 = .ok (.iconst 0, 1) := dk_3 (dk_at dksL_law_31 13 rfl rfl)
theorem dL_law_874 : decode cL_law 874 = .ok (.ireturn, 1) := dk_172 (dk_at dksL_law_31 14 rfl rfl)
theorem dL_law_875 : decode cL_law 875 = .ok (.goto 1654, 3) := dk_167 6 118 (dk_at dksL_law_31 15 rfl rfl)
theorem dL_law_878 : decode cL_law 878 = .ok (.aload_n 1, 1) := dk_43 (dk_at dksL_law_31 18 rfl rfl)
theorem dL_law_879 : decode cL_law 879 = .ok (.aload_n 0, 1) := dk_42 (dk_at dksL_law_31 19 rfl rfl)
theorem dL_law_880 : decode cL_law 880 = .ok (.iload 4, 2) := dk_21 4 (dk_at dksL_law_31 20 rfl rfl)
theorem dL_law_882 : decode cL_law 882 = .ok (.iconst 1, 1) := dk_4 (dk_at dksL_law_31 22 rfl rfl)
theorem dL_law_883 : decode cL_law 883 = .ok (.iadd, 1) := dk_96 (dk_at dksL_law_31 23 rfl rfl)
theorem dL_law_884 : decode cL_law 884 = .ok (.iaload, 1) := dk_46 (dk_at dksL_law_32 0 rfl rfl)
theorem dL_law_885 : decode cL_law 885 = .ok (.aload_n 3, 1) := dk_45 (dk_at dksL_law_32 1 rfl rfl)
theorem dL_law_886 : decode cL_law 886 = .ok (.invokestatic 160, 3) := dk_184 0 160 (dk_at dksL_law_32 2 rfl rfl)
theorem dL_law_889 : decode cL_law 889 = .ok (.istore 5, 2) := dk_54 5 (dk_at dksL_law_32 5 rfl rfl)
theorem dL_law_891 : decode cL_law 891 = .ok (.aload_n 2, 1) := dk_44 (dk_at dksL_law_32 7 rfl rfl)
theorem dL_law_892 : decode cL_law 892 = .ok (.aload_n 0, 1) := dk_42 (dk_at dksL_law_32 8 rfl rfl)
theorem dL_law_893 : decode cL_law 893 = .ok (.iload 4, 2) := dk_21 4 (dk_at dksL_law_32 9 rfl rfl)
theorem dL_law_895 : decode cL_law 895 = .ok (.iconst 1, 1) := dk_4 (dk_at dksL_law_32 11 rfl rfl)
theorem dL_law_896 : decode cL_law 896 = .ok (.iadd, 1) := dk_96 (dk_at dksL_law_32 12 rfl rfl)
theorem dL_law_897 : decode cL_law 897 = .ok (.iaload, 1) := dk_46 (dk_at dksL_law_32 13 rfl rfl)
theorem dL_law_898 : decode cL_law 898 = .ok (.invokevirtual 162, 3) := dk_182 0 162 (dk_at dksL_law_32 14 rfl rfl)
theorem dL_law_901 : decode cL_law 901 = .ok (.istore 6, 2) := dk_54 6 (dk_at dksL_law_32 17 rfl rfl)
theorem dL_law_903 : decode cL_law 903 = .ok (.aload_n 2, 1) := dk_44 (dk_at dksL_law_32 19 rfl rfl)
theorem dL_law_904 : decode cL_law 904 = .ok (.invokevirtual 128, 3) := dk_182 0 128 (dk_at dksL_law_32 20 rfl rfl)
theorem dL_law_907 : decode cL_law 907 = .ok (.iload 5, 2) := dk_21 5 (dk_at dksL_law_33 0 rfl rfl)
theorem dL_law_909 : decode cL_law 909 = .ok (.if_icmp .eq 5, 3) := dk_159 0 5 (dk_at dksL_law_33 2 rfl rfl)
theorem dL_law_912 : decode cL_law 912 = .ok (.iconst 0, 1) := dk_3 (dk_at dksL_law_33 5 rfl rfl)
theorem dL_law_913 : decode cL_law 913 = .ok (.ireturn, 1) := dk_172 (dk_at dksL_law_33 6 rfl rfl)
theorem dL_law_914 : decode cL_law 914 = .ok (.iload 5, 2) := dk_21 5 (dk_at dksL_law_33 7 rfl rfl)
theorem dL_law_916 : decode cL_law 916 = .ok (.ifCond .ne 15, 3) := dk_154 0 15 (dk_at dksL_law_33 9 rfl rfl)
theorem dL_law_919 : decode cL_law 919 = .ok (.aload_n 3, 1) := dk_45 (dk_at dksL_law_33 12 rfl rfl)
theorem dL_law_920 : decode cL_law 920 = .ok (.iconst 0, 1) := dk_3 (dk_at dksL_law_33 13 rfl rfl)
theorem dL_law_921 : decode cL_law 921 = .ok (.laload, 1) := dk_47 (dk_at dksL_law_33 14 rfl rfl)
theorem dL_law_922 : decode cL_law 922 = .ok (.iload 6, 2) := dk_21 6 (dk_at dksL_law_33 15 rfl rfl)
theorem dL_law_924 : decode cL_law 924 = .ok (.i2l, 1) := dk_133 (dk_at dksL_law_33 17 rfl rfl)
theorem dL_law_925 : decode cL_law 925 = .ok (.lcmp, 1) := dk_148 (dk_at dksL_law_33 18 rfl rfl)
theorem dL_law_926 : decode cL_law 926 = .ok (.ifCond .eq 5, 3) := dk_153 0 5 (dk_at dksL_law_33 19 rfl rfl)
theorem dL_law_929 : decode cL_law 929 = .ok (.iconst 0, 1) := dk_3 (dk_at dksL_law_33 22 rfl rfl)
theorem dL_law_930 : decode cL_law 930 = .ok (.ireturn, 1) := dk_172 (dk_at dksL_law_33 23 rfl rfl)
theorem dL_law_931 : decode cL_law 931 = .ok (.goto 1598, 3) := dk_167 6 62 (dk_at dksL_law_34 0 rfl rfl)
theorem dL_law_934 : decode cL_law 934 = .ok (.aload_n 1, 1) := dk_43 (dk_at dksL_law_34 3 rfl rfl)
theorem dL_law_935 : decode cL_law 935 = .ok (.aload_n 0, 1) := dk_42 (dk_at dksL_law_34 4 rfl rfl)
theorem dL_law_936 : decode cL_law 936 = .ok (.iload 4, 2) := dk_21 4 (dk_at dksL_law_34 5 rfl rfl)
theorem dL_law_938 : decode cL_law 938 = .ok (.iconst 1, 1) := dk_4 (dk_at dksL_law_34 7 rfl rfl)
theorem dL_law_939 : decode cL_law 939 = .ok (.iadd, 1) := dk_96 (dk_at dksL_law_34 8 rfl rfl)
theorem dL_law_940 : decode cL_law 940 = .ok (.iaload, 1) := dk_46 (dk_at dksL_law_34 9 rfl rfl)
theorem dL_law_941 : decode cL_law 941 = .ok (.aload_n 3, 1) := dk_45 (dk_at dksL_law_34 10 rfl rfl)
theorem dL_law_942 : decode cL_law 942 = .ok (.invokestatic 163, 3) := dk_184 0 163 (dk_at dksL_law_34 11 rfl rfl)
theorem dL_law_945 : decode cL_law 945 = .ok (.istore 5, 2) := dk_54 5 (dk_at dksL_law_34 14 rfl rfl)
theorem dL_law_947 : decode cL_law 947 = .ok (.aload_n 2, 1) := dk_44 (dk_at dksL_law_34 16 rfl rfl)
theorem dL_law_948 : decode cL_law 948 = .ok (.aload_n 0, 1) := dk_42 (dk_at dksL_law_34 17 rfl rfl)
theorem dL_law_949 : decode cL_law 949 = .ok (.iload 4, 2) := dk_21 4 (dk_at dksL_law_34 18 rfl rfl)
theorem dL_law_951 : decode cL_law 951 = .ok (.iconst 1, 1) := dk_4 (dk_at dksL_law_34 20 rfl rfl)
theorem dL_law_952 : decode cL_law 952 = .ok (.iadd, 1) := dk_96 (dk_at dksL_law_34 21 rfl rfl)
theorem dL_law_953 : decode cL_law 953 = .ok (.iaload, 1) := dk_46 (dk_at dksL_law_34 22 rfl rfl)
theorem dL_law_954 : decode cL_law 954 = .ok (.invokevirtual 165, 3) := dk_182 0 165 (dk_at dksL_law_35 0 rfl rfl)
theorem dL_law_957 : decode cL_law 957 = .ok (.istore 6, 2) := dk_54 6 (dk_at dksL_law_35 3 rfl rfl)
theorem dL_law_959 : decode cL_law 959 = .ok (.aload_n 2, 1) := dk_44 (dk_at dksL_law_35 5 rfl rfl)
theorem dL_law_960 : decode cL_law 960 = .ok (.invokevirtual 128, 3) := dk_182 0 128 (dk_at dksL_law_35 6 rfl rfl)
theorem dL_law_963 : decode cL_law 963 = .ok (.iload 5, 2) := dk_21 5 (dk_at dksL_law_35 9 rfl rfl)
theorem dL_law_965 : decode cL_law 965 = .ok (.if_icmp .eq 5, 3) := dk_159 0 5 (dk_at dksL_law_35 11 rfl rfl)
theorem dL_law_968 : decode cL_law 968 = .ok (.iconst 0, 1) := dk_3 (dk_at dksL_law_35 14 rfl rfl)
theorem dL_law_969 : decode cL_law 969 = .ok (.ireturn, 1) := dk_172 (dk_at dksL_law_35 15 rfl rfl)
theorem dL_law_970 : decode cL_law 970 = .ok (.iload 5, 2) := dk_21 5 (dk_at dksL_law_35 16 rfl rfl)
theorem dL_law_972 : decode cL_law 972 = .ok (.ifCond .ne 15, 3) := dk_154 0 15 (dk_at dksL_law_35 18 rfl rfl)
theorem dL_law_975 : decode cL_law 975 = .ok (.aload_n 3, 1) := dk_45 (dk_at dksL_law_35 21 rfl rfl)
theorem dL_law_976 : decode cL_law 976 = .ok (.iconst 0, 1) := dk_3 (dk_at dksL_law_35 22 rfl rfl)
theorem dL_law_977 : decode cL_law 977 = .ok (.laload, 1) := dk_47 (dk_at dksL_law_35 23 rfl rfl)
theorem dL_law_978 : decode cL_law 978 = .ok (.iload 6, 2) := dk_21 6 (dk_at dksL_law_36 0 rfl rfl)
theorem dL_law_980 : decode cL_law 980 = .ok (.i2l, 1) := dk_133 (dk_at dksL_law_36 2 rfl rfl)
theorem dL_law_981 : decode cL_law 981 = .ok (.lcmp, 1) := dk_148 (dk_at dksL_law_36 3 rfl rfl)
theorem dL_law_982 : decode cL_law 982 = .ok (.ifCond .eq 5, 3) := dk_153 0 5 (dk_at dksL_law_36 4 rfl rfl)
theorem dL_law_985 : decode cL_law 985 = .ok (.iconst 0, 1) := dk_3 (dk_at dksL_law_36 7 rfl rfl)
theorem dL_law_986 : decode cL_law 986 = .ok (.ireturn, 1) := dk_172 (dk_at dksL_law_36 8 rfl rfl)
theorem dL_law_987 : decode cL_law 987 = .ok (.goto 1542, 3) := dk_167 6 6 (dk_at dksL_law_36 9 rfl rfl)
theorem dL_law_990 : decode cL_law 990 = .ok (.aload_n 1, 1) := dk_43 (dk_at dksL_law_36 12 rfl rfl)
theorem dL_law_991 : decode cL_law 991 = .ok (.aload_n 0, 1) := dk_42 (dk_at dksL_law_36 13 rfl rfl)
theorem dL_law_992 : decode cL_law 992 = .ok (.iload 4, 2) := dk_21 4 (dk_at dksL_law_36 14 rfl rfl)
theorem dL_law_994 : decode cL_law 994 = .ok (.iconst 1, 1) := dk_4 (dk_at dksL_law_36 16 rfl rfl)
theorem dL_law_995 : decode cL_law 995 = .ok (.iadd, 1) := dk_96 (dk_at dksL_law_36 17 rfl rfl)
theorem dL_law_996 : decode cL_law 996 = .ok (.iaload, 1) := dk_46 (dk_at dksL_law_36 18 rfl rfl)
theorem dL_law_997 : decode cL_law 997 = .ok (.aload_n 0, 1) := dk_42 (dk_at dksL_law_36 19 rfl rfl)
theorem dL_law_998 : decode cL_law 998 = .ok (.iload 4, 2) := dk_21 4 (dk_at dksL_law_36 20 rfl rfl)
theorem dL_law_1000 : decode cL_law 1000 = .ok (.iconst 2, 1) := dk_5 (dk_at dksL_law_36 22 rfl rfl)
theorem dL_law_1001 : decode cL_law 1001 = .ok (.iadd, 1) := dk_96 (dk_at dksL_law_36 23 rfl rfl)
theorem dL_law_1002 : decode cL_law 1002 = .ok (.iaload, 1) := dk_46 (dk_at dksL_law_37 0 rfl rfl)
theorem dL_law_1003 : decode cL_law 1003 = .ok (.aload_n 0, 1) := dk_42 (dk_at dksL_law_37 1 rfl rfl)
theorem dL_law_1004 : decode cL_law 1004 = .ok (.iload 4, 2) := dk_21 4 (dk_at dksL_law_37 2 rfl rfl)
theorem dL_law_1006 : decode cL_law 1006 = .ok (.iconst 3, 1) := dk_6 (dk_at dksL_law_37 4 rfl rfl)
theorem dL_law_1007 : decode cL_law 1007 = .ok (.iadd, 1) := dk_96 (dk_at dksL_law_37 5 rfl rfl)
theorem dL_law_1008 : decode cL_law 1008 = .ok (.iaload, 1) := dk_46 (dk_at dksL_law_37 6 rfl rfl)
theorem dL_law_1009 : decode cL_law 1009 = .ok (.aload_n 3, 1) := dk_45 (dk_at dksL_law_37 7 rfl rfl)
theorem dL_law_1010 : decode cL_law 1010 = .ok (.invokestatic 166, 3) := dk_184 0 166 (dk_at dksL_law_37 8 rfl rfl)
theorem dL_law_1013 : decode cL_law 1013 = .ok (.istore 5, 2) := dk_54 5 (dk_at dksL_law_37 11 rfl rfl)
theorem dL_law_1015 : decode cL_law 1015 = .ok (.aload_n 2, 1) := dk_44 (dk_at dksL_law_37 13 rfl rfl)
theorem dL_law_1016 : decode cL_law 1016 = .ok (.aload_n 0, 1) := dk_42 (dk_at dksL_law_37 14 rfl rfl)
theorem dL_law_1017 : decode cL_law 1017 = .ok (.iload 4, 2) := dk_21 4 (dk_at dksL_law_37 15 rfl rfl)
theorem dL_law_1019 : decode cL_law 1019 = .ok (.iconst 1, 1) := dk_4 (dk_at dksL_law_37 17 rfl rfl)
theorem dL_law_1020 : decode cL_law 1020 = .ok (.iadd, 1) := dk_96 (dk_at dksL_law_37 18 rfl rfl)
theorem dL_law_1021 : decode cL_law 1021 = .ok (.iaload, 1) := dk_46 (dk_at dksL_law_37 19 rfl rfl)
theorem dL_law_1022 : decode cL_law 1022 = .ok (.aload_n 0, 1) := dk_42 (dk_at dksL_law_37 20 rfl rfl)
theorem dL_law_1023 : decode cL_law 1023 = .ok (.iload 4, 2) := dk_21 4 (dk_at dksL_law_37 21 rfl rfl)
theorem dL_law_1025 : decode cL_law 1025 = .ok (.iconst 2, 1) := dk_5 (dk_at dksL_law_37 23 rfl rfl)
theorem dL_law_1026 : decode cL_law 1026 = .ok (.iadd, 1) := dk_96 (dk_at dksL_law_38 0 rfl rfl)
theorem dL_law_1027 : decode cL_law 1027 = .ok (.iaload, 1) := dk_46 (dk_at dksL_law_38 1 rfl rfl)
theorem dL_law_1028 : decode cL_law 1028 = .ok (.aload_n 0, 1) := dk_42 (dk_at dksL_law_38 2 rfl rfl)
theorem dL_law_1029 : decode cL_law 1029 = .ok (.iload 4, 2) := dk_21 4 (dk_at dksL_law_38 3 rfl rfl)
theorem dL_law_1031 : decode cL_law 1031 = .ok (.iconst 3, 1) := dk_6 (dk_at dksL_law_38 5 rfl rfl)
theorem dL_law_1032 : decode cL_law 1032 = .ok (.iadd, 1) := dk_96 (dk_at dksL_law_38 6 rfl rfl)
theorem dL_law_1033 : decode cL_law 1033 = .ok (.iaload, 1) := dk_46 (dk_at dksL_law_38 7 rfl rfl)
theorem dL_law_1034 : decode cL_law 1034 = .ok (.invokevirtual 168, 3) := dk_182 0 168 (dk_at dksL_law_38 8 rfl rfl)
theorem dL_law_1037 : decode cL_law 1037 = .ok (.istore 6, 2) := dk_54 6 (dk_at dksL_law_38 11 rfl rfl)
theorem dL_law_1039 : decode cL_law 1039 = .ok (.aload_n 2, 1) := dk_44 (dk_at dksL_law_38 13 rfl rfl)
theorem dL_law_1040 : decode cL_law 1040 = .ok (.invokevirtual 128, 3) := dk_182 0 128 (dk_at dksL_law_38 14 rfl rfl)
theorem dL_law_1043 : decode cL_law 1043 = .ok (.iload 5, 2) := dk_21 5 (dk_at dksL_law_38 17 rfl rfl)
theorem dL_law_1045 : decode cL_law 1045 = .ok (.if_icmp .eq 5, 3) := dk_159 0 5 (dk_at dksL_law_38 19 rfl rfl)
theorem dL_law_1048 : decode cL_law 1048 = .ok (.iconst 0, 1) := dk_3 (dk_at dksL_law_38 22 rfl rfl)
theorem dL_law_1049 : decode cL_law 1049 = .ok (.ireturn, 1) := dk_172 (dk_at dksL_law_38 23 rfl rfl)
theorem dL_law_1050 : decode cL_law 1050 = .ok (.iload 5, 2) := dk_21 5 (dk_at dksL_law_39 0 rfl rfl)
theorem dL_law_1052 : decode cL_law 1052 = .ok (.ifCond .ne 15, 3) := dk_154 0 15 (dk_at dksL_law_39 2 rfl rfl)
theorem dL_law_1055 : decode cL_law 1055 = .ok (.aload_n 3, 1) := dk_45 (dk_at dksL_law_39 5 rfl rfl)
theorem dL_law_1056 : decode cL_law 1056 = .ok (.iconst 0, 1) := dk_3 (dk_at dksL_law_39 6 rfl rfl)
theorem dL_law_1057 : decode cL_law 1057 = .ok (.laload, 1) := dk_47 (dk_at dksL_law_39 7 rfl rfl)
theorem dL_law_1058 : decode cL_law 1058 = .ok (.iload 6, 2) := dk_21 6 (dk_at dksL_law_39 8 rfl rfl)
theorem dL_law_1060 : decode cL_law 1060 = .ok (.i2l, 1) := dk_133 (dk_at dksL_law_39 10 rfl rfl)
theorem dL_law_1061 : decode cL_law 1061 = .ok (.lcmp, 1) := dk_148 (dk_at dksL_law_39 11 rfl rfl)
theorem dL_law_1062 : decode cL_law 1062 = .ok (.ifCond .eq 5, 3) := dk_153 0 5 (dk_at dksL_law_39 12 rfl rfl)
theorem dL_law_1065 : decode cL_law 1065 = .ok (.iconst 0, 1) := dk_3 (dk_at dksL_law_39 15 rfl rfl)
theorem dL_law_1066 : decode cL_law 1066 = .ok (.ireturn, 1) := dk_172 (dk_at dksL_law_39 16 rfl rfl)
theorem dL_law_1067 : decode cL_law 1067 = .ok (.goto 1462, 3) := dk_167 5 182 (dk_at dksL_law_39 17 rfl rfl)
theorem dL_law_1070 : decode cL_law 1070 = .ok (.aload_n 1, 1) := dk_43 (dk_at dksL_law_39 20 rfl rfl)
theorem dL_law_1071 : decode cL_law 1071 = .ok (.aload_n 0, 1) := dk_42 (dk_at dksL_law_39 21 rfl rfl)
theorem dL_law_1072 : decode cL_law 1072 = .ok (.iload 4, 2) := dk_21 4 (dk_at dksL_law_39 22 rfl rfl)
theorem dL_law_1074 : decode cL_law 1074 = .ok (.iconst 1, 1) := dk_4 (dk_at dksL_law_40 0 rfl rfl)
theorem dL_law_1075 : decode cL_law 1075 = .ok (.iadd, 1) := dk_96 (dk_at dksL_law_40 1 rfl rfl)
theorem dL_law_1076 : decode cL_law 1076 = .ok (.iaload, 1) := dk_46 (dk_at dksL_law_40 2 rfl rfl)
theorem dL_law_1077 : decode cL_law 1077 = .ok (.aload_n 0, 1) := dk_42 (dk_at dksL_law_40 3 rfl rfl)
theorem dL_law_1078 : decode cL_law 1078 = .ok (.iload 4, 2) := dk_21 4 (dk_at dksL_law_40 4 rfl rfl)
theorem dL_law_1080 : decode cL_law 1080 = .ok (.iconst 2, 1) := dk_5 (dk_at dksL_law_40 6 rfl rfl)
theorem dL_law_1081 : decode cL_law 1081 = .ok (.iadd, 1) := dk_96 (dk_at dksL_law_40 7 rfl rfl)
theorem dL_law_1082 : decode cL_law 1082 = .ok (.iaload, 1) := dk_46 (dk_at dksL_law_40 8 rfl rfl)
theorem dL_law_1083 : decode cL_law 1083 = .ok (.aload_n 3, 1) := dk_45 (dk_at dksL_law_40 9 rfl rfl)
theorem dL_law_1084 : decode cL_law 1084 = .ok (.invokestatic 169, 3) := dk_184 0 169 (dk_at dksL_law_40 10 rfl rfl)
theorem dL_law_1087 : decode cL_law 1087 = .ok (.istore 5, 2) := dk_54 5 (dk_at dksL_law_40 13 rfl rfl)
theorem dL_law_1089 : decode cL_law 1089 = .ok (.aload_n 2, 1) := dk_44 (dk_at dksL_law_40 15 rfl rfl)
theorem dL_law_1090 : decode cL_law 1090 = .ok (.aload_n 0, 1) := dk_42 (dk_at dksL_law_40 16 rfl rfl)
theorem dL_law_1091 : decode cL_law 1091 = .ok (.iload 4, 2) := dk_21 4 (dk_at dksL_law_40 17 rfl rfl)
theorem dL_law_1093 : decode cL_law 1093 = .ok (.iconst 1, 1) := dk_4 (dk_at dksL_law_40 19 rfl rfl)
theorem dL_law_1094 : decode cL_law 1094 = .ok (.iadd, 1) := dk_96 (dk_at dksL_law_40 20 rfl rfl)
theorem dL_law_1095 : decode cL_law 1095 = .ok (.iaload, 1) := dk_46 (dk_at dksL_law_40 21 rfl rfl)
theorem dL_law_1096 : decode cL_law 1096 = .ok (.aload_n 0, 1) := dk_42 (dk_at dksL_law_40 22 rfl rfl)
theorem dL_law_1097 : decode cL_law 1097 = .ok (.iload 4, 2) := dk_21 4 (dk_at dksL_law_41 0 rfl rfl)
theorem dL_law_1099 : decode cL_law 1099 = .ok (.iconst 2, 1) := dk_5 (dk_at dksL_law_41 2 rfl rfl)
theorem dL_law_1100 : decode cL_law 1100 = .ok (.iadd, 1) := dk_96 (dk_at dksL_law_41 3 rfl rfl)
theorem dL_law_1101 : decode cL_law 1101 = .ok (.iaload, 1) := dk_46 (dk_at dksL_law_41 4 rfl rfl)
theorem dL_law_1102 : decode cL_law 1102 = .ok (.invokevirtual 171, 3) := dk_182 0 171 (dk_at dksL_law_41 5 rfl rfl)
theorem dL_law_1105 : decode cL_law 1105 = .ok (.istore 6, 2) := dk_54 6 (dk_at dksL_law_41 8 rfl rfl)
theorem dL_law_1107 : decode cL_law 1107 = .ok (.aload_n 2, 1) := dk_44 (dk_at dksL_law_41 10 rfl rfl)
theorem dL_law_1108 : decode cL_law 1108 = .ok (.invokevirtual 128, 3) := dk_182 0 128 (dk_at dksL_law_41 11 rfl rfl)
theorem dL_law_1111 : decode cL_law 1111 = .ok (.iload 5, 2) := dk_21 5 (dk_at dksL_law_41 14 rfl rfl)
theorem dL_law_1113 : decode cL_law 1113 = .ok (.if_icmp .eq 5, 3) := dk_159 0 5 (dk_at dksL_law_41 16 rfl rfl)
theorem dL_law_1116 : decode cL_law 1116 = .ok (.iconst 0, 1) := dk_3 (dk_at dksL_law_41 19 rfl rfl)
theorem dL_law_1117 : decode cL_law 1117 = .ok (.ireturn, 1) := dk_172 (dk_at dksL_law_41 20 rfl rfl)
theorem dL_law_1118 : decode cL_law 1118 = .ok (.iload 5, 2) := dk_21 5 (dk_at dksL_law_41 21 rfl rfl)
theorem dL_law_1120 : decode cL_law 1120 = .ok (.ifCond .ne 15, 3) := dk_154 0 15 (dk_at dksL_law_42 0 rfl rfl)
theorem dL_law_1123 : decode cL_law 1123 = .ok (.aload_n 3, 1) := dk_45 (dk_at dksL_law_42 3 rfl rfl)
theorem dL_law_1124 : decode cL_law 1124 = .ok (.iconst 0, 1) := dk_3 (dk_at dksL_law_42 4 rfl rfl)
theorem dL_law_1125 : decode cL_law 1125 = .ok (.laload, 1) := dk_47 (dk_at dksL_law_42 5 rfl rfl)
theorem dL_law_1126 : decode cL_law 1126 = .ok (.iload 6, 2) := dk_21 6 (dk_at dksL_law_42 6 rfl rfl)
theorem dL_law_1128 : decode cL_law 1128 = .ok (.i2l, 1) := dk_133 (dk_at dksL_law_42 8 rfl rfl)
theorem dL_law_1129 : decode cL_law 1129 = .ok (.lcmp, 1) := dk_148 (dk_at dksL_law_42 9 rfl rfl)
theorem dL_law_1130 : decode cL_law 1130 = .ok (.ifCond .eq 5, 3) := dk_153 0 5 (dk_at dksL_law_42 10 rfl rfl)
theorem dL_law_1133 : decode cL_law 1133 = .ok (.iconst 0, 1) := dk_3 (dk_at dksL_law_42 13 rfl rfl)
theorem dL_law_1134 : decode cL_law 1134 = .ok (.ireturn, 1) := dk_172 (dk_at dksL_law_42 14 rfl rfl)
theorem dL_law_1135 : decode cL_law 1135 = .ok (.goto 1394, 3) := dk_167 5 114 (dk_at dksL_law_42 15 rfl rfl)
theorem dL_law_1138 : decode cL_law 1138 = .ok (.aload_n 1, 1) := dk_43 (dk_at dksL_law_42 18 rfl rfl)
theorem dL_law_1139 : decode cL_law 1139 = .ok (.aload_n 0, 1) := dk_42 (dk_at dksL_law_42 19 rfl rfl)
theorem dL_law_1140 : decode cL_law 1140 = .ok (.iload 4, 2) := dk_21 4 (dk_at dksL_law_42 20 rfl rfl)
theorem dL_law_1142 : decode cL_law 1142 = .ok (.iconst 1, 1) := dk_4 (dk_at dksL_law_42 22 rfl rfl)
theorem dL_law_1143 : decode cL_law 1143 = .ok (.iadd, 1) := dk_96 (dk_at dksL_law_42 23 rfl rfl)
theorem dL_law_1144 : decode cL_law 1144 = .ok (.iaload, 1) := dk_46 (dk_at dksL_law_43 0 rfl rfl)
theorem dL_law_1145 : decode cL_law 1145 = .ok (.aload_n 3, 1) := dk_45 (dk_at dksL_law_43 1 rfl rfl)
theorem dL_law_1146 : decode cL_law 1146 = .ok (.invokestatic 172, 3) := dk_184 0 172 (dk_at dksL_law_43 2 rfl rfl)
theorem dL_law_1149 : decode cL_law 1149 = .ok (.istore 5, 2) := dk_54 5 (dk_at dksL_law_43 5 rfl rfl)
theorem dL_law_1151 : decode cL_law 1151 = .ok (.aload_n 2, 1) := dk_44 (dk_at dksL_law_43 7 rfl rfl)
theorem dL_law_1152 : decode cL_law 1152 = .ok (.aload_n 0, 1) := dk_42 (dk_at dksL_law_43 8 rfl rfl)
theorem dL_law_1153 : decode cL_law 1153 = .ok (.iload 4, 2) := dk_21 4 (dk_at dksL_law_43 9 rfl rfl)
theorem dL_law_1155 : decode cL_law 1155 = .ok (.iconst 1, 1) := dk_4 (dk_at dksL_law_43 11 rfl rfl)
theorem dL_law_1156 : decode cL_law 1156 = .ok (.iadd, 1) := dk_96 (dk_at dksL_law_43 12 rfl rfl)
theorem dL_law_1157 : decode cL_law 1157 = .ok (.iaload, 1) := dk_46 (dk_at dksL_law_43 13 rfl rfl)
theorem dL_law_1158 : decode cL_law 1158 = .ok (.invokevirtual 174, 3) := dk_182 0 174 (dk_at dksL_law_43 14 rfl rfl)
theorem dL_law_1161 : decode cL_law 1161 = .ok (.istore 6, 2) := dk_54 6 (dk_at dksL_law_43 17 rfl rfl)
theorem dL_law_1163 : decode cL_law 1163 = .ok (.aload_n 2, 1) := dk_44 (dk_at dksL_law_43 19 rfl rfl)
theorem dL_law_1164 : decode cL_law 1164 = .ok (.invokevirtual 128, 3) := dk_182 0 128 (dk_at dksL_law_43 20 rfl rfl)
theorem dL_law_1167 : decode cL_law 1167 = .ok (.iload 5, 2) := dk_21 5 (dk_at dksL_law_44 0 rfl rfl)
theorem dL_law_1169 : decode cL_law 1169 = .ok (.if_icmp .eq 5, 3) := dk_159 0 5 (dk_at dksL_law_44 2 rfl rfl)
theorem dL_law_1172 : decode cL_law 1172 = .ok (.iconst 0, 1) := dk_3 (dk_at dksL_law_44 5 rfl rfl)
theorem dL_law_1173 : decode cL_law 1173 = .ok (.ireturn, 1) := dk_172 (dk_at dksL_law_44 6 rfl rfl)
theorem dL_law_1174 : decode cL_law 1174 = .ok (.iload 5, 2) := dk_21 5 (dk_at dksL_law_44 7 rfl rfl)
theorem dL_law_1176 : decode cL_law 1176 = .ok (.ifCond .ne 15, 3) := dk_154 0 15 (dk_at dksL_law_44 9 rfl rfl)
theorem dL_law_1179 : decode cL_law 1179 = .ok (.aload_n 3, 1) := dk_45 (dk_at dksL_law_44 12 rfl rfl)
theorem dL_law_1180 : decode cL_law 1180 = .ok (.iconst 0, 1) := dk_3 (dk_at dksL_law_44 13 rfl rfl)
theorem dL_law_1181 : decode cL_law 1181 = .ok (.laload, 1) := dk_47 (dk_at dksL_law_44 14 rfl rfl)
theorem dL_law_1182 : decode cL_law 1182 = .ok (.iload 6, 2) := dk_21 6 (dk_at dksL_law_44 15 rfl rfl)
theorem dL_law_1184 : decode cL_law 1184 = .ok (.i2l, 1) := dk_133 (dk_at dksL_law_44 17 rfl rfl)
theorem dL_law_1185 : decode cL_law 1185 = .ok (.lcmp, 1) := dk_148 (dk_at dksL_law_44 18 rfl rfl)
theorem dL_law_1186 : decode cL_law 1186 = .ok (.ifCond .eq 5, 3) := dk_153 0 5 (dk_at dksL_law_44 19 rfl rfl)
theorem dL_law_1189 : decode cL_law 1189 = .ok (.iconst 0, 1) := dk_3 (dk_at dksL_law_44 22 rfl rfl)
theorem dL_law_1190 : decode cL_law 1190 = .ok (.ireturn, 1) := dk_172 (dk_at dksL_law_44 23 rfl rfl)
theorem dL_law_1191 : decode cL_law 1191 = .ok (.goto 1338, 3) := dk_167 5 58 (dk_at dksL_law_45 0 rfl rfl)
theorem dL_law_1194 : decode cL_law 1194 = .ok (.aload_n 1, 1) := dk_43 (dk_at dksL_law_45 3 rfl rfl)
theorem dL_law_1195 : decode cL_law 1195 = .ok (.invokevirtual 175, 3) := dk_182 0 175 (dk_at dksL_law_45 4 rfl rfl)
theorem dL_law_1198 : decode cL_law 1198 = .ok (.aload_n 2, 1) := dk_44 (dk_at dksL_law_45 7 rfl rfl)
theorem dL_law_1199 : decode cL_law 1199 = .ok (.invokevirtual 178, 3) := dk_182 0 178 (dk_at dksL_law_45 8 rfl rfl)
theorem dL_law_1202 : decode cL_law 1202 = .ok (.if_icmp .eq 1327, 3) := dk_159 5 47 (dk_at dksL_law_45 11 rfl rfl)
theorem dL_law_1205 : decode cL_law 1205 = .ok (.iconst 0, 1) := dk_3 (dk_at dksL_law_45 14 rfl rfl)
theorem dL_law_1206 : decode cL_law 1206 = .ok (.ireturn, 1) := dk_172 (dk_at dksL_law_45 15 rfl rfl)
theorem dL_law_1207 : decode cL_law 1207 = .ok (.aload_n 1, 1) := dk_43 (dk_at dksL_law_45 16 rfl rfl)
theorem dL_law_1208 : decode cL_law 1208 = .ok (.invokevirtual 179, 3) := dk_182 0 179 (dk_at dksL_law_45 17 rfl rfl)
theorem dL_law_1211 : decode cL_law 1211 = .ok (.aload_n 2, 1) := dk_44 (dk_at dksL_law_45 20 rfl rfl)
theorem dL_law_1212 : decode cL_law 1212 = .ok (.invokevirtual 182, 3) := dk_182 0 182 (dk_at dksL_law_45 21 rfl rfl)
theorem dL_law_1215 : decode cL_law 1215 = .ok (.if_icmp .eq 1314, 3) := dk_159 5 34 (dk_at dksL_law_46 0 rfl rfl)
theorem dL_law_1218 : decode cL_law 1218 = .ok (.iconst 0, 1) := dk_3 (dk_at dksL_law_46 3 rfl rfl)
theorem dL_law_1219 : decode cL_law 1219 = .ok (.ireturn, 1) := dk_172 (dk_at dksL_law_46 4 rfl rfl)
theorem dL_law_1220 : decode cL_law 1220 = .ok (.aload_n 1, 1) := dk_43 (dk_at dksL_law_46 5 rfl rfl)
theorem dL_law_1221 : decode cL_law 1221 = .ok (.aload_n 0, 1) := dk_42 (dk_at dksL_law_46 6 rfl rfl)
theorem dL_law_1222 : decode cL_law 1222 = .ok (.iload 4, 2) := dk_21 4 (dk_at dksL_law_46 7 rfl rfl)
theorem dL_law_1224 : decode cL_law 1224 = .ok (.iconst 1, 1) := dk_4 (dk_at dksL_law_46 9 rfl rfl)
theorem dL_law_1225 : decode cL_law 1225 = .ok (.iadd, 1) := dk_96 (dk_at dksL_law_46 10 rfl rfl)
theorem dL_law_1226 : decode cL_law 1226 = .ok (.iaload, 1) := dk_46 (dk_at dksL_law_46 11 rfl rfl)
theorem dL_law_1227 : decode cL_law 1227 = .ok (.aload_n 0, 1) := dk_42 (dk_at dksL_law_46 12 rfl rfl)
theorem dL_law_1228 : decode cL_law 1228 = .ok (.iload 4, 2) := dk_21 4 (dk_at dksL_law_46 13 rfl rfl)
theorem dL_law_1230 : decode cL_law 1230 = .ok (.iconst 2, 1) := dk_5 (dk_at dksL_law_46 15 rfl rfl)
theorem dL_law_1231 : decode cL_law 1231 = .ok (.iadd, 1) := dk_96 (dk_at dksL_law_46 16 rfl rfl)
theorem dL_law_1232 : decode cL_law 1232 = .ok (.iaload, 1) := dk_46 (dk_at dksL_law_46 17 rfl rfl)
theorem dL_law_1233 : decode cL_law 1233 = .ok (.aload_n 3, 1) := dk_45 (dk_at dksL_law_46 18 rfl rfl)
theorem dL_law_1234 : decode cL_law 1234 = .ok (.invokestatic 183, 3) := dk_184 0 183 (dk_at dksL_law_46 19 rfl rfl)
theorem dL_law_1237 : decode cL_law 1237 = .ok (.istore 5, 2) := dk_54 5 (dk_at dksL_law_46 22 rfl rfl)
theorem dL_law_1239 : decode cL_law 1239 = .ok (.aload_n 2, 1) := dk_44 (dk_at dksL_law_47 0 rfl rfl)
theorem dL_law_1240 : decode cL_law 1240 = .ok (.aload_n 0, 1) := dk_42 (dk_at dksL_law_47 1 rfl rfl)
theorem dL_law_1241 : decode cL_law 1241 = .ok (.iload 4, 2) := dk_21 4 (dk_at dksL_law_47 2 rfl rfl)
theorem dL_law_1243 : decode cL_law 1243 = .ok (.iconst 1, 1) := dk_4 (dk_at dksL_law_47 4 rfl rfl)
theorem dL_law_1244 : decode cL_law 1244 = .ok (.iadd, 1) := dk_96 (dk_at dksL_law_47 5 rfl rfl)
theorem dL_law_1245 : decode cL_law 1245 = .ok (.iaload, 1) := dk_46 (dk_at dksL_law_47 6 rfl rfl)
theorem dL_law_1246 : decode cL_law 1246 = .ok (.aload_n 0, 1) := dk_42 (dk_at dksL_law_47 7 rfl rfl)
theorem dL_law_1247 : decode cL_law 1247 = .ok (.iload 4, 2) := dk_21 4 (dk_at dksL_law_47 8 rfl rfl)
theorem dL_law_1249 : decode cL_law 1249 = .ok (.iconst 2, 1) := dk_5 (dk_at dksL_law_47 10 rfl rfl)
theorem dL_law_1250 : decode cL_law 1250 = .ok (.iadd, 1) := dk_96 (dk_at dksL_law_47 11 rfl rfl)
theorem dL_law_1251 : decode cL_law 1251 = .ok (.iaload, 1) := dk_46 (dk_at dksL_law_47 12 rfl rfl)
theorem dL_law_1252 : decode cL_law 1252 = .ok (.invokevirtual 185, 3) := dk_182 0 185 (dk_at dksL_law_47 13 rfl rfl)
theorem dL_law_1255 : decode cL_law 1255 = .ok (.istore 6, 2) := dk_54 6 (dk_at dksL_law_47 16 rfl rfl)
theorem dL_law_1257 : decode cL_law 1257 = .ok (.aload_n 2, 1) := dk_44 (dk_at dksL_law_47 18 rfl rfl)
theorem dL_law_1258 : decode cL_law 1258 = .ok (.invokevirtual 128, 3) := dk_182 0 128 (dk_at dksL_law_47 19 rfl rfl)
theorem dL_law_1261 : decode cL_law 1261 = .ok (.iload 5, 2) := dk_21 5 (dk_at dksL_law_47 22 rfl rfl)
theorem dL_law_1263 : decode cL_law 1263 = .ok (.if_icmp .eq 5, 3) := dk_159 0 5 (dk_at dksL_law_48 0 rfl rfl)
theorem dL_law_1266 : decode cL_law 1266 = .ok (.iconst 0, 1) := dk_3 (dk_at dksL_law_48 3 rfl rfl)
theorem dL_law_1267 : decode cL_law 1267 = .ok (.ireturn, 1) := dk_172 (dk_at dksL_law_48 4 rfl rfl)
theorem dL_law_1268 : decode cL_law 1268 = .ok (.iload 5, 2) := dk_21 5 (dk_at dksL_law_48 5 rfl rfl)
theorem dL_law_1270 : decode cL_law 1270 = .ok (.ifCond .ne 15, 3) := dk_154 0 15 (dk_at dksL_law_48 7 rfl rfl)
theorem dL_law_1273 : decode cL_law 1273 = .ok (.aload_n 3, 1) := dk_45 (dk_at dksL_law_48 10 rfl rfl)
theorem dL_law_1274 : decode cL_law 1274 = .ok (.iconst 0, 1) := dk_3 (dk_at dksL_law_48 11 rfl rfl)
theorem dL_law_1275 : decode cL_law 1275 = .ok (.laload, 1) := dk_47 (dk_at dksL_law_48 12 rfl rfl)
theorem dL_law_1276 : decode cL_law 1276 = .ok (.iload 6, 2) := dk_21 6 (dk_at dksL_law_48 13 rfl rfl)
theorem dL_law_1278 : decode cL_law 1278 = .ok (.i2l, 1) := dk_133 (dk_at dksL_law_48 15 rfl rfl)
theorem dL_law_1279 : decode cL_law 1279 = .ok (.lcmp, 1) := dk_148 (dk_at dksL_law_48 16 rfl rfl)
theorem dL_law_1280 : decode cL_law 1280 = .ok (.ifCond .eq 5, 3) := dk_153 0 5 (dk_at dksL_law_48 17 rfl rfl)
theorem dL_law_1283 : decode cL_law 1283 = .ok (.iconst 0, 1) := dk_3 (dk_at dksL_law_48 20 rfl rfl)
theorem dL_law_1284 : decode cL_law 1284 = .ok (.ireturn, 1) := dk_172 (dk_at dksL_law_48 21 rfl rfl)
theorem dL_law_1285 : decode cL_law 1285 = .ok (.goto 1244, 3) := dk_167 4 220 (dk_at dksL_law_49 0 rfl rfl)
theorem dL_law_1288 : decode cL_law 1288 = .ok (.aload_n 1, 1) := dk_43 (dk_at dksL_law_49 3 rfl rfl)
theorem dL_law_1289 : decode cL_law 1289 = .ok (.aload_n 0, 1) := dk_42 (dk_at dksL_law_49 4 rfl rfl)
theorem dL_law_1290 : decode cL_law 1290 = .ok (.iload 4, 2) := dk_21 4 (dk_at dksL_law_49 5 rfl rfl)
theorem dL_law_1292 : decode cL_law 1292 = .ok (.iconst 1, 1) := dk_4 (dk_at dksL_law_49 7 rfl rfl)
theorem dL_law_1293 : decode cL_law 1293 = .ok (.iadd, 1) := dk_96 (dk_at dksL_law_49 8 rfl rfl)
theorem dL_law_1294 : decode cL_law 1294 = .ok (.iaload, 1) := dk_46 (dk_at dksL_law_49 9 rfl rfl)
theorem dL_law_1295 : decode cL_law 1295 = .ok (.aload_n 3, 1) := dk_45 (dk_at dksL_law_49 10 rfl rfl)
theorem dL_law_1296 : decode cL_law 1296 = .ok (.invokestatic 186, 3) := dk_184 0 186 (dk_at dksL_law_49 11 rfl rfl)
theorem dL_law_1299 : decode cL_law 1299 = .ok (.istore 5, 2) := dk_54 5 (dk_at dksL_law_49 14 rfl rfl)
theorem dL_law_1301 : decode cL_law 1301 = .ok (.aload_n 2, 1) := dk_44 (dk_at dksL_law_49 16 rfl rfl)
theorem dL_law_1302 : decode cL_law 1302 = .ok (.aload_n 0, 1) := dk_42 (dk_at dksL_law_49 17 rfl rfl)
theorem dL_law_1303 : decode cL_law 1303 = .ok (.iload 4, 2) := dk_21 4 (dk_at dksL_law_49 18 rfl rfl)
theorem dL_law_1305 : decode cL_law 1305 = .ok (.iconst 1, 1) := dk_4 (dk_at dksL_law_49 20 rfl rfl)
theorem dL_law_1306 : decode cL_law 1306 = .ok (.iadd, 1) := dk_96 (dk_at dksL_law_49 21 rfl rfl)
theorem dL_law_1307 : decode cL_law 1307 = .ok (.iaload, 1) := dk_46 (dk_at dksL_law_49 22 rfl rfl)
theorem dL_law_1308 : decode cL_law 1308 = .ok (.invokevirtual 188, 3) := dk_182 0 188 (dk_at dksL_law_50 0 rfl rfl)
theorem dL_law_1311 : decode cL_law 1311 = .ok (.istore 6, 2) := dk_54 6 (dk_at dksL_law_50 3 rfl rfl)
theorem dL_law_1313 : decode cL_law 1313 = .ok (.aload_n 2, 1) := dk_44 (dk_at dksL_law_50 5 rfl rfl)
theorem dL_law_1314 : decode cL_law 1314 = .ok (.invokevirtual 128, 3) := dk_182 0 128 (dk_at dksL_law_50 6 rfl rfl)
theorem dL_law_1317 : decode cL_law 1317 = .ok (.iload 5, 2) := dk_21 5 (dk_at dksL_law_50 9 rfl rfl)
theorem dL_law_1319 : decode cL_law 1319 = .ok (.if_icmp .eq 5, 3) := dk_159 0 5 (dk_at dksL_law_50 11 rfl rfl)
theorem dL_law_1322 : decode cL_law 1322 = .ok (.iconst 0, 1) := dk_3 (dk_at dksL_law_50 14 rfl rfl)
theorem dL_law_1323 : decode cL_law 1323 = .ok (.ireturn, 1) := dk_172 (dk_at dksL_law_50 15 rfl rfl)
theorem dL_law_1324 : decode cL_law 1324 = .ok (.iload 5, 2) := dk_21 5 (dk_at dksL_law_50 16 rfl rfl)
theorem dL_law_1326 : decode cL_law 1326 = .ok (.ifCond .ne 22, 3) := dk_154 0 22 (dk_at dksL_law_50 18 rfl rfl)
theorem dL_law_1329 : decode cL_law 1329 = .ok (.aload_n 3, 1) := dk_45 (dk_at dksL_law_50 21 rfl rfl)
theorem dL_law_1330 : decode cL_law 1330 = .ok (.iconst 0, 1) := dk_3 (dk_at dksL_law_50 22 rfl rfl)
theorem dL_law_1331 : decode cL_law 1331 = .ok (.laload, 1) := dk_47 (dk_at dksL_law_50 23 rfl rfl)
theorem dL_law_1332 : decode cL_law 1332 = .ok (.iload 6, 2) := dk_21 6 (dk_at dksL_law_51 0 rfl rfl)
theorem dL_law_1334 : decode cL_law 1334 = .ok (.ifCond .eq 7, 3) := dk_153 0 7 (dk_at dksL_law_51 2 rfl rfl)
theorem dL_law_1337 : decode cL_law 1337 = .ok (.lconst 1, 1) := dk_10 (dk_at dksL_law_51 5 rfl rfl)
theorem dL_law_1338 : decode cL_law 1338 = .ok (.goto 4, 3) := dk_167 0 4 (dk_at dksL_law_51 6 rfl rfl)
theorem dL_law_1341 : decode cL_law 1341 = .ok (.lconst 0, 1) := dk_9 (dk_at dksL_law_51 9 rfl rfl)
theorem dL_law_1342 : decode cL_law 1342 = .ok (.lcmp, 1) := dk_148 (dk_at dksL_law_51 10 rfl rfl)
theorem dL_law_1343 : decode cL_law 1343 = .ok (.ifCond .eq 5, 3) := dk_153 0 5 (dk_at dksL_law_51 11 rfl rfl)
theorem dL_law_1346 : decode cL_law 1346 = .ok (.iconst 0, 1) := dk_3 (dk_at dksL_law_51 14 rfl rfl)
theorem dL_law_1347 : decode cL_law 1347 = .ok (.ireturn, 1) := dk_172 (dk_at dksL_law_51 15 rfl rfl)
theorem dL_law_1348 : decode cL_law 1348 = .ok (.goto 1181, 3) := dk_167 4 157 (dk_at dksL_law_51 16 rfl rfl)
theorem dL_law_1351 : decode cL_law 1351 = .ok (.aload_n 1, 1) := dk_43 (dk_at dksL_law_51 19 rfl rfl)
theorem dL_law_1352 : decode cL_law 1352 = .ok (.aload_n 0, 1) := dk_42 (dk_at dksL_law_51 20 rfl rfl)
theorem dL_law_1353 : decode cL_law 1353 = .ok (.iload 4, 2) := dk_21 4 (dk_at dksL_law_51 21 rfl rfl)
theorem dL_law_1355 : decode cL_law 1355 = .ok (.iconst 1, 1) := dk_4 (dk_at dksL_law_51 23 rfl rfl)
theorem dL_law_1356 : decode cL_law 1356 = .ok (.iadd, 1) := dk_96 (dk_at dksL_law_52 0 rfl rfl)
theorem dL_law_1357 : decode cL_law 1357 = .ok (.iaload, 1) := dk_46 (dk_at dksL_law_52 1 rfl rfl)
theorem dL_law_1358 : decode cL_law 1358 = .ok (.aload_n 3, 1) := dk_45 (dk_at dksL_law_52 2 rfl rfl)
theorem dL_law_1359 : decode cL_law 1359 = .ok (.invokestatic 189, 3) := dk_184 0 189 (dk_at dksL_law_52 3 rfl rfl)
theorem dL_law_1362 : decode cL_law 1362 = .ok (.istore 5, 2) := dk_54 5 (dk_at dksL_law_52 6 rfl rfl)
theorem dL_law_1364 : decode cL_law 1364 = .ok (.aload_n 2, 1) := dk_44 (dk_at dksL_law_52 8 rfl rfl)
theorem dL_law_1365 : decode cL_law 1365 = .ok (.aload_n 0, 1) := dk_42 (dk_at dksL_law_52 9 rfl rfl)
theorem dL_law_1366 : decode cL_law 1366 = .ok (.iload 4, 2) := dk_21 4 (dk_at dksL_law_52 10 rfl rfl)
theorem dL_law_1368 : decode cL_law 1368 = .ok (.iconst 1, 1) := dk_4 (dk_at dksL_law_52 12 rfl rfl)
theorem dL_law_1369 : decode cL_law 1369 = .ok (.iadd, 1) := dk_96 (dk_at dksL_law_52 13 rfl rfl)
theorem dL_law_1370 : decode cL_law 1370 = .ok (.iaload, 1) := dk_46 (dk_at dksL_law_52 14 rfl rfl)
theorem dL_law_1371 : decode cL_law 1371 = .ok (.invokevirtual 191, 3) := dk_182 0 191 (dk_at dksL_law_52 15 rfl rfl)
theorem dL_law_1374 : decode cL_law 1374 = .ok (.istore 6, 2) := dk_54 6 (dk_at dksL_law_52 18 rfl rfl)
theorem dL_law_1376 : decode cL_law 1376 = .ok (.aload_n 2, 1) := dk_44 (dk_at dksL_law_52 20 rfl rfl)
theorem dL_law_1377 : decode cL_law 1377 = .ok (.invokevirtual 128, 3) := dk_182 0 128 (dk_at dksL_law_52 21 rfl rfl)
theorem dL_law_1380 : decode cL_law 1380 = .ok (.iload 5, 2) := dk_21 5 (dk_at dksL_law_53 0 rfl rfl)
theorem dL_law_1382 : decode cL_law 1382 = .ok (.if_icmp .eq 5, 3) := dk_159 0 5 (dk_at dksL_law_53 2 rfl rfl)
theorem dL_law_1385 : decode cL_law 1385 = .ok (.iconst 0, 1) := dk_3 (dk_at dksL_law_53 5 rfl rfl)
theorem dL_law_1386 : decode cL_law 1386 = .ok (.ireturn, 1) := dk_172 (dk_at dksL_law_53 6 rfl rfl)
theorem dL_law_1387 : decode cL_law 1387 = .ok (.iload 5, 2) := dk_21 5 (dk_at dksL_law_53 7 rfl rfl)
theorem dL_law_1389 : decode cL_law 1389 = .ok (.ifCond .ne 15, 3) := dk_154 0 15 (dk_at dksL_law_53 9 rfl rfl)
theorem dL_law_1392 : decode cL_law 1392 = .ok (.aload_n 3, 1) := dk_45 (dk_at dksL_law_53 12 rfl rfl)
theorem dL_law_1393 : decode cL_law 1393 = .ok (.iconst 0, 1) := dk_3 (dk_at dksL_law_53 13 rfl rfl)
theorem dL_law_1394 : decode cL_law 1394 = .ok (.laload, 1) := dk_47 (dk_at dksL_law_53 14 rfl rfl)
theorem dL_law_1395 : decode cL_law 1395 = .ok (.iload 6, 2) := dk_21 6 (dk_at dksL_law_53 15 rfl rfl)
theorem dL_law_1397 : decode cL_law 1397 = .ok (.i2l, 1) := dk_133 (dk_at dksL_law_53 17 rfl rfl)
theorem dL_law_1398 : decode cL_law 1398 = .ok (.lcmp, 1) := dk_148 (dk_at dksL_law_53 18 rfl rfl)
theorem dL_law_1399 : decode cL_law 1399 = .ok (.ifCond .eq 5, 3) := dk_153 0 5 (dk_at dksL_law_53 19 rfl rfl)
theorem dL_law_1402 : decode cL_law 1402 = .ok (.iconst 0, 1) := dk_3 (dk_at dksL_law_53 22 rfl rfl)
theorem dL_law_1403 : decode cL_law 1403 = .ok (.ireturn, 1) := dk_172 (dk_at dksL_law_53 23 rfl rfl)
theorem dL_law_1404 : decode cL_law 1404 = .ok (.goto 1125, 3) := dk_167 4 101 (dk_at dksL_law_54 0 rfl rfl)
theorem dL_law_1407 : decode cL_law 1407 = .ok (.aload_n 1, 1) := dk_43 (dk_at dksL_law_54 3 rfl rfl)
theorem dL_law_1408 : decode cL_law 1408 = .ok (.aload_n 0, 1) := dk_42 (dk_at dksL_law_54 4 rfl rfl)
theorem dL_law_1409 : decode cL_law 1409 = .ok (.iload 4, 2) := dk_21 4 (dk_at dksL_law_54 5 rfl rfl)
theorem dL_law_1411 : decode cL_law 1411 = .ok (.iconst 1, 1) := dk_4 (dk_at dksL_law_54 7 rfl rfl)
theorem dL_law_1412 : decode cL_law 1412 = .ok (.iadd, 1) := dk_96 (dk_at dksL_law_54 8 rfl rfl)
theorem dL_law_1413 : decode cL_law 1413 = .ok (.iaload, 1) := dk_46 (dk_at dksL_law_54 9 rfl rfl)
theorem dL_law_1414 : decode cL_law 1414 = .ok (.aload_n 0, 1) := dk_42 (dk_at dksL_law_54 10 rfl rfl)
theorem dL_law_1415 : decode cL_law 1415 = .ok (.iload 4, 2) := dk_21 4 (dk_at dksL_law_54 11 rfl rfl)
theorem dL_law_1417 : decode cL_law 1417 = .ok (.iconst 2, 1) := dk_5 (dk_at dksL_law_54 13 rfl rfl)
theorem dL_law_1418 : decode cL_law 1418 = .ok (.iadd, 1) := dk_96 (dk_at dksL_law_54 14 rfl rfl)
theorem dL_law_1419 : decode cL_law 1419 = .ok (.iaload, 1) := dk_46 (dk_at dksL_law_54 15 rfl rfl)
theorem dL_law_1420 : decode cL_law 1420 = .ok (.aload_n 3, 1) := dk_45 (dk_at dksL_law_54 16 rfl rfl)
theorem dL_law_1421 : decode cL_law 1421 = .ok (.invokestatic 192, 3) := dk_184 0 192 (dk_at dksL_law_54 17 rfl rfl)
theorem dL_law_1424 : decode cL_law 1424 = .ok (.istore 5, 2) := dk_54 5 (dk_at dksL_law_54 20 rfl rfl)
theorem dL_law_1426 : decode cL_law 1426 = .ok (.aload_n 2, 1) := dk_44 (dk_at dksL_law_54 22 rfl rfl)
theorem dL_law_1427 : decode cL_law 1427 = .ok (.aload_n 0, 1) := dk_42 (dk_at dksL_law_54 23 rfl rfl)
theorem dL_law_1428 : decode cL_law 1428 = .ok (.iload 4, 2) := dk_21 4 (dk_at dksL_law_55 0 rfl rfl)
theorem dL_law_1430 : decode cL_law 1430 = .ok (.iconst 1, 1) := dk_4 (dk_at dksL_law_55 2 rfl rfl)
theorem dL_law_1431 : decode cL_law 1431 = .ok (.iadd, 1) := dk_96 (dk_at dksL_law_55 3 rfl rfl)
theorem dL_law_1432 : decode cL_law 1432 = .ok (.iaload, 1) := dk_46 (dk_at dksL_law_55 4 rfl rfl)
theorem dL_law_1433 : decode cL_law 1433 = .ok (.aload_n 0, 1) := dk_42 (dk_at dksL_law_55 5 rfl rfl)
theorem dL_law_1434 : decode cL_law 1434 = .ok (.iload 4, 2) := dk_21 4 (dk_at dksL_law_55 6 rfl rfl)
theorem dL_law_1436 : decode cL_law 1436 = .ok (.iconst 2, 1) := dk_5 (dk_at dksL_law_55 8 rfl rfl)
theorem dL_law_1437 : decode cL_law 1437 = .ok (.iadd, 1) := dk_96 (dk_at dksL_law_55 9 rfl rfl)
theorem dL_law_1438 : decode cL_law 1438 = .ok (.iaload, 1) := dk_46 (dk_at dksL_law_55 10 rfl rfl)
theorem dL_law_1439 : decode cL_law 1439 = .ok (.invokevirtual 194, 3) := dk_182 0 194 (dk_at dksL_law_55 11 rfl rfl)
theorem dL_law_1442 : decode cL_law 1442 = .ok (.istore 6, 2) := dk_54 6 (dk_at dksL_law_55 14 rfl rfl)
theorem dL_law_1444 : decode cL_law 1444 = .ok (.aload_n 2, 1) := dk_44 (dk_at dksL_law_55 16 rfl rfl)
theorem dL_law_1445 : decode cL_law 1445 = .ok (.invokevirtual 128, 3) := dk_182 0 128 (dk_at dksL_law_55 17 rfl rfl)
theorem dL_law_1448 : decode cL_law 1448 = .ok (.iload 5, 2) := dk_21 5 (dk_at dksL_law_55 20 rfl rfl)
theorem dL_law_1450 : decode cL_law 1450 = .ok (.if_icmp .eq 5, 3) := dk_159 0 5 (dk_at dksL_law_56 0 rfl rfl)
theorem dL_law_1453 : decode cL_law 1453 = .ok (.iconst 0, 1) := dk_3 (dk_at dksL_law_56 3 rfl rfl)
theorem dL_law_1454 : decode cL_law 1454 = .ok (.ireturn, 1) := dk_172 (dk_at dksL_law_56 4 rfl rfl)
theorem dL_law_1455 : decode cL_law 1455 = .ok (.iload 5, 2) := dk_21 5 (dk_at dksL_law_56 5 rfl rfl)
theorem dL_law_1457 : decode cL_law 1457 = .ok (.ifCond .ne 15, 3) := dk_154 0 15 (dk_at dksL_law_56 7 rfl rfl)
theorem dL_law_1460 : decode cL_law 1460 = .ok (.aload_n 3, 1) := dk_45 (dk_at dksL_law_56 10 rfl rfl)
theorem dL_law_1461 : decode cL_law 1461 = .ok (.iconst 0, 1) := dk_3 (dk_at dksL_law_56 11 rfl rfl)
theorem dL_law_1462 : decode cL_law 1462 = .ok (.laload, 1) := dk_47 (dk_at dksL_law_56 12 rfl rfl)
theorem dL_law_1463 : decode cL_law 1463 = .ok (.iload 6, 2) := dk_21 6 (dk_at dksL_law_56 13 rfl rfl)
theorem dL_law_1465 : decode cL_law 1465 = .ok (.i2l, 1) := dk_133 (dk_at dksL_law_56 15 rfl rfl)
theorem dL_law_1466 : decode cL_law 1466 = .ok (.lcmp, 1) := dk_148 (dk_at dksL_law_56 16 rfl rfl)
theorem dL_law_1467 : decode cL_law 1467 = .ok (.ifCond .eq 5, 3) := dk_153 0 5 (dk_at dksL_law_56 17 rfl rfl)
theorem dL_law_1470 : decode cL_law 1470 = .ok (.iconst 0, 1) := dk_3 (dk_at dksL_law_56 20 rfl rfl)
theorem dL_law_1471 : decode cL_law 1471 = .ok (.ireturn, 1) := dk_172 (dk_at dksL_law_56 21 rfl rfl)
theorem dL_law_1472 : decode cL_law 1472 = .ok (.goto 1057, 3) := dk_167 4 33 (dk_at dksL_law_57 0 rfl rfl)
theorem dL_law_1475 : decode cL_law 1475 = .ok (.aload_n 1, 1) := dk_43 (dk_at dksL_law_57 3 rfl rfl)
theorem dL_law_1476 : decode cL_law 1476 = .ok (.aload_n 0, 1) := dk_42 (dk_at dksL_law_57 4 rfl rfl)
theorem dL_law_1477 : decode cL_law 1477 = .ok (.iload 4, 2) := dk_21 4 (dk_at dksL_law_57 5 rfl rfl)
theorem dL_law_1479 : decode cL_law 1479 = .ok (.iconst 1, 1) := dk_4 (dk_at dksL_law_57 7 rfl rfl)
theorem dL_law_1480 : decode cL_law 1480 = .ok (.iadd, 1) := dk_96 (dk_at dksL_law_57 8 rfl rfl)
theorem dL_law_1481 : decode cL_law 1481 = .ok (.iaload, 1) := dk_46 (dk_at dksL_law_57 9 rfl rfl)
theorem dL_law_1482 : decode cL_law 1482 = .ok (.aload_n 0, 1) := dk_42 (dk_at dksL_law_57 10 rfl rfl)
theorem dL_law_1483 : decode cL_law 1483 = .ok (.iload 4, 2) := dk_21 4 (dk_at dksL_law_57 11 rfl rfl)
theorem dL_law_1485 : decode cL_law 1485 = .ok (.iconst 2, 1) := dk_5 (dk_at dksL_law_57 13 rfl rfl)
theorem dL_law_1486 : decode cL_law 1486 = .ok (.iadd, 1) := dk_96 (dk_at dksL_law_57 14 rfl rfl)
theorem dL_law_1487 : decode cL_law 1487 = .ok (.iaload, 1) := dk_46 (dk_at dksL_law_57 15 rfl rfl)
theorem dL_law_1488 : decode cL_law 1488 = .ok (.aload_n 3, 1) := dk_45 (dk_at dksL_law_57 16 rfl rfl)
theorem dL_law_1489 : decode cL_law 1489 = .ok (.invokestatic 195, 3) := dk_184 0 195 (dk_at dksL_law_57 17 rfl rfl)
theorem dL_law_1492 : decode cL_law 1492 = .ok (.istore 5, 2) := dk_54 5 (dk_at dksL_law_57 20 rfl rfl)
theorem dL_law_1494 : decode cL_law 1494 = .ok (.aload_n 2, 1) := dk_44 (dk_at dksL_law_57 22 rfl rfl)
theorem dL_law_1495 : decode cL_law 1495 = .ok (.aload_n 0, 1) := dk_42 (dk_at dksL_law_57 23 rfl rfl)
theorem dL_law_1496 : decode cL_law 1496 = .ok (.iload 4, 2) := dk_21 4 (dk_at dksL_law_58 0 rfl rfl)
theorem dL_law_1498 : decode cL_law 1498 = .ok (.iconst 1, 1) := dk_4 (dk_at dksL_law_58 2 rfl rfl)
theorem dL_law_1499 : decode cL_law 1499 = .ok (.iadd, 1) := dk_96 (dk_at dksL_law_58 3 rfl rfl)
theorem dL_law_1500 : decode cL_law 1500 = .ok (.iaload, 1) := dk_46 (dk_at dksL_law_58 4 rfl rfl)
theorem dL_law_1501 : decode cL_law 1501 = .ok (.aload_n 0, 1) := dk_42 (dk_at dksL_law_58 5 rfl rfl)
theorem dL_law_1502 : decode cL_law 1502 = .ok (.iload 4, 2) := dk_21 4 (dk_at dksL_law_58 6 rfl rfl)
theorem dL_law_1504 : decode cL_law 1504 = .ok (.iconst 2, 1) := dk_5 (dk_at dksL_law_58 8 rfl rfl)
theorem dL_law_1505 : decode cL_law 1505 = .ok (.iadd, 1) := dk_96 (dk_at dksL_law_58 9 rfl rfl)
theorem dL_law_1506 : decode cL_law 1506 = .ok (.iaload, 1) := dk_46 (dk_at dksL_law_58 10 rfl rfl)
theorem dL_law_1507 : decode cL_law 1507 = .ok (.invokevirtual 197, 3) := dk_182 0 197 (dk_at dksL_law_58 11 rfl rfl)
theorem dL_law_1510 : decode cL_law 1510 = .ok (.istore 6, 2) := dk_54 6 (dk_at dksL_law_58 14 rfl rfl)
theorem dL_law_1512 : decode cL_law 1512 = .ok (.aload_n 2, 1) := dk_44 (dk_at dksL_law_58 16 rfl rfl)
theorem dL_law_1513 : decode cL_law 1513 = .ok (.invokevirtual 128, 3) := dk_182 0 128 (dk_at dksL_law_58 17 rfl rfl)
theorem dL_law_1516 : decode cL_law 1516 = .ok (.iload 5, 2) := dk_21 5 (dk_at dksL_law_58 20 rfl rfl)
theorem dL_law_1518 : decode cL_law 1518 = .ok (.if_icmp .eq 5, 3) := dk_159 0 5 (dk_at dksL_law_59 0 rfl rfl)
theorem dL_law_1521 : decode cL_law 1521 = .ok (.iconst 0, 1) := dk_3 (dk_at dksL_law_59 3 rfl rfl)
theorem dL_law_1522 : decode cL_law 1522 = .ok (.ireturn, 1) := dk_172 (dk_at dksL_law_59 4 rfl rfl)
theorem dL_law_1523 : decode cL_law 1523 = .ok (.iload 5, 2) := dk_21 5 (dk_at dksL_law_59 5 rfl rfl)
theorem dL_law_1525 : decode cL_law 1525 = .ok (.ifCond .ne 15, 3) := dk_154 0 15 (dk_at dksL_law_59 7 rfl rfl)
theorem dL_law_1528 : decode cL_law 1528 = .ok (.aload_n 3, 1) := dk_45 (dk_at dksL_law_59 10 rfl rfl)
theorem dL_law_1529 : decode cL_law 1529 = .ok (.iconst 0, 1) := dk_3 (dk_at dksL_law_59 11 rfl rfl)
theorem dL_law_1530 : decode cL_law 1530 = .ok (.laload, 1) := dk_47 (dk_at dksL_law_59 12 rfl rfl)
theorem dL_law_1531 : decode cL_law 1531 = .ok (.iload 6, 2) := dk_21 6 (dk_at dksL_law_59 13 rfl rfl)
theorem dL_law_1533 : decode cL_law 1533 = .ok (.i2l, 1) := dk_133 (dk_at dksL_law_59 15 rfl rfl)
theorem dL_law_1534 : decode cL_law 1534 = .ok (.lcmp, 1) := dk_148 (dk_at dksL_law_59 16 rfl rfl)
theorem dL_law_1535 : decode cL_law 1535 = .ok (.ifCond .eq 5, 3) := dk_153 0 5 (dk_at dksL_law_59 17 rfl rfl)
theorem dL_law_1538 : decode cL_law 1538 = .ok (.iconst 0, 1) := dk_3 (dk_at dksL_law_59 20 rfl rfl)
theorem dL_law_1539 : decode cL_law 1539 = .ok (.ireturn, 1) := dk_172 (dk_at dksL_law_59 21 rfl rfl)
theorem dL_law_1540 : decode cL_law 1540 = .ok (.goto 989, 3) := dk_167 3 221 (dk_at dksL_law_60 0 rfl rfl)
theorem dL_law_1543 : decode cL_law 1543 = .ok (.aload_n 1, 1) := dk_43 (dk_at dksL_law_60 3 rfl rfl)
theorem dL_law_1544 : decode cL_law 1544 = .ok (.aload_n 0, 1) := dk_42 (dk_at dksL_law_60 4 rfl rfl)
theorem dL_law_1545 : decode cL_law 1545 = .ok (.iload 4, 2) := dk_21 4 (dk_at dksL_law_60 5 rfl rfl)
theorem dL_law_1547 : decode cL_law 1547 = .ok (.iconst 1, 1) := dk_4 (dk_at dksL_law_60 7 rfl rfl)
theorem dL_law_1548 : decode cL_law 1548 = .ok (.iadd, 1) := dk_96 (dk_at dksL_law_60 8 rfl rfl)
theorem dL_law_1549 : decode cL_law 1549 = .ok (.iaload, 1) := dk_46 (dk_at dksL_law_60 9 rfl rfl)
theorem dL_law_1550 : decode cL_law 1550 = .ok (.aload_n 0, 1) := dk_42 (dk_at dksL_law_60 10 rfl rfl)
theorem dL_law_1551 : decode cL_law 1551 = .ok (.iload 4, 2) := dk_21 4 (dk_at dksL_law_60 11 rfl rfl)
theorem dL_law_1553 : decode cL_law 1553 = .ok (.iconst 2, 1) := dk_5 (dk_at dksL_law_60 13 rfl rfl)
theorem dL_law_1554 : decode cL_law 1554 = .ok (.iadd, 1) := dk_96 (dk_at dksL_law_60 14 rfl rfl)
theorem dL_law_1555 : decode cL_law 1555 = .ok (.iaload, 1) := dk_46 (dk_at dksL_law_60 15 rfl rfl)
theorem dL_law_1556 : decode cL_law 1556 = .ok (.aload_n 0, 1) := dk_42 (dk_at dksL_law_60 16 rfl rfl)
theorem dL_law_1557 : decode cL_law 1557 = .ok (.iload 4, 2) := dk_21 4 (dk_at dksL_law_60 17 rfl rfl)
theorem dL_law_1559 : decode cL_law 1559 = .ok (.iconst 3, 1) := dk_6 (dk_at dksL_law_60 19 rfl rfl)
theorem dL_law_1560 : decode cL_law 1560 = .ok (.iadd, 1) := dk_96 (dk_at dksL_law_60 20 rfl rfl)
theorem dL_law_1561 : decode cL_law 1561 = .ok (.iaload, 1) := dk_46 (dk_at dksL_law_60 21 rfl rfl)
theorem dL_law_1562 : decode cL_law 1562 = .ok (.aload_n 0, 1) := dk_42 (dk_at dksL_law_60 22 rfl rfl)
theorem dL_law_1563 : decode cL_law 1563 = .ok (.iload 4, 2) := dk_21 4 (dk_at dksL_law_61 0 rfl rfl)
theorem dL_law_1565 : decode cL_law 1565 = .ok (.iconst 4, 1) := dk_7 (dk_at dksL_law_61 2 rfl rfl)
theorem dL_law_1566 : decode cL_law 1566 = .ok (.iadd, 1) := dk_96 (dk_at dksL_law_61 3 rfl rfl)
theorem dL_law_1567 : decode cL_law 1567 = .ok (.iaload, 1) := dk_46 (dk_at dksL_law_61 4 rfl rfl)
theorem dL_law_1568 : decode cL_law 1568 = .ok (.aload_n 3, 1) := dk_45 (dk_at dksL_law_61 5 rfl rfl)
theorem dL_law_1569 : decode cL_law 1569 = .ok (.invokestatic 198, 3) := dk_184 0 198 (dk_at dksL_law_61 6 rfl rfl)
theorem dL_law_1572 : decode cL_law 1572 = .ok (.istore 5, 2) := dk_54 5 (dk_at dksL_law_61 9 rfl rfl)
theorem dL_law_1574 : decode cL_law 1574 = .ok (.aload_n 2, 1) := dk_44 (dk_at dksL_law_61 11 rfl rfl)
theorem dL_law_1575 : decode cL_law 1575 = .ok (.aload_n 0, 1) := dk_42 (dk_at dksL_law_61 12 rfl rfl)
theorem dL_law_1576 : decode cL_law 1576 = .ok (.iload 4, 2) := dk_21 4 (dk_at dksL_law_61 13 rfl rfl)
theorem dL_law_1578 : decode cL_law 1578 = .ok (.iconst 1, 1) := dk_4 (dk_at dksL_law_61 15 rfl rfl)
theorem dL_law_1579 : decode cL_law 1579 = .ok (.iadd, 1) := dk_96 (dk_at dksL_law_61 16 rfl rfl)
theorem dL_law_1580 : decode cL_law 1580 = .ok (.iaload, 1) := dk_46 (dk_at dksL_law_61 17 rfl rfl)
theorem dL_law_1581 : decode cL_law 1581 = .ok (.aload_n 0, 1) := dk_42 (dk_at dksL_law_61 18 rfl rfl)
theorem dL_law_1582 : decode cL_law 1582 = .ok (.iload 4, 2) := dk_21 4 (dk_at dksL_law_61 19 rfl rfl)
theorem dL_law_1584 : decode cL_law 1584 = .ok (.iconst 2, 1) := dk_5 (dk_at dksL_law_61 21 rfl rfl)
theorem dL_law_1585 : decode cL_law 1585 = .ok (.iadd, 1) := dk_96 (dk_at dksL_law_61 22 rfl rfl)
theorem dL_law_1586 : decode cL_law 1586 = .ok (.iaload, 1) := dk_46 (dk_at dksL_law_61 23 rfl rfl)
theorem dL_law_1587 : decode cL_law 1587 = .ok (.aload_n 0, 1) := dk_42 (dk_at dksL_law_62 0 rfl rfl)
theorem dL_law_1588 : decode cL_law 1588 = .ok (.iload 4, 2) := dk_21 4 (dk_at dksL_law_62 1 rfl rfl)
theorem dL_law_1590 : decode cL_law 1590 = .ok (.iconst 3, 1) := dk_6 (dk_at dksL_law_62 3 rfl rfl)
theorem dL_law_1591 : decode cL_law 1591 = .ok (.iadd, 1) := dk_96 (dk_at dksL_law_62 4 rfl rfl)
theorem dL_law_1592 : decode cL_law 1592 = .ok (.iaload, 1) := dk_46 (dk_at dksL_law_62 5 rfl rfl)
theorem dL_law_1593 : decode cL_law 1593 = .ok (.aload_n 0, 1) := dk_42 (dk_at dksL_law_62 6 rfl rfl)
theorem dL_law_1594 : decode cL_law 1594 = .ok (.iload 4, 2) := dk_21 4 (dk_at dksL_law_62 7 rfl rfl)
theorem dL_law_1596 : decode cL_law 1596 = .ok (.iconst 4, 1) := dk_7 (dk_at dksL_law_62 9 rfl rfl)
theorem dL_law_1597 : decode cL_law 1597 = .ok (.iadd, 1) := dk_96 (dk_at dksL_law_62 10 rfl rfl)
theorem dL_law_1598 : decode cL_law 1598 = .ok (.iaload, 1) := dk_46 (dk_at dksL_law_62 11 rfl rfl)
theorem dL_law_1599 : decode cL_law 1599 = .ok (.invokevirtual 200, 3) := dk_182 0 200 (dk_at dksL_law_62 12 rfl rfl)
theorem dL_law_1602 : decode cL_law 1602 = .ok (.istore 6, 2) := dk_54 6 (dk_at dksL_law_62 15 rfl rfl)
theorem dL_law_1604 : decode cL_law 1604 = .ok (.aload_n 2, 1) := dk_44 (dk_at dksL_law_62 17 rfl rfl)
theorem dL_law_1605 : decode cL_law 1605 = .ok (.invokevirtual 128, 3) := dk_182 0 128 (dk_at dksL_law_62 18 rfl rfl)
theorem dL_law_1608 : decode cL_law 1608 = .ok (.iload 5, 2) := dk_21 5 (dk_at dksL_law_62 21 rfl rfl)
theorem dL_law_1610 : decode cL_law 1610 = .ok (.if_icmp .eq 5, 3) := dk_159 0 5 (dk_at dksL_law_63 0 rfl rfl)
theorem dL_law_1613 : decode cL_law 1613 = .ok (.iconst 0, 1) := dk_3 (dk_at dksL_law_63 3 rfl rfl)
theorem dL_law_1614 : decode cL_law 1614 = .ok (.ireturn, 1) := dk_172 (dk_at dksL_law_63 4 rfl rfl)
theorem dL_law_1615 : decode cL_law 1615 = .ok (.iload 5, 2) := dk_21 5 (dk_at dksL_law_63 5 rfl rfl)
theorem dL_law_1617 : decode cL_law 1617 = .ok (.ifCond .ne 15, 3) := dk_154 0 15 (dk_at dksL_law_63 7 rfl rfl)
theorem dL_law_1620 : decode cL_law 1620 = .ok (.aload_n 3, 1) := dk_45 (dk_at dksL_law_63 10 rfl rfl)
theorem dL_law_1621 : decode cL_law 1621 = .ok (.iconst 0, 1) := dk_3 (dk_at dksL_law_63 11 rfl rfl)
theorem dL_law_1622 : decode cL_law 1622 = .ok (.laload, 1) := dk_47 (dk_at dksL_law_63 12 rfl rfl)
theorem dL_law_1623 : decode cL_law 1623 = .ok (.iload 6, 2) := dk_21 6 (dk_at dksL_law_63 13 rfl rfl)
theorem dL_law_1625 : decode cL_law 1625 = .ok (.i2l, 1) := dk_133 (dk_at dksL_law_63 15 rfl rfl)
theorem dL_law_1626 : decode cL_law 1626 = .ok (.lcmp, 1) := dk_148 (dk_at dksL_law_63 16 rfl rfl)
theorem dL_law_1627 : decode cL_law 1627 = .ok (.ifCond .eq 5, 3) := dk_153 0 5 (dk_at dksL_law_63 17 rfl rfl)
theorem dL_law_1630 : decode cL_law 1630 = .ok (.iconst 0, 1) := dk_3 (dk_at dksL_law_63 20 rfl rfl)
theorem dL_law_1631 : decode cL_law 1631 = .ok (.ireturn, 1) := dk_172 (dk_at dksL_law_63 21 rfl rfl)
theorem dL_law_1632 : decode cL_law 1632 = .ok (.goto 897, 3) := dk_167 3 129 (dk_at dksL_law_64 0 rfl rfl)
theorem dL_law_1635 : decode cL_law 1635 = .ok (.aload_n 1, 1) := dk_43 (dk_at dksL_law_64 3 rfl rfl)
theorem dL_law_1636 : decode cL_law 1636 = .ok (.aload_n 0, 1) := dk_42 (dk_at dksL_law_64 4 rfl rfl)
theorem dL_law_1637 : decode cL_law 1637 = .ok (.iload 4, 2) := dk_21 4 (dk_at dksL_law_64 5 rfl rfl)
theorem dL_law_1639 : decode cL_law 1639 = .ok (.iconst 1, 1) := dk_4 (dk_at dksL_law_64 7 rfl rfl)
theorem dL_law_1640 : decode cL_law 1640 = .ok (.iadd, 1) := dk_96 (dk_at dksL_law_64 8 rfl rfl)
theorem dL_law_1641 : decode cL_law 1641 = .ok (.iaload, 1) := dk_46 (dk_at dksL_law_64 9 rfl rfl)
theorem dL_law_1642 : decode cL_law 1642 = .ok (.aload_n 0, 1) := dk_42 (dk_at dksL_law_64 10 rfl rfl)
theorem dL_law_1643 : decode cL_law 1643 = .ok (.iload 4, 2) := dk_21 4 (dk_at dksL_law_64 11 rfl rfl)
theorem dL_law_1645 : decode cL_law 1645 = .ok (.iconst 2, 1) := dk_5 (dk_at dksL_law_64 13 rfl rfl)
theorem dL_law_1646 : decode cL_law 1646 = .ok (.iadd, 1) := dk_96 (dk_at dksL_law_64 14 rfl rfl)
theorem dL_law_1647 : decode cL_law 1647 = .ok (.iaload, 1) := dk_46 (dk_at dksL_law_64 15 rfl rfl)
theorem dL_law_1648 : decode cL_law 1648 = .ok (.aload_n 3, 1) := dk_45 (dk_at dksL_law_64 16 rfl rfl)
theorem dL_law_1649 : decode cL_law 1649 = .ok (.invokestatic 201, 3) := dk_184 0 201 (dk_at dksL_law_64 17 rfl rfl)
theorem dL_law_1652 : decode cL_law 1652 = .ok (.istore 5, 2) := dk_54 5 (dk_at dksL_law_64 20 rfl rfl)
theorem dL_law_1654 : decode cL_law 1654 = .ok (.aload_n 2, 1) := dk_44 (dk_at dksL_law_64 22 rfl rfl)
theorem dL_law_1655 : decode cL_law 1655 = .ok (.aload_n 0, 1) := dk_42 (dk_at dksL_law_64 23 rfl rfl)
theorem dL_law_1656 : decode cL_law 1656 = .ok (.iload 4, 2) := dk_21 4 (dk_at dksL_law_65 0 rfl rfl)
theorem dL_law_1658 : decode cL_law 1658 = .ok (.iconst 1, 1) := dk_4 (dk_at dksL_law_65 2 rfl rfl)
theorem dL_law_1659 : decode cL_law 1659 = .ok (.iadd, 1) := dk_96 (dk_at dksL_law_65 3 rfl rfl)
theorem dL_law_1660 : decode cL_law 1660 = .ok (.iaload, 1) := dk_46 (dk_at dksL_law_65 4 rfl rfl)
theorem dL_law_1661 : decode cL_law 1661 = .ok (.aload_n 0, 1) := dk_42 (dk_at dksL_law_65 5 rfl rfl)
theorem dL_law_1662 : decode cL_law 1662 = .ok (.iload 4, 2) := dk_21 4 (dk_at dksL_law_65 6 rfl rfl)
theorem dL_law_1664 : decode cL_law 1664 = .ok (.iconst 2, 1) := dk_5 (dk_at dksL_law_65 8 rfl rfl)
theorem dL_law_1665 : decode cL_law 1665 = .ok (.iadd, 1) := dk_96 (dk_at dksL_law_65 9 rfl rfl)
theorem dL_law_1666 : decode cL_law 1666 = .ok (.iaload, 1) := dk_46 (dk_at dksL_law_65 10 rfl rfl)
theorem dL_law_1667 : decode cL_law 1667 = .ok (.invokevirtual 203, 3) := dk_182 0 203 (dk_at dksL_law_65 11 rfl rfl)
theorem dL_law_1670 : decode cL_law 1670 = .ok (.istore 6, 2) := dk_54 6 (dk_at dksL_law_65 14 rfl rfl)
theorem dL_law_1672 : decode cL_law 1672 = .ok (.aload_n 2, 1) := dk_44 (dk_at dksL_law_65 16 rfl rfl)
theorem dL_law_1673 : decode cL_law 1673 = .ok (.invokevirtual 128, 3) := dk_182 0 128 (dk_at dksL_law_65 17 rfl rfl)
theorem dL_law_1676 : decode cL_law 1676 = .ok (.iload 5, 2) := dk_21 5 (dk_at dksL_law_65 20 rfl rfl)
theorem dL_law_1678 : decode cL_law 1678 = .ok (.if_icmp .eq 5, 3) := dk_159 0 5 (dk_at dksL_law_66 0 rfl rfl)
theorem dL_law_1681 : decode cL_law 1681 = .ok (.iconst 0, 1) := dk_3 (dk_at dksL_law_66 3 rfl rfl)
theorem dL_law_1682 : decode cL_law 1682 = .ok (.ireturn, 1) := dk_172 (dk_at dksL_law_66 4 rfl rfl)
theorem dL_law_1683 : decode cL_law 1683 = .ok (.iload 5, 2) := dk_21 5 (dk_at dksL_law_66 5 rfl rfl)
theorem dL_law_1685 : decode cL_law 1685 = .ok (.ifCond .ne 22, 3) := dk_154 0 22 (dk_at dksL_law_66 7 rfl rfl)
theorem dL_law_1688 : decode cL_law 1688 = .ok (.aload_n 3, 1) := dk_45 (dk_at dksL_law_66 10 rfl rfl)
theorem dL_law_1689 : decode cL_law 1689 = .ok (.iconst 0, 1) := dk_3 (dk_at dksL_law_66 11 rfl rfl)
theorem dL_law_1690 : decode cL_law 1690 = .ok (.laload, 1) := dk_47 (dk_at dksL_law_66 12 rfl rfl)
theorem dL_law_1691 : decode cL_law 1691 = .ok (.iload 6, 2) := dk_21 6 (dk_at dksL_law_66 13 rfl rfl)
theorem dL_law_1693 : decode cL_law 1693 = .ok (.ifCond .eq 7, 3) := dk_153 0 7 (dk_at dksL_law_66 15 rfl rfl)
theorem dL_law_1696 : decode cL_law 1696 = .ok (.lconst 1, 1) := dk_10 (dk_at dksL_law_66 18 rfl rfl)
theorem dL_law_1697 : decode cL_law 1697 = .ok (.goto 4, 3) := dk_167 0 4 (dk_at dksL_law_66 19 rfl rfl)
theorem dL_law_1700 : decode cL_law 1700 = .ok (.lconst 0, 1) := dk_9 (dk_at dksL_law_66 22 rfl rfl)
theorem dL_law_1701 : decode cL_law 1701 = .ok (.lcmp, 1) := dk_148 (dk_at dksL_law_66 23 rfl rfl)
theorem dL_law_1702 : decode cL_law 1702 = .ok (.ifCond .eq 5, 3) := dk_153 0 5 (dk_at dksL_law_67 0 rfl rfl)
theorem dL_law_1705 : decode cL_law 1705 = .ok (.iconst 0, 1) := dk_3 (dk_at dksL_law_67 3 rfl rfl)
theorem dL_law_1706 : decode cL_law 1706 = .ok (.ireturn, 1) := dk_172 (dk_at dksL_law_67 4 rfl rfl)
theorem dL_law_1707 : decode cL_law 1707 = .ok (.goto 822, 3) := dk_167 3 54 (dk_at dksL_law_67 5 rfl rfl)
theorem dL_law_1710 : decode cL_law 1710 = .ok (.aload_n 1, 1) := dk_43 (dk_at dksL_law_67 8 rfl rfl)
theorem dL_law_1711 : decode cL_law 1711 = .ok (.aload_n 0, 1) := dk_42 (dk_at dksL_law_67 9 rfl rfl)
theorem dL_law_1712 : decode cL_law 1712 = .ok (.iload 4, 2) := dk_21 4 (dk_at dksL_law_67 10 rfl rfl)
theorem dL_law_1714 : decode cL_law 1714 = .ok (.iconst 1, 1) := dk_4 (dk_at dksL_law_67 12 rfl rfl)
theorem dL_law_1715 : decode cL_law 1715 = .ok (.iadd, 1) := dk_96 (dk_at dksL_law_67 13 rfl rfl)
theorem dL_law_1716 : decode cL_law 1716 = .ok (.iaload, 1) := dk_46 (dk_at dksL_law_67 14 rfl rfl)
theorem dL_law_1717 : decode cL_law 1717 = .ok (.aload_n 0, 1) := dk_42 (dk_at dksL_law_67 15 rfl rfl)
theorem dL_law_1718 : decode cL_law 1718 = .ok (.iload 4, 2) := dk_21 4 (dk_at dksL_law_67 16 rfl rfl)
theorem dL_law_1720 : decode cL_law 1720 = .ok (.iconst 2, 1) := dk_5 (dk_at dksL_law_67 18 rfl rfl)
theorem dL_law_1721 : decode cL_law 1721 = .ok (.iadd, 1) := dk_96 (dk_at dksL_law_67 19 rfl rfl)
theorem dL_law_1722 : decode cL_law 1722 = .ok (.iaload, 1) := dk_46 (dk_at dksL_law_67 20 rfl rfl)
theorem dL_law_1723 : decode cL_law 1723 = .ok (.aload_n 3, 1) := dk_45 (dk_at dksL_law_67 21 rfl rfl)
theorem dL_law_1724 : decode cL_law 1724 = .ok (.invokestatic 204, 3) := dk_184 0 204 (dk_at dksL_law_68 0 rfl rfl)
theorem dL_law_1727 : decode cL_law 1727 = .ok (.istore 5, 2) := dk_54 5 (dk_at dksL_law_68 3 rfl rfl)
theorem dL_law_1729 : decode cL_law 1729 = .ok (.aload_n 2, 1) := dk_44 (dk_at dksL_law_68 5 rfl rfl)
theorem dL_law_1730 : decode cL_law 1730 = .ok (.aload_n 0, 1) := dk_42 (dk_at dksL_law_68 6 rfl rfl)
theorem dL_law_1731 : decode cL_law 1731 = .ok (.iload 4, 2) := dk_21 4 (dk_at dksL_law_68 7 rfl rfl)
theorem dL_law_1733 : decode cL_law 1733 = .ok (.iconst 1, 1) := dk_4 (dk_at dksL_law_68 9 rfl rfl)
theorem dL_law_1734 : decode cL_law 1734 = .ok (.iadd, 1) := dk_96 (dk_at dksL_law_68 10 rfl rfl)
theorem dL_law_1735 : decode cL_law 1735 = .ok (.iaload, 1) := dk_46 (dk_at dksL_law_68 11 rfl rfl)
theorem dL_law_1736 : decode cL_law 1736 = .ok (.aload_n 0, 1) := dk_42 (dk_at dksL_law_68 12 rfl rfl)
theorem dL_law_1737 : decode cL_law 1737 = .ok (.iload 4, 2) := dk_21 4 (dk_at dksL_law_68 13 rfl rfl)
theorem dL_law_1739 : decode cL_law 1739 = .ok (.iconst 2, 1) := dk_5 (dk_at dksL_law_68 15 rfl rfl)
theorem dL_law_1740 : decode cL_law 1740 = .ok (.iadd, 1) := dk_96 (dk_at dksL_law_68 16 rfl rfl)
theorem dL_law_1741 : decode cL_law 1741 = .ok (.iaload, 1) := dk_46 (dk_at dksL_law_68 17 rfl rfl)
theorem dL_law_1742 : decode cL_law 1742 = .ok (.invokevirtual 206, 3) := dk_182 0 206 (dk_at dksL_law_68 18 rfl rfl)
theorem dL_law_1745 : decode cL_law 1745 = .ok (.istore 6, 2) := dk_54 6 (dk_at dksL_law_68 21 rfl rfl)
theorem dL_law_1747 : decode cL_law 1747 = .ok (.aload_n 2, 1) := dk_44 (dk_at dksL_law_68 23 rfl rfl)
theorem dL_law_1748 : decode cL_law 1748 = .ok (.invokevirtual 128, 3) := dk_182 0 128 (dk_at dksL_law_69 0 rfl rfl)
theorem dL_law_1751 : decode cL_law 1751 = .ok (.iload 5, 2) := dk_21 5 (dk_at dksL_law_69 3 rfl rfl)
theorem dL_law_1753 : decode cL_law 1753 = .ok (.if_icmp .eq 5, 3) := dk_159 0 5 (dk_at dksL_law_69 5 rfl rfl)
theorem dL_law_1756 : decode cL_law 1756 = .ok (.iconst 0, 1) := dk_3 (dk_at dksL_law_69 8 rfl rfl)
theorem dL_law_1757 : decode cL_law 1757 = .ok (.ireturn, 1) := dk_172 (dk_at dksL_law_69 9 rfl rfl)
theorem dL_law_1758 : decode cL_law 1758 = .ok (.iload 5, 2) := dk_21 5 (dk_at dksL_law_69 10 rfl rfl)
theorem dL_law_1760 : decode cL_law 1760 = .ok (.ifCond .ne 15, 3) := dk_154 0 15 (dk_at dksL_law_69 12 rfl rfl)
theorem dL_law_1763 : decode cL_law 1763 = .ok (.aload_n 3, 1) := dk_45 (dk_at dksL_law_69 15 rfl rfl)
theorem dL_law_1764 : decode cL_law 1764 = .ok (.iconst 0, 1) := dk_3 (dk_at dksL_law_69 16 rfl rfl)
theorem dL_law_1765 : decode cL_law 1765 = .ok (.laload, 1) := dk_47 (dk_at dksL_law_69 17 rfl rfl)
theorem dL_law_1766 : decode cL_law 1766 = .ok (.iload 6, 2) := dk_21 6 (dk_at dksL_law_69 18 rfl rfl)
theorem dL_law_1768 : decode cL_law 1768 = .ok (.i2l, 1) := dk_133 (dk_at dksL_law_69 20 rfl rfl)
theorem dL_law_1769 : decode cL_law 1769 = .ok (.lcmp, 1) := dk_148 (dk_at dksL_law_69 21 rfl rfl)
theorem dL_law_1770 : decode cL_law 1770 = .ok (.ifCond .eq 5, 3) := dk_153 0 5 (dk_at dksL_law_70 0 rfl rfl)
theorem dL_law_1773 : decode cL_law 1773 = .ok (.iconst 0, 1) := dk_3 (dk_at dksL_law_70 3 rfl rfl)
theorem dL_law_1774 : decode cL_law 1774 = .ok (.ireturn, 1) := dk_172 (dk_at dksL_law_70 4 rfl rfl)
theorem dL_law_1775 : decode cL_law 1775 = .ok (.goto 754, 3) := dk_167 2 242 (dk_at dksL_law_70 5 rfl rfl)
theorem dL_law_1778 : decode cL_law 1778 = .ok (.aload_n 1, 1) := dk_43 (dk_at dksL_law_70 8 rfl rfl)
theorem dL_law_1779 : decode cL_law 1779 = .ok (.aload_n 0, 1) := dk_42 (dk_at dksL_law_70 9 rfl rfl)
theorem dL_law_1780 : decode cL_law 1780 = .ok (.iload 4, 2) := dk_21 4 (dk_at dksL_law_70 10 rfl rfl)
theorem dL_law_1782 : decode cL_law 1782 = .ok (.iconst 1, 1) := dk_4 (dk_at dksL_law_70 12 rfl rfl)
theorem dL_law_1783 : decode cL_law 1783 = .ok (.iadd, 1) := dk_96 (dk_at dksL_law_70 13 rfl rfl)
theorem dL_law_1784 : decode cL_law 1784 = .ok (.iaload, 1) := dk_46 (dk_at dksL_law_70 14 rfl rfl)
theorem dL_law_1785 : decode cL_law 1785 = .ok (.aload_n 0, 1) := dk_42 (dk_at dksL_law_70 15 rfl rfl)
theorem dL_law_1786 : decode cL_law 1786 = .ok (.iload 4, 2) := dk_21 4 (dk_at dksL_law_70 16 rfl rfl)
theorem dL_law_1788 : decode cL_law 1788 = .ok (.iconst 2, 1) := dk_5 (dk_at dksL_law_70 18 rfl rfl)
theorem dL_law_1789 : decode cL_law 1789 = .ok (.iadd, 1) := dk_96 (dk_at dksL_law_70 19 rfl rfl)
theorem dL_law_1790 : decode cL_law 1790 = .ok (.iaload, 1) := dk_46 (dk_at dksL_law_70 20 rfl rfl)
theorem dL_law_1791 : decode cL_law 1791 = .ok (.aload_n 3, 1) := dk_45 (dk_at dksL_law_70 21 rfl rfl)
theorem dL_law_1792 : decode cL_law 1792 = .ok (.invokestatic 207, 3) := dk_184 0 207 (dk_at dksL_law_71 0 rfl rfl)
theorem dL_law_1795 : decode cL_law 1795 = .ok (.istore 5, 2) := dk_54 5 (dk_at dksL_law_71 3 rfl rfl)
theorem dL_law_1797 : decode cL_law 1797 = .ok (.aload_n 2, 1) := dk_44 (dk_at dksL_law_71 5 rfl rfl)
theorem dL_law_1798 : decode cL_law 1798 = .ok (.aload_n 0, 1) := dk_42 (dk_at dksL_law_71 6 rfl rfl)
theorem dL_law_1799 : decode cL_law 1799 = .ok (.iload 4, 2) := dk_21 4 (dk_at dksL_law_71 7 rfl rfl)
theorem dL_law_1801 : decode cL_law 1801 = .ok (.iconst 1, 1) := dk_4 (dk_at dksL_law_71 9 rfl rfl)
theorem dL_law_1802 : decode cL_law 1802 = .ok (.iadd, 1) := dk_96 (dk_at dksL_law_71 10 rfl rfl)
theorem dL_law_1803 : decode cL_law 1803 = .ok (.iaload, 1) := dk_46 (dk_at dksL_law_71 11 rfl rfl)
theorem dL_law_1804 : decode cL_law 1804 = .ok (.aload_n 0, 1) := dk_42 (dk_at dksL_law_71 12 rfl rfl)
theorem dL_law_1805 : decode cL_law 1805 = .ok (.iload 4, 2) := dk_21 4 (dk_at dksL_law_71 13 rfl rfl)
theorem dL_law_1807 : decode cL_law 1807 = .ok (.iconst 2, 1) := dk_5 (dk_at dksL_law_71 15 rfl rfl)
theorem dL_law_1808 : decode cL_law 1808 = .ok (.iadd, 1) := dk_96 (dk_at dksL_law_71 16 rfl rfl)
theorem dL_law_1809 : decode cL_law 1809 = .ok (.iaload, 1) := dk_46 (dk_at dksL_law_71 17 rfl rfl)
theorem dL_law_1810 : decode cL_law 1810 = .ok (.invokevirtual 209, 3) := dk_182 0 209 (dk_at dksL_law_71 18 rfl rfl)
theorem dL_law_1813 : decode cL_law 1813 = .ok (.istore 6, 2) := dk_54 6 (dk_at dksL_law_71 21 rfl rfl)
theorem dL_law_1815 : decode cL_law 1815 = .ok (.aload_n 2, 1) := dk_44 (dk_at dksL_law_71 23 rfl rfl)
theorem dL_law_1816 : decode cL_law 1816 = .ok (.invokevirtual 128, 3) := dk_182 0 128 (dk_at dksL_law_72 0 rfl rfl)
theorem dL_law_1819 : decode cL_law 1819 = .ok (.iload 5, 2) := dk_21 5 (dk_at dksL_law_72 3 rfl rfl)
theorem dL_law_1821 : decode cL_law 1821 = .ok (.if_icmp .eq 5, 3) := dk_159 0 5 (dk_at dksL_law_72 5 rfl rfl)
theorem dL_law_1824 : decode cL_law 1824 = .ok (.iconst 0, 1) := dk_3 (dk_at dksL_law_72 8 rfl rfl)
theorem dL_law_1825 : decode cL_law 1825 = .ok (.ireturn, 1) := dk_172 (dk_at dksL_law_72 9 rfl rfl)
theorem dL_law_1826 : decode cL_law 1826 = .ok (.iload 5, 2) := dk_21 5 (dk_at dksL_law_72 10 rfl rfl)
theorem dL_law_1828 : decode cL_law 1828 = .ok (.ifCond .ne 15, 3) := dk_154 0 15 (dk_at dksL_law_72 12 rfl rfl)
theorem dL_law_1831 : decode cL_law 1831 = .ok (.aload_n 3, 1) := dk_45 (dk_at dksL_law_72 15 rfl rfl)
theorem dL_law_1832 : decode cL_law 1832 = .ok (.iconst 0, 1) := dk_3 (dk_at dksL_law_72 16 rfl rfl)
theorem dL_law_1833 : decode cL_law 1833 = .ok (.laload, 1) := dk_47 (dk_at dksL_law_72 17 rfl rfl)
theorem dL_law_1834 : decode cL_law 1834 = .ok (.iload 6, 2) := dk_21 6 (dk_at dksL_law_72 18 rfl rfl)
theorem dL_law_1836 : decode cL_law 1836 = .ok (.i2l, 1) := dk_133 (dk_at dksL_law_72 20 rfl rfl)
theorem dL_law_1837 : decode cL_law 1837 = .ok (.lcmp, 1) := dk_148 (dk_at dksL_law_72 21 rfl rfl)
theorem dL_law_1838 : decode cL_law 1838 = .ok (.ifCond .eq 5, 3) := dk_153 0 5 (dk_at dksL_law_73 0 rfl rfl)
theorem dL_law_1841 : decode cL_law 1841 = .ok (.iconst 0, 1) := dk_3 (dk_at dksL_law_73 3 rfl rfl)
theorem dL_law_1842 : decode cL_law 1842 = .ok (.ireturn, 1) := dk_172 (dk_at dksL_law_73 4 rfl rfl)
theorem dL_law_1843 : decode cL_law 1843 = .ok (.goto 686, 3) := dk_167 2 174 (dk_at dksL_law_73 5 rfl rfl)
theorem dL_law_1846 : decode cL_law 1846 = .ok (.aload_n 1, 1) := dk_43 (dk_at dksL_law_73 8 rfl rfl)
theorem dL_law_1847 : decode cL_law 1847 = .ok (.aload_n 0, 1) := dk_42 (dk_at dksL_law_73 9 rfl rfl)
theorem dL_law_1848 : decode cL_law 1848 = .ok (.iload 4, 2) := dk_21 4 (dk_at dksL_law_73 10 rfl rfl)
theorem dL_law_1850 : decode cL_law 1850 = .ok (.iconst 1, 1) := dk_4 (dk_at dksL_law_73 12 rfl rfl)
theorem dL_law_1851 : decode cL_law 1851 = .ok (.iadd, 1) := dk_96 (dk_at dksL_law_73 13 rfl rfl)
theorem dL_law_1852 : decode cL_law 1852 = .ok (.iaload, 1) := dk_46 (dk_at dksL_law_73 14 rfl rfl)
theorem dL_law_1853 : decode cL_law 1853 = .ok (.aload_n 0, 1) := dk_42 (dk_at dksL_law_73 15 rfl rfl)
theorem dL_law_1854 : decode cL_law 1854 = .ok (.iload 4, 2) := dk_21 4 (dk_at dksL_law_73 16 rfl rfl)
theorem dL_law_1856 : decode cL_law 1856 = .ok (.iconst 2, 1) := dk_5 (dk_at dksL_law_73 18 rfl rfl)
theorem dL_law_1857 : decode cL_law 1857 = .ok (.iadd, 1) := dk_96 (dk_at dksL_law_73 19 rfl rfl)
theorem dL_law_1858 : decode cL_law 1858 = .ok (.iaload, 1) := dk_46 (dk_at dksL_law_73 20 rfl rfl)
theorem dL_law_1859 : decode cL_law 1859 = .ok (.aload_n 3, 1) := dk_45 (dk_at dksL_law_73 21 rfl rfl)
theorem dL_law_1860 : decode cL_law 1860 = .ok (.invokestatic 210, 3) := dk_184 0 210 (dk_at dksL_law_74 0 rfl rfl)
theorem dL_law_1863 : decode cL_law 1863 = .ok (.istore 5, 2) := dk_54 5 (dk_at dksL_law_74 3 rfl rfl)
theorem dL_law_1865 : decode cL_law 1865 = .ok (.aload_n 2, 1) := dk_44 (dk_at dksL_law_74 5 rfl rfl)
theorem dL_law_1866 : decode cL_law 1866 = .ok (.aload_n 0, 1) := dk_42 (dk_at dksL_law_74 6 rfl rfl)
theorem dL_law_1867 : decode cL_law 1867 = .ok (.iload 4, 2) := dk_21 4 (dk_at dksL_law_74 7 rfl rfl)
theorem dL_law_1869 : decode cL_law 1869 = .ok (.iconst 1, 1) := dk_4 (dk_at dksL_law_74 9 rfl rfl)
theorem dL_law_1870 : decode cL_law 1870 = .ok (.iadd, 1) := dk_96 (dk_at dksL_law_74 10 rfl rfl)
theorem dL_law_1871 : decode cL_law 1871 = .ok (.iaload, 1) := dk_46 (dk_at dksL_law_74 11 rfl rfl)
theorem dL_law_1872 : decode cL_law 1872 = .ok (.aload_n 0, 1) := dk_42 (dk_at dksL_law_74 12 rfl rfl)
theorem dL_law_1873 : decode cL_law 1873 = .ok (.iload 4, 2) := dk_21 4 (dk_at dksL_law_74 13 rfl rfl)
theorem dL_law_1875 : decode cL_law 1875 = .ok (.iconst 2, 1) := dk_5 (dk_at dksL_law_74 15 rfl rfl)
theorem dL_law_1876 : decode cL_law 1876 = .ok (.iadd, 1) := dk_96 (dk_at dksL_law_74 16 rfl rfl)
theorem dL_law_1877 : decode cL_law 1877 = .ok (.iaload, 1) := dk_46 (dk_at dksL_law_74 17 rfl rfl)
theorem dL_law_1878 : decode cL_law 1878 = .ok (.invokevirtual 212, 3) := dk_182 0 212 (dk_at dksL_law_74 18 rfl rfl)
theorem dL_law_1881 : decode cL_law 1881 = .ok (.istore 6, 2) := dk_54 6 (dk_at dksL_law_74 21 rfl rfl)
theorem dL_law_1883 : decode cL_law 1883 = .ok (.aload_n 2, 1) := dk_44 (dk_at dksL_law_74 23 rfl rfl)
theorem dL_law_1884 : decode cL_law 1884 = .ok (.invokevirtual 128, 3) := dk_182 0 128 (dk_at dksL_law_75 0 rfl rfl)
theorem dL_law_1887 : decode cL_law 1887 = .ok (.iload 5, 2) := dk_21 5 (dk_at dksL_law_75 3 rfl rfl)
theorem dL_law_1889 : decode cL_law 1889 = .ok (.if_icmp .eq 5, 3) := dk_159 0 5 (dk_at dksL_law_75 5 rfl rfl)
theorem dL_law_1892 : decode cL_law 1892 = .ok (.iconst 0, 1) := dk_3 (dk_at dksL_law_75 8 rfl rfl)
theorem dL_law_1893 : decode cL_law 1893 = .ok (.ireturn, 1) := dk_172 (dk_at dksL_law_75 9 rfl rfl)
theorem dL_law_1894 : decode cL_law 1894 = .ok (.iload 5, 2) := dk_21 5 (dk_at dksL_law_75 10 rfl rfl)
theorem dL_law_1896 : decode cL_law 1896 = .ok (.ifCond .ne 15, 3) := dk_154 0 15 (dk_at dksL_law_75 12 rfl rfl)
theorem dL_law_1899 : decode cL_law 1899 = .ok (.aload_n 3, 1) := dk_45 (dk_at dksL_law_75 15 rfl rfl)
theorem dL_law_1900 : decode cL_law 1900 = .ok (.iconst 0, 1) := dk_3 (dk_at dksL_law_75 16 rfl rfl)
theorem dL_law_1901 : decode cL_law 1901 = .ok (.laload, 1) := dk_47 (dk_at dksL_law_75 17 rfl rfl)
theorem dL_law_1902 : decode cL_law 1902 = .ok (.iload 6, 2) := dk_21 6 (dk_at dksL_law_75 18 rfl rfl)
theorem dL_law_1904 : decode cL_law 1904 = .ok (.i2l, 1) := dk_133 (dk_at dksL_law_75 20 rfl rfl)
theorem dL_law_1905 : decode cL_law 1905 = .ok (.lcmp, 1) := dk_148 (dk_at dksL_law_75 21 rfl rfl)
theorem dL_law_1906 : decode cL_law 1906 = .ok (.ifCond .eq 5, 3) := dk_153 0 5 (dk_at dksL_law_76 0 rfl rfl)
theorem dL_law_1909 : decode cL_law 1909 = .ok (.iconst 0, 1) := dk_3 (dk_at dksL_law_76 3 rfl rfl)
theorem dL_law_1910 : decode cL_law 1910 = .ok (.ireturn, 1) := dk_172 (dk_at dksL_law_76 4 rfl rfl)
theorem dL_law_1911 : decode cL_law 1911 = .ok (.goto 618, 3) := dk_167 2 106 (dk_at dksL_law_76 5 rfl rfl)
theorem dL_law_1914 : decode cL_law 1914 = .ok (.aload_n 1, 1) := dk_43 (dk_at dksL_law_76 8 rfl rfl)
theorem dL_law_1915 : decode cL_law 1915 = .ok (.aload_n 0, 1) := dk_42 (dk_at dksL_law_76 9 rfl rfl)
theorem dL_law_1916 : decode cL_law 1916 = .ok (.iload 4, 2) := dk_21 4 (dk_at dksL_law_76 10 rfl rfl)
theorem dL_law_1918 : decode cL_law 1918 = .ok (.iconst 1, 1) := dk_4 (dk_at dksL_law_76 12 rfl rfl)
theorem dL_law_1919 : decode cL_law 1919 = .ok (.iadd, 1) := dk_96 (dk_at dksL_law_76 13 rfl rfl)
theorem dL_law_1920 : decode cL_law 1920 = .ok (.iaload, 1) := dk_46 (dk_at dksL_law_76 14 rfl rfl)
theorem dL_law_1921 : decode cL_law 1921 = .ok (.aload_n 0, 1) := dk_42 (dk_at dksL_law_76 15 rfl rfl)
theorem dL_law_1922 : decode cL_law 1922 = .ok (.iload 4, 2) := dk_21 4 (dk_at dksL_law_76 16 rfl rfl)
theorem dL_law_1924 : decode cL_law 1924 = .ok (.iconst 2, 1) := dk_5 (dk_at dksL_law_76 18 rfl rfl)
theorem dL_law_1925 : decode cL_law 1925 = .ok (.iadd, 1) := dk_96 (dk_at dksL_law_76 19 rfl rfl)
theorem dL_law_1926 : decode cL_law 1926 = .ok (.iaload, 1) := dk_46 (dk_at dksL_law_76 20 rfl rfl)
theorem dL_law_1927 : decode cL_law 1927 = .ok (.aload_n 0, 1) := dk_42 (dk_at dksL_law_76 21 rfl rfl)
theorem dL_law_1928 : decode cL_law 1928 = .ok (.iload 4, 2) := dk_21 4 (dk_at dksL_law_76 22 rfl rfl)
theorem dL_law_1930 : decode cL_law 1930 = .ok (.iconst 3, 1) := dk_6 (dk_at dksL_law_77 0 rfl rfl)
theorem dL_law_1931 : decode cL_law 1931 = .ok (.iadd, 1) := dk_96 (dk_at dksL_law_77 1 rfl rfl)
theorem dL_law_1932 : decode cL_law 1932 = .ok (.iaload, 1) := dk_46 (dk_at dksL_law_77 2 rfl rfl)
theorem dL_law_1933 : decode cL_law 1933 = .ok (.ifCond .eq 7, 3) := dk_153 0 7 (dk_at dksL_law_77 3 rfl rfl)
theorem dL_law_1936 : decode cL_law 1936 = .ok (.iconst 1, 1) := dk_4 (dk_at dksL_law_77 6 rfl rfl)
theorem dL_law_1937 : decode cL_law 1937 = .ok (.goto 4, 3) := dk_167 0 4 (dk_at dksL_law_77 7 rfl rfl)
theorem dL_law_1940 : decode cL_law 1940 = .ok (.iconst 0, 1) := dk_3 (dk_at dksL_law_77 10 rfl rfl)
theorem dL_law_1941 : decode cL_law 1941 = .ok (.aload_n 3, 1) := dk_45 (dk_at dksL_law_77 11 rfl rfl)
theorem dL_law_1942 : decode cL_law 1942 = .ok (.invokestatic 213, 3) := dk_184 0 213 (dk_at dksL_law_77 12 rfl rfl)
theorem dL_law_1945 : decode cL_law 1945 = .ok (.istore 5, 2) := dk_54 5 (dk_at dksL_law_77 15 rfl rfl)
theorem dL_law_1947 : decode cL_law 1947 = .ok (.aload_n 2, 1) := dk_44 (dk_at dksL_law_77 17 rfl rfl)
theorem dL_law_1948 : decode cL_law 1948 = .ok (.aload_n 0, 1) := dk_42 (dk_at dksL_law_77 18 rfl rfl)
theorem dL_law_1949 : decode cL_law 1949 = .ok (.iload 4, 2) := dk_21 4 (dk_at dksL_law_77 19 rfl rfl)
theorem dL_law_1951 : decode cL_law 1951 = .ok (.iconst 1, 1) := dk_4 (dk_at dksL_law_77 21 rfl rfl)
theorem dL_law_1952 : decode cL_law 1952 = .ok (.iadd, 1) := dk_96 (dk_at dksL_law_77 22 rfl rfl)
theorem dL_law_1953 : decode cL_law 1953 = .ok (.iaload, 1) := dk_46 (dk_at dksL_law_77 23 rfl rfl)
theorem dL_law_1954 : decode cL_law 1954 = .ok (.aload_n 0, 1) := dk_42 (dk_at dksL_law_78 0 rfl rfl)
theorem dL_law_1955 : decode cL_law 1955 = .ok (.iload 4, 2) := dk_21 4 (dk_at dksL_law_78 1 rfl rfl)
theorem dL_law_1957 : decode cL_law 1957 = .ok (.iconst 2, 1) := dk_5 (dk_at dksL_law_78 3 rfl rfl)
theorem dL_law_1958 : decode cL_law 1958 = .ok (.iadd, 1) := dk_96 (dk_at dksL_law_78 4 rfl rfl)
theorem dL_law_1959 : decode cL_law 1959 = .ok (.iaload, 1) := dk_46 (dk_at dksL_law_78 5 rfl rfl)
theorem dL_law_1960 : decode cL_law 1960 = .ok (.aload_n 0, 1) := dk_42 (dk_at dksL_law_78 6 rfl rfl)
theorem dL_law_1961 : decode cL_law 1961 = .ok (.iload 4, 2) := dk_21 4 (dk_at dksL_law_78 7 rfl rfl)
theorem dL_law_1963 : decode cL_law 1963 = .ok (.iconst 3, 1) := dk_6 (dk_at dksL_law_78 9 rfl rfl)
theorem dL_law_1964 : decode cL_law 1964 = .ok (.iadd, 1) := dk_96 (dk_at dksL_law_78 10 rfl rfl)
theorem dL_law_1965 : decode cL_law 1965 = .ok (.iaload, 1) := dk_46 (dk_at dksL_law_78 11 rfl rfl)
theorem dL_law_1966 : decode cL_law 1966 = .ok (.ifCond .eq 7, 3) := dk_153 0 7 (dk_at dksL_law_78 12 rfl rfl)
theorem dL_law_1969 : decode cL_law 1969 = .ok (.iconst 1, 1) := dk_4 (dk_at dksL_law_78 15 rfl rfl)
theorem dL_law_1970 : decode cL_law 1970 = .ok (.goto 4, 3) := dk_167 0 4 (dk_at dksL_law_78 16 rfl rfl)
theorem dL_law_1973 : decode cL_law 1973 = .ok (.iconst 0, 1) := dk_3 (dk_at dksL_law_78 19 rfl rfl)
theorem dL_law_1974 : decode cL_law 1974 = .ok (.invokevirtual 216, 3) := dk_182 0 216 (dk_at dksL_law_78 20 rfl rfl)
theorem dL_law_1977 : decode cL_law 1977 = .ok (.istore 6, 2) := dk_54 6 (dk_at dksL_law_79 0 rfl rfl)
theorem dL_law_1979 : decode cL_law 1979 = .ok (.aload_n 2, 1) := dk_44 (dk_at dksL_law_79 2 rfl rfl)
theorem dL_law_1980 : decode cL_law 1980 = .ok (.invokevirtual 128, 3) := dk_182 0 128 (dk_at dksL_law_79 3 rfl rfl)
theorem dL_law_1983 : decode cL_law 1983 = .ok (.iload 5, 2) := dk_21 5 (dk_at dksL_law_79 6 rfl rfl)
theorem dL_law_1985 : decode cL_law 1985 = .ok (.if_icmp .eq 5, 3) := dk_159 0 5 (dk_at dksL_law_79 8 rfl rfl)
theorem dL_law_1988 : decode cL_law 1988 = .ok (.iconst 0, 1) := dk_3 (dk_at dksL_law_79 11 rfl rfl)
theorem dL_law_1989 : decode cL_law 1989 = .ok (.ireturn, 1) := dk_172 (dk_at dksL_law_79 12 rfl rfl)
theorem dL_law_1990 : decode cL_law 1990 = .ok (.iload 5, 2) := dk_21 5 (dk_at dksL_law_79 13 rfl rfl)
theorem dL_law_1992 : decode cL_law 1992 = .ok (.ifCond .ne 15, 3) := dk_154 0 15 (dk_at dksL_law_79 15 rfl rfl)
theorem dL_law_1995 : decode cL_law 1995 = .ok (.aload_n 3, 1) := dk_45 (dk_at dksL_law_79 18 rfl rfl)
theorem dL_law_1996 : decode cL_law 1996 = .ok (.iconst 0, 1) := dk_3 (dk_at dksL_law_79 19 rfl rfl)
theorem dL_law_1997 : decode cL_law 1997 = .ok (.laload, 1) := dk_47 (dk_at dksL_law_79 20 rfl rfl)
theorem dL_law_1998 : decode cL_law 1998 = .ok (.iload 6, 2) := dk_21 6 (dk_at dksL_law_79 21 rfl rfl)
theorem dL_law_2000 : decode cL_law 2000 = .ok (.i2l, 1) := dk_133 (dk_at dksL_law_79 23 rfl rfl)
theorem dL_law_2001 : decode cL_law 2001 = .ok (.lcmp, 1) := dk_148 (dk_at dksL_law_80 0 rfl rfl)
theorem dL_law_2002 : decode cL_law 2002 = .ok (.ifCond .eq 5, 3) := dk_153 0 5 (dk_at dksL_law_80 1 rfl rfl)
theorem dL_law_2005 : decode cL_law 2005 = .ok (.iconst 0, 1) := dk_3 (dk_at dksL_law_80 4 rfl rfl)
theorem dL_law_2006 : decode cL_law 2006 = .ok (.ireturn, 1) := dk_172 (dk_at dksL_law_80 5 rfl rfl)
theorem dL_law_2007 : decode cL_law 2007 = .ok (.goto 522, 3) := dk_167 2 10 (dk_at dksL_law_80 6 rfl rfl)
theorem dL_law_2010 : decode cL_law 2010 = .ok (.aload_n 1, 1) := dk_43 (dk_at dksL_law_80 9 rfl rfl)
theorem dL_law_2011 : decode cL_law 2011 = .ok (.aload_n 0, 1) := dk_42 (dk_at dksL_law_80 10 rfl rfl)
theorem dL_law_2012 : decode cL_law 2012 = .ok (.iload 4, 2) := dk_21 4 (dk_at dksL_law_80 11 rfl rfl)
theorem dL_law_2014 : decode cL_law 2014 = .ok (.iconst 1, 1) := dk_4 (dk_at dksL_law_80 13 rfl rfl)
theorem dL_law_2015 : decode cL_law 2015 = .ok (.iadd, 1) := dk_96 (dk_at dksL_law_80 14 rfl rfl)
theorem dL_law_2016 : decode cL_law 2016 = .ok (.iaload, 1) := dk_46 (dk_at dksL_law_80 15 rfl rfl)
theorem dL_law_2017 : decode cL_law 2017 = .ok (.aload_n 3, 1) := dk_45 (dk_at dksL_law_80 16 rfl rfl)
theorem dL_law_2018 : decode cL_law 2018 = .ok (.invokestatic 217, 3) := dk_184 0 217 (dk_at dksL_law_80 17 rfl rfl)
theorem dL_law_2021 : decode cL_law 2021 = .ok (.istore 5, 2) := dk_54 5 (dk_at dksL_law_80 20 rfl rfl)
theorem dL_law_2023 : decode cL_law 2023 = .ok (.aload_n 2, 1) := dk_44 (dk_at dksL_law_80 22 rfl rfl)
theorem dL_law_2024 : decode cL_law 2024 = .ok (.aload_n 0, 1) := dk_42 (dk_at dksL_law_80 23 rfl rfl)
theorem dL_law_2025 : decode cL_law 2025 = .ok (.iload 4, 2) := dk_21 4 (dk_at dksL_law_81 0 rfl rfl)
theorem dL_law_2027 : decode cL_law 2027 = .ok (.iconst 1, 1) := dk_4 (dk_at dksL_law_81 2 rfl rfl)
theorem dL_law_2028 : decode cL_law 2028 = .ok (.iadd, 1) := dk_96 (dk_at dksL_law_81 3 rfl rfl)
theorem dL_law_2029 : decode cL_law 2029 = .ok (.iaload, 1) := dk_46 (dk_at dksL_law_81 4 rfl rfl)
theorem dL_law_2030 : decode cL_law 2030 = .ok (.invokevirtual 219, 3) := dk_182 0 219 (dk_at dksL_law_81 5 rfl rfl)
theorem dL_law_2033 : decode cL_law 2033 = .ok (.istore 6, 2) := dk_54 6 (dk_at dksL_law_81 8 rfl rfl)
theorem dL_law_2035 : decode cL_law 2035 = .ok (.aload_n 2, 1) := dk_44 (dk_at dksL_law_81 10 rfl rfl)
theorem dL_law_2036 : decode cL_law 2036 = .ok (.invokevirtual 128, 3) := dk_182 0 128 (dk_at dksL_law_81 11 rfl rfl)
theorem dL_law_2039 : decode cL_law 2039 = .ok (.iload 5, 2) := dk_21 5 (dk_at dksL_law_81 14 rfl rfl)
theorem dL_law_2041 : decode cL_law 2041 = .ok (.if_icmp .eq 5, 3) := dk_159 0 5 (dk_at dksL_law_81 16 rfl rfl)
theorem dL_law_2044 : decode cL_law 2044 = .ok (.iconst 0, 1) := dk_3 (dk_at dksL_law_81 19 rfl rfl)
theorem dL_law_2045 : decode cL_law 2045 = .ok (.ireturn, 1) := dk_172 (dk_at dksL_law_81 20 rfl rfl)
theorem dL_law_2046 : decode cL_law 2046 = .ok (.iload 5, 2) := dk_21 5 (dk_at dksL_law_81 21 rfl rfl)
theorem dL_law_2048 : decode cL_law 2048 = .ok (.ifCond .ne 15, 3) := dk_154 0 15 (dk_at dksL_law_82 0 rfl rfl)
theorem dL_law_2051 : decode cL_law 2051 = .ok (.aload_n 3, 1) := dk_45 (dk_at dksL_law_82 3 rfl rfl)
theorem dL_law_2052 : decode cL_law 2052 = .ok (.iconst 0, 1) := dk_3 (dk_at dksL_law_82 4 rfl rfl)
theorem dL_law_2053 : decode cL_law 2053 = .ok (.laload, 1) := dk_47 (dk_at dksL_law_82 5 rfl rfl)
theorem dL_law_2054 : decode cL_law 2054 = .ok (.iload 6, 2) := dk_21 6 (dk_at dksL_law_82 6 rfl rfl)
theorem dL_law_2056 : decode cL_law 2056 = .ok (.i2l, 1) := dk_133 (dk_at dksL_law_82 8 rfl rfl)
theorem dL_law_2057 : decode cL_law 2057 = .ok (.lcmp, 1) := dk_148 (dk_at dksL_law_82 9 rfl rfl)
theorem dL_law_2058 : decode cL_law 2058 = .ok (.ifCond .eq 5, 3) := dk_153 0 5 (dk_at dksL_law_82 10 rfl rfl)
theorem dL_law_2061 : decode cL_law 2061 = .ok (.iconst 0, 1) := dk_3 (dk_at dksL_law_82 13 rfl rfl)
theorem dL_law_2062 : decode cL_law 2062 = .ok (.ireturn, 1) := dk_172 (dk_at dksL_law_82 14 rfl rfl)
theorem dL_law_2063 : decode cL_law 2063 = .ok (.goto 466, 3) := dk_167 1 210 (dk_at dksL_law_82 15 rfl rfl)
theorem dL_law_2066 : decode cL_law 2066 = .ok (.aload_n 1, 1) := dk_43 (dk_at dksL_law_82 18 rfl rfl)
theorem dL_law_2067 : decode cL_law 2067 = .ok (.aload_n 0, 1) := dk_42 (dk_at dksL_law_82 19 rfl rfl)
theorem dL_law_2068 : decode cL_law 2068 = .ok (.iload 4, 2) := dk_21 4 (dk_at dksL_law_82 20 rfl rfl)
theorem dL_law_2070 : decode cL_law 2070 = .ok (.iconst 1, 1) := dk_4 (dk_at dksL_law_82 22 rfl rfl)
theorem dL_law_2071 : decode cL_law 2071 = .ok (.iadd, 1) := dk_96 (dk_at dksL_law_82 23 rfl rfl)
theorem dL_law_2072 : decode cL_law 2072 = .ok (.iaload, 1) := dk_46 (dk_at dksL_law_83 0 rfl rfl)
theorem dL_law_2073 : decode cL_law 2073 = .ok (.aload_n 0, 1) := dk_42 (dk_at dksL_law_83 1 rfl rfl)
theorem dL_law_2074 : decode cL_law 2074 = .ok (.iload 4, 2) := dk_21 4 (dk_at dksL_law_83 2 rfl rfl)
theorem dL_law_2076 : decode cL_law 2076 = .ok (.iconst 2, 1) := dk_5 (dk_at dksL_law_83 4 rfl rfl)
theorem dL_law_2077 : decode cL_law 2077 = .ok (.iadd, 1) := dk_96 (dk_at dksL_law_83 5 rfl rfl)
theorem dL_law_2078 : decode cL_law 2078 = .ok (.iaload, 1) := dk_46 (dk_at dksL_law_83 6 rfl rfl)
theorem dL_law_2079 : decode cL_law 2079 = .ok (.aload_n 0, 1) := dk_42 (dk_at dksL_law_83 7 rfl rfl)
theorem dL_law_2080 : decode cL_law 2080 = .ok (.iload 4, 2) := dk_21 4 (dk_at dksL_law_83 8 rfl rfl)
theorem dL_law_2082 : decode cL_law 2082 = .ok (.iconst 3, 1) := dk_6 (dk_at dksL_law_83 10 rfl rfl)
theorem dL_law_2083 : decode cL_law 2083 = .ok (.iadd, 1) := dk_96 (dk_at dksL_law_83 11 rfl rfl)
theorem dL_law_2084 : decode cL_law 2084 = .ok (.iaload, 1) := dk_46 (dk_at dksL_law_83 12 rfl rfl)
theorem dL_law_2085 : decode cL_law 2085 = .ok (.aload_n 3, 1) := dk_45 (dk_at dksL_law_83 13 rfl rfl)
theorem dL_law_2086 : decode cL_law 2086 = .ok (.invokestatic 220, 3) := dk_184 0 220 (dk_at dksL_law_83 14 rfl rfl)
theorem dL_law_2089 : decode cL_law 2089 = .ok (.istore 5, 2) := dk_54 5 (dk_at dksL_law_83 17 rfl rfl)
theorem dL_law_2091 : decode cL_law 2091 = .ok (.aload_n 2, 1) := dk_44 (dk_at dksL_law_83 19 rfl rfl)
theorem dL_law_2092 : decode cL_law 2092 = .ok (.aload_n 0, 1) := dk_42 (dk_at dksL_law_83 20 rfl rfl)
theorem dL_law_2093 : decode cL_law 2093 = .ok (.iload 4, 2) := dk_21 4 (dk_at dksL_law_83 21 rfl rfl)
theorem dL_law_2095 : decode cL_law 2095 = .ok (.iconst 1, 1) := dk_4 (dk_at dksL_law_83 23 rfl rfl)
theorem dL_law_2096 : decode cL_law 2096 = .ok (.iadd, 1) := dk_96 (dk_at dksL_law_84 0 rfl rfl)
theorem dL_law_2097 : decode cL_law 2097 = .ok (.iaload, 1) := dk_46 (dk_at dksL_law_84 1 rfl rfl)
theorem dL_law_2098 : decode cL_law 2098 = .ok (.aload_n 0, 1) := dk_42 (dk_at dksL_law_84 2 rfl rfl)
theorem dL_law_2099 : decode cL_law 2099 = .ok (.iload 4, 2) := dk_21 4 (dk_at dksL_law_84 3 rfl rfl)
theorem dL_law_2101 : decode cL_law 2101 = .ok (.iconst 2, 1) := dk_5 (dk_at dksL_law_84 5 rfl rfl)
theorem dL_law_2102 : decode cL_law 2102 = .ok (.iadd, 1) := dk_96 (dk_at dksL_law_84 6 rfl rfl)
theorem dL_law_2103 : decode cL_law 2103 = .ok (.iaload, 1) := dk_46 (dk_at dksL_law_84 7 rfl rfl)
theorem dL_law_2104 : decode cL_law 2104 = .ok (.aload_n 0, 1) := dk_42 (dk_at dksL_law_84 8 rfl rfl)
theorem dL_law_2105 : decode cL_law 2105 = .ok (.iload 4, 2) := dk_21 4 (dk_at dksL_law_84 9 rfl rfl)
theorem dL_law_2107 : decode cL_law 2107 = .ok (.iconst 3, 1) := dk_6 (dk_at dksL_law_84 11 rfl rfl)
theorem dL_law_2108 : decode cL_law 2108 = .ok (.iadd, 1) := dk_96 (dk_at dksL_law_84 12 rfl rfl)
theorem dL_law_2109 : decode cL_law 2109 = .ok (.iaload, 1) := dk_46 (dk_at dksL_law_84 13 rfl rfl)
theorem dL_law_2110 : decode cL_law 2110 = .ok (.invokevirtual 222, 3) := dk_182 0 222 (dk_at dksL_law_84 14 rfl rfl)
theorem dL_law_2113 : decode cL_law 2113 = .ok (.istore 6, 2) := dk_54 6 (dk_at dksL_law_84 17 rfl rfl)
theorem dL_law_2115 : decode cL_law 2115 = .ok (.aload_n 2, 1) := dk_44 (dk_at dksL_law_84 19 rfl rfl)
theorem dL_law_2116 : decode cL_law 2116 = .ok (.invokevirtual 128, 3) := dk_182 0 128 (dk_at dksL_law_84 20 rfl rfl)
theorem dL_law_2119 : decode cL_law 2119 = .ok (.iload 5, 2) := dk_21 5 (dk_at dksL_law_85 0 rfl rfl)
theorem dL_law_2121 : decode cL_law 2121 = .ok (.if_icmp .eq 5, 3) := dk_159 0 5 (dk_at dksL_law_85 2 rfl rfl)
theorem dL_law_2124 : decode cL_law 2124 = .ok (.iconst 0, 1) := dk_3 (dk_at dksL_law_85 5 rfl rfl)
theorem dL_law_2125 : decode cL_law 2125 = .ok (.ireturn, 1) := dk_172 (dk_at dksL_law_85 6 rfl rfl)
theorem dL_law_2126 : decode cL_law 2126 = .ok (.iload 5, 2) := dk_21 5 (dk_at dksL_law_85 7 rfl rfl)
theorem dL_law_2128 : decode cL_law 2128 = .ok (.ifCond .ne 15, 3) := dk_154 0 15 (dk_at dksL_law_85 9 rfl rfl)
theorem dL_law_2131 : decode cL_law 2131 = .ok (.aload_n 3, 1) := dk_45 (dk_at dksL_law_85 12 rfl rfl)
theorem dL_law_2132 : decode cL_law 2132 = .ok (.iconst 0, 1) := dk_3 (dk_at dksL_law_85 13 rfl rfl)
theorem dL_law_2133 : decode cL_law 2133 = .ok (.laload, 1) := dk_47 (dk_at dksL_law_85 14 rfl rfl)
theorem dL_law_2134 : decode cL_law 2134 = .ok (.iload 6, 2) := dk_21 6 (dk_at dksL_law_85 15 rfl rfl)
theorem dL_law_2136 : decode cL_law 2136 = .ok (.i2l, 1) := dk_133 (dk_at dksL_law_85 17 rfl rfl)
theorem dL_law_2137 : decode cL_law 2137 = .ok (.lcmp, 1) := dk_148 (dk_at dksL_law_85 18 rfl rfl)
theorem dL_law_2138 : decode cL_law 2138 = .ok (.ifCond .eq 5, 3) := dk_153 0 5 (dk_at dksL_law_85 19 rfl rfl)
theorem dL_law_2141 : decode cL_law 2141 = .ok (.iconst 0, 1) := dk_3 (dk_at dksL_law_85 22 rfl rfl)
theorem dL_law_2142 : decode cL_law 2142 = .ok (.ireturn, 1) := dk_172 (dk_at dksL_law_85 23 rfl rfl)
theorem dL_law_2143 : decode cL_law 2143 = .ok (.goto 386, 3) := dk_167 1 130 (dk_at dksL_law_86 0 rfl rfl)
theorem dL_law_2146 : decode cL_law 2146 = .ok (.aload_n 1, 1) := dk_43 (dk_at dksL_law_86 3 rfl rfl)
theorem dL_law_2147 : decode cL_law 2147 = .ok (.aload_n 0, 1) := dk_42 (dk_at dksL_law_86 4 rfl rfl)
theorem dL_law_2148 : decode cL_law 2148 = .ok (.iload 4, 2) := dk_21 4 (dk_at dksL_law_86 5 rfl rfl)
theorem dL_law_2150 : decode cL_law 2150 = .ok (.iconst 1, 1) := dk_4 (dk_at dksL_law_86 7 rfl rfl)
theorem dL_law_2151 : decode cL_law 2151 = .ok (.iadd, 1) := dk_96 (dk_at dksL_law_86 8 rfl rfl)
theorem dL_law_2152 : decode cL_law 2152 = .ok (.iaload, 1) := dk_46 (dk_at dksL_law_86 9 rfl rfl)
theorem dL_law_2153 : decode cL_law 2153 = .ok (.aload_n 3, 1) := dk_45 (dk_at dksL_law_86 10 rfl rfl)
theorem dL_law_2154 : decode cL_law 2154 = .ok (.invokestatic 223, 3) := dk_184 0 223 (dk_at dksL_law_86 11 rfl rfl)
theorem dL_law_2157 : decode cL_law 2157 = .ok (.istore 5, 2) := dk_54 5 (dk_at dksL_law_86 14 rfl rfl)
theorem dL_law_2159 : decode cL_law 2159 = .ok (.aload_n 2, 1) := dk_44 (dk_at dksL_law_86 16 rfl rfl)
theorem dL_law_2160 : decode cL_law 2160 = .ok (.aload_n 0, 1) := dk_42 (dk_at dksL_law_86 17 rfl rfl)
theorem dL_law_2161 : decode cL_law 2161 = .ok (.iload 4, 2) := dk_21 4 (dk_at dksL_law_86 18 rfl rfl)
theorem dL_law_2163 : decode cL_law 2163 = .ok (.iconst 1, 1) := dk_4 (dk_at dksL_law_86 20 rfl rfl)
theorem dL_law_2164 : decode cL_law 2164 = .ok (.iadd, 1) := dk_96 (dk_at dksL_law_86 21 rfl rfl)
theorem dL_law_2165 : decode cL_law 2165 = .ok (.iaload, 1) := dk_46 (dk_at dksL_law_86 22 rfl rfl)
theorem dL_law_2166 : decode cL_law 2166 = .ok (.invokevirtual 225, 3) := dk_182 0 225 (dk_at dksL_law_87 0 rfl rfl)
theorem dL_law_2169 : decode cL_law 2169 = .ok (.istore 6, 2) := dk_54 6 (dk_at dksL_law_87 3 rfl rfl)
theorem dL_law_2171 : decode cL_law 2171 = .ok (.aload_n 2, 1) := dk_44 (dk_at dksL_law_87 5 rfl rfl)
theorem dL_law_2172 : decode cL_law 2172 = .ok (.invokevirtual 128, 3) := dk_182 0 128 (dk_at dksL_law_87 6 rfl rfl)
theorem dL_law_2175 : decode cL_law 2175 = .ok (.iload 5, 2) := dk_21 5 (dk_at dksL_law_87 9 rfl rfl)
theorem dL_law_2177 : decode cL_law 2177 = .ok (.if_icmp .eq 5, 3) := dk_159 0 5 (dk_at dksL_law_87 11 rfl rfl)
theorem dL_law_2180 : decode cL_law 2180 = .ok (.iconst 0, 1) := dk_3 (dk_at dksL_law_87 14 rfl rfl)
theorem dL_law_2181 : decode cL_law 2181 = .ok (.ireturn, 1) := dk_172 (dk_at dksL_law_87 15 rfl rfl)
theorem dL_law_2182 : decode cL_law 2182 = .ok (.iload 5, 2) := dk_21 5 (dk_at dksL_law_87 16 rfl rfl)
theorem dL_law_2184 : decode cL_law 2184 = .ok (.ifCond .ne 15, 3) := dk_154 0 15 (dk_at dksL_law_87 18 rfl rfl)
theorem dL_law_2187 : decode cL_law 2187 = .ok (.aload_n 3, 1) := dk_45 (dk_at dksL_law_87 21 rfl rfl)
theorem dL_law_2188 : decode cL_law 2188 = .ok (.iconst 0, 1) := dk_3 (dk_at dksL_law_87 22 rfl rfl)
theorem dL_law_2189 : decode cL_law 2189 = .ok (.laload, 1) := dk_47 (dk_at dksL_law_87 23 rfl rfl)
theorem dL_law_2190 : decode cL_law 2190 = .ok (.iload 6, 2) := dk_21 6 (dk_at dksL_law_88 0 rfl rfl)
theorem dL_law_2192 : decode cL_law 2192 = .ok (.i2l, 1) := dk_133 (dk_at dksL_law_88 2 rfl rfl)
theorem dL_law_2193 : decode cL_law 2193 = .ok (.lcmp, 1) := dk_148 (dk_at dksL_law_88 3 rfl rfl)
theorem dL_law_2194 : decode cL_law 2194 = .ok (.ifCond .eq 5, 3) := dk_153 0 5 (dk_at dksL_law_88 4 rfl rfl)
theorem dL_law_2197 : decode cL_law 2197 = .ok (.iconst 0, 1) := dk_3 (dk_at dksL_law_88 7 rfl rfl)
theorem dL_law_2198 : decode cL_law 2198 = .ok (.ireturn, 1) := dk_172 (dk_at dksL_law_88 8 rfl rfl)
theorem dL_law_2199 : decode cL_law 2199 = .ok (.goto 330, 3) := dk_167 1 74 (dk_at dksL_law_88 9 rfl rfl)
theorem dL_law_2202 : decode cL_law 2202 = .ok (.aload_n 1, 1) := dk_43 (dk_at dksL_law_88 12 rfl rfl)
theorem dL_law_2203 : decode cL_law 2203 = .ok (.aload_n 0, 1) := dk_42 (dk_at dksL_law_88 13 rfl rfl)
theorem dL_law_2204 : decode cL_law 2204 = .ok (.iload 4, 2) := dk_21 4 (dk_at dksL_law_88 14 rfl rfl)
theorem dL_law_2206 : decode cL_law 2206 = .ok (.iconst 1, 1) := dk_4 (dk_at dksL_law_88 16 rfl rfl)
theorem dL_law_2207 : decode cL_law 2207 = .ok (.iadd, 1) := dk_96 (dk_at dksL_law_88 17 rfl rfl)
theorem dL_law_2208 : decode cL_law 2208 = .ok (.iaload, 1) := dk_46 (dk_at dksL_law_88 18 rfl rfl)
theorem dL_law_2209 : decode cL_law 2209 = .ok (.aload_n 3, 1) := dk_45 (dk_at dksL_law_88 19 rfl rfl)
theorem dL_law_2210 : decode cL_law 2210 = .ok (.invokestatic 226, 3) := dk_184 0 226 (dk_at dksL_law_88 20 rfl rfl)
theorem dL_law_2213 : decode cL_law 2213 = .ok (.istore 5, 2) := dk_54 5 (dk_at dksL_law_89 0 rfl rfl)
theorem dL_law_2215 : decode cL_law 2215 = .ok (.aload_n 2, 1) := dk_44 (dk_at dksL_law_89 2 rfl rfl)
theorem dL_law_2216 : decode cL_law 2216 = .ok (.aload_n 0, 1) := dk_42 (dk_at dksL_law_89 3 rfl rfl)
theorem dL_law_2217 : decode cL_law 2217 = .ok (.iload 4, 2) := dk_21 4 (dk_at dksL_law_89 4 rfl rfl)
theorem dL_law_2219 : decode cL_law 2219 = .ok (.iconst 1, 1) := dk_4 (dk_at dksL_law_89 6 rfl rfl)
theorem dL_law_2220 : decode cL_law 2220 = .ok (.iadd, 1) := dk_96 (dk_at dksL_law_89 7 rfl rfl)
theorem dL_law_2221 : decode cL_law 2221 = .ok (.iaload, 1) := dk_46 (dk_at dksL_law_89 8 rfl rfl)
theorem dL_law_2222 : decode cL_law 2222 = .ok (.invokevirtual 228, 3) := dk_182 0 228 (dk_at dksL_law_89 9 rfl rfl)
theorem dL_law_2225 : decode cL_law 2225 = .ok (.istore 6, 2) := dk_54 6 (dk_at dksL_law_89 12 rfl rfl)
theorem dL_law_2227 : decode cL_law 2227 = .ok (.aload_n 2, 1) := dk_44 (dk_at dksL_law_89 14 rfl rfl)
theorem dL_law_2228 : decode cL_law 2228 = .ok (.invokevirtual 128, 3) := dk_182 0 128 (dk_at dksL_law_89 15 rfl rfl)
theorem dL_law_2231 : decode cL_law 2231 = .ok (.iload 5, 2) := dk_21 5 (dk_at dksL_law_89 18 rfl rfl)
theorem dL_law_2233 : decode cL_law 2233 = .ok (.if_icmp .eq 5, 3) := dk_159 0 5 (dk_at dksL_law_89 20 rfl rfl)
theorem dL_law_2236 : decode cL_law 2236 = .ok (.iconst 0, 1) := dk_3 (dk_at dksL_law_89 23 rfl rfl)
theorem dL_law_2237 : decode cL_law 2237 = .ok (.ireturn, 1) := dk_172 (dk_at dksL_law_90 0 rfl rfl)
theorem dL_law_2238 : decode cL_law 2238 = .ok (.iload 5, 2) := dk_21 5 (dk_at dksL_law_90 1 rfl rfl)
theorem dL_law_2240 : decode cL_law 2240 = .ok (.ifCond .ne 15, 3) := dk_154 0 15 (dk_at dksL_law_90 3 rfl rfl)
theorem dL_law_2243 : decode cL_law 2243 = .ok (.aload_n 3, 1) := dk_45 (dk_at dksL_law_90 6 rfl rfl)
theorem dL_law_2244 : decode cL_law 2244 = .ok (.iconst 0, 1) := dk_3 (dk_at dksL_law_90 7 rfl rfl)
theorem dL_law_2245 : decode cL_law 2245 = .ok (.laload, 1) := dk_47 (dk_at dksL_law_90 8 rfl rfl)
theorem dL_law_2246 : decode cL_law 2246 = .ok (.iload 6, 2) := dk_21 6 (dk_at dksL_law_90 9 rfl rfl)
theorem dL_law_2248 : decode cL_law 2248 = .ok (.i2l, 1) := dk_133 (dk_at dksL_law_90 11 rfl rfl)
theorem dL_law_2249 : decode cL_law 2249 = .ok (.lcmp, 1) := dk_148 (dk_at dksL_law_90 12 rfl rfl)
theorem dL_law_2250 : decode cL_law 2250 = .ok (.ifCond .eq 5, 3) := dk_153 0 5 (dk_at dksL_law_90 13 rfl rfl)
theorem dL_law_2253 : decode cL_law 2253 = .ok (.iconst 0, 1) := dk_3 (dk_at dksL_law_90 16 rfl rfl)
theorem dL_law_2254 : decode cL_law 2254 = .ok (.ireturn, 1) := dk_172 (dk_at dksL_law_90 17 rfl rfl)
theorem dL_law_2255 : decode cL_law 2255 = .ok (.goto 274, 3) := dk_167 1 18 (dk_at dksL_law_90 18 rfl rfl)
theorem dL_law_2258 : decode cL_law 2258 = .ok (.aload_n 1, 1) := dk_43 (dk_at dksL_law_90 21 rfl rfl)
theorem dL_law_2259 : decode cL_law 2259 = .ok (.aload_n 0, 1) := dk_42 (dk_at dksL_law_90 22 rfl rfl)
theorem dL_law_2260 : decode cL_law 2260 = .ok (.iload 4, 2) := dk_21 4 (dk_at dksL_law_91 0 rfl rfl)
theorem dL_law_2262 : decode cL_law 2262 = .ok (.iconst 1, 1) := dk_4 (dk_at dksL_law_91 2 rfl rfl)
theorem dL_law_2263 : decode cL_law 2263 = .ok (.iadd, 1) := dk_96 (dk_at dksL_law_91 3 rfl rfl)
theorem dL_law_2264 : decode cL_law 2264 = .ok (.iaload, 1) := dk_46 (dk_at dksL_law_91 4 rfl rfl)
theorem dL_law_2265 : decode cL_law 2265 = .ok (.aload_n 0, 1) := dk_42 (dk_at dksL_law_91 5 rfl rfl)
theorem dL_law_2266 : decode cL_law 2266 = .ok (.iload 4, 2) := dk_21 4 (dk_at dksL_law_91 6 rfl rfl)
theorem dL_law_2268 : decode cL_law 2268 = .ok (.iconst 2, 1) := dk_5 (dk_at dksL_law_91 8 rfl rfl)
theorem dL_law_2269 : decode cL_law 2269 = .ok (.iadd, 1) := dk_96 (dk_at dksL_law_91 9 rfl rfl)
theorem dL_law_2270 : decode cL_law 2270 = .ok (.iaload, 1) := dk_46 (dk_at dksL_law_91 10 rfl rfl)
theorem dL_law_2271 : decode cL_law 2271 = .ok (.aload_n 3, 1) := dk_45 (dk_at dksL_law_91 11 rfl rfl)
theorem dL_law_2272 : decode cL_law 2272 = .ok (.invokestatic 229, 3) := dk_184 0 229 (dk_at dksL_law_91 12 rfl rfl)
theorem dL_law_2275 : decode cL_law 2275 = .ok (.istore 5, 2) := dk_54 5 (dk_at dksL_law_91 15 rfl rfl)
theorem dL_law_2277 : decode cL_law 2277 = .ok (.aload_n 2, 1) := dk_44 (dk_at dksL_law_91 17 rfl rfl)
theorem dL_law_2278 : decode cL_law 2278 = .ok (.aload_n 0, 1) := dk_42 (dk_at dksL_law_91 18 rfl rfl)
theorem dL_law_2279 : decode cL_law 2279 = .ok (.iload 4, 2) := dk_21 4 (dk_at dksL_law_91 19 rfl rfl)
theorem dL_law_2281 : decode cL_law 2281 = .ok (.iconst 1, 1) := dk_4 (dk_at dksL_law_91 21 rfl rfl)
theorem dL_law_2282 : decode cL_law 2282 = .ok (.iadd, 1) := dk_96 (dk_at dksL_law_91 22 rfl rfl)
theorem dL_law_2283 : decode cL_law 2283 = .ok (.iaload, 1) := dk_46 (dk_at dksL_law_91 23 rfl rfl)
theorem dL_law_2284 : decode cL_law 2284 = .ok (.aload_n 0, 1) := dk_42 (dk_at dksL_law_92 0 rfl rfl)
theorem dL_law_2285 : decode cL_law 2285 = .ok (.iload 4, 2) := dk_21 4 (dk_at dksL_law_92 1 rfl rfl)
theorem dL_law_2287 : decode cL_law 2287 = .ok (.iconst 2, 1) := dk_5 (dk_at dksL_law_92 3 rfl rfl)
theorem dL_law_2288 : decode cL_law 2288 = .ok (.iadd, 1) := dk_96 (dk_at dksL_law_92 4 rfl rfl)
theorem dL_law_2289 : decode cL_law 2289 = .ok (.iaload, 1) := dk_46 (dk_at dksL_law_92 5 rfl rfl)
theorem dL_law_2290 : decode cL_law 2290 = .ok (.invokevirtual 231, 3) := dk_182 0 231 (dk_at dksL_law_92 6 rfl rfl)
theorem dL_law_2293 : decode cL_law 2293 = .ok (.istore 6, 2) := dk_54 6 (dk_at dksL_law_92 9 rfl rfl)
theorem dL_law_2295 : decode cL_law 2295 = .ok (.aload_n 2, 1) := dk_44 (dk_at dksL_law_92 11 rfl rfl)
theorem dL_law_2296 : decode cL_law 2296 = .ok (.invokevirtual 128, 3) := dk_182 0 128 (dk_at dksL_law_92 12 rfl rfl)
theorem dL_law_2299 : decode cL_law 2299 = .ok (.iload 5, 2) := dk_21 5 (dk_at dksL_law_92 15 rfl rfl)
theorem dL_law_2301 : decode cL_law 2301 = .ok (.if_icmp .eq 5, 3) := dk_159 0 5 (dk_at dksL_law_92 17 rfl rfl)
theorem dL_law_2304 : decode cL_law 2304 = .ok (.iconst 0, 1) := dk_3 (dk_at dksL_law_92 20 rfl rfl)
theorem dL_law_2305 : decode cL_law 2305 = .ok (.ireturn, 1) := dk_172 (dk_at dksL_law_92 21 rfl rfl)
theorem dL_law_2306 : decode cL_law 2306 = .ok (.iload 5, 2) := dk_21 5 (dk_at dksL_law_92 22 rfl rfl)
theorem dL_law_2308 : decode cL_law 2308 = .ok (.ifCond .ne 15, 3) := dk_154 0 15 (dk_at dksL_law_93 0 rfl rfl)
theorem dL_law_2311 : decode cL_law 2311 = .ok (.aload_n 3, 1) := dk_45 (dk_at dksL_law_93 3 rfl rfl)
theorem dL_law_2312 : decode cL_law 2312 = .ok (.iconst 0, 1) := dk_3 (dk_at dksL_law_93 4 rfl rfl)
theorem dL_law_2313 : decode cL_law 2313 = .ok (.laload, 1) := dk_47 (dk_at dksL_law_93 5 rfl rfl)
theorem dL_law_2314 : decode cL_law 2314 = .ok (.iload 6, 2) := dk_21 6 (dk_at dksL_law_93 6 rfl rfl)
theorem dL_law_2316 : decode cL_law 2316 = .ok (.i2l, 1) := dk_133 (dk_at dksL_law_93 8 rfl rfl)
theorem dL_law_2317 : decode cL_law 2317 = .ok (.lcmp, 1) := dk_148 (dk_at dksL_law_93 9 rfl rfl)
theorem dL_law_2318 : decode cL_law 2318 = .ok (.ifCond .eq 5, 3) := dk_153 0 5 (dk_at dksL_law_93 10 rfl rfl)
theorem dL_law_2321 : decode cL_law 2321 = .ok (.iconst 0, 1) := dk_3 (dk_at dksL_law_93 13 rfl rfl)
theorem dL_law_2322 : decode cL_law 2322 = .ok (.ireturn, 1) := dk_172 (dk_at dksL_law_93 14 rfl rfl)
theorem dL_law_2323 : decode cL_law 2323 = .ok (.goto 206, 3) := dk_167 0 206 (dk_at dksL_law_93 15 rfl rfl)
theorem dL_law_2326 : decode cL_law 2326 = .ok (.aload_n 1, 1) := dk_43 (dk_at dksL_law_93 18 rfl rfl)
theorem dL_law_2327 : decode cL_law 2327 = .ok (.aload_n 0, 1) := dk_42 (dk_at dksL_law_93 19 rfl rfl)
theorem dL_law_2328 : decode cL_law 2328 = .ok (.iload 4, 2) := dk_21 4 (dk_at dksL_law_93 20 rfl rfl)
theorem dL_law_2330 : decode cL_law 2330 = .ok (.iconst 1, 1) := dk_4 (dk_at dksL_law_93 22 rfl rfl)
theorem dL_law_2331 : decode cL_law 2331 = .ok (.iadd, 1) := dk_96 (dk_at dksL_law_93 23 rfl rfl)
theorem dL_law_2332 : decode cL_law 2332 = .ok (.iaload, 1) := dk_46 (dk_at dksL_law_94 0 rfl rfl)
theorem dL_law_2333 : decode cL_law 2333 = .ok (.aload_n 0, 1) := dk_42 (dk_at dksL_law_94 1 rfl rfl)
theorem dL_law_2334 : decode cL_law 2334 = .ok (.iload 4, 2) := dk_21 4 (dk_at dksL_law_94 2 rfl rfl)
theorem dL_law_2336 : decode cL_law 2336 = .ok (.iconst 2, 1) := dk_5 (dk_at dksL_law_94 4 rfl rfl)
theorem dL_law_2337 : decode cL_law 2337 = .ok (.iadd, 1) := dk_96 (dk_at dksL_law_94 5 rfl rfl)
theorem dL_law_2338 : decode cL_law 2338 = .ok (.iaload, 1) := dk_46 (dk_at dksL_law_94 6 rfl rfl)
theorem dL_law_2339 : decode cL_law 2339 = .ok (.aload_n 0, 1) := dk_42 (dk_at dksL_law_94 7 rfl rfl)
theorem dL_law_2340 : decode cL_law 2340 = .ok (.iload 4, 2) := dk_21 4 (dk_at dksL_law_94 8 rfl rfl)
theorem dL_law_2342 : decode cL_law 2342 = .ok (.iconst 3, 1) := dk_6 (dk_at dksL_law_94 10 rfl rfl)
theorem dL_law_2343 : decode cL_law 2343 = .ok (.iadd, 1) := dk_96 (dk_at dksL_law_94 11 rfl rfl)
theorem dL_law_2344 : decode cL_law 2344 = .ok (.iaload, 1) := dk_46 (dk_at dksL_law_94 12 rfl rfl)
theorem dL_law_2345 : decode cL_law 2345 = .ok (.aload_n 0, 1) := dk_42 (dk_at dksL_law_94 13 rfl rfl)
theorem dL_law_2346 : decode cL_law 2346 = .ok (.iload 4, 2) := dk_21 4 (dk_at dksL_law_94 14 rfl rfl)
theorem dL_law_2348 : decode cL_law 2348 = .ok (.iconst 4, 1) := dk_7 (dk_at dksL_law_94 16 rfl rfl)
theorem dL_law_2349 : decode cL_law 2349 = .ok (.iadd, 1) := dk_96 (dk_at dksL_law_94 17 rfl rfl)
theorem dL_law_2350 : decode cL_law 2350 = .ok (.iaload, 1) := dk_46 (dk_at dksL_law_94 18 rfl rfl)
theorem dL_law_2351 : decode cL_law 2351 = .ok (.aload_n 3, 1) := dk_45 (dk_at dksL_law_94 19 rfl rfl)
theorem dL_law_2352 : decode cL_law 2352 = .ok (.invokestatic 232, 3) := dk_184 0 232 (dk_at dksL_law_94 20 rfl rfl)
theorem dL_law_2355 : decode cL_law 2355 = .ok (.istore 5, 2) := dk_54 5 (dk_at dksL_law_95 0 rfl rfl)
theorem dL_law_2357 : decode cL_law 2357 = .ok (.aload_n 2, 1) := dk_44 (dk_at dksL_law_95 2 rfl rfl)
theorem dL_law_2358 : decode cL_law 2358 = .ok (.aload_n 0, 1) := dk_42 (dk_at dksL_law_95 3 rfl rfl)
theorem dL_law_2359 : decode cL_law 2359 = .ok (.iload 4, 2) := dk_21 4 (dk_at dksL_law_95 4 rfl rfl)
theorem dL_law_2361 : decode cL_law 2361 = .ok (.iconst 1, 1) := dk_4 (dk_at dksL_law_95 6 rfl rfl)
theorem dL_law_2362 : decode cL_law 2362 = .ok (.iadd, 1) := dk_96 (dk_at dksL_law_95 7 rfl rfl)
theorem dL_law_2363 : decode cL_law 2363 = .ok (.iaload, 1) := dk_46 (dk_at dksL_law_95 8 rfl rfl)
theorem dL_law_2364 : decode cL_law 2364 = .ok (.aload_n 0, 1) := dk_42 (dk_at dksL_law_95 9 rfl rfl)
theorem dL_law_2365 : decode cL_law 2365 = .ok (.iload 4, 2) := dk_21 4 (dk_at dksL_law_95 10 rfl rfl)
theorem dL_law_2367 : decode cL_law 2367 = .ok (.iconst 2, 1) := dk_5 (dk_at dksL_law_95 12 rfl rfl)
theorem dL_law_2368 : decode cL_law 2368 = .ok (.iadd, 1) := dk_96 (dk_at dksL_law_95 13 rfl rfl)
theorem dL_law_2369 : decode cL_law 2369 = .ok (.iaload, 1) := dk_46 (dk_at dksL_law_95 14 rfl rfl)
theorem dL_law_2370 : decode cL_law 2370 = .ok (.aload_n 0, 1) := dk_42 (dk_at dksL_law_95 15 rfl rfl)
theorem dL_law_2371 : decode cL_law 2371 = .ok (.iload 4, 2) := dk_21 4 (dk_at dksL_law_95 16 rfl rfl)
theorem dL_law_2373 : decode cL_law 2373 = .ok (.iconst 3, 1) := dk_6 (dk_at dksL_law_95 18 rfl rfl)
theorem dL_law_2374 : decode cL_law 2374 = .ok (.iadd, 1) := dk_96 (dk_at dksL_law_95 19 rfl rfl)
theorem dL_law_2375 : decode cL_law 2375 = .ok (.iaload, 1) := dk_46 (dk_at dksL_law_95 20 rfl rfl)
theorem dL_law_2376 : decode cL_law 2376 = .ok (.aload_n 0, 1) := dk_42 (dk_at dksL_law_95 21 rfl rfl)
theorem dL_law_2377 : decode cL_law 2377 = .ok (.iload 4, 2) := dk_21 4 (dk_at dksL_law_95 22 rfl rfl)
theorem dL_law_2379 : decode cL_law 2379 = .ok (.iconst 4, 1) := dk_7 (dk_at dksL_law_96 0 rfl rfl)
theorem dL_law_2380 : decode cL_law 2380 = .ok (.iadd, 1) := dk_96 (dk_at dksL_law_96 1 rfl rfl)
theorem dL_law_2381 : decode cL_law 2381 = .ok (.iaload, 1) := dk_46 (dk_at dksL_law_96 2 rfl rfl)
theorem dL_law_2382 : decode cL_law 2382 = .ok (.invokevirtual 234, 3) := dk_182 0 234 (dk_at dksL_law_96 3 rfl rfl)
theorem dL_law_2385 : decode cL_law 2385 = .ok (.istore 6, 2) := dk_54 6 (dk_at dksL_law_96 6 rfl rfl)
theorem dL_law_2387 : decode cL_law 2387 = .ok (.aload_n 2, 1) := dk_44 (dk_at dksL_law_96 8 rfl rfl)
theorem dL_law_2388 : decode cL_law 2388 = .ok (.invokevirtual 128, 3) := dk_182 0 128 (dk_at dksL_law_96 9 rfl rfl)
theorem dL_law_2391 : decode cL_law 2391 = .ok (.iload 5, 2) := dk_21 5 (dk_at dksL_law_96 12 rfl rfl)
theorem dL_law_2393 : decode cL_law 2393 = .ok (.if_icmp .eq 5, 3) := dk_159 0 5 (dk_at dksL_law_96 14 rfl rfl)
theorem dL_law_2396 : decode cL_law 2396 = .ok (.iconst 0, 1) := dk_3 (dk_at dksL_law_96 17 rfl rfl)
theorem dL_law_2397 : decode cL_law 2397 = .ok (.ireturn, 1) := dk_172 (dk_at dksL_law_96 18 rfl rfl)
theorem dL_law_2398 : decode cL_law 2398 = .ok (.iload 5, 2) := dk_21 5 (dk_at dksL_law_96 19 rfl rfl)
theorem dL_law_2400 : decode cL_law 2400 = .ok (.ifCond .ne 15, 3) := dk_154 0 15 (dk_at dksL_law_96 21 rfl rfl)
theorem dL_law_2403 : decode cL_law 2403 = .ok (.aload_n 3, 1) := dk_45 (dk_at dksL_law_97 0 rfl rfl)
theorem dL_law_2404 : decode cL_law 2404 = .ok (.iconst 0, 1) := dk_3 (dk_at dksL_law_97 1 rfl rfl)
theorem dL_law_2405 : decode cL_law 2405 = .ok (.laload, 1) := dk_47 (dk_at dksL_law_97 2 rfl rfl)
theorem dL_law_2406 : decode cL_law 2406 = .ok (.iload 6, 2) := dk_21 6 (dk_at dksL_law_97 3 rfl rfl)
theorem dL_law_2408 : decode cL_law 2408 = .ok (.i2l, 1) := dk_133 (dk_at dksL_law_97 5 rfl rfl)
theorem dL_law_2409 : decode cL_law 2409 = .ok (.lcmp, 1) := dk_148 (dk_at dksL_law_97 6 rfl rfl)
theorem dL_law_2410 : decode cL_law 2410 = .ok (.ifCond .eq 5, 3) := dk_153 0 5 (dk_at dksL_law_97 7 rfl rfl)
theorem dL_law_2413 : decode cL_law 2413 = .ok (.iconst 0, 1) := dk_3 (dk_at dksL_law_97 10 rfl rfl)
theorem dL_law_2414 : decode cL_law 2414 = .ok (.ireturn, 1) := dk_172 (dk_at dksL_law_97 11 rfl rfl)
theorem dL_law_2415 : decode cL_law 2415 = .ok (.goto 114, 3) := dk_167 0 114 (dk_at dksL_law_97 12 rfl rfl)
theorem dL_law_2418 : decode cL_law 2418 = .ok (.aload_n 1, 1) := dk_43 (dk_at dksL_law_97 15 rfl rfl)
theorem dL_law_2419 : decode cL_law 2419 = .ok (.invokevirtual 235, 3) := dk_182 0 235 (dk_at dksL_law_97 16 rfl rfl)
theorem dL_law_2422 : decode cL_law 2422 = .ok (.f2d, 1) := dk_141 (dk_at dksL_law_97 19 rfl rfl)
theorem dL_law_2423 : decode cL_law 2423 = .ok (.dstore 5, 2) := dk_57 5 (dk_at dksL_law_97 20 rfl rfl)
theorem dL_law_2425 : decode cL_law 2425 = .ok (.aload_n 2, 1) := dk_44 (dk_at dksL_law_97 22 rfl rfl)
theorem dL_law_2426 : decode cL_law 2426 = .ok (.invokevirtual 239, 3) := dk_182 0 239 (dk_at dksL_law_98 0 rfl rfl)
theorem dL_law_2429 : decode cL_law 2429 = .ok (.f2d, 1) := dk_141 (dk_at dksL_law_98 3 rfl rfl)
theorem dL_law_2430 : decode cL_law 2430 = .ok (.dstore 7, 2) := dk_57 7 (dk_at dksL_law_98 4 rfl rfl)
theorem dL_law_2432 : decode cL_law 2432 = .ok (.dload 5, 2) := dk_24 5 (dk_at dksL_law_98 6 rfl rfl)
theorem dL_law_2434 : decode cL_law 2434 = .ok (.dload 7, 2) := dk_24 7 (dk_at dksL_law_98 8 rfl rfl)
theorem dL_law_2436 : decode cL_law 2436 = .ok (.dcmp .l, 1) := dk_151 (dk_at dksL_law_98 10 rfl rfl)
theorem dL_law_2437 : decode cL_law 2437 = .ok (.ifCond .eq 21, 3) := dk_153 0 21 (dk_at dksL_law_98 11 rfl rfl)
theorem dL_law_2440 : decode cL_law 2440 = .ok (.dload 5, 2) := dk_24 5 (dk_at dksL_law_98 14 rfl rfl)
theorem dL_law_2442 : decode cL_law 2442 = .ok (.dload 5, 2) := dk_24 5 (dk_at dksL_law_98 16 rfl rfl)
theorem dL_law_2444 : decode cL_law 2444 = .ok (.dcmp .l, 1) := dk_151 (dk_at dksL_law_98 18 rfl rfl)
theorem dL_law_2445 : decode cL_law 2445 = .ok (.ifCond .eq 11, 3) := dk_153 0 11 (dk_at dksL_law_98 19 rfl rfl)
theorem dL_law_2448 : decode cL_law 2448 = .ok (.dload 7, 2) := dk_24 7 (dk_at dksL_law_98 22 rfl rfl)
theorem dL_law_2450 : decode cL_law 2450 = .ok (.dload 7, 2) := dk_24 7 (dk_at dksL_law_99 0 rfl rfl)
theorem dL_law_2452 : decode cL_law 2452 = .ok (.dcmp .l, 1) := dk_151 (dk_at dksL_law_99 2 rfl rfl)
theorem dL_law_2453 : decode cL_law 2453 = .ok (.ifCond .ne 5, 3) := dk_154 0 5 (dk_at dksL_law_99 3 rfl rfl)
theorem dL_law_2456 : decode cL_law 2456 = .ok (.iconst 0, 1) := dk_3 (dk_at dksL_law_99 6 rfl rfl)
theorem dL_law_2457 : decode cL_law 2457 = .ok (.ireturn, 1) := dk_172 (dk_at dksL_law_99 7 rfl rfl)
theorem dL_law_2458 : decode cL_law 2458 = .ok (.goto 71, 3) := dk_167 0 71 (dk_at dksL_law_99 8 rfl rfl)
theorem dL_law_2461 : decode cL_law 2461 = .ok (.aload_n 1, 1) := dk_43 (dk_at dksL_law_99 11 rfl rfl)
theorem dL_law_2462 : decode cL_law 2462 = .ok (.invokevirtual 240, 3) := dk_182 0 240 (dk_at dksL_law_99 12 rfl rfl)
theorem dL_law_2465 : decode cL_law 2465 = .ok (.dstore 5, 2) := dk_57 5 (dk_at dksL_law_99 15 rfl rfl)
theorem dL_law_2467 : decode cL_law 2467 = .ok (.aload_n 2, 1) := dk_44 (dk_at dksL_law_99 17 rfl rfl)
theorem dL_law_2468 : decode cL_law 2468 = .ok (.invokevirtual 244, 3) := dk_182 0 244 (dk_at dksL_law_99 18 rfl rfl)
theorem dL_law_2471 : decode cL_law 2471 = .ok (.dstore 7, 2) := dk_57 7 (dk_at dksL_law_99 21 rfl rfl)
theorem dL_law_2473 : decode cL_law 2473 = .ok (.dload 5, 2) := dk_24 5 (dk_at dksL_law_100 0 rfl rfl)
theorem dL_law_2475 : decode cL_law 2475 = .ok (.dload 7, 2) := dk_24 7 (dk_at dksL_law_100 2 rfl rfl)
theorem dL_law_2477 : decode cL_law 2477 = .ok (.dcmp .l, 1) := dk_151 (dk_at dksL_law_100 4 rfl rfl)
theorem dL_law_2478 : decode cL_law 2478 = .ok (.ifCond .eq 21, 3) := dk_153 0 21 (dk_at dksL_law_100 5 rfl rfl)
theorem dL_law_2481 : decode cL_law 2481 = .ok (.dload 5, 2) := dk_24 5 (dk_at dksL_law_100 8 rfl rfl)
theorem dL_law_2483 : decode cL_law 2483 = .ok (.dload 5, 2) := dk_24 5 (dk_at dksL_law_100 10 rfl rfl)
theorem dL_law_2485 : decode cL_law 2485 = .ok (.dcmp .l, 1) := dk_151 (dk_at dksL_law_100 12 rfl rfl)
theorem dL_law_2486 : decode cL_law 2486 = .ok (.ifCond .eq 11, 3) := dk_153 0 11 (dk_at dksL_law_100 13 rfl rfl)
theorem dL_law_2489 : decode cL_law 2489 = .ok (.dload 7, 2) := dk_24 7 (dk_at dksL_law_100 16 rfl rfl)
theorem dL_law_2491 : decode cL_law 2491 = .ok (.dload 7, 2) := dk_24 7 (dk_at dksL_law_100 18 rfl rfl)
theorem dL_law_2493 : decode cL_law 2493 = .ok (.dcmp .l, 1) := dk_151 (dk_at dksL_law_100 20 rfl rfl)
theorem dL_law_2494 : decode cL_law 2494 = .ok (.ifCond .ne 5, 3) := dk_154 0 5 (dk_at dksL_law_100 21 rfl rfl)
theorem dL_law_2497 : decode cL_law 2497 = .ok (.iconst 0, 1) := dk_3 (dk_at dksL_law_101 0 rfl rfl)
theorem dL_law_2498 : decode cL_law 2498 = .ok (.ireturn, 1) := dk_172 (dk_at dksL_law_101 1 rfl rfl)
theorem dL_law_2499 : decode cL_law 2499 = .ok (.goto 30, 3) := dk_167 0 30 (dk_at dksL_law_101 2 rfl rfl)
theorem dL_law_2502 : decode cL_law 2502 = .ok (.aload_n 1, 1) := dk_43 (dk_at dksL_law_101 5 rfl rfl)
theorem dL_law_2503 : decode cL_law 2503 = .ok (.invokevirtual 245, 3) := dk_182 0 245 (dk_at dksL_law_101 6 rfl rfl)
theorem dL_law_2506 : decode cL_law 2506 = .ok (.aload_n 2, 1) := dk_44 (dk_at dksL_law_101 9 rfl rfl)
theorem dL_law_2507 : decode cL_law 2507 = .ok (.invokevirtual 249, 3) := dk_182 0 249 (dk_at dksL_law_101 10 rfl rfl)
theorem dL_law_2510 : decode cL_law 2510 = .ok (.if_icmp .eq 19, 3) := dk_159 0 19 (dk_at dksL_law_101 13 rfl rfl)
theorem dL_law_2513 : decode cL_law 2513 = .ok (.iconst 0, 1) := dk_3 (dk_at dksL_law_101 16 rfl rfl)
theorem dL_law_2514 : decode cL_law 2514 = .ok (.ireturn, 1) := dk_172 (dk_at dksL_law_101 17 rfl rfl)
theorem dL_law_2515 : decode cL_law 2515 = .ok (.aload_n 1, 1) := dk_43 (dk_at dksL_law_101 18 rfl rfl)
theorem dL_law_2516 : decode cL_law 2516 = .ok (.invokevirtual 250, 3) := dk_182 0 250 (dk_at dksL_law_101 19 rfl rfl)
theorem dL_law_2519 : decode cL_law 2519 = .ok (.aload_n 2, 1) := dk_44 (dk_at dksL_law_101 22 rfl rfl)
theorem dL_law_2520 : decode cL_law 2520 = .ok (.invokevirtual 254, 3) := dk_182 0 254 (dk_at dksL_law_102 0 rfl rfl)
theorem dL_law_2523 : decode cL_law 2523 = .ok (.lcmp, 1) := dk_148 (dk_at dksL_law_102 3 rfl rfl)
theorem dL_law_2524 : decode cL_law 2524 = .ok (.ifCond .eq 5, 3) := dk_153 0 5 (dk_at dksL_law_102 4 rfl rfl)
theorem dL_law_2527 : decode cL_law 2527 = .ok (.iconst 0, 1) := dk_3 (dk_at dksL_law_102 7 rfl rfl)
theorem dL_law_2528 : decode cL_law 2528 = .ok (.ireturn, 1) := dk_172 (dk_at dksL_law_102 8 rfl rfl)
theorem dL_law_2529 : decode cL_law 2529 = .ok (.iinc 4 5, 3) := dk_132 4 5 (dk_at dksL_law_102 9 rfl rfl)
theorem dL_law_2532 : decode cL_law 2532 = .ok (.goto (-2509), 3) := dk_167 246 51 (dk_at dksL_law_102 12 rfl rfl)
theorem dL_law_2535 : decode cL_law 2535 = .ok (.iconst 1, 1) := dk_4 (dk_at dksL_law_102 15 rfl rfl)
theorem dL_law_2536 : decode cL_law 2536 = .ok (.ireturn, 1) := dk_172 (dk_at dksL_law_102 16 rfl rfl)
