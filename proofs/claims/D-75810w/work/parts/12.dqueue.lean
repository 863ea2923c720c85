set_option maxRecDepth 100000
theorem dX4_init_0 : decode cX4_init 0 = .ok (.aload_n 0, 1) := by decide +kernel
theorem dX4_init_1 : decode cX4_init 1 = .ok (.invokespecial 1, 3) := by decide +kernel
theorem dX4_init_4 : decode cX4_init 4 = .ok (.return_, 1) := by decide +kernel
def dkwX4_compare_0 : List UInt8 := [42, 43, 192, 0, 8, 44, 192, 0, 8, 182, 0, 22, 172]
abbrev dktX4_compare_0 : List UInt8 := dkwX4_compare_0 ++ []
theorem dksX4_compare_0 : cX4_compare.data.toList.drop 0 = dktX4_compare_0 := by decide +kernel
theorem dX4_compare_0 : decode cX4_compare 0 = .ok (.aload_n 0, 1) := dk_42 (dk_at dksX4_compare_0 0 rfl rfl)
theorem dX4_compare_1 : decode cX4_compare 1 = .ok (.aload_n 1, 1) := dk_43 (dk_at dksX4_compare_0 1 rfl rfl)
theorem dX4_compare_2 : decode cX4_compare 2 = .ok (.checkcast 8, 3) := dk_192 0 8 (dk_at dksX4_compare_0 2 rfl rfl)
theorem dX4_compare_5 : decode cX4_compare 5 = .ok (.aload_n 2, 1) := dk_44 (dk_at dksX4_compare_0 5 rfl rfl)
theorem dX4_compare_6 : decode cX4_compare 6 = .ok (.checkcast 8, 3) := dk_192 0 8 (dk_at dksX4_compare_0 6 rfl rfl)
theorem dX4_compare_9 : decode cX4_compare 9 = .ok (.invokevirtual 22, 3) := dk_182 0 22 (dk_at dksX4_compare_0 9 rfl rfl)
theorem dX4_compare_12 : decode cX4_compare 12 = .ok (.ireturn, 1) := dk_172 (dk_at dksX4_compare_0 12 rfl rfl)
def dkwX4_compare_2_1 : List UInt8 := [167, 0, 14, 43, 180, 0, 19, 44, 180, 0, 19, 184, 0, 13, 172]
abbrev dktX4_compare_2_1 : List UInt8 := dkwX4_compare_2_1 ++ []
def dkwX4_compare_2_0 : List UInt8 := [43, 180, 0, 7, 44, 180, 0, 7, 159, 0, 17, 43, 180, 0, 7, 44, 180, 0, 7, 184, 0, 13]
abbrev dktX4_compare_2_0 : List UInt8 := dkwX4_compare_2_0 ++ dktX4_compare_2_1
theorem dksX4_compare_2_0 : cX4_compare_2.data.toList.drop 0 = dktX4_compare_2_0 := by decide +kernel
theorem dksX4_compare_2_1 : cX4_compare_2.data.toList.drop 22 = dktX4_compare_2_1 := dk_seg dksX4_compare_2_0 22 rfl rfl
theorem dX4_compare_2_0 : decode cX4_compare_2 0 = .ok (.aload_n 1, 1) := dk_43 (dk_at dksX4_compare_2_0 0 rfl rfl)
theorem dX4_compare_2_1 : decode cX4_compare_2 1 = .ok (.getfield 7, 3) := dk_180 0 7 (dk_at dksX4_compare_2_0 1 rfl rfl)
theorem dX4_compare_2_4 : decode cX4_compare_2 4 = .ok (.aload_n 2, 1) := dk_44 (dk_at dksX4_compare_2_0 4 rfl rfl)
theorem dX4_compare_2_5 : decode cX4_compare_2 5 = .ok (.getfield 7, 3) := dk_180 0 7 (dk_at dksX4_compare_2_0 5 rfl rfl)
theorem dX4_compare_2_8 : decode cX4_compare_2 8 = .ok (.if_icmp .eq 17, 3) := dk_159 0 17 (dk_at dksX4_compare_2_0 8 rfl rfl)
theorem dX4_compare_2_11 : decode cX4_compare_2 11 = .ok (.aload_n 1, 1) := dk_43 (dk_at dksX4_compare_2_0 11 rfl rfl)
theorem dX4_compare_2_12 : decode cX4_compare_2 12 = .ok (.getfield 7, 3) := dk_180 0 7 (dk_at dksX4_compare_2_0 12 rfl rfl)
theorem dX4_compare_2_15 : decode cX4_compare_2 15 = .ok (.aload_n 2, 1) := dk_44 (dk_at dksX4_compare_2_0 15 rfl rfl)
theorem dX4_compare_2_16 : decode cX4_compare_2 16 = .ok (.getfield 7, 3) := dk_180 0 7 (dk_at dksX4_compare_2_0 16 rfl rfl)
theorem dX4_compare_2_19 : decode cX4_compare_2 19 = .ok (.invokestatic 13, 3) := dk_184 0 13 (dk_at dksX4_compare_2_0 19 rfl rfl)
theorem dX4_compare_2_22 : decode cX4_compare_2 22 = .ok (.goto 14, 3) := dk_167 0 14 (dk_at dksX4_compare_2_1 0 rfl rfl)
theorem dX4_compare_2_25 : decode cX4_compare_2 25 = .ok (.aload_n 1, 1) := dk_43 (dk_at dksX4_compare_2_1 3 rfl rfl)
theorem dX4_compare_2_26 : decode cX4_compare_2 26 = .ok (.getfield 19, 3) := dk_180 0 19 (dk_at dksX4_compare_2_1 4 rfl rfl)
theorem dX4_compare_2_29 : decode cX4_compare_2 29 = .ok (.aload_n 2, 1) := dk_44 (dk_at dksX4_compare_2_1 7 rfl rfl)
theorem dX4_compare_2_30 : decode cX4_compare_2 30 = .ok (.getfield 19, 3) := dk_180 0 19 (dk_at dksX4_compare_2_1 8 rfl rfl)
theorem dX4_compare_2_33 : decode cX4_compare_2 33 = .ok (.invokestatic 13, 3) := dk_184 0 13 (dk_at dksX4_compare_2_1 11 rfl rfl)
theorem dX4_compare_2_36 : decode cX4_compare_2 36 = .ok (.ireturn, 1) := dk_172 (dk_at dksX4_compare_2_1 14 rfl rfl)
def dkwX17_compare_0 : List UInt8 := [42, 43, 192, 0, 8, 44, 192, 0, 8, 182, 0, 22, 172]
abbrev dktX17_compare_0 : List UInt8 := dkwX17_compare_0 ++ []
theorem dksX17_compare_0 : cX17_compare.data.toList.drop 0 = dktX17_compare_0 := by decide +kernel
theorem dX17_compare_0 : decode cX17_compare 0 = .ok (.aload_n 0, 1) := dk_42 (dk_at dksX17_compare_0 0 rfl rfl)
theorem dX17_compare_1 : decode cX17_compare 1 = .ok (.aload_n 1, 1) := dk_43 (dk_at dksX17_compare_0 1 rfl rfl)
theorem dX17_compare_2 : decode cX17_compare 2 = .ok (.checkcast 8, 3) := dk_192 0 8 (dk_at dksX17_compare_0 2 rfl rfl)
theorem dX17_compare_5 : decode cX17_compare 5 = .ok (.aload_n 2, 1) := dk_44 (dk_at dksX17_compare_0 5 rfl rfl)
theorem dX17_compare_6 : decode cX17_compare 6 = .ok (.checkcast 8, 3) := dk_192 0 8 (dk_at dksX17_compare_0 6 rfl rfl)
theorem dX17_compare_9 : decode cX17_compare 9 = .ok (.invokevirtual 22, 3) := dk_182 0 22 (dk_at dksX17_compare_0 9 rfl rfl)
theorem dX17_compare_12 : decode cX17_compare 12 = .ok (.ireturn, 1) := dk_172 (dk_at dksX17_compare_0 12 rfl rfl)
def dkwX17_compare_2_1 : List UInt8 := [167, 0, 14, 43, 180, 0, 19, 44, 180, 0, 19, 184, 0, 13, 172]
abbrev dktX17_compare_2_1 : List UInt8 := dkwX17_compare_2_1 ++ []
def dkwX17_compare_2_0 : List UInt8 := [43, 180, 0, 7, 44, 180, 0, 7, 159, 0, 17, 43, 180, 0, 7, 44, 180, 0, 7, 184, 0, 13]
abbrev dktX17_compare_2_0 : List UInt8 := dkwX17_compare_2_0 ++ dktX17_compare_2_1
theorem dksX17_compare_2_0 : cX17_compare_2.data.toList.drop 0 = dktX17_compare_2_0 := by decide +kernel
theorem dksX17_compare_2_1 : cX17_compare_2.data.toList.drop 22 = dktX17_compare_2_1 := dk_seg dksX17_compare_2_0 22 rfl rfl
theorem dX17_compare_2_0 : decode cX17_compare_2 0 = .ok (.aload_n 1, 1) := dk_43 (dk_at dksX17_compare_2_0 0 rfl rfl)
theorem dX17_compare_2_1 : decode cX17_compare_2 1 = .ok (.getfield 7, 3) := dk_180 0 7 (dk_at dksX17_compare_2_0 1 rfl rfl)
theorem dX17_compare_2_4 : decode cX17_compare_2 4 = .ok (.aload_n 2, 1) := dk_44 (dk_at dksX17_compare_2_0 4 rfl rfl)
theorem dX17_compare_2_5 : decode cX17_compare_2 5 = .ok (.getfield 7, 3) := dk_180 0 7 (dk_at dksX17_compare_2_0 5 rfl rfl)
theorem dX17_compare_2_8 : decode cX17_compare_2 8 = .ok (.if_icmp .eq 17, 3) := dk_159 0 17 (dk_at dksX17_compare_2_0 8 rfl rfl)
theorem dX17_compare_2_11 : decode cX17_compare_2 11 = .ok (.aload_n 1, 1) := dk_43 (dk_at dksX17_compare_2_0 11 rfl rfl)
theorem dX17_compare_2_12 : decode cX17_compare_2 12 = .ok (.getfield 7, 3) := dk_180 0 7 (dk_at dksX17_compare_2_0 12 rfl rfl)
theorem dX17_compare_2_15 : decode cX17_compare_2 15 = .ok (.aload_n 2, 1) := dk_44 (dk_at dksX17_compare_2_0 15 rfl rfl)
theorem dX17_compare_2_16 : decode cX17_compare_2 16 = .ok (.getfield 7, 3) := dk_180 0 7 (dk_at dksX17_compare_2_0 16 rfl rfl)
theorem dX17_compare_2_19 : decode cX17_compare_2 19 = .ok (.invokestatic 13, 3) := dk_184 0 13 (dk_at dksX17_compare_2_0 19 rfl rfl)
theorem dX17_compare_2_22 : decode cX17_compare_2 22 = .ok (.goto 14, 3) := dk_167 0 14 (dk_at dksX17_compare_2_1 0 rfl rfl)
theorem dX17_compare_2_25 : decode cX17_compare_2 25 = .ok (.aload_n 1, 1) := dk_43 (dk_at dksX17_compare_2_1 3 rfl rfl)
theorem dX17_compare_2_26 : decode cX17_compare_2 26 = .ok (.getfield 19, 3) := dk_180 0 19 (dk_at dksX17_compare_2_1 4 rfl rfl)
theorem dX17_compare_2_29 : decode cX17_compare_2 29 = .ok (.aload_n 2, 1) := dk_44 (dk_at dksX17_compare_2_1 7 rfl rfl)
theorem dX17_compare_2_30 : decode cX17_compare_2 30 = .ok (.getfield 19, 3) := dk_180 0 19 (dk_at dksX17_compare_2_1 8 rfl rfl)
theorem dX17_compare_2_33 : decode cX17_compare_2 33 = .ok (.invokestatic 13, 3) := dk_184 0 13 (dk_at dksX17_compare_2_1 11 rfl rfl)
theorem dX17_compare_2_36 : decode cX17_compare_2 36 = .ok (.ireturn, 1) := dk_172 (dk_at dksX17_compare_2_1 14 rfl rfl)
theorem dX17_init_0 : decode cX17_init 0 = .ok (.aload_n 0, 1) := by decide +kernel
theorem dX17_init_1 : decode cX17_init 1 = .ok (.invokespecial 1, 3) := by decide +kernel
theorem dX17_init_4 : decode cX17_init 4 = .ok (.return_, 1) := by decide +kernel
def dkwX8_init_1 : List UInt8 := [181, 0, 21, 42, 21, 5, 181, 0, 24, 177]
abbrev dktX8_init_1 : List UInt8 := dkwX8_init_1 ++ []
def dkwX8_init_0 : List UInt8 := [42, 183, 0, 3, 42, 27, 181, 0, 9, 42, 28, 181, 0, 15, 42, 29, 181, 0, 18, 42, 21, 4]
abbrev dktX8_init_0 : List UInt8 := dkwX8_init_0 ++ dktX8_init_1
theorem dksX8_init_0 : cX8_init.data.toList.drop 0 = dktX8_init_0 := by decide +kernel
theorem dksX8_init_1 : cX8_init.data.toList.drop 22 = dktX8_init_1 := dk_seg dksX8_init_0 22 rfl rfl
theorem dX8_init_0 : decode cX8_init 0 = .ok (.aload_n 0, 1) := dk_42 (dk_at dksX8_init_0 0 rfl rfl)
theorem dX8_init_1 : decode cX8_init 1 = .ok (.invokespecial 3, 3) := dk_183 0 3 (dk_at dksX8_init_0 1 rfl rfl)
theorem dX8_init_4 : decode cX8_init 4 = .ok (.aload_n 0, 1) := dk_42 (dk_at dksX8_init_0 4 rfl rfl)
theorem dX8_init_5 : decode cX8_init 5 = .ok (.iload_n 1, 1) := dk_27 (dk_at dksX8_init_0 5 rfl rfl)
theorem dX8_init_6 : decode cX8_init 6 = .ok (.putfield 9, 3) := dk_181 0 9 (dk_at dksX8_init_0 6 rfl rfl)
theorem dX8_init_9 : decode cX8_init 9 = .ok (.aload_n 0, 1) := dk_42 (dk_at dksX8_init_0 9 rfl rfl)
theorem dX8_init_10 : decode cX8_init 10 = .ok (.iload_n 2, 1) := dk_28 (dk_at dksX8_init_0 10 rfl rfl)
theorem dX8_init_11 : decode cX8_init 11 = .ok (.putfield 15, 3) := dk_181 0 15 (dk_at dksX8_init_0 11 rfl rfl)
theorem dX8_init_14 : decode cX8_init 14 = .ok (.aload_n 0, 1) := dk_42 (dk_at dksX8_init_0 14 rfl rfl)
theorem dX8_init_15 : decode cX8_init 15 = .ok (.iload_n 3, 1) := dk_29 (dk_at dksX8_init_0 15 rfl rfl)
theorem dX8_init_16 : decode cX8_init 16 = .ok (.putfield 18, 3) := dk_181 0 18 (dk_at dksX8_init_0 16 rfl rfl)
theorem dX8_init_19 : decode cX8_init 19 = .ok (.aload_n 0, 1) := dk_42 (dk_at dksX8_init_0 19 rfl rfl)
theorem dX8_init_20 : decode cX8_init 20 = .ok (.iload 4, 2) := dk_21 4 (dk_at dksX8_init_0 20 rfl rfl)
theorem dX8_init_22 : decode cX8_init 22 = .ok (.putfield 21, 3) := dk_181 0 21 (dk_at dksX8_init_1 0 rfl rfl)
theorem dX8_init_25 : decode cX8_init 25 = .ok (.aload_n 0, 1) := dk_42 (dk_at dksX8_init_1 3 rfl rfl)
theorem dX8_init_26 : decode cX8_init 26 = .ok (.iload 5, 2) := dk_21 5 (dk_at dksX8_init_1 4 rfl rfl)
theorem dX8_init_28 : decode cX8_init 28 = .ok (.putfield 24, 3) := dk_181 0 24 (dk_at dksX8_init_1 6 rfl rfl)
theorem dX8_init_31 : decode cX8_init 31 = .ok (.return_, 1) := dk_177 (dk_at dksX8_init_1 9 rfl rfl)
def dkwX8_isOperand_1 : List UInt8 := [172]
abbrev dktX8_isOperand_1 : List UInt8 := dkwX8_isOperand_1 ++ []
def dkwX8_isOperand_0 : List UInt8 := [27, 133, 9, 26, 153, 0, 8, 26, 4, 160, 0, 9, 20, 0, 27, 167, 0, 6, 20, 0, 29, 184, 0, 31]
abbrev dktX8_isOperand_0 : List UInt8 := dkwX8_isOperand_0 ++ dktX8_isOperand_1
theorem dksX8_isOperand_0 : cX8_isOperand.data.toList.drop 0 = dktX8_isOperand_0 := by decide +kernel
theorem dksX8_isOperand_1 : cX8_isOperand.data.toList.drop 24 = dktX8_isOperand_1 := dk_seg dksX8_isOperand_0 24 rfl rfl
theorem dX8_isOperand_0 : decode cX8_isOperand 0 = .ok (.iload_n 1, 1) := dk_27 (dk_at dksX8_isOperand_0 0 rfl rfl)
theorem dX8_isOperand_1 : decode cX8_isOperand 1 = .ok (.i2l, 1) := dk_133 (dk_at dksX8_isOperand_0 1 rfl rfl)
theorem dX8_isOperand_2 : decode cX8_isOperand 2 = .ok (.lconst 0, 1) := dk_9 (dk_at dksX8_isOperand_0 2 rfl rfl)
theorem dX8_isOperand_3 : decode cX8_isOperand 3 = .ok (.iload_n 0, 1) := dk_26 (dk_at dksX8_isOperand_0 3 rfl rfl)
theorem dX8_isOperand_4 : decode cX8_isOperand 4 = .ok (.ifCond .eq 8, 3) := dk_153 0 8 (dk_at dksX8_isOperand_0 4 rfl rfl)
theorem dX8_isOperand_7 : decode cX8_isOperand 7 = .ok (.iload_n 0, 1) := dk_26 (dk_at dksX8_isOperand_0 7 rfl rfl)
theorem dX8_isOperand_8 : decode cX8_isOperand 8 = .ok (.iconst 1, 1) := dk_4 (dk_at dksX8_isOperand_0 8 rfl rfl)
theorem dX8_isOperand_9 : decode cX8_isOperand 9 = .ok (.if_icmp .ne 9, 3) := dk_160 0 9 (dk_at dksX8_isOperand_0 9 rfl rfl)
theorem dX8_isOperand_12 : decode cX8_isOperand 12 = .ok (.ldc2_w 27, 3) := dk_20 0 27 (dk_at dksX8_isOperand_0 12 rfl rfl)
theorem dX8_isOperand_15 : decode cX8_isOperand 15 = .ok (.goto 6, 3) := dk_167 0 6 (dk_at dksX8_isOperand_0 15 rfl rfl)
theorem dX8_isOperand_18 : decode cX8_isOperand 18 = .ok (.ldc2_w 29, 3) := dk_20 0 29 (dk_at dksX8_isOperand_0 18 rfl rfl)
theorem dX8_isOperand_21 : decode cX8_isOperand 21 = .ok (.invokestatic 31, 3) := dk_184 0 31 (dk_at dksX8_isOperand_0 21 rfl rfl)
theorem dX8_isOperand_24 : decode cX8_isOperand 24 = .ok (.ireturn, 1) := dk_172 (dk_at dksX8_isOperand_1 0 rfl rfl)
def dkwX8_writes_1 : List UInt8 := [4, 167, 0, 4, 3, 172]
abbrev dktX8_writes_1 : List UInt8 := dkwX8_writes_1 ++ []
def dkwX8_writes_0 : List UInt8 := [42, 180, 0, 21, 27, 159, 0, 19, 42, 180, 0, 18, 7, 160, 0, 15, 42, 180, 0, 24, 27, 160, 0, 7]
abbrev dktX8_writes_0 : List UInt8 := dkwX8_writes_0 ++ dktX8_writes_1
theorem dksX8_writes_0 : cX8_writes.data.toList.drop 0 = dktX8_writes_0 := by decide +kernel
theorem dksX8_writes_1 : cX8_writes.data.toList.drop 24 = dktX8_writes_1 := dk_seg dksX8_writes_0 24 rfl rfl
theorem dX8_writes_0 : decode cX8_writes 0 = .ok (.aload_n 0, 1) := dk_42 (dk_at dksX8_writes_0 0 rfl rfl)
theorem dX8_writes_1 : decode cX8_writes 1 = .ok (.getfield 21, 3) := dk_180 0 21 (dk_at dksX8_writes_0 1 rfl rfl)
theorem dX8_writes_4 : decode cX8_writes 4 = .ok (.iload_n 1, 1) := dk_27 (dk_at dksX8_writes_0 4 rfl rfl)
theorem dX8_writes_5 : decode cX8_writes 5 = .ok (.if_icmp .eq 19, 3) := dk_159 0 19 (dk_at dksX8_writes_0 5 rfl rfl)
theorem dX8_writes_8 : decode cX8_writes 8 = .ok (.aload_n 0, 1) := dk_42 (dk_at dksX8_writes_0 8 rfl rfl)
theorem dX8_writes_9 : decode cX8_writes 9 = .ok (.getfield 18, 3) := dk_180 0 18 (dk_at dksX8_writes_0 9 rfl rfl)
theorem dX8_writes_12 : decode cX8_writes 12 = .ok (.iconst 4, 1) := dk_7 (dk_at dksX8_writes_0 12 rfl rfl)
theorem dX8_writes_13 : decode cX8_writes 13 = .ok (.if_icmp .ne 15, 3) := dk_160 0 15 (dk_at dksX8_writes_0 13 rfl rfl)
theorem dX8_writes_16 : decode cX8_writes 16 = .ok (.aload_n 0, 1) := dk_42 (dk_at dksX8_writes_0 16 rfl rfl)
theorem dX8_writes_17 : decode cX8_writes 17 = .ok (.getfield 24, 3) := dk_180 0 24 (dk_at dksX8_writes_0 17 rfl rfl)
theorem dX8_writes_20 : decode cX8_writes 20 = .ok (.iload_n 1, 1) := dk_27 (dk_at dksX8_writes_0 20 rfl rfl)
theorem dX8_writes_21 : decode cX8_writes 21 = .ok (.if_icmp .ne 7, 3) := dk_160 0 7 (dk_at dksX8_writes_0 21 rfl rfl)
theorem dX8_writes_24 : decode cX8_writes 24 = .ok (.iconst 1, 1) := dk_4 (dk_at dksX8_writes_1 0 rfl rfl)
theorem dX8_writes_25 : decode cX8_writes 25 = .ok (.goto 4, 3) := dk_167 0 4 (dk_at dksX8_writes_1 1 rfl rfl)
theorem dX8_writes_28 : decode cX8_writes 28 = .ok (.iconst 0, 1) := dk_3 (dk_at dksX8_writes_1 4 rfl rfl)
theorem dX8_writes_29 : decode cX8_writes 29 = .ok (.ireturn, 1) := dk_172 (dk_at dksX8_writes_1 5 rfl rfl)
def dkwX9_init_1 : List UInt8 := [181, 0, 19, 177]
abbrev dktX9_init_1 : List UInt8 := dkwX9_init_1 ++ []
def dkwX9_init_0 : List UInt8 := [42, 183, 0, 1, 42, 27, 181, 0, 7, 42, 28, 181, 0, 13, 42, 29, 181, 0, 16, 42, 21, 4]
abbrev dktX9_init_0 : List UInt8 := dkwX9_init_0 ++ dktX9_init_1
theorem dksX9_init_0 : cX9_init.data.toList.drop 0 = dktX9_init_0 := by decide +kernel
theorem dksX9_init_1 : cX9_init.data.toList.drop 22 = dktX9_init_1 := dk_seg dksX9_init_0 22 rfl rfl
theorem dX9_init_0 : decode cX9_init 0 = .ok (.aload_n 0, 1) := dk_42 (dk_at dksX9_init_0 0 rfl rfl)
theorem dX9_init_1 : decode cX9_init 1 = .ok (.invokespecial 1, 3) := dk_183 0 1 (dk_at dksX9_init_0 1 rfl rfl)
theorem dX9_init_4 : decode cX9_init 4 = .ok (.aload_n 0, 1) := dk_42 (dk_at dksX9_init_0 4 rfl rfl)
theorem dX9_init_5 : decode cX9_init 5 = .ok (.iload_n 1, 1) := dk_27 (dk_at dksX9_init_0 5 rfl rfl)
theorem dX9_init_6 : decode cX9_init 6 = .ok (.putfield 7, 3) := dk_181 0 7 (dk_at dksX9_init_0 6 rfl rfl)
theorem dX9_init_9 : decode cX9_init 9 = .ok (.aload_n 0, 1) := dk_42 (dk_at dksX9_init_0 9 rfl rfl)
theorem dX9_init_10 : decode cX9_init 10 = .ok (.iload_n 2, 1) := dk_28 (dk_at dksX9_init_0 10 rfl rfl)
theorem dX9_init_11 : decode cX9_init 11 = .ok (.putfield 13, 3) := dk_181 0 13 (dk_at dksX9_init_0 11 rfl rfl)
theorem dX9_init_14 : decode cX9_init 14 = .ok (.aload_n 0, 1) := dk_42 (dk_at dksX9_init_0 14 rfl rfl)
theorem dX9_init_15 : decode cX9_init 15 = .ok (.iload_n 3, 1) := dk_29 (dk_at dksX9_init_0 15 rfl rfl)
theorem dX9_init_16 : decode cX9_init 16 = .ok (.putfield 16, 3) := dk_181 0 16 (dk_at dksX9_init_0 16 rfl rfl)
theorem dX9_init_19 : decode cX9_init 19 = .ok (.aload_n 0, 1) := dk_42 (dk_at dksX9_init_0 19 rfl rfl)
theorem dX9_init_20 : decode cX9_init 20 = .ok (.iload 4, 2) := dk_21 4 (dk_at dksX9_init_0 20 rfl rfl)
theorem dX9_init_22 : decode cX9_init 22 = .ok (.putfield 19, 3) := dk_181 0 19 (dk_at dksX9_init_1 0 rfl rfl)
theorem dX9_init_25 : decode cX9_init 25 = .ok (.return_, 1) := dk_177 (dk_at dksX9_init_1 3 rfl rfl)
def dkwX16_init_0 : List UInt8 := [42, 183, 0, 1, 42, 27, 181, 0, 7, 177]
abbrev dktX16_init_0 : List UInt8 := dkwX16_init_0 ++ []
theorem dksX16_init_0 : cX16_init.data.toList.drop 0 = dktX16_init_0 := by decide +kernel
theorem dX16_init_0 : decode cX16_init 0 = .ok (.aload_n 0, 1) := dk_42 (dk_at dksX16_init_0 0 rfl rfl)
theorem dX16_init_1 : decode cX16_init 1 = .ok (.invokespecial 1, 3) := dk_183 0 1 (dk_at dksX16_init_0 1 rfl rfl)
theorem dX16_init_4 : decode cX16_init 4 = .ok (.aload_n 0, 1) := dk_42 (dk_at dksX16_init_0 4 rfl rfl)
theorem dX16_init_5 : decode cX16_init 5 = .ok (.iload_n 1, 1) := dk_27 (dk_at dksX16_init_0 5 rfl rfl)
theorem dX16_init_6 : decode cX16_init 6 = .ok (.putfield 7, 3) := dk_181 0 7 (dk_at dksX16_init_0 6 rfl rfl)
theorem dX16_init_9 : decode cX16_init 9 = .ok (.return_, 1) := dk_177 (dk_at dksX16_init_0 9 rfl rfl)
def dkwX15_init_0 : List UInt8 := [42, 183, 0, 1, 42, 27, 181, 0, 7, 177]
abbrev dktX15_init_0 : List UInt8 := dkwX15_init_0 ++ []
theorem dksX15_init_0 : cX15_init.data.toList.drop 0 = dktX15_init_0 := by decide +kernel
theorem dX15_init_0 : decode cX15_init 0 = .ok (.aload_n 0, 1) := dk_42 (dk_at dksX15_init_0 0 rfl rfl)
theorem dX15_init_1 : decode cX15_init 1 = .ok (.invokespecial 1, 3) := dk_183 0 1 (dk_at dksX15_init_0 1 rfl rfl)
theorem dX15_init_4 : decode cX15_init 4 = .ok (.aload_n 0, 1) := dk_42 (dk_at dksX15_init_0 4 rfl rfl)
theorem dX15_init_5 : decode cX15_init 5 = .ok (.iload_n 1, 1) := dk_27 (dk_at dksX15_init_0 5 rfl rfl)
theorem dX15_init_6 : decode cX15_init 6 = .ok (.putfield 7, 3) := dk_181 0 7 (dk_at dksX15_init_0 6 rfl rfl)
theorem dX15_init_9 : decode cX15_init 9 = .ok (.return_, 1) := dk_177 (dk_at dksX15_init_0 9 rfl rfl)
theorem dX15_hashCode_0 : decode cX15_hashCode 0 = .ok (.aload_n 0, 1) := by decide +kernel
theorem dX15_hashCode_1 : decode cX15_hashCode 1 = .ok (.getfield 7, 3) := by decide +kernel
theorem dX15_hashCode_4 : decode cX15_hashCode 4 = .ok (.ireturn, 1) := by decide +kernel
def dkwX15_equals_1 : List UInt8 := [167, 0, 4, 3, 172]
abbrev dktX15_equals_1 : List UInt8 := dkwX15_equals_1 ++ []
def dkwX15_equals_0 : List UInt8 := [43, 193, 0, 8, 153, 0, 23, 43, 192, 0, 8, 77, 44, 180, 0, 7, 42, 180, 0, 7, 160, 0, 7, 4]
abbrev dktX15_equals_0 : List UInt8 := dkwX15_equals_0 ++ dktX15_equals_1
theorem dksX15_equals_0 : cX15_equals.data.toList.drop 0 = dktX15_equals_0 := by decide +kernel
theorem dksX15_equals_1 : cX15_equals.data.toList.drop 24 = dktX15_equals_1 := dk_seg dksX15_equals_0 24 rfl rfl
theorem dX15_equals_0 : decode cX15_equals 0 = .ok (.aload_n 1, 1) := dk_43 (dk_at dksX15_equals_0 0 rfl rfl)
theorem dX15_equals_1 : decode cX15_equals 1 = .ok (.instanceof 8, 3) := dk_193 0 8 (dk_at dksX15_equals_0 1 rfl rfl)
theorem dX15_equals_4 : decode cX15_equals 4 = .ok (.ifCond .eq 23, 3) := dk_153 0 23 (dk_at dksX15_equals_0 4 rfl rfl)
theorem dX15_equals_7 : decode cX15_equals 7 = .ok (.aload_n 1, 1) := dk_43 (dk_at dksX15_equals_0 7 rfl rfl)
theorem dX15_equals_8 : decode cX15_equals 8 = .ok (.checkcast 8, 3) := dk_192 0 8 (dk_at dksX15_equals_0 8 rfl rfl)
theorem dX15_equals_11 : decode cX15_equals 11 = .ok (.astore_n 2, 1) := dk_77 (dk_at dksX15_equals_0 11 rfl rfl)
theorem dX15_equals_12 : decode cX15_equals 12 = .ok (.aload_n 2, 1) := dk_44 (dk_at dksX15_equals_0 12 rfl rfl)
theorem dX15_equals_13 : decode cX15_equals 13 = .ok (.getfield 7, 3) := dk_180 0 7 (dk_at dksX15_equals_0 13 rfl rfl)
theorem dX15_equals_16 : decode cX15_equals 16 = .ok (.aload_n 0, 1) := dk_42 (dk_at dksX15_equals_0 16 rfl rfl)
theorem dX15_equals_17 : decode cX15_equals 17 = .ok (.getfield 7, 3) := dk_180 0 7 (dk_at dksX15_equals_0 17 rfl rfl)
theorem dX15_equals_20 : decode cX15_equals 20 = .ok (.if_icmp .ne 7, 3) := dk_160 0 7 (dk_at dksX15_equals_0 20 rfl rfl)
theorem dX15_equals_23 : decode cX15_equals 23 = .ok (.iconst 1, 1) := dk_4 (dk_at dksX15_equals_0 23 rfl rfl)
theorem dX15_equals_24 : decode cX15_equals 24 = .ok (.goto 4, 3) := dk_167 0 4 (dk_at dksX15_equals_1 0 rfl rfl)
theorem dX15_equals_27 : decode cX15_equals 27 = .ok (.iconst 0, 1) := dk_3 (dk_at dksX15_equals_1 3 rfl rfl)
theorem dX15_equals_28 : decode cX15_equals 28 = .ok (.ireturn, 1) := dk_172 (dk_at dksX15_equals_1 4 rfl rfl)
def dkwX1_inRange_0 : List UInt8 := [30, 32, 148, 155, 0, 14, 30, 22, 4, 148, 157, 0, 7, 4, 167, 0, 4, 3, 172]
abbrev dktX1_inRange_0 : List UInt8 := dkwX1_inRange_0 ++ []
theorem dksX1_inRange_0 : cX1_inRange.data.toList.drop 0 = dktX1_inRange_0 := by decide +kernel
theorem dX1_inRange_0 : decode cX1_inRange 0 = .ok (.lload_n 0, 1) := dk_30 (dk_at dksX1_inRange_0 0 rfl rfl)
theorem dX1_inRange_1 : decode cX1_inRange 1 = .ok (.lload_n 2, 1) := dk_32 (dk_at dksX1_inRange_0 1 rfl rfl)
theorem dX1_inRange_2 : decode cX1_inRange 2 = .ok (.lcmp, 1) := dk_148 (dk_at dksX1_inRange_0 2 rfl rfl)
theorem dX1_inRange_3 : decode cX1_inRange 3 = .ok (.ifCond .lt 14, 3) := dk_155 0 14 (dk_at dksX1_inRange_0 3 rfl rfl)
theorem dX1_inRange_6 : decode cX1_inRange 6 = .ok (.lload_n 0, 1) := dk_30 (dk_at dksX1_inRange_0 6 rfl rfl)
theorem dX1_inRange_7 : decode cX1_inRange 7 = .ok (.lload 4, 2) := dk_22 4 (dk_at dksX1_inRange_0 7 rfl rfl)
theorem dX1_inRange_9 : decode cX1_inRange 9 = .ok (.lcmp, 1) := dk_148 (dk_at dksX1_inRange_0 9 rfl rfl)
theorem dX1_inRange_10 : decode cX1_inRange 10 = .ok (.ifCond .gt 7, 3) := dk_157 0 7 (dk_at dksX1_inRange_0 10 rfl rfl)
theorem dX1_inRange_13 : decode cX1_inRange 13 = .ok (.iconst 1, 1) := dk_4 (dk_at dksX1_inRange_0 13 rfl rfl)
theorem dX1_inRange_14 : decode cX1_inRange 14 = .ok (.goto 4, 3) := dk_167 0 4 (dk_at dksX1_inRange_0 14 rfl rfl)
theorem dX1_inRange_17 : decode cX1_inRange 17 = .ok (.iconst 0, 1) := dk_3 (dk_at dksX1_inRange_0 17 rfl rfl)
theorem dX1_inRange_18 : decode cX1_inRange 18 = .ok (.ireturn, 1) := dk_172 (dk_at dksX1_inRange_0 18 rfl rfl)
def dkwJ4_init_1 : List UInt8 := [181, 0, 17, 42, 44, 181, 0, 21, 177]
abbrev dktJ4_init_1 : List UInt8 := dkwJ4_init_1 ++ []
def dkwJ4_init_0 : List UInt8 := [42, 183, 0, 7, 27, 4, 162, 0, 11, 187, 0, 12, 89, 183, 0, 14, 191, 42, 27, 189, 0, 15]
abbrev dktJ4_init_0 : List UInt8 := dkwJ4_init_0 ++ dktJ4_init_1
theorem dksJ4_init_0 : cJ4_init.data.toList.drop 0 = dktJ4_init_0 := by decide +kernel
theorem dksJ4_init_1 : cJ4_init.data.toList.drop 22 = dktJ4_init_1 := dk_seg dksJ4_init_0 22 rfl rfl
theorem dJ4_init_0 : decode cJ4_init 0 = .ok (.aload_n 0, 1) := dk_42 (dk_at dksJ4_init_0 0 rfl rfl)
theorem dJ4_init_1 : decode cJ4_init 1 = .ok (.invokespecial 7, 3) := dk_183 0 7 (dk_at dksJ4_init_0 1 rfl rfl)
theorem dJ4_init_4 : decode cJ4_init 4 = .ok (.iload_n 1, 1) := dk_27 (dk_at dksJ4_init_0 4 rfl rfl)
theorem dJ4_init_5 : decode cJ4_init 5 = .ok (.iconst 1, 1) := dk_4 (dk_at dksJ4_init_0 5 rfl rfl)
theorem dJ4_init_6 : decode cJ4_init 6 = .ok (.if_icmp .ge 11, 3) := dk_162 0 11 (dk_at dksJ4_init_0 6 rfl rfl)
theorem dJ4_init_9 : decode cJ4_init 9 = .ok (.new 12, 3) := dk_187 0 12 (dk_at dksJ4_init_0 9 rfl rfl)
theorem dJ4_init_12 : decode cJ4_init 12 = .ok (.dup, 1) := dk_89 (dk_at dksJ4_init_0 12 rfl rfl)
theorem dJ4_init_13 : decode cJ4_init 13 = .ok (.invokespecial 14, 3) := dk_183 0 14 (dk_at dksJ4_init_0 13 rfl rfl)
theorem dJ4_init_16 : decode cJ4_init 16 = .ok (.athrow, 1) := dk_191 (dk_at dksJ4_init_0 16 rfl rfl)
theorem dJ4_init_17 : decode cJ4_init 17 = .ok (.aload_n 0, 1) := dk_42 (dk_at dksJ4_init_0 17 rfl rfl)
theorem dJ4_init_18 : decode cJ4_init 18 = .ok (.iload_n 1, 1) := dk_27 (dk_at dksJ4_init_0 18 rfl rfl)
theorem dJ4_init_19 : decode cJ4_init 19 = .ok (.anewarray 15, 3) := dk_189 0 15 (dk_at dksJ4_init_0 19 rfl rfl)
theorem dJ4_init_22 : decode cJ4_init 22 = .ok (.putfield 17, 3) := dk_181 0 17 (dk_at dksJ4_init_1 0 rfl rfl)
theorem dJ4_init_25 : decode cJ4_init 25 = .ok (.aload_n 0, 1) := dk_42 (dk_at dksJ4_init_1 3 rfl rfl)
theorem dJ4_init_26 : decode cJ4_init 26 = .ok (.aload_n 2, 1) := dk_44 (dk_at dksJ4_init_1 4 rfl rfl)
theorem dJ4_init_27 : decode cJ4_init 27 = .ok (.putfield 21, 3) := dk_181 0 21 (dk_at dksJ4_init_1 5 rfl rfl)
theorem dJ4_init_30 : decode cJ4_init 30 = .ok (.return_, 1) := dk_177 (dk_at dksJ4_init_1 8 rfl rfl)
theorem dJ4_size_0 : decode cJ4_size 0 = .ok (.aload_n 0, 1) := by decide +kernel
theorem dJ4_size_1 : decode cJ4_size 1 = .ok (.getfield 58, 3) := by decide +kernel
theorem dJ4_size_4 : decode cJ4_size 4 = .ok (.ireturn, 1) := by decide +kernel
def dkwJ4_add_0 : List UInt8 := [42, 43, 182, 0, 89, 172]
abbrev dktJ4_add_0 : List UInt8 := dkwJ4_add_0 ++ []
theorem dksJ4_add_0 : cJ4_add.data.toList.drop 0 = dktJ4_add_0 := by decide +kernel
theorem dJ4_add_0 : decode cJ4_add 0 = .ok (.aload_n 0, 1) := dk_42 (dk_at dksJ4_add_0 0 rfl rfl)
theorem dJ4_add_1 : decode cJ4_add 1 = .ok (.aload_n 1, 1) := dk_43 (dk_at dksJ4_add_0 1 rfl rfl)
theorem dJ4_add_2 : decode cJ4_add 2 = .ok (.invokevirtual 89, 3) := dk_182 0 89 (dk_at dksJ4_add_0 2 rfl rfl)
theorem dJ4_add_5 : decode cJ4_add 5 = .ok (.ireturn, 1) := dk_172 (dk_at dksJ4_add_0 5 rfl rfl)
def dkwJ4_offer_2 : List UInt8 := [182, 0, 100, 42, 28, 4, 96, 181, 0, 58, 4, 172]
abbrev dktJ4_offer_2 : List UInt8 := dkwJ4_offer_2 ++ []
def dkwJ4_offer_1 : List UInt8 := [180, 0, 58, 61, 28, 42, 180, 0, 17, 190, 161, 0, 10, 42, 28, 4, 96, 182, 0, 96, 42, 28, 43]
abbrev dktJ4_offer_1 : List UInt8 := dkwJ4_offer_1 ++ dktJ4_offer_2
def dkwJ4_offer_0 : List UInt8 := [43, 199, 0, 11, 187, 0, 74, 89, 183, 0, 76, 191, 42, 89, 180, 0, 93, 4, 96, 181, 0, 93, 42]
abbrev dktJ4_offer_0 : List UInt8 := dkwJ4_offer_0 ++ dktJ4_offer_1
theorem dksJ4_offer_0 : cJ4_offer.data.toList.drop 0 = dktJ4_offer_0 := by decide +kernel
theorem dksJ4_offer_1 : cJ4_offer.data.toList.drop 23 = dktJ4_offer_1 := dk_seg dksJ4_offer_0 23 rfl rfl
theorem dksJ4_offer_2 : cJ4_offer.data.toList.drop 46 = dktJ4_offer_2 := dk_seg dksJ4_offer_1 23 rfl rfl
theorem dJ4_offer_0 : decode cJ4_offer 0 = .ok (.aload_n 1, 1) := dk_43 (dk_at dksJ4_offer_0 0 rfl rfl)
theorem dJ4_offer_1 : decode cJ4_offer 1 = .ok (.ifnonnull 11, 3) := dk_199 0 11 (dk_at dksJ4_offer_0 1 rfl rfl)
theorem dJ4_offer_4 : decode cJ4_offer 4 = .ok (.new 74, 3) := dk_187 0 74 (dk_at dksJ4_offer_0 4 rfl rfl)
theorem dJ4_offer_7 : decode cJ4_offer 7 = .ok (.dup, 1) := dk_89 (dk_at dksJ4_offer_0 7 rfl rfl)
theorem dJ4_offer_8 : decode cJ4_offer 8 = .ok (.invokespecial 76, 3) := dk_183 0 76 (dk_at dksJ4_offer_0 8 rfl rfl)
theorem dJ4_offer_11 : decode cJ4_offer 11 = .ok (.athrow, 1) := dk_191 (dk_at dksJ4_offer_0 11 rfl rfl)
theorem dJ4_offer_12 : decode cJ4_offer 12 = .ok (.aload_n 0, 1) := dk_42 (dk_at dksJ4_offer_0 12 rfl rfl)
theorem dJ4_offer_13 : decode cJ4_offer 13 = .ok (.dup, 1) := dk_89 (dk_at dksJ4_offer_0 13 rfl rfl)
theorem dJ4_offer_14 : decode cJ4_offer 14 = .ok (.getfield 93, 3) := dk_180 0 93 (dk_at dksJ4_offer_0 14 rfl rfl)
theorem dJ4_offer_17 : decode cJ4_offer 17 = .ok (.iconst 1, 1) := dk_4 (dk_at dksJ4_offer_0 17 rfl rfl)
theorem dJ4_offer_18 : decode cJ4_offer 18 = .ok (.iadd, 1) := dk_96 (dk_at dksJ4_offer_0 18 rfl rfl)
theorem dJ4_offer_19 : decode cJ4_offer 19 = .ok (.putfield 93, 3) := dk_181 0 93 (dk_at dksJ4_offer_0 19 rfl rfl)
theorem dJ4_offer_22 : decode cJ4_offer 22 = .ok (.aload_n 0, 1) := dk_42 (dk_at dksJ4_offer_0 22 rfl rfl)
theorem dJ4_offer_23 : decode cJ4_offer 23 = .ok (.getfield 58, 3) := dk_180 0 58 (dk_at dksJ4_offer_1 0 rfl rfl)
theorem dJ4_offer_26 : decode cJ4_offer 26 = .ok (.istore_n 2, 1) := dk_61 (dk_at dksJ4_offer_1 3 rfl rfl)
theorem dJ4_offer_27 : decode cJ4_offer 27 = .ok (.iload_n 2, 1) := dk_28 (dk_at dksJ4_offer_1 4 rfl rfl)
theorem dJ4_offer_28 : decode cJ4_offer 28 = .ok (.aload_n 0, 1) := dk_42 (dk_at dksJ4_offer_1 5 rfl rfl)
theorem dJ4_offer_29 : decode cJ4_offer 29 = .ok (.getfield 17, 3) := dk_180 0 17 (dk_at dksJ4_offer_1 6 rfl rfl)
theorem dJ4_offer_32 : decode cJ4_offer 32 = .ok (.arraylength, 1) := dk_190 (dk_at dksJ4_offer_1 9 rfl rfl)
theorem dJ4_offer_33 : decode cJ4_offer 33 = .ok (.if_icmp .lt 10, 3) := dk_161 0 10 (dk_at dksJ4_offer_1 10 rfl rfl)
theorem dJ4_offer_36 : decode cJ4_offer 36 = .ok (.aload_n 0, 1) := dk_42 (dk_at dksJ4_offer_1 13 rfl rfl)
theorem dJ4_offer_37 : decode cJ4_offer 37 = .ok (.iload_n 2, 1) := dk_28 (dk_at dksJ4_offer_1 14 rfl rfl)
theorem dJ4_offer_38 : decode cJ4_offer 38 = .ok (.iconst 1, 1) := dk_4 (dk_at dksJ4_offer_1 15 rfl rfl)
theorem dJ4_offer_39 : decode cJ4_offer 39 = .ok (.iadd, 1) := dk_96 (dk_at dksJ4_offer_1 16 rfl rfl)
theorem dJ4_offer_40 : decode cJ4_offer 40 = .ok (.invokevirtual 96, 3) := dk_182 0 96 (dk_at dksJ4_offer_1 17 rfl rfl)
theorem dJ4_offer_43 : decode cJ4_offer 43 = .ok (.aload_n 0, 1) := dk_42 (dk_at dksJ4_offer_1 20 rfl rfl)
theorem dJ4_offer_44 : decode cJ4_offer 44 = .ok (.iload_n 2, 1) := dk_28 (dk_at dksJ4_offer_1 21 rfl rfl)
theorem dJ4_offer_45 : decode cJ4_offer 45 = .ok (.aload_n 1, 1) := dk_43 (dk_at dksJ4_offer_1 22 rfl rfl)
theorem dJ4_offer_46 : decode cJ4_offer 46 = .ok (.invokevirtual 100, 3) := dk_182 0 100 (dk_at dksJ4_offer_2 0 rfl rfl)
theorem dJ4_offer_49 : decode cJ4_offer 49 = .ok (.aload_n 0, 1) := dk_42 (dk_at dksJ4_offer_2 3 rfl rfl)
theorem dJ4_offer_50 : decode cJ4_offer 50 = .ok (.iload_n 2, 1) := dk_28 (dk_at dksJ4_offer_2 4 rfl rfl)
theorem dJ4_offer_51 : decode cJ4_offer 51 = .ok (.iconst 1, 1) := dk_4 (dk_at dksJ4_offer_2 5 rfl rfl)
theorem dJ4_offer_52 : decode cJ4_offer 52 = .ok (.iadd, 1) := dk_96 (dk_at dksJ4_offer_2 6 rfl rfl)
theorem dJ4_offer_53 : decode cJ4_offer 53 = .ok (.putfield 58, 3) := dk_181 0 58 (dk_at dksJ4_offer_2 7 rfl rfl)
theorem dJ4_offer_56 : decode cJ4_offer 56 = .ok (.iconst 1, 1) := dk_4 (dk_at dksJ4_offer_2 10 rfl rfl)
theorem dJ4_offer_57 : decode cJ4_offer 57 = .ok (.ireturn, 1) := dk_172 (dk_at dksJ4_offer_2 11 rfl rfl)
def dkwJ4_siftUp_1 : List UInt8 := [44, 42, 180, 0, 17, 184, 0, 140, 177]
abbrev dktJ4_siftUp_1 : List UInt8 := dkwJ4_siftUp_1 ++ []
def dkwJ4_siftUp_0 : List UInt8 := [42, 180, 0, 21, 198, 0, 19, 27, 44, 42, 180, 0, 17, 42, 180, 0, 21, 184, 0, 136, 167, 0, 12, 27]
abbrev dktJ4_siftUp_0 : List UInt8 := dkwJ4_siftUp_0 ++ dktJ4_siftUp_1
theorem dksJ4_siftUp_0 : cJ4_siftUp.data.toList.drop 0 = dktJ4_siftUp_0 := by decide +kernel
theorem dksJ4_siftUp_1 : cJ4_siftUp.data.toList.drop 24 = dktJ4_siftUp_1 := dk_seg dksJ4_siftUp_0 24 rfl rfl
theorem dJ4_siftUp_0 : decode cJ4_siftUp 0 = .ok (.aload_n 0, 1) := dk_42 (dk_at dksJ4_siftUp_0 0 rfl rfl)
theorem dJ4_siftUp_1 : decode cJ4_siftUp 1 = .ok (.getfield 21, 3) := dk_180 0 21 (dk_at dksJ4_siftUp_0 1 rfl rfl)
theorem dJ4_siftUp_4 : decode cJ4_siftUp 4 = .ok (.ifnull 19, 3) := dk_198 0 19 (dk_at dksJ4_siftUp_0 4 rfl rfl)
theorem dJ4_siftUp_7 : decode cJ4_siftUp 7 = .ok (.iload_n 1, 1) := dk_27 (dk_at dksJ4_siftUp_0 7 rfl rfl)
theorem dJ4_siftUp_8 : decode cJ4_siftUp 8 = .ok (.aload_n 2, 1) := dk_44 (dk_at dksJ4_siftUp_0 8 rfl rfl)
theorem dJ4_siftUp_9 : decode cJ4_siftUp 9 = .ok (.aload_n 0, 1) := dk_42 (dk_at dksJ4_siftUp_0 9 rfl rfl)
theorem dJ4_siftUp_10 : decode cJ4_siftUp 10 = .ok (.getfield 17, 3) := dk_180 0 17 (dk_at dksJ4_siftUp_0 10 rfl rfl)
theorem dJ4_siftUp_13 : decode cJ4_siftUp 13 = .ok (.aload_n 0, 1) := dk_42 (dk_at dksJ4_siftUp_0 13 rfl rfl)
theorem dJ4_siftUp_14 : decode cJ4_siftUp 14 = .ok (.getfield 21, 3) := dk_180 0 21 (dk_at dksJ4_siftUp_0 14 rfl rfl)
theorem dJ4_siftUp_17 : decode cJ4_siftUp 17 = .ok (.invokestatic 136, 3) := dk_184 0 136 (dk_at dksJ4_siftUp_0 17 rfl rfl)
theorem dJ4_siftUp_20 : decode cJ4_siftUp 20 = .ok (.goto 12, 3) := dk_167 0 12 (dk_at dksJ4_siftUp_0 20 rfl rfl)
theorem dJ4_siftUp_23 : decode cJ4_siftUp 23 = .ok (.iload_n 1, 1) := dk_27 (dk_at dksJ4_siftUp_0 23 rfl rfl)
theorem dJ4_siftUp_24 : decode cJ4_siftUp 24 = .ok (.aload_n 2, 1) := dk_44 (dk_at dksJ4_siftUp_1 0 rfl rfl)
theorem dJ4_siftUp_25 : decode cJ4_siftUp 25 = .ok (.aload_n 0, 1) := dk_42 (dk_at dksJ4_siftUp_1 1 rfl rfl)
theorem dJ4_siftUp_26 : decode cJ4_siftUp 26 = .ok (.getfield 17, 3) := dk_180 0 17 (dk_at dksJ4_siftUp_1 2 rfl rfl)
theorem dJ4_siftUp_29 : decode cJ4_siftUp 29 = .ok (.invokestatic 140, 3) := dk_184 0 140 (dk_at dksJ4_siftUp_1 5 rfl rfl)
theorem dJ4_siftUp_32 : decode cJ4_siftUp 32 = .ok (.return_, 1) := dk_177 (dk_at dksJ4_siftUp_1 8 rfl rfl)
def dkwJ4_siftUpUsingComparator_2 : List UInt8 := [43, 83, 177]
abbrev dktJ4_siftUpUsingComparator_2 : List UInt8 := dkwJ4_siftUpUsingComparator_2 ++ []
def dkwJ4_siftUpUsingComparator_1 : List UInt8 := [185, 0, 149, 3, 0, 155, 0, 6, 167, 0, 14, 44, 26, 25, 5, 83, 21, 4, 59, 167, 255, 216, 44, 26]
abbrev dktJ4_siftUpUsingComparator_1 : List UInt8 := dkwJ4_siftUpUsingComparator_1 ++ dktJ4_siftUpUsingComparator_2
def dkwJ4_siftUpUsingComparator_0 : List UInt8 := [26, 158, 0, 42, 26, 4, 100, 4, 124, 54, 4, 44, 21, 4, 50, 58, 5, 45, 43, 25, 5]
abbrev dktJ4_siftUpUsingComparator_0 : List UInt8 := dkwJ4_siftUpUsingComparator_0 ++ dktJ4_siftUpUsingComparator_1
theorem dksJ4_siftUpUsingComparator_0 : cJ4_siftUpUsingComparator.data.toList.drop 0 = dktJ4_siftUpUsingComparator_0 := by decide +kernel
theorem dksJ4_siftUpUsingComparator_1 : cJ4_siftUpUsingComparator.data.toList.drop 21 = dktJ4_siftUpUsingComparator_1 := dk_seg dksJ4_siftUpUsingComparator_0 21 rfl rfl
theorem dksJ4_siftUpUsingComparator_2 : cJ4_siftUpUsingComparator.data.toList.drop 45 = dktJ4_siftUpUsingComparator_2 := dk_seg dksJ4_siftUpUsingComparator_1 24 rfl rfl
theorem dJ4_siftUpUsingComparator_0 : decode cJ4_siftUpUsingComparator 0 = .ok (.iload_n 0, 1) := dk_26 (dk_at dksJ4_siftUpUsingComparator_0 0 rfl rfl)
theorem dJ4_siftUpUsingComparator_1 : decode cJ4_siftUpUsingComparator 1 = .ok (.ifCond .le 42, 3) := dk_158 0 42 (dk_at dksJ4_siftUpUsingComparator_0 1 rfl rfl)
theorem dJ4_siftUpUsingComparator_4 : decode cJ4_siftUpUsingComparator 4 = .ok (.iload_n 0, 1) := dk_26 (dk_at dksJ4_siftUpUsingComparator_0 4 rfl rfl)
theorem dJ4_siftUpUsingComparator_5 : decode cJ4_siftUpUsingComparator 5 = .ok (.iconst 1, 1) := dk_4 (dk_at dksJ4_siftUpUsingComparator_0 5 rfl rfl)
theorem dJ4_siftUpUsingComparator_6 : decode cJ4_siftUpUsingComparator 6 = .ok (.isub, 1) := dk_100 (dk_at dksJ4_siftUpUsingComparator_0 6 rfl rfl)
theorem dJ4_siftUpUsingComparator_7 : decode cJ4_siftUpUsingComparator 7 = .ok (.iconst 1, 1) := dk_4 (dk_at dksJ4_siftUpUsingComparator_0 7 rfl rfl)
theorem dJ4_siftUpUsingComparator_8 : decode cJ4_siftUpUsingComparator 8 = .ok (.iushr, 1) := dk_124 (dk_at dksJ4_siftUpUsingComparator_0 8 rfl rfl)
theorem dJ4_siftUpUsingComparator_9 : decode cJ4_siftUpUsingComparator 9 = .ok (.istore 4, 2) := dk_54 4 (dk_at dksJ4_siftUpUsingComparator_0 9 rfl rfl)
theorem dJ4_siftUpUsingComparator_11 : decode cJ4_siftUpUsingComparator 11 = .ok (.aload_n 2, 1) := dk_44 (dk_at dksJ4_siftUpUsingComparator_0 11 rfl rfl)
theorem dJ4_siftUpUsingComparator_12 : decode cJ4_siftUpUsingComparator 12 = .ok (.iload 4, 2) := dk_21 4 (dk_at dksJ4_siftUpUsingComparator_0 12 rfl rfl)
theorem dJ4_siftUpUsingComparator_14 : decode cJ4_siftUpUsingComparator 14 = .ok (.aaload, 1) := dk_50 (dk_at dksJ4_siftUpUsingComparator_0 14 rfl rfl)
theorem dJ4_siftUpUsingComparator_15 : decode cJ4_siftUpUsingComparator 15 = .ok (.astore 5, 2) := dk_58 5 (dk_at dksJ4_siftUpUsingComparator_0 15 rfl rfl)
theorem dJ4_siftUpUsingComparator_17 : decode cJ4_siftUpUsingComparator 17 = .ok (.aload_n 3, 1) := dk_45 (dk_at dksJ4_siftUpUsingComparator_0 17 rfl rfl)
theorem dJ4_siftUpUsingComparator_18 : decode cJ4_siftUpUsingComparator 18 = .ok (.aload_n 1, 1) := dk_43 (dk_at dksJ4_siftUpUsingComparator_0 18 rfl rfl)
theorem dJ4_siftUpUsingComparator_19 : decode cJ4_siftUpUsingComparator 19 = .ok (.aload 5, 2) := dk_25 5 (dk_at dksJ4_siftUpUsingComparator_0 19 rfl rfl)
theorem dJ4_siftUpUsingComparator_21 : decode cJ4_siftUpUsingComparator 21 = .ok (.invokeinterface 149 3, 5) := by decide +kernel
theorem dJ4_siftUpUsingComparator_26 : decode cJ4_siftUpUsingComparator 26 = .ok (.ifCond .lt 6, 3) := dk_155 0 6 (dk_at dksJ4_siftUpUsingComparator_1 5 rfl rfl)
theorem dJ4_siftUpUsingComparator_29 : decode cJ4_siftUpUsingComparator 29 = .ok (.goto 14, 3) := dk_167 0 14 (dk_at dksJ4_siftUpUsingComparator_1 8 rfl rfl)
theorem dJ4_siftUpUsingComparator_32 : decode cJ4_siftUpUsingComparator 32 = .ok (.aload_n 2, 1) := dk_44 (dk_at dksJ4_siftUpUsingComparator_1 11 rfl rfl)
theorem dJ4_siftUpUsingComparator_33 : decode cJ4_siftUpUsingComparator 33 = .ok (.iload_n 0, 1) := dk_26 (dk_at dksJ4_siftUpUsingComparator_1 12 rfl rfl)
theorem dJ4_siftUpUsingComparator_34 : decode cJ4_siftUpUsingComparator 34 = .ok (.aload 5, 2) := dk_25 5 (dk_at dksJ4_siftUpUsingComparator_1 13 rfl rfl)
theorem dJ4_siftUpUsingComparator_36 : decode cJ4_siftUpUsingComparator 36 = .ok (.aastore, 1) := dk_83 (dk_at dksJ4_siftUpUsingComparator_1 15 rfl rfl)
theorem dJ4_siftUpUsingComparator_37 : decode cJ4_siftUpUsingComparator 37 = .ok (.iload 4, 2) := dk_21 4 (dk_at dksJ4_siftUpUsingComparator_1 16 rfl rfl)
theorem dJ4_siftUpUsingComparator_39 : decode cJ4_siftUpUsingComparator 39 = .ok (.istore_n 0, 1) := dk_59 (dk_at dksJ4_siftUpUsingComparator_1 18 rfl rfl)
theorem dJ4_siftUpUsingComparator_40 : decode cJ4_siftUpUsingComparator 40 = .ok (.goto (-40), 3) := dk_167 255 216 (dk_at dksJ4_siftUpUsingComparator_1 19 rfl rfl)
theorem dJ4_siftUpUsingComparator_43 : decode cJ4_siftUpUsingComparator 43 = .ok (.aload_n 2, 1) := dk_44 (dk_at dksJ4_siftUpUsingComparator_1 22 rfl rfl)
theorem dJ4_siftUpUsingComparator_44 : decode cJ4_siftUpUsingComparator 44 = .ok (.iload_n 0, 1) := dk_26 (dk_at dksJ4_siftUpUsingComparator_1 23 rfl rfl)
theorem dJ4_siftUpUsingComparator_45 : decode cJ4_siftUpUsingComparator 45 = .ok (.aload_n 1, 1) := dk_43 (dk_at dksJ4_siftUpUsingComparator_2 0 rfl rfl)
theorem dJ4_siftUpUsingComparator_46 : decode cJ4_siftUpUsingComparator 46 = .ok (.aastore, 1) := dk_83 (dk_at dksJ4_siftUpUsingComparator_2 1 rfl rfl)
theorem dJ4_siftUpUsingComparator_47 : decode cJ4_siftUpUsingComparator 47 = .ok (.return_, 1) := dk_177 (dk_at dksJ4_siftUpUsingComparator_2 2 rfl rfl)
def dkwJ4_poll_3 : List UInt8 := [43, 29, 25, 5, 184, 0, 129, 44, 176]
abbrev dktJ4_poll_3 : List UInt8 := dkwJ4_poll_3 ++ []
def dkwJ4_poll_2 : List UInt8 := [42, 180, 0, 21, 89, 58, 5, 199, 0, 14, 3, 25, 4, 43, 29, 184, 0, 125, 167, 0, 13, 3, 25, 4]
abbrev dktJ4_poll_2 : List UInt8 := dkwJ4_poll_2 ++ dktJ4_poll_3
def dkwJ4_poll_1 : List UInt8 := [42, 89, 180, 0, 58, 4, 100, 90, 181, 0, 58, 89, 62, 50, 58, 4, 43, 29, 1, 83, 29, 158, 0, 34]
abbrev dktJ4_poll_1 : List UInt8 := dkwJ4_poll_1 ++ dktJ4_poll_2
def dkwJ4_poll_0 : List UInt8 := [42, 180, 0, 17, 89, 76, 3, 50, 89, 77, 198, 0, 69, 42, 89, 180, 0, 93, 4, 96, 181, 0, 93, 43]
abbrev dktJ4_poll_0 : List UInt8 := dkwJ4_poll_0 ++ dktJ4_poll_1
theorem dksJ4_poll_0 : cJ4_poll.data.toList.drop 0 = dktJ4_poll_0 := by decide +kernel
theorem dksJ4_poll_1 : cJ4_poll.data.toList.drop 24 = dktJ4_poll_1 := dk_seg dksJ4_poll_0 24 rfl rfl
theorem dksJ4_poll_2 : cJ4_poll.data.toList.drop 48 = dktJ4_poll_2 := dk_seg dksJ4_poll_1 24 rfl rfl
theorem dksJ4_poll_3 : cJ4_poll.data.toList.drop 72 = dktJ4_poll_3 := dk_seg dksJ4_poll_2 24 rfl rfl
theorem dJ4_poll_0 : decode cJ4_poll 0 = .ok (.aload_n 0, 1) := dk_42 (dk_at dksJ4_poll_0 0 rfl rfl)
theorem dJ4_poll_1 : decode cJ4_poll 1 = .ok (.getfield 17, 3) := dk_180 0 17 (dk_at dksJ4_poll_0 1 rfl rfl)
theorem dJ4_poll_4 : decode cJ4_poll 4 = .ok (.dup, 1) := dk_89 (dk_at dksJ4_poll_0 4 rfl rfl)
theorem dJ4_poll_5 : decode cJ4_poll 5 = .ok (.astore_n 1, 1) := dk_76 (dk_at dksJ4_poll_0 5 rfl rfl)
theorem dJ4_poll_6 : decode cJ4_poll 6 = .ok (.iconst 0, 1) := dk_3 (dk_at dksJ4_poll_0 6 rfl rfl)
theorem dJ4_poll_7 : decode cJ4_poll 7 = .ok (.aaload, 1) := dk_50 (dk_at dksJ4_poll_0 7 rfl rfl)
theorem dJ4_poll_8 : decode cJ4_poll 8 = .ok (.dup, 1) := dk_89 (dk_at dksJ4_poll_0 8 rfl rfl)
theorem dJ4_poll_9 : decode cJ4_poll 9 = .ok (.astore_n 2, 1) := dk_77 (dk_at dksJ4_poll_0 9 rfl rfl)
theorem dJ4_poll_10 : decode cJ4_poll 10 = .ok (.ifnull 69, 3) := dk_198 0 69 (dk_at dksJ4_poll_0 10 rfl rfl)
theorem dJ4_poll_13 : decode cJ4_poll 13 = .ok (.aload_n 0, 1) := dk_42 (dk_at dksJ4_poll_0 13 rfl rfl)
theorem dJ4_poll_14 : decode cJ4_poll 14 = .ok (.dup, 1) := dk_89 (dk_at dksJ4_poll_0 14 rfl rfl)
theorem dJ4_poll_15 : decode cJ4_poll 15 = .ok (.getfield 93, 3) := dk_180 0 93 (dk_at dksJ4_poll_0 15 rfl rfl)
theorem dJ4_poll_18 : decode cJ4_poll 18 = .ok (.iconst 1, 1) := dk_4 (dk_at dksJ4_poll_0 18 rfl rfl)
theorem dJ4_poll_19 : decode cJ4_poll 19 = .ok (.iadd, 1) := dk_96 (dk_at dksJ4_poll_0 19 rfl rfl)
theorem dJ4_poll_20 : decode cJ4_poll 20 = .ok (.putfield 93, 3) := dk_181 0 93 (dk_at dksJ4_poll_0 20 rfl rfl)
theorem dJ4_poll_23 : decode cJ4_poll 23 = .ok (.aload_n 1, 1) := dk_43 (dk_at dksJ4_poll_0 23 rfl rfl)
theorem dJ4_poll_24 : decode cJ4_poll 24 = .ok (.aload_n 0, 1) := dk_42 (dk_at dksJ4_poll_1 0 rfl rfl)
theorem dJ4_poll_25 : decode cJ4_poll 25 = .ok (.dup, 1) := dk_89 (dk_at dksJ4_poll_1 1 rfl rfl)
theorem dJ4_poll_26 : decode cJ4_poll 26 = .ok (.getfield 58, 3) := dk_180 0 58 (dk_at dksJ4_poll_1 2 rfl rfl)
theorem dJ4_poll_29 : decode cJ4_poll 29 = .ok (.iconst 1, 1) := dk_4 (dk_at dksJ4_poll_1 5 rfl rfl)
theorem dJ4_poll_30 : decode cJ4_poll 30 = .ok (.isub, 1) := dk_100 (dk_at dksJ4_poll_1 6 rfl rfl)
theorem dJ4_poll_31 : decode cJ4_poll 31 = .ok (.dup_x1, 1) := dk_90 (dk_at dksJ4_poll_1 7 rfl rfl)
theorem dJ4_poll_32 : decode cJ4_poll 32 = .ok (.putfield 58, 3) := dk_181 0 58 (dk_at dksJ4_poll_1 8 rfl rfl)
theorem dJ4_poll_35 : decode cJ4_poll 35 = .ok (.dup, 1) := dk_89 (dk_at dksJ4_poll_1 11 rfl rfl)
theorem dJ4_poll_36 : decode cJ4_poll 36 = .ok (.istore_n 3, 1) := dk_62 (dk_at dksJ4_poll_1 12 rfl rfl)
theorem dJ4_poll_37 : decode cJ4_poll 37 = .ok (.aaload, 1) := dk_50 (dk_at dksJ4_poll_1 13 rfl rfl)
theorem dJ4_poll_38 : decode cJ4_poll 38 = .ok (.astore 4, 2) := dk_58 4 (dk_at dksJ4_poll_1 14 rfl rfl)
theorem dJ4_poll_40 : decode cJ4_poll 40 = .ok (.aload_n 1, 1) := dk_43 (dk_at dksJ4_poll_1 16 rfl rfl)
theorem dJ4_poll_41 : decode cJ4_poll 41 = .ok (.iload_n 3, 1) := dk_29 (dk_at dksJ4_poll_1 17 rfl rfl)
theorem dJ4_poll_42 : decode cJ4_poll 42 = .ok (.aconst_null, 1) := dk_1 (dk_at dksJ4_poll_1 18 rfl rfl)
theorem dJ4_poll_43 : decode cJ4_poll 43 = .ok (.aastore, 1) := dk_83 (dk_at dksJ4_poll_1 19 rfl rfl)
theorem dJ4_poll_44 : decode cJ4_poll 44 = .ok (.iload_n 3, 1) := dk_29 (dk_at dksJ4_poll_1 20 rfl rfl)
theorem dJ4_poll_45 : decode cJ4_poll 45 = .ok (.ifCond .le 34, 3) := dk_158 0 34 (dk_at dksJ4_poll_1 21 rfl rfl)
theorem dJ4_poll_48 : decode cJ4_poll 48 = .ok (.aload_n 0, 1) := dk_42 (dk_at dksJ4_poll_2 0 rfl rfl)
theorem dJ4_poll_49 : decode cJ4_poll 49 = .ok (.getfield 21, 3) := dk_180 0 21 (dk_at dksJ4_poll_2 1 rfl rfl)
theorem dJ4_poll_52 : decode cJ4_poll 52 = .ok (.dup, 1) := dk_89 (dk_at dksJ4_poll_2 4 rfl rfl)
theorem dJ4_poll_53 : decode cJ4_poll 53 = .ok (.astore 5, 2) := dk_58 5 (dk_at dksJ4_poll_2 5 rfl rfl)
theorem dJ4_poll_55 : decode cJ4_poll 55 = .ok (.ifnonnull 14, 3) := dk_199 0 14 (dk_at dksJ4_poll_2 7 rfl rfl)
theorem dJ4_poll_58 : decode cJ4_poll 58 = .ok (.iconst 0, 1) := dk_3 (dk_at dksJ4_poll_2 10 rfl rfl)
theorem dJ4_poll_59 : decode cJ4_poll 59 = .ok (.aload 4, 2) := dk_25 4 (dk_at dksJ4_poll_2 11 rfl rfl)
theorem dJ4_poll_61 : decode cJ4_poll 61 = .ok (.aload_n 1, 1) := dk_43 (dk_at dksJ4_poll_2 13 rfl rfl)
theorem dJ4_poll_62 : decode cJ4_poll 62 = .ok (.iload_n 3, 1) := dk_29 (dk_at dksJ4_poll_2 14 rfl rfl)
theorem dJ4_poll_63 : decode cJ4_poll 63 = .ok (.invokestatic 125, 3) := dk_184 0 125 (dk_at dksJ4_poll_2 15 rfl rfl)
theorem dJ4_poll_66 : decode cJ4_poll 66 = .ok (.goto 13, 3) := dk_167 0 13 (dk_at dksJ4_poll_2 18 rfl rfl)
theorem dJ4_poll_69 : decode cJ4_poll 69 = .ok (.iconst 0, 1) := dk_3 (dk_at dksJ4_poll_2 21 rfl rfl)
theorem dJ4_poll_70 : decode cJ4_poll 70 = .ok (.aload 4, 2) := dk_25 4 (dk_at dksJ4_poll_2 22 rfl rfl)
theorem dJ4_poll_72 : decode cJ4_poll 72 = .ok (.aload_n 1, 1) := dk_43 (dk_at dksJ4_poll_3 0 rfl rfl)
theorem dJ4_poll_73 : decode cJ4_poll 73 = .ok (.iload_n 3, 1) := dk_29 (dk_at dksJ4_poll_3 1 rfl rfl)
theorem dJ4_poll_74 : decode cJ4_poll 74 = .ok (.aload 5, 2) := dk_25 5 (dk_at dksJ4_poll_3 2 rfl rfl)
theorem dJ4_poll_76 : decode cJ4_poll 76 = .ok (.invokestatic 129, 3) := dk_184 0 129 (dk_at dksJ4_poll_3 4 rfl rfl)
theorem dJ4_poll_79 : decode cJ4_poll 79 = .ok (.aload_n 2, 1) := dk_44 (dk_at dksJ4_poll_3 7 rfl rfl)
theorem dJ4_poll_80 : decode cJ4_poll 80 = .ok (.areturn, 1) := dk_176 (dk_at dksJ4_poll_3 8 rfl rfl)
def dkwJ4_siftDownUsingComparator_4 : List UInt8 := [43, 83, 177]
abbrev dktJ4_siftDownUsingComparator_4 : List UInt8 := dkwJ4_siftDownUsingComparator_4 ++ []
def dkwJ4_siftDownUsingComparator_3 : List UInt8 := [185, 0, 149, 3, 0, 157, 0, 6, 167, 0, 14, 44, 26, 25, 7, 83, 21, 6, 59, 167, 255, 176, 44, 26]
abbrev dktJ4_siftDownUsingComparator_3 : List UInt8 := dkwJ4_siftDownUsingComparator_3 ++ dktJ4_siftDownUsingComparator_4
def dkwJ4_siftDownUsingComparator_2 : List UInt8 := [185, 0, 149, 3, 0, 158, 0, 12, 44, 21, 8, 89, 54, 6, 50, 58, 7, 25, 4, 43, 25, 7]
abbrev dktJ4_siftDownUsingComparator_2 : List UInt8 := dkwJ4_siftDownUsingComparator_2 ++ dktJ4_siftDownUsingComparator_3
def dkwJ4_siftDownUsingComparator_1 : List UInt8 := [21, 6, 4, 96, 54, 8, 21, 8, 29, 162, 0, 28, 25, 4, 25, 7, 44, 21, 8, 50]
abbrev dktJ4_siftDownUsingComparator_1 : List UInt8 := dkwJ4_siftDownUsingComparator_1 ++ dktJ4_siftDownUsingComparator_2
def dkwJ4_siftDownUsingComparator_0 : List UInt8 := [29, 4, 124, 54, 5, 26, 21, 5, 162, 0, 80, 26, 4, 120, 4, 96, 54, 6, 44, 21, 6, 50, 58, 7]
abbrev dktJ4_siftDownUsingComparator_0 : List UInt8 := dkwJ4_siftDownUsingComparator_0 ++ dktJ4_siftDownUsingComparator_1
theorem dksJ4_siftDownUsingComparator_0 : cJ4_siftDownUsingComparator.data.toList.drop 0 = dktJ4_siftDownUsingComparator_0 := by decide +kernel
theorem dksJ4_siftDownUsingComparator_1 : cJ4_siftDownUsingComparator.data.toList.drop 24 = dktJ4_siftDownUsingComparator_1 := dk_seg dksJ4_siftDownUsingComparator_0 24 rfl rfl
theorem dksJ4_siftDownUsingComparator_2 : cJ4_siftDownUsingComparator.data.toList.drop 44 = dktJ4_siftDownUsingComparator_2 := dk_seg dksJ4_siftDownUsingComparator_1 20 rfl rfl
theorem dksJ4_siftDownUsingComparator_3 : cJ4_siftDownUsingComparator.data.toList.drop 66 = dktJ4_siftDownUsingComparator_3 := dk_seg dksJ4_siftDownUsingComparator_2 22 rfl rfl
theorem dksJ4_siftDownUsingComparator_4 : cJ4_siftDownUsingComparator.data.toList.drop 90 = dktJ4_siftDownUsingComparator_4 := dk_seg dksJ4_siftDownUsingComparator_3 24 rfl rfl
theorem dJ4_siftDownUsingComparator_0 : decode cJ4_siftDownUsingComparator 0 = .ok (.iload_n 3, 1) := dk_29 (dk_at dksJ4_siftDownUsingComparator_0 0 rfl rfl)
theorem dJ4_siftDownUsingComparator_1 : decode cJ4_siftDownUsingComparator 1 = .ok (.iconst 1, 1) := dk_4 (dk_at dksJ4_siftDownUsingComparator_0 1 rfl rfl)
theorem dJ4_siftDownUsingComparator_2 : decode cJ4_siftDownUsingComparator 2 = .ok (.iushr, 1) := dk_124 (dk_at dksJ4_siftDownUsingComparator_0 2 rfl rfl)
theorem dJ4_siftDownUsingComparator_3 : decode cJ4_siftDownUsingComparator 3 = .ok (.istore 5, 2) := dk_54 5 (dk_at dksJ4_siftDownUsingComparator_0 3 rfl rfl)
theorem dJ4_siftDownUsingComparator_5 : decode cJ4_siftDownUsingComparator 5 = .ok (.iload_n 0, 1) := dk_26 (dk_at dksJ4_siftDownUsingComparator_0 5 rfl rfl)
theorem dJ4_siftDownUsingComparator_6 : decode cJ4_siftDownUsingComparator 6 = .ok (.iload 5, 2) := dk_21 5 (dk_at dksJ4_siftDownUsingComparator_0 6 rfl rfl)
theorem dJ4_siftDownUsingComparator_8 : decode cJ4_siftDownUsingComparator 8 = .ok (.if_icmp .ge 80, 3) := dk_162 0 80 (dk_at dksJ4_siftDownUsingComparator_0 8 rfl rfl)
theorem dJ4_siftDownUsingComparator_11 : decode cJ4_siftDownUsingComparator 11 = .ok (.iload_n 0, 1) := dk_26 (dk_at dksJ4_siftDownUsingComparator_0 11 rfl rfl)
theorem dJ4_siftDownUsingComparator_12 : decode cJ4_siftDownUsingComparator 12 = .ok (.iconst 1, 1) := dk_4 (dk_at dksJ4_siftDownUsingComparator_0 12 rfl rfl)
theorem dJ4_siftDownUsingComparator_13 : decode cJ4_siftDownUsingComparator 13 = .ok (.ishl, 1) := dk_120 (dk_at dksJ4_siftDownUsingComparator_0 13 rfl rfl)
theorem dJ4_siftDownUsingComparator_14 : decode cJ4_siftDownUsingComparator 14 = .ok (.iconst 1, 1) := dk_4 (dk_at dksJ4_siftDownUsingComparator_0 14 rfl rfl)
theorem dJ4_siftDownUsingComparator_15 : decode cJ4_siftDownUsingComparator 15 = .ok (.iadd, 1) := dk_96 (dk_at dksJ4_siftDownUsingComparator_0 15 rfl rfl)
theorem dJ4_siftDownUsingComparator_16 : decode cJ4_siftDownUsingComparator 16 = .ok (.istore 6, 2) := dk_54 6 (dk_at dksJ4_siftDownUsingComparator_0 16 rfl rfl)
theorem dJ4_siftDownUsingComparator_18 : decode cJ4_siftDownUsingComparator 18 = .ok (.aload_n 2, 1) := dk_44 (dk_at dksJ4_siftDownUsingComparator_0 18 rfl rfl)
theorem dJ4_siftDownUsingComparator_19 : decode cJ4_siftDownUsingComparator 19 = .ok (.iload 6, 2) := dk_21 6 (dk_at dksJ4_siftDownUsingComparator_0 19 rfl rfl)
theorem dJ4_siftDownUsingComparator_21 : decode cJ4_siftDownUsingComparator 21 = .ok (.aaload, 1) := dk_50 (dk_at dksJ4_siftDownUsingComparator_0 21 rfl rfl)
theorem dJ4_siftDownUsingComparator_22 : decode cJ4_siftDownUsingComparator 22 = .ok (.astore 7, 2) := dk_58 7 (dk_at dksJ4_siftDownUsingComparator_0 22 rfl rfl)
theorem dJ4_siftDownUsingComparator_24 : decode cJ4_siftDownUsingComparator 24 = .ok (.iload 6, 2) := dk_21 6 (dk_at dksJ4_siftDownUsingComparator_1 0 rfl rfl)
theorem dJ4_siftDownUsingComparator_26 : decode cJ4_siftDownUsingComparator 26 = .ok (.iconst 1, 1) := dk_4 (dk_at dksJ4_siftDownUsingComparator_1 2 rfl rfl)
theorem dJ4_siftDownUsingComparator_27 : decode cJ4_siftDownUsingComparator 27 = .ok (.iadd, 1) := dk_96 (dk_at dksJ4_siftDownUsingComparator_1 3 rfl rfl)
theorem dJ4_siftDownUsingComparator_28 : decode cJ4_siftDownUsingComparator 28 = .ok (.istore 8, 2) := dk_54 8 (dk_at dksJ4_siftDownUsingComparator_1 4 rfl rfl)
theorem dJ4_siftDownUsingComparator_30 : decode cJ4_siftDownUsingComparator 30 = .ok (.iload 8, 2) := dk_21 8 (dk_at dksJ4_siftDownUsingComparator_1 6 rfl rfl)
theorem dJ4_siftDownUsingComparator_32 : decode cJ4_siftDownUsingComparator 32 = .ok (.iload_n 3, 1) := dk_29 (dk_at dksJ4_siftDownUsingComparator_1 8 rfl rfl)
theorem dJ4_siftDownUsingComparator_33 : decode cJ4_siftDownUsingComparator 33 = .ok (.if_icmp .ge 28, 3) := dk_162 0 28 (dk_at dksJ4_siftDownUsingComparator_1 9 rfl rfl)
theorem dJ4_siftDownUsingComparator_36 : decode cJ4_siftDownUsingComparator 36 = .ok (.aload 4, 2) := dk_25 4 (dk_at dksJ4_siftDownUsingComparator_1 12 rfl rfl)
theorem dJ4_siftDownUsingComparator_38 : decode cJ4_siftDownUsingComparator 38 = .ok (.aload 7, 2) := dk_25 7 (dk_at dksJ4_siftDownUsingComparator_1 14 rfl rfl)
theorem dJ4_siftDownUsingComparator_40 : decode cJ4_siftDownUsingComparator 40 = .ok (.aload_n 2, 1) := dk_44 (dk_at dksJ4_siftDownUsingComparator_1 16 rfl rfl)
theorem dJ4_siftDownUsingComparator_41 : decode cJ4_siftDownUsingComparator 41 = .ok (.iload 8, 2) := dk_21 8 (dk_at dksJ4_siftDownUsingComparator_1 17 rfl rfl)
theorem dJ4_siftDownUsingComparator_43 : decode cJ4_siftDownUsingComparator 43 = .ok (.aaload, 1) := dk_50 (dk_at dksJ4_siftDownUsingComparator_1 19 rfl rfl)
theorem dJ4_siftDownUsingComparator_44 : decode cJ4_siftDownUsingComparator 44 = .ok (.invokeinterface 149 3, 5) := by decide +kernel
theorem dJ4_siftDownUsingComparator_49 : decode cJ4_siftDownUsingComparator 49 = .ok (.ifCond .le 12, 3) := dk_158 0 12 (dk_at dksJ4_siftDownUsingComparator_2 5 rfl rfl)
theorem dJ4_siftDownUsingComparator_52 : decode cJ4_siftDownUsingComparator 52 = .ok (.aload_n 2, 1) := dk_44 (dk_at dksJ4_siftDownUsingComparator_2 8 rfl rfl)
theorem dJ4_siftDownUsingComparator_53 : decode cJ4_siftDownUsingComparator 53 = .ok (.iload 8, 2) := dk_21 8 (dk_at dksJ4_siftDownUsingComparator_2 9 rfl rfl)
theorem dJ4_siftDownUsingComparator_55 : decode cJ4_siftDownUsingComparator 55 = .ok (.dup, 1) := dk_89 (dk_at dksJ4_siftDownUsingComparator_2 11 rfl rfl)
theorem dJ4_siftDownUsingComparator_56 : decode cJ4_siftDownUsingComparator 56 = .ok (.istore 6, 2) := dk_54 6 (dk_at dksJ4_siftDownUsingComparator_2 12 rfl rfl)
theorem dJ4_siftDownUsingComparator_58 : decode cJ4_siftDownUsingComparator 58 = .ok (.aaload, 1) := dk_50 (dk_at dksJ4_siftDownUsingComparator_2 14 rfl rfl)
theorem dJ4_siftDownUsingComparator_59 : decode cJ4_siftDownUsingComparator 59 = .ok (.astore 7, 2) := dk_58 7 (dk_at dksJ4_siftDownUsingComparator_2 15 rfl rfl)
theorem dJ4_siftDownUsingComparator_61 : decode cJ4_siftDownUsingComparator 61 = .ok (.aload 4, 2) := dk_25 4 (dk_at dksJ4_siftDownUsingComparator_2 17 rfl rfl)
theorem dJ4_siftDownUsingComparator_63 : decode cJ4_siftDownUsingComparator 63 = .ok (.aload_n 1, 1) := dk_43 (dk_at dksJ4_siftDownUsingComparator_2 19 rfl rfl)
theorem dJ4_siftDownUsingComparator_64 : decode cJ4_siftDownUsingComparator 64 = .ok (.aload 7, 2) := dk_25 7 (dk_at dksJ4_siftDownUsingComparator_2 20 rfl rfl)
theorem dJ4_siftDownUsingComparator_66 : decode cJ4_siftDownUsingComparator 66 = .ok (.invokeinterface 149 3, 5) := by decide +kernel
theorem dJ4_siftDownUsingComparator_71 : decode cJ4_siftDownUsingComparator 71 = .ok (.ifCond .gt 6, 3) := dk_157 0 6 (dk_at dksJ4_siftDownUsingComparator_3 5 rfl rfl)
theorem dJ4_siftDownUsingComparator_74 : decode cJ4_siftDownUsingComparator 74 = .ok (.goto 14, 3) := dk_167 0 14 (dk_at dksJ4_siftDownUsingComparator_3 8 rfl rfl)
theorem dJ4_siftDownUsingComparator_77 : decode cJ4_siftDownUsingComparator 77 = .ok (.aload_n 2, 1) := dk_44 (dk_at dksJ4_siftDownUsingComparator_3 11 rfl rfl)
theorem dJ4_siftDownUsingComparator_78 : decode cJ4_siftDownUsingComparator 78 = .ok (.iload_n 0, 1) := dk_26 (dk_at dksJ4_siftDownUsingComparator_3 12 rfl rfl)
theorem dJ4_siftDownUsingComparator_79 : decode cJ4_siftDownUsingComparator 79 = .ok (.aload 7, 2) := dk_25 7 (dk_at dksJ4_siftDownUsingComparator_3 13 rfl rfl)
theorem dJ4_siftDownUsingComparator_81 : decode cJ4_siftDownUsingComparator 81 = .ok (.aastore, 1) := dk_83 (dk_at dksJ4_siftDownUsingComparator_3 15 rfl rfl)
theorem dJ4_siftDownUsingComparator_82 : decode cJ4_siftDownUsingComparator 82 = .ok (.iload 6, 2) := dk_21 6 (dk_at dksJ4_siftDownUsingComparator_3 16 rfl rfl)
theorem dJ4_siftDownUsingComparator_84 : decode cJ4_siftDownUsingComparator 84 = .ok (.istore_n 0, 1) := dk_59 (dk_at dksJ4_siftDownUsingComparator_3 18 rfl rfl)
theorem dJ4_siftDownUsingComparator_85 : decode cJ4_siftDownUsingComparator 85 = .ok (.goto (-80), 3) := dk_167 255 176 (dk_at dksJ4_siftDownUsingComparator_3 19 rfl rfl)
theorem dJ4_siftDownUsingComparator_88 : decode cJ4_siftDownUsingComparator 88 = .ok (.aload_n 2, 1) := dk_44 (dk_at dksJ4_siftDownUsingComparator_3 22 rfl rfl)
theorem dJ4_siftDownUsingComparator_89 : decode cJ4_siftDownUsingComparator 89 = .ok (.iload_n 0, 1) := dk_26 (dk_at dksJ4_siftDownUsingComparator_3 23 rfl rfl)
theorem dJ4_siftDownUsingComparator_90 : decode cJ4_siftDownUsingComparator 90 = .ok (.aload_n 1, 1) := dk_43 (dk_at dksJ4_siftDownUsingComparator_4 0 rfl rfl)
theorem dJ4_siftDownUsingComparator_91 : decode cJ4_siftDownUsingComparator 91 = .ok (.aastore, 1) := dk_83 (dk_at dksJ4_siftDownUsingComparator_4 1 rfl rfl)
theorem dJ4_siftDownUsingComparator_92 : decode cJ4_siftDownUsingComparator 92 = .ok (.return_, 1) := dk_177 (dk_at dksJ4_siftDownUsingComparator_4 2 rfl rfl)
def dkwJ4_iterator_0 : List UInt8 := [187, 0, 121, 89, 42, 183, 0, 123, 176]
abbrev dktJ4_iterator_0 : List UInt8 := dkwJ4_iterator_0 ++ []
theorem dksJ4_iterator_0 : cJ4_iterator.data.toList.drop 0 = dktJ4_iterator_0 := by decide +kernel
theorem dJ4_iterator_0 : decode cJ4_iterator 0 = .ok (.new 121, 3) := dk_187 0 121 (dk_at dksJ4_iterator_0 0 rfl rfl)
theorem dJ4_iterator_3 : decode cJ4_iterator 3 = .ok (.dup, 1) := dk_89 (dk_at dksJ4_iterator_0 3 rfl rfl)
theorem dJ4_iterator_4 : decode cJ4_iterator 4 = .ok (.aload_n 0, 1) := dk_42 (dk_at dksJ4_iterator_0 4 rfl rfl)
theorem dJ4_iterator_5 : decode cJ4_iterator 5 = .ok (.invokespecial 123, 3) := dk_183 0 123 (dk_at dksJ4_iterator_0 5 rfl rfl)
theorem dJ4_iterator_8 : decode cJ4_iterator 8 = .ok (.areturn, 1) := dk_176 (dk_at dksJ4_iterator_0 8 rfl rfl)
def dkwJ42_next_4 : List UInt8 := [180, 0, 52, 176, 187, 0, 56, 89, 183, 0, 58, 191]
abbrev dktJ42_next_4 : List UInt8 := dkwJ42_next_4 ++ []
def dkwJ42_next_3 : List UInt8 := [181, 0, 13, 42, 42, 180, 0, 31, 182, 0, 48, 181, 0, 52, 42, 180, 0, 52, 198, 0, 8, 42]
abbrev dktJ42_next_3 : List UInt8 := dkwJ42_next_3 ++ dktJ42_next_4
def dkwJ42_next_2 : List UInt8 := [180, 0, 25, 90, 4, 96, 181, 0, 25, 90, 181, 0, 13, 50, 176, 42, 180, 0, 31, 198, 0, 31, 42, 2]
abbrev dktJ42_next_2 : List UInt8 := dkwJ42_next_2 ++ dktJ42_next_3
def dkwJ42_next_1 : List UInt8 := [180, 0, 25, 42, 180, 0, 1, 180, 0, 28, 162, 0, 28, 42, 180, 0, 1, 180, 0, 44, 42, 42, 89]
abbrev dktJ42_next_1 : List UInt8 := dkwJ42_next_1 ++ dktJ42_next_2
def dkwJ42_next_0 : List UInt8 := [42, 180, 0, 22, 42, 180, 0, 1, 180, 0, 17, 159, 0, 11, 187, 0, 41, 89, 183, 0, 43, 191, 42]
abbrev dktJ42_next_0 : List UInt8 := dkwJ42_next_0 ++ dktJ42_next_1
theorem dksJ42_next_0 : cJ42_next.data.toList.drop 0 = dktJ42_next_0 := by decide +kernel
theorem dksJ42_next_1 : cJ42_next.data.toList.drop 23 = dktJ42_next_1 := dk_seg dksJ42_next_0 23 rfl rfl
theorem dksJ42_next_2 : cJ42_next.data.toList.drop 46 = dktJ42_next_2 := dk_seg dksJ42_next_1 23 rfl rfl
theorem dksJ42_next_3 : cJ42_next.data.toList.drop 70 = dktJ42_next_3 := dk_seg dksJ42_next_2 24 rfl rfl
theorem dksJ42_next_4 : cJ42_next.data.toList.drop 92 = dktJ42_next_4 := dk_seg dksJ42_next_3 22 rfl rfl
theorem dJ42_next_0 : decode cJ42_next 0 = .ok (.aload_n 0, 1) := dk_42 (dk_at dksJ42_next_0 0 rfl rfl)
theorem dJ42_next_1 : decode cJ42_next 1 = .ok (.getfield 22, 3) := dk_180 0 22 (dk_at dksJ42_next_0 1 rfl rfl)
theorem dJ42_next_4 : decode cJ42_next 4 = .ok (.aload_n 0, 1) := dk_42 (dk_at dksJ42_next_0 4 rfl rfl)
theorem dJ42_next_5 : decode cJ42_next 5 = .ok (.getfield 1, 3) := dk_180 0 1 (dk_at dksJ42_next_0 5 rfl rfl)
theorem dJ42_next_8 : decode cJ42_next 8 = .ok (.getfield 17, 3) := dk_180 0 17 (dk_at dksJ42_next_0 8 rfl rfl)
theorem dJ42_next_11 : decode cJ42_next 11 = .ok (.if_icmp .eq 11, 3) := dk_159 0 11 (dk_at dksJ42_next_0 11 rfl rfl)
theorem dJ42_next_14 : decode cJ42_next 14 = .ok (.new 41, 3) := dk_187 0 41 (dk_at dksJ42_next_0 14 rfl rfl)
theorem dJ42_next_17 : decode cJ42_next 17 = .ok (.dup, 1) := dk_89 (dk_at dksJ42_next_0 17 rfl rfl)
theorem dJ42_next_18 : decode cJ42_next 18 = .ok (.invokespecial 43, 3) := dk_183 0 43 (dk_at dksJ42_next_0 18 rfl rfl)
theorem dJ42_next_21 : decode cJ42_next 21 = .ok (.athrow, 1) := dk_191 (dk_at dksJ42_next_0 21 rfl rfl)
theorem dJ42_next_22 : decode cJ42_next 22 = .ok (.aload_n 0, 1) := dk_42 (dk_at dksJ42_next_0 22 rfl rfl)
theorem dJ42_next_23 : decode cJ42_next 23 = .ok (.getfield 25, 3) := dk_180 0 25 (dk_at dksJ42_next_1 0 rfl rfl)
theorem dJ42_next_26 : decode cJ42_next 26 = .ok (.aload_n 0, 1) := dk_42 (dk_at dksJ42_next_1 3 rfl rfl)
theorem dJ42_next_27 : decode cJ42_next 27 = .ok (.getfield 1, 3) := dk_180 0 1 (dk_at dksJ42_next_1 4 rfl rfl)
theorem dJ42_next_30 : decode cJ42_next 30 = .ok (.getfield 28, 3) := dk_180 0 28 (dk_at dksJ42_next_1 7 rfl rfl)
theorem dJ42_next_33 : decode cJ42_next 33 = .ok (.if_icmp .ge 28, 3) := dk_162 0 28 (dk_at dksJ42_next_1 10 rfl rfl)
theorem dJ42_next_36 : decode cJ42_next 36 = .ok (.aload_n 0, 1) := dk_42 (dk_at dksJ42_next_1 13 rfl rfl)
theorem dJ42_next_37 : decode cJ42_next 37 = .ok (.getfield 1, 3) := dk_180 0 1 (dk_at dksJ42_next_1 14 rfl rfl)
theorem dJ42_next_40 : decode cJ42_next 40 = .ok (.getfield 44, 3) := dk_180 0 44 (dk_at dksJ42_next_1 17 rfl rfl)
theorem dJ42_next_43 : decode cJ42_next 43 = .ok (.aload_n 0, 1) := dk_42 (dk_at dksJ42_next_1 20 rfl rfl)
theorem dJ42_next_44 : decode cJ42_next 44 = .ok (.aload_n 0, 1) := dk_42 (dk_at dksJ42_next_1 21 rfl rfl)
theorem dJ42_next_45 : decode cJ42_next 45 = .ok (.dup, 1) := dk_89 (dk_at dksJ42_next_1 22 rfl rfl)
theorem dJ42_next_46 : decode cJ42_next 46 = .ok (.getfield 25, 3) := dk_180 0 25 (dk_at dksJ42_next_2 0 rfl rfl)
theorem dJ42_next_49 : decode cJ42_next 49 = .ok (.dup_x1, 1) := dk_90 (dk_at dksJ42_next_2 3 rfl rfl)
theorem dJ42_next_50 : decode cJ42_next 50 = .ok (.iconst 1, 1) := dk_4 (dk_at dksJ42_next_2 4 rfl rfl)
theorem dJ42_next_51 : decode cJ42_next 51 = .ok (.iadd, 1) := dk_96 (dk_at dksJ42_next_2 5 rfl rfl)
theorem dJ42_next_52 : decode cJ42_next 52 = .ok (.putfield 25, 3) := dk_181 0 25 (dk_at dksJ42_next_2 6 rfl rfl)
theorem dJ42_next_55 : decode cJ42_next 55 = .ok (.dup_x1, 1) := dk_90 (dk_at dksJ42_next_2 9 rfl rfl)
theorem dJ42_next_56 : decode cJ42_next 56 = .ok (.putfield 13, 3) := dk_181 0 13 (dk_at dksJ42_next_2 10 rfl rfl)
theorem dJ42_next_59 : decode cJ42_next 59 = .ok (.aaload, 1) := dk_50 (dk_at dksJ42_next_2 13 rfl rfl)
theorem dJ42_next_60 : decode cJ42_next 60 = .ok (.areturn, 1) := dk_176 (dk_at dksJ42_next_2 14 rfl rfl)
theorem dJ42_next_61 : decode cJ42_next 61 = .ok (.aload_n 0, 1) := dk_42 (dk_at dksJ42_next_2 15 rfl rfl)
theorem dJ42_next_62 : decode cJ42_next 62 = .ok (.getfield 31, 3) := dk_180 0 31 (dk_at dksJ42_next_2 16 rfl rfl)
theorem dJ42_next_65 : decode cJ42_next 65 = .ok (.ifnull 31, 3) := dk_198 0 31 (dk_at dksJ42_next_2 19 rfl rfl)
theorem dJ42_next_68 : decode cJ42_next 68 = .ok (.aload_n 0, 1) := dk_42 (dk_at dksJ42_next_2 22 rfl rfl)
theorem dJ42_next_69 : decode cJ42_next 69 = .ok (.iconst (-1), 1) := dk_2 (dk_at dksJ42_next_2 23 rfl rfl)
theorem dJ42_next_70 : decode cJ42_next 70 = .ok (.putfield 13, 3) := dk_181 0 13 (dk_at dksJ42_next_3 0 rfl rfl)
theorem dJ42_next_73 : decode cJ42_next 73 = .ok (.aload_n 0, 1) := dk_42 (dk_at dksJ42_next_3 3 rfl rfl)
theorem dJ42_next_74 : decode cJ42_next 74 = .ok (.aload_n 0, 1) := dk_42 (dk_at dksJ42_next_3 4 rfl rfl)
theorem dJ42_next_75 : decode cJ42_next 75 = .ok (.getfield 31, 3) := dk_180 0 31 (dk_at dksJ42_next_3 5 rfl rfl)
theorem dJ42_next_78 : decode cJ42_next 78 = .ok (.invokevirtual 48, 3) := dk_182 0 48 (dk_at dksJ42_next_3 8 rfl rfl)
theorem dJ42_next_81 : decode cJ42_next 81 = .ok (.putfield 52, 3) := dk_181 0 52 (dk_at dksJ42_next_3 11 rfl rfl)
theorem dJ42_next_84 : decode cJ42_next 84 = .ok (.aload_n 0, 1) := dk_42 (dk_at dksJ42_next_3 14 rfl rfl)
theorem dJ42_next_85 : decode cJ42_next 85 = .ok (.getfield 52, 3) := dk_180 0 52 (dk_at dksJ42_next_3 15 rfl rfl)
theorem dJ42_next_88 : decode cJ42_next 88 = .ok (.ifnull 8, 3) := dk_198 0 8 (dk_at dksJ42_next_3 18 rfl rfl)
theorem dJ42_next_91 : decode cJ42_next 91 = .ok (.aload_n 0, 1) := dk_42 (dk_at dksJ42_next_3 21 rfl rfl)
theorem dJ42_next_92 : decode cJ42_next 92 = .ok (.getfield 52, 3) := dk_180 0 52 (dk_at dksJ42_next_4 0 rfl rfl)
theorem dJ42_next_95 : decode cJ42_next 95 = .ok (.areturn, 1) := dk_176 (dk_at dksJ42_next_4 3 rfl rfl)
theorem dJ42_next_96 : decode cJ42_next 96 = .ok (.new 56, 3) := dk_187 0 56 (dk_at dksJ42_next_4 4 rfl rfl)
theorem dJ42_next_99 : decode cJ42_next 99 = .ok (.dup, 1) := dk_89 (dk_at dksJ42_next_4 7 rfl rfl)
theorem dJ42_next_100 : decode cJ42_next 100 = .ok (.invokespecial 58, 3) := dk_183 0 58 (dk_at dksJ42_next_4 8 rfl rfl)
theorem dJ42_next_103 : decode cJ42_next 103 = .ok (.athrow, 1) := dk_191 (dk_at dksJ42_next_4 11 rfl rfl)
def dkwJ42_hasNext_1 : List UInt8 := [180, 0, 31, 182, 0, 35, 154, 0, 7, 4, 167, 0, 4, 3, 172]
abbrev dktJ42_hasNext_1 : List UInt8 := dkwJ42_hasNext_1 ++ []
def dkwJ42_hasNext_0 : List UInt8 := [42, 180, 0, 25, 42, 180, 0, 1, 180, 0, 28, 161, 0, 20, 42, 180, 0, 31, 198, 0, 17, 42]
abbrev dktJ42_hasNext_0 : List UInt8 := dkwJ42_hasNext_0 ++ dktJ42_hasNext_1
theorem dksJ42_hasNext_0 : cJ42_hasNext.data.toList.drop 0 = dktJ42_hasNext_0 := by decide +kernel
theorem dksJ42_hasNext_1 : cJ42_hasNext.data.toList.drop 22 = dktJ42_hasNext_1 := dk_seg dksJ42_hasNext_0 22 rfl rfl
theorem dJ42_hasNext_0 : decode cJ42_hasNext 0 = .ok (.aload_n 0, 1) := dk_42 (dk_at dksJ42_hasNext_0 0 rfl rfl)
theorem dJ42_hasNext_1 : decode cJ42_hasNext 1 = .ok (.getfield 25, 3) := dk_180 0 25 (dk_at dksJ42_hasNext_0 1 rfl rfl)
theorem dJ42_hasNext_4 : decode cJ42_hasNext 4 = .ok (.aload_n 0, 1) := dk_42 (dk_at dksJ42_hasNext_0 4 rfl rfl)
theorem dJ42_hasNext_5 : decode cJ42_hasNext 5 = .ok (.getfield 1, 3) := dk_180 0 1 (dk_at dksJ42_hasNext_0 5 rfl rfl)
theorem dJ42_hasNext_8 : decode cJ42_hasNext 8 = .ok (.getfield 28, 3) := dk_180 0 28 (dk_at dksJ42_hasNext_0 8 rfl rfl)
theorem dJ42_hasNext_11 : decode cJ42_hasNext 11 = .ok (.if_icmp .lt 20, 3) := dk_161 0 20 (dk_at dksJ42_hasNext_0 11 rfl rfl)
theorem dJ42_hasNext_14 : decode cJ42_hasNext 14 = .ok (.aload_n 0, 1) := dk_42 (dk_at dksJ42_hasNext_0 14 rfl rfl)
theorem dJ42_hasNext_15 : decode cJ42_hasNext 15 = .ok (.getfield 31, 3) := dk_180 0 31 (dk_at dksJ42_hasNext_0 15 rfl rfl)
theorem dJ42_hasNext_18 : decode cJ42_hasNext 18 = .ok (.ifnull 17, 3) := dk_198 0 17 (dk_at dksJ42_hasNext_0 18 rfl rfl)
theorem dJ42_hasNext_21 : decode cJ42_hasNext 21 = .ok (.aload_n 0, 1) := dk_42 (dk_at dksJ42_hasNext_0 21 rfl rfl)
theorem dJ42_hasNext_22 : decode cJ42_hasNext 22 = .ok (.getfield 31, 3) := dk_180 0 31 (dk_at dksJ42_hasNext_1 0 rfl rfl)
theorem dJ42_hasNext_25 : decode cJ42_hasNext 25 = .ok (.invokevirtual 35, 3) := dk_182 0 35 (dk_at dksJ42_hasNext_1 3 rfl rfl)
theorem dJ42_hasNext_28 : decode cJ42_hasNext 28 = .ok (.ifCond .ne 7, 3) := dk_154 0 7 (dk_at dksJ42_hasNext_1 6 rfl rfl)
theorem dJ42_hasNext_31 : decode cJ42_hasNext 31 = .ok (.iconst 1, 1) := dk_4 (dk_at dksJ42_hasNext_1 9 rfl rfl)
theorem dJ42_hasNext_32 : decode cJ42_hasNext 32 = .ok (.goto 4, 3) := dk_167 0 4 (dk_at dksJ42_hasNext_1 10 rfl rfl)
theorem dJ42_hasNext_35 : decode cJ42_hasNext 35 = .ok (.iconst 0, 1) := dk_3 (dk_at dksJ42_hasNext_1 13 rfl rfl)
theorem dJ42_hasNext_36 : decode cJ42_hasNext 36 = .ok (.ireturn, 1) := dk_172 (dk_at dksJ42_hasNext_1 14 rfl rfl)
def dkwJ42_init_1 : List UInt8 := [181, 0, 22, 177]
abbrev dktJ42_init_1 : List UInt8 := dkwJ42_init_1 ++ []
def dkwJ42_init_0 : List UInt8 := [42, 43, 181, 0, 1, 42, 183, 0, 7, 42, 2, 181, 0, 13, 42, 42, 180, 0, 1, 180, 0, 17]
abbrev dktJ42_init_0 : List UInt8 := dkwJ42_init_0 ++ dktJ42_init_1
theorem dksJ42_init_0 : cJ42_init.data.toList.drop 0 = dktJ42_init_0 := by decide +kernel
theorem dksJ42_init_1 : cJ42_init.data.toList.drop 22 = dktJ42_init_1 := dk_seg dksJ42_init_0 22 rfl rfl
theorem dJ42_init_0 : decode cJ42_init 0 = .ok (.aload_n 0, 1) := dk_42 (dk_at dksJ42_init_0 0 rfl rfl)
theorem dJ42_init_1 : decode cJ42_init 1 = .ok (.aload_n 1, 1) := dk_43 (dk_at dksJ42_init_0 1 rfl rfl)
theorem dJ42_init_2 : decode cJ42_init 2 = .ok (.putfield 1, 3) := dk_181 0 1 (dk_at dksJ42_init_0 2 rfl rfl)
theorem dJ42_init_5 : decode cJ42_init 5 = .ok (.aload_n 0, 1) := dk_42 (dk_at dksJ42_init_0 5 rfl rfl)
theorem dJ42_init_6 : decode cJ42_init 6 = .ok (.invokespecial 7, 3) := dk_183 0 7 (dk_at dksJ42_init_0 6 rfl rfl)
theorem dJ42_init_9 : decode cJ42_init 9 = .ok (.aload_n 0, 1) := dk_42 (dk_at dksJ42_init_0 9 rfl rfl)
theorem dJ42_init_10 : decode cJ42_init 10 = .ok (.iconst (-1), 1) := dk_2 (dk_at dksJ42_init_0 10 rfl rfl)
theorem dJ42_init_11 : decode cJ42_init 11 = .ok (.putfield 13, 3) := dk_181 0 13 (dk_at dksJ42_init_0 11 rfl rfl)
theorem dJ42_init_14 : decode cJ42_init 14 = .ok (.aload_n 0, 1) := dk_42 (dk_at dksJ42_init_0 14 rfl rfl)
theorem dJ42_init_15 : decode cJ42_init 15 = .ok (.aload_n 0, 1) := dk_42 (dk_at dksJ42_init_0 15 rfl rfl)
theorem dJ42_init_16 : decode cJ42_init 16 = .ok (.getfield 1, 3) := dk_180 0 1 (dk_at dksJ42_init_0 16 rfl rfl)
theorem dJ42_init_19 : decode cJ42_init 19 = .ok (.getfield 17, 3) := dk_180 0 17 (dk_at dksJ42_init_0 19 rfl rfl)
theorem dJ42_init_22 : decode cJ42_init 22 = .ok (.putfield 22, 3) := dk_181 0 22 (dk_at dksJ42_init_1 0 rfl rfl)
theorem dJ42_init_25 : decode cJ42_init 25 = .ok (.return_, 1) := dk_177 (dk_at dksJ42_init_1 3 rfl rfl)
def dkwJ5_init_0 : List UInt8 := [42, 183, 0, 42, 42, 16, 17, 189, 0, 47, 181, 0, 3, 177]
abbrev dktJ5_init_0 : List UInt8 := dkwJ5_init_0 ++ []
theorem dksJ5_init_0 : cJ5_init.data.toList.drop 0 = dktJ5_init_0 := by decide +kernel
theorem dJ5_init_0 : decode cJ5_init 0 = .ok (.aload_n 0, 1) := dk_42 (dk_at dksJ5_init_0 0 rfl rfl)
theorem dJ5_init_1 : decode cJ5_init 1 = .ok (.invokespecial 42, 3) := dk_183 0 42 (dk_at dksJ5_init_0 1 rfl rfl)
theorem dJ5_init_4 : decode cJ5_init 4 = .ok (.aload_n 0, 1) := dk_42 (dk_at dksJ5_init_0 4 rfl rfl)
theorem dJ5_init_5 : decode cJ5_init 5 = .ok (.bipush 17, 2) := dk_16 17 (dk_at dksJ5_init_0 5 rfl rfl)
theorem dJ5_init_7 : decode cJ5_init 7 = .ok (.anewarray 47, 3) := dk_189 0 47 (dk_at dksJ5_init_0 7 rfl rfl)
theorem dJ5_init_10 : decode cJ5_init 10 = .ok (.putfield 3, 3) := dk_181 0 3 (dk_at dksJ5_init_0 10 rfl rfl)
theorem dJ5_init_13 : decode cJ5_init 13 = .ok (.return_, 1) := dk_177 (dk_at dksJ5_init_0 13 rfl rfl)
def dkwJ5_isEmpty_0 : List UInt8 := [42, 180, 0, 24, 42, 180, 0, 20, 160, 0, 7, 4, 167, 0, 4, 3, 172]
abbrev dktJ5_isEmpty_0 : List UInt8 := dkwJ5_isEmpty_0 ++ []
theorem dksJ5_isEmpty_0 : cJ5_isEmpty.data.toList.drop 0 = dktJ5_isEmpty_0 := by decide +kernel
theorem dJ5_isEmpty_0 : decode cJ5_isEmpty 0 = .ok (.aload_n 0, 1) := dk_42 (dk_at dksJ5_isEmpty_0 0 rfl rfl)
theorem dJ5_isEmpty_1 : decode cJ5_isEmpty 1 = .ok (.getfield 24, 3) := dk_180 0 24 (dk_at dksJ5_isEmpty_0 1 rfl rfl)
theorem dJ5_isEmpty_4 : decode cJ5_isEmpty 4 = .ok (.aload_n 0, 1) := dk_42 (dk_at dksJ5_isEmpty_0 4 rfl rfl)
theorem dJ5_isEmpty_5 : decode cJ5_isEmpty 5 = .ok (.getfield 20, 3) := dk_180 0 20 (dk_at dksJ5_isEmpty_0 5 rfl rfl)
theorem dJ5_isEmpty_8 : decode cJ5_isEmpty 8 = .ok (.if_icmp .ne 7, 3) := dk_160 0 7 (dk_at dksJ5_isEmpty_0 8 rfl rfl)
theorem dJ5_isEmpty_11 : decode cJ5_isEmpty 11 = .ok (.iconst 1, 1) := dk_4 (dk_at dksJ5_isEmpty_0 11 rfl rfl)
theorem dJ5_isEmpty_12 : decode cJ5_isEmpty 12 = .ok (.goto 4, 3) := dk_167 0 4 (dk_at dksJ5_isEmpty_0 12 rfl rfl)
theorem dJ5_isEmpty_15 : decode cJ5_isEmpty 15 = .ok (.iconst 0, 1) := dk_3 (dk_at dksJ5_isEmpty_0 15 rfl rfl)
theorem dJ5_isEmpty_16 : decode cJ5_isEmpty 16 = .ok (.ireturn, 1) := dk_172 (dk_at dksJ5_isEmpty_0 16 rfl rfl)
def dkwJ5_removeLast_0 : List UInt8 := [42, 182, 0, 100, 76, 43, 199, 0, 11, 187, 0, 97, 89, 183, 0, 99, 191, 43, 176]
abbrev dktJ5_removeLast_0 : List UInt8 := dkwJ5_removeLast_0 ++ []
theorem dksJ5_removeLast_0 : cJ5_removeLast.data.toList.drop 0 = dktJ5_removeLast_0 := by decide +kernel
theorem dJ5_removeLast_0 : decode cJ5_removeLast 0 = .ok (.aload_n 0, 1) := dk_42 (dk_at dksJ5_removeLast_0 0 rfl rfl)
theorem dJ5_removeLast_1 : decode cJ5_removeLast 1 = .ok (.invokevirtual 100, 3) := dk_182 0 100 (dk_at dksJ5_removeLast_0 1 rfl rfl)
theorem dJ5_removeLast_4 : decode cJ5_removeLast 4 = .ok (.astore_n 1, 1) := dk_76 (dk_at dksJ5_removeLast_0 4 rfl rfl)
theorem dJ5_removeLast_5 : decode cJ5_removeLast 5 = .ok (.aload_n 1, 1) := dk_43 (dk_at dksJ5_removeLast_0 5 rfl rfl)
theorem dJ5_removeLast_6 : decode cJ5_removeLast 6 = .ok (.ifnonnull 11, 3) := dk_199 0 11 (dk_at dksJ5_removeLast_0 6 rfl rfl)
theorem dJ5_removeLast_9 : decode cJ5_removeLast 9 = .ok (.new 97, 3) := dk_187 0 97 (dk_at dksJ5_removeLast_0 9 rfl rfl)
theorem dJ5_removeLast_12 : decode cJ5_removeLast 12 = .ok (.dup, 1) := dk_89 (dk_at dksJ5_removeLast_0 12 rfl rfl)
theorem dJ5_removeLast_13 : decode cJ5_removeLast 13 = .ok (.invokespecial 99, 3) := dk_183 0 99 (dk_at dksJ5_removeLast_0 13 rfl rfl)
theorem dJ5_removeLast_16 : decode cJ5_removeLast 16 = .ok (.athrow, 1) := dk_191 (dk_at dksJ5_removeLast_0 16 rfl rfl)
theorem dJ5_removeLast_17 : decode cJ5_removeLast 17 = .ok (.aload_n 1, 1) := dk_43 (dk_at dksJ5_removeLast_0 17 rfl rfl)
theorem dJ5_removeLast_18 : decode cJ5_removeLast 18 = .ok (.areturn, 1) := dk_176 (dk_at dksJ5_removeLast_0 18 rfl rfl)
def dkwJ5_pollLast_1 : List UInt8 := [198, 0, 12, 43, 42, 28, 90, 181, 0, 20, 1, 83, 45, 176]
abbrev dktJ5_pollLast_1 : List UInt8 := dkwJ5_pollLast_1 ++ []
def dkwJ5_pollLast_0 : List UInt8 := [42, 180, 0, 3, 89, 76, 42, 180, 0, 20, 43, 190, 184, 0, 68, 89, 61, 184, 0, 103, 78, 45]
abbrev dktJ5_pollLast_0 : List UInt8 := dkwJ5_pollLast_0 ++ dktJ5_pollLast_1
theorem dksJ5_pollLast_0 : cJ5_pollLast.data.toList.drop 0 = dktJ5_pollLast_0 := by decide +kernel
theorem dksJ5_pollLast_1 : cJ5_pollLast.data.toList.drop 22 = dktJ5_pollLast_1 := dk_seg dksJ5_pollLast_0 22 rfl rfl
theorem dJ5_pollLast_0 : decode cJ5_pollLast 0 = .ok (.aload_n 0, 1) := dk_42 (dk_at dksJ5_pollLast_0 0 rfl rfl)
theorem dJ5_pollLast_1 : decode cJ5_pollLast 1 = .ok (.getfield 3, 3) := dk_180 0 3 (dk_at dksJ5_pollLast_0 1 rfl rfl)
theorem dJ5_pollLast_4 : decode cJ5_pollLast 4 = .ok (.dup, 1) := dk_89 (dk_at dksJ5_pollLast_0 4 rfl rfl)
theorem dJ5_pollLast_5 : decode cJ5_pollLast 5 = .ok (.astore_n 1, 1) := dk_76 (dk_at dksJ5_pollLast_0 5 rfl rfl)
theorem dJ5_pollLast_6 : decode cJ5_pollLast 6 = .ok (.aload_n 0, 1) := dk_42 (dk_at dksJ5_pollLast_0 6 rfl rfl)
theorem dJ5_pollLast_7 : decode cJ5_pollLast 7 = .ok (.getfield 20, 3) := dk_180 0 20 (dk_at dksJ5_pollLast_0 7 rfl rfl)
theorem dJ5_pollLast_10 : decode cJ5_pollLast 10 = .ok (.aload_n 1, 1) := dk_43 (dk_at dksJ5_pollLast_0 10 rfl rfl)
theorem dJ5_pollLast_11 : decode cJ5_pollLast 11 = .ok (.arraylength, 1) := dk_190 (dk_at dksJ5_pollLast_0 11 rfl rfl)
theorem dJ5_pollLast_12 : decode cJ5_pollLast 12 = .ok (.invokestatic 68, 3) := dk_184 0 68 (dk_at dksJ5_pollLast_0 12 rfl rfl)
theorem dJ5_pollLast_15 : decode cJ5_pollLast 15 = .ok (.dup, 1) := dk_89 (dk_at dksJ5_pollLast_0 15 rfl rfl)
theorem dJ5_pollLast_16 : decode cJ5_pollLast 16 = .ok (.istore_n 2, 1) := dk_61 (dk_at dksJ5_pollLast_0 16 rfl rfl)
theorem dJ5_pollLast_17 : decode cJ5_pollLast 17 = .ok (.invokestatic 103, 3) := dk_184 0 103 (dk_at dksJ5_pollLast_0 17 rfl rfl)
theorem dJ5_pollLast_20 : decode cJ5_pollLast 20 = .ok (.astore_n 3, 1) := dk_78 (dk_at dksJ5_pollLast_0 20 rfl rfl)
theorem dJ5_pollLast_21 : decode cJ5_pollLast 21 = .ok (.aload_n 3, 1) := dk_45 (dk_at dksJ5_pollLast_0 21 rfl rfl)
theorem dJ5_pollLast_22 : decode cJ5_pollLast 22 = .ok (.ifnull 12, 3) := dk_198 0 12 (dk_at dksJ5_pollLast_1 0 rfl rfl)
theorem dJ5_pollLast_25 : decode cJ5_pollLast 25 = .ok (.aload_n 1, 1) := dk_43 (dk_at dksJ5_pollLast_1 3 rfl rfl)
theorem dJ5_pollLast_26 : decode cJ5_pollLast 26 = .ok (.aload_n 0, 1) := dk_42 (dk_at dksJ5_pollLast_1 4 rfl rfl)
theorem dJ5_pollLast_27 : decode cJ5_pollLast 27 = .ok (.iload_n 2, 1) := dk_28 (dk_at dksJ5_pollLast_1 5 rfl rfl)
theorem dJ5_pollLast_28 : decode cJ5_pollLast 28 = .ok (.dup_x1, 1) := dk_90 (dk_at dksJ5_pollLast_1 6 rfl rfl)
theorem dJ5_pollLast_29 : decode cJ5_pollLast 29 = .ok (.putfield 20, 3) := dk_181 0 20 (dk_at dksJ5_pollLast_1 7 rfl rfl)
theorem dJ5_pollLast_32 : decode cJ5_pollLast 32 = .ok (.aconst_null, 1) := dk_1 (dk_at dksJ5_pollLast_1 10 rfl rfl)
theorem dJ5_pollLast_33 : decode cJ5_pollLast 33 = .ok (.aastore, 1) := dk_83 (dk_at dksJ5_pollLast_1 11 rfl rfl)
theorem dJ5_pollLast_34 : decode cJ5_pollLast 34 = .ok (.aload_n 3, 1) := dk_45 (dk_at dksJ5_pollLast_1 12 rfl rfl)
theorem dJ5_pollLast_35 : decode cJ5_pollLast 35 = .ok (.areturn, 1) := dk_176 (dk_at dksJ5_pollLast_1 13 rfl rfl)
def dkwJ5_dec_0 : List UInt8 := [132, 0, 255, 26, 156, 0, 7, 27, 4, 100, 59, 26, 172]
abbrev dktJ5_dec_0 : List UInt8 := dkwJ5_dec_0 ++ []
theorem dksJ5_dec_0 : cJ5_dec.data.toList.drop 0 = dktJ5_dec_0 := by decide +kernel
theorem dJ5_dec_0 : decode cJ5_dec 0 = .ok (.iinc 0 (-1), 3) := dk_132 0 255 (dk_at dksJ5_dec_0 0 rfl rfl)
theorem dJ5_dec_3 : decode cJ5_dec 3 = .ok (.iload_n 0, 1) := dk_26 (dk_at dksJ5_dec_0 3 rfl rfl)
theorem dJ5_dec_4 : decode cJ5_dec 4 = .ok (.ifCond .ge 7, 3) := dk_156 0 7 (dk_at dksJ5_dec_0 4 rfl rfl)
theorem dJ5_dec_7 : decode cJ5_dec 7 = .ok (.iload_n 1, 1) := dk_27 (dk_at dksJ5_dec_0 7 rfl rfl)
theorem dJ5_dec_8 : decode cJ5_dec 8 = .ok (.iconst 1, 1) := dk_4 (dk_at dksJ5_dec_0 8 rfl rfl)
theorem dJ5_dec_9 : decode cJ5_dec 9 = .ok (.isub, 1) := dk_100 (dk_at dksJ5_dec_0 9 rfl rfl)
theorem dJ5_dec_10 : decode cJ5_dec 10 = .ok (.istore_n 0, 1) := dk_59 (dk_at dksJ5_dec_0 10 rfl rfl)
theorem dJ5_dec_11 : decode cJ5_dec 11 = .ok (.iload_n 0, 1) := dk_26 (dk_at dksJ5_dec_0 11 rfl rfl)
theorem dJ5_dec_12 : decode cJ5_dec 12 = .ok (.ireturn, 1) := dk_172 (dk_at dksJ5_dec_0 12 rfl rfl)
def dkwJ5_elementAt_0 : List UInt8 := [42, 27, 50, 176]
abbrev dktJ5_elementAt_0 : List UInt8 := dkwJ5_elementAt_0 ++ []
theorem dksJ5_elementAt_0 : cJ5_elementAt.data.toList.drop 0 = dktJ5_elementAt_0 := by decide +kernel
theorem dJ5_elementAt_0 : decode cJ5_elementAt 0 = .ok (.aload_n 0, 1) := dk_42 (dk_at dksJ5_elementAt_0 0 rfl rfl)
theorem dJ5_elementAt_1 : decode cJ5_elementAt 1 = .ok (.iload_n 1, 1) := dk_27 (dk_at dksJ5_elementAt_0 1 rfl rfl)
theorem dJ5_elementAt_2 : decode cJ5_elementAt 2 = .ok (.aaload, 1) := dk_50 (dk_at dksJ5_elementAt_0 2 rfl rfl)
theorem dJ5_elementAt_3 : decode cJ5_elementAt 3 = .ok (.areturn, 1) := dk_176 (dk_at dksJ5_elementAt_0 3 rfl rfl)
def dkwJ5_size_0 : List UInt8 := [42, 180, 0, 20, 42, 180, 0, 24, 42, 180, 0, 3, 190, 184, 0, 127, 172]
abbrev dktJ5_size_0 : List UInt8 := dkwJ5_size_0 ++ []
theorem dksJ5_size_0 : cJ5_size.data.toList.drop 0 = dktJ5_size_0 := by decide +kernel
theorem dJ5_size_0 : decode cJ5_size 0 = .ok (.aload_n 0, 1) := dk_42 (dk_at dksJ5_size_0 0 rfl rfl)
theorem dJ5_size_1 : decode cJ5_size 1 = .ok (.getfield 20, 3) := dk_180 0 20 (dk_at dksJ5_size_0 1 rfl rfl)
theorem dJ5_size_4 : decode cJ5_size 4 = .ok (.aload_n 0, 1) := dk_42 (dk_at dksJ5_size_0 4 rfl rfl)
theorem dJ5_size_5 : decode cJ5_size 5 = .ok (.getfield 24, 3) := dk_180 0 24 (dk_at dksJ5_size_0 5 rfl rfl)
theorem dJ5_size_8 : decode cJ5_size 8 = .ok (.aload_n 0, 1) := dk_42 (dk_at dksJ5_size_0 8 rfl rfl)
theorem dJ5_size_9 : decode cJ5_size 9 = .ok (.getfield 3, 3) := dk_180 0 3 (dk_at dksJ5_size_0 9 rfl rfl)
theorem dJ5_size_12 : decode cJ5_size 12 = .ok (.arraylength, 1) := dk_190 (dk_at dksJ5_size_0 12 rfl rfl)
theorem dJ5_size_13 : decode cJ5_size 13 = .ok (.invokestatic 127, 3) := dk_184 0 127 (dk_at dksJ5_size_0 13 rfl rfl)
theorem dJ5_size_16 : decode cJ5_size 16 = .ok (.ireturn, 1) := dk_172 (dk_at dksJ5_size_0 16 rfl rfl)
def dkwJ5_sub_0 : List UInt8 := [26, 27, 100, 89, 59, 156, 0, 7, 26, 28, 96, 59, 26, 172]
abbrev dktJ5_sub_0 : List UInt8 := dkwJ5_sub_0 ++ []
theorem dksJ5_sub_0 : cJ5_sub.data.toList.drop 0 = dktJ5_sub_0 := by decide +kernel
theorem dJ5_sub_0 : decode cJ5_sub 0 = .ok (.iload_n 0, 1) := dk_26 (dk_at dksJ5_sub_0 0 rfl rfl)
theorem dJ5_sub_1 : decode cJ5_sub 1 = .ok (.iload_n 1, 1) := dk_27 (dk_at dksJ5_sub_0 1 rfl rfl)
theorem dJ5_sub_2 : decode cJ5_sub 2 = .ok (.isub, 1) := dk_100 (dk_at dksJ5_sub_0 2 rfl rfl)
theorem dJ5_sub_3 : decode cJ5_sub 3 = .ok (.dup, 1) := dk_89 (dk_at dksJ5_sub_0 3 rfl rfl)
theorem dJ5_sub_4 : decode cJ5_sub 4 = .ok (.istore_n 0, 1) := dk_59 (dk_at dksJ5_sub_0 4 rfl rfl)
theorem dJ5_sub_5 : decode cJ5_sub 5 = .ok (.ifCond .ge 7, 3) := dk_156 0 7 (dk_at dksJ5_sub_0 5 rfl rfl)
theorem dJ5_sub_8 : decode cJ5_sub 8 = .ok (.iload_n 0, 1) := dk_26 (dk_at dksJ5_sub_0 8 rfl rfl)
theorem dJ5_sub_9 : decode cJ5_sub 9 = .ok (.iload_n 2, 1) := dk_28 (dk_at dksJ5_sub_0 9 rfl rfl)
theorem dJ5_sub_10 : decode cJ5_sub 10 = .ok (.iadd, 1) := dk_96 (dk_at dksJ5_sub_0 10 rfl rfl)
theorem dJ5_sub_11 : decode cJ5_sub 11 = .ok (.istore_n 0, 1) := dk_59 (dk_at dksJ5_sub_0 11 rfl rfl)
theorem dJ5_sub_12 : decode cJ5_sub 12 = .ok (.iload_n 0, 1) := dk_26 (dk_at dksJ5_sub_0 12 rfl rfl)
theorem dJ5_sub_13 : decode cJ5_sub 13 = .ok (.ireturn, 1) := dk_172 (dk_at dksJ5_sub_0 13 rfl rfl)
def dkwJ5_clear_1 : List UInt8 := [181, 0, 24, 177]
abbrev dktJ5_clear_1 : List UInt8 := dkwJ5_clear_1 ++ []
def dkwJ5_clear_0 : List UInt8 := [42, 180, 0, 3, 42, 180, 0, 24, 42, 180, 0, 20, 184, 0, 181, 42, 42, 3, 90, 181, 0, 20]
abbrev dktJ5_clear_0 : List UInt8 := dkwJ5_clear_0 ++ dktJ5_clear_1
theorem dksJ5_clear_0 : cJ5_clear.data.toList.drop 0 = dktJ5_clear_0 := by decide +kernel
theorem dksJ5_clear_1 : cJ5_clear.data.toList.drop 22 = dktJ5_clear_1 := dk_seg dksJ5_clear_0 22 rfl rfl
theorem dJ5_clear_0 : decode cJ5_clear 0 = .ok (.aload_n 0, 1) := dk_42 (dk_at dksJ5_clear_0 0 rfl rfl)
theorem dJ5_clear_1 : decode cJ5_clear 1 = .ok (.getfield 3, 3) := dk_180 0 3 (dk_at dksJ5_clear_0 1 rfl rfl)
theorem dJ5_clear_4 : decode cJ5_clear 4 = .ok (.aload_n 0, 1) := dk_42 (dk_at dksJ5_clear_0 4 rfl rfl)
theorem dJ5_clear_5 : decode cJ5_clear 5 = .ok (.getfield 24, 3) := dk_180 0 24 (dk_at dksJ5_clear_0 5 rfl rfl)
theorem dJ5_clear_8 : decode cJ5_clear 8 = .ok (.aload_n 0, 1) := dk_42 (dk_at dksJ5_clear_0 8 rfl rfl)
theorem dJ5_clear_9 : decode cJ5_clear 9 = .ok (.getfield 20, 3) := dk_180 0 20 (dk_at dksJ5_clear_0 9 rfl rfl)
theorem dJ5_clear_12 : decode cJ5_clear 12 = .ok (.invokestatic 181, 3) := dk_184 0 181 (dk_at dksJ5_clear_0 12 rfl rfl)
theorem dJ5_clear_15 : decode cJ5_clear 15 = .ok (.aload_n 0, 1) := dk_42 (dk_at dksJ5_clear_0 15 rfl rfl)
theorem dJ5_clear_16 : decode cJ5_clear 16 = .ok (.aload_n 0, 1) := dk_42 (dk_at dksJ5_clear_0 16 rfl rfl)
theorem dJ5_clear_17 : decode cJ5_clear 17 = .ok (.iconst 0, 1) := dk_3 (dk_at dksJ5_clear_0 17 rfl rfl)
theorem dJ5_clear_18 : decode cJ5_clear 18 = .ok (.dup_x1, 1) := dk_90 (dk_at dksJ5_clear_0 18 rfl rfl)
theorem dJ5_clear_19 : decode cJ5_clear 19 = .ok (.putfield 20, 3) := dk_181 0 20 (dk_at dksJ5_clear_0 19 rfl rfl)
theorem dJ5_clear_22 : decode cJ5_clear 22 = .ok (.putfield 24, 3) := dk_181 0 24 (dk_at dksJ5_clear_1 0 rfl rfl)
theorem dJ5_clear_25 : decode cJ5_clear 25 = .ok (.return_, 1) := dk_177 (dk_at dksJ5_clear_1 3 rfl rfl)
def dkwJ5_circularClear_1 : List UInt8 := [167, 255, 244, 29, 28, 160, 0, 6, 167, 0, 10, 3, 60, 28, 62, 167, 255, 229, 177]
abbrev dktJ5_circularClear_1 : List UInt8 := dkwJ5_circularClear_1 ++ []
def dkwJ5_circularClear_0 : List UInt8 := [27, 28, 163, 0, 7, 28, 167, 0, 5, 42, 190, 62, 27, 29, 162, 0, 13, 42, 27, 1, 83, 132, 1, 1]
abbrev dktJ5_circularClear_0 : List UInt8 := dkwJ5_circularClear_0 ++ dktJ5_circularClear_1
theorem dksJ5_circularClear_0 : cJ5_circularClear.data.toList.drop 0 = dktJ5_circularClear_0 := by decide +kernel
theorem dksJ5_circularClear_1 : cJ5_circularClear.data.toList.drop 24 = dktJ5_circularClear_1 := dk_seg dksJ5_circularClear_0 24 rfl rfl
theorem dJ5_circularClear_0 : decode cJ5_circularClear 0 = .ok (.iload_n 1, 1) := dk_27 (dk_at dksJ5_circularClear_0 0 rfl rfl)
theorem dJ5_circularClear_1 : decode cJ5_circularClear 1 = .ok (.iload_n 2, 1) := dk_28 (dk_at dksJ5_circularClear_0 1 rfl rfl)
theorem dJ5_circularClear_2 : decode cJ5_circularClear 2 = .ok (.if_icmp .gt 7, 3) := dk_163 0 7 (dk_at dksJ5_circularClear_0 2 rfl rfl)
theorem dJ5_circularClear_5 : decode cJ5_circularClear 5 = .ok (.iload_n 2, 1) := dk_28 (dk_at dksJ5_circularClear_0 5 rfl rfl)
theorem dJ5_circularClear_6 : decode cJ5_circularClear 6 = .ok (.goto 5, 3) := dk_167 0 5 (dk_at dksJ5_circularClear_0 6 rfl rfl)
theorem dJ5_circularClear_9 : decode cJ5_circularClear 9 = .ok (.aload_n 0, 1) := dk_42 (dk_at dksJ5_circularClear_0 9 rfl rfl)
theorem dJ5_circularClear_10 : decode cJ5_circularClear 10 = .ok (.arraylength, 1) := dk_190 (dk_at dksJ5_circularClear_0 10 rfl rfl)
theorem dJ5_circularClear_11 : decode cJ5_circularClear 11 = .ok (.istore_n 3, 1) := dk_62 (dk_at dksJ5_circularClear_0 11 rfl rfl)
theorem dJ5_circularClear_12 : decode cJ5_circularClear 12 = .ok (.iload_n 1, 1) := dk_27 (dk_at dksJ5_circularClear_0 12 rfl rfl)
theorem dJ5_circularClear_13 : decode cJ5_circularClear 13 = .ok (.iload_n 3, 1) := dk_29 (dk_at dksJ5_circularClear_0 13 rfl rfl)
theorem dJ5_circularClear_14 : decode cJ5_circularClear 14 = .ok (.if_icmp .ge 13, 3) := dk_162 0 13 (dk_at dksJ5_circularClear_0 14 rfl rfl)
theorem dJ5_circularClear_17 : decode cJ5_circularClear 17 = .ok (.aload_n 0, 1) := dk_42 (dk_at dksJ5_circularClear_0 17 rfl rfl)
theorem dJ5_circularClear_18 : decode cJ5_circularClear 18 = .ok (.iload_n 1, 1) := dk_27 (dk_at dksJ5_circularClear_0 18 rfl rfl)
theorem dJ5_circularClear_19 : decode cJ5_circularClear 19 = .ok (.aconst_null, 1) := dk_1 (dk_at dksJ5_circularClear_0 19 rfl rfl)
theorem dJ5_circularClear_20 : decode cJ5_circularClear 20 = .ok (.aastore, 1) := dk_83 (dk_at dksJ5_circularClear_0 20 rfl rfl)
theorem dJ5_circularClear_21 : decode cJ5_circularClear 21 = .ok (.iinc 1 1, 3) := dk_132 1 1 (dk_at dksJ5_circularClear_0 21 rfl rfl)
theorem dJ5_circularClear_24 : decode cJ5_circularClear 24 = .ok (.goto (-12), 3) := dk_167 255 244 (dk_at dksJ5_circularClear_1 0 rfl rfl)
theorem dJ5_circularClear_27 : decode cJ5_circularClear 27 = .ok (.iload_n 3, 1) := dk_29 (dk_at dksJ5_circularClear_1 3 rfl rfl)
theorem dJ5_circularClear_28 : decode cJ5_circularClear 28 = .ok (.iload_n 2, 1) := dk_28 (dk_at dksJ5_circularClear_1 4 rfl rfl)
theorem dJ5_circularClear_29 : decode cJ5_circularClear 29 = .ok (.if_icmp .ne 6, 3) := dk_160 0 6 (dk_at dksJ5_circularClear_1 5 rfl rfl)
theorem dJ5_circularClear_32 : decode cJ5_circularClear 32 = .ok (.goto 10, 3) := dk_167 0 10 (dk_at dksJ5_circularClear_1 8 rfl rfl)
theorem dJ5_circularClear_35 : decode cJ5_circularClear 35 = .ok (.iconst 0, 1) := dk_3 (dk_at dksJ5_circularClear_1 11 rfl rfl)
theorem dJ5_circularClear_36 : decode cJ5_circularClear 36 = .ok (.istore_n 1, 1) := dk_60 (dk_at dksJ5_circularClear_1 12 rfl rfl)
theorem dJ5_circularClear_37 : decode cJ5_circularClear 37 = .ok (.iload_n 2, 1) := dk_28 (dk_at dksJ5_circularClear_1 13 rfl rfl)
theorem dJ5_circularClear_38 : decode cJ5_circularClear 38 = .ok (.istore_n 3, 1) := dk_62 (dk_at dksJ5_circularClear_1 14 rfl rfl)
theorem dJ5_circularClear_39 : decode cJ5_circularClear 39 = .ok (.goto (-27), 3) := dk_167 255 229 (dk_at dksJ5_circularClear_1 15 rfl rfl)
theorem dJ5_circularClear_42 : decode cJ5_circularClear 42 = .ok (.return_, 1) := dk_177 (dk_at dksJ5_circularClear_1 18 rfl rfl)
def dkwJ5_removeFirst_0 : List UInt8 := [42, 182, 0, 93, 76, 43, 199, 0, 11, 187, 0, 97, 89, 183, 0, 99, 191, 43, 176]
abbrev dktJ5_removeFirst_0 : List UInt8 := dkwJ5_removeFirst_0 ++ []
theorem dksJ5_removeFirst_0 : cJ5_removeFirst.data.toList.drop 0 = dktJ5_removeFirst_0 := by decide +kernel
theorem dJ5_removeFirst_0 : decode cJ5_removeFirst 0 = .ok (.aload_n 0, 1) := dk_42 (dk_at dksJ5_removeFirst_0 0 rfl rfl)
theorem dJ5_removeFirst_1 : decode cJ5_removeFirst 1 = .ok (.invokevirtual 93, 3) := dk_182 0 93 (dk_at dksJ5_removeFirst_0 1 rfl rfl)
theorem dJ5_removeFirst_4 : decode cJ5_removeFirst 4 = .ok (.astore_n 1, 1) := dk_76 (dk_at dksJ5_removeFirst_0 4 rfl rfl)
theorem dJ5_removeFirst_5 : decode cJ5_removeFirst 5 = .ok (.aload_n 1, 1) := dk_43 (dk_at dksJ5_removeFirst_0 5 rfl rfl)
theorem dJ5_removeFirst_6 : decode cJ5_removeFirst 6 = .ok (.ifnonnull 11, 3) := dk_199 0 11 (dk_at dksJ5_removeFirst_0 6 rfl rfl)
theorem dJ5_removeFirst_9 : decode cJ5_removeFirst 9 = .ok (.new 97, 3) := dk_187 0 97 (dk_at dksJ5_removeFirst_0 9 rfl rfl)
theorem dJ5_removeFirst_12 : decode cJ5_removeFirst 12 = .ok (.dup, 1) := dk_89 (dk_at dksJ5_removeFirst_0 12 rfl rfl)
theorem dJ5_removeFirst_13 : decode cJ5_removeFirst 13 = .ok (.invokespecial 99, 3) := dk_183 0 99 (dk_at dksJ5_removeFirst_0 13 rfl rfl)
theorem dJ5_removeFirst_16 : decode cJ5_removeFirst 16 = .ok (.athrow, 1) := dk_191 (dk_at dksJ5_removeFirst_0 16 rfl rfl)
theorem dJ5_removeFirst_17 : decode cJ5_removeFirst 17 = .ok (.aload_n 1, 1) := dk_43 (dk_at dksJ5_removeFirst_0 17 rfl rfl)
theorem dJ5_removeFirst_18 : decode cJ5_removeFirst 18 = .ok (.areturn, 1) := dk_176 (dk_at dksJ5_removeFirst_0 18 rfl rfl)
def dkwJ5_pollFirst_1 : List UInt8 := [42, 28, 43, 190, 184, 0, 74, 181, 0, 24, 45, 176]
abbrev dktJ5_pollFirst_1 : List UInt8 := dkwJ5_pollFirst_1 ++ []
def dkwJ5_pollFirst_0 : List UInt8 := [42, 180, 0, 3, 89, 76, 42, 180, 0, 24, 89, 61, 184, 0, 103, 78, 45, 198, 0, 17, 43, 28, 1, 83]
abbrev dktJ5_pollFirst_0 : List UInt8 := dkwJ5_pollFirst_0 ++ dktJ5_pollFirst_1
theorem dksJ5_pollFirst_0 : cJ5_pollFirst.data.toList.drop 0 = dktJ5_pollFirst_0 := by decide +kernel
theorem dksJ5_pollFirst_1 : cJ5_pollFirst.data.toList.drop 24 = dktJ5_pollFirst_1 := dk_seg dksJ5_pollFirst_0 24 rfl rfl
theorem dJ5_pollFirst_0 : decode cJ5_pollFirst 0 = .ok (.aload_n 0, 1) := dk_42 (dk_at dksJ5_pollFirst_0 0 rfl rfl)
theorem dJ5_pollFirst_1 : decode cJ5_pollFirst 1 = .ok (.getfield 3, 3) := dk_180 0 3 (dk_at dksJ5_pollFirst_0 1 rfl rfl)
theorem dJ5_pollFirst_4 : decode cJ5_pollFirst 4 = .ok (.dup, 1) := dk_89 (dk_at dksJ5_pollFirst_0 4 rfl rfl)
theorem dJ5_pollFirst_5 : decode cJ5_pollFirst 5 = .ok (.astore_n 1, 1) := dk_76 (dk_at dksJ5_pollFirst_0 5 rfl rfl)
theorem dJ5_pollFirst_6 : decode cJ5_pollFirst 6 = .ok (.aload_n 0, 1) := dk_42 (dk_at dksJ5_pollFirst_0 6 rfl rfl)
theorem dJ5_pollFirst_7 : decode cJ5_pollFirst 7 = .ok (.getfield 24, 3) := dk_180 0 24 (dk_at dksJ5_pollFirst_0 7 rfl rfl)
theorem dJ5_pollFirst_10 : decode cJ5_pollFirst 10 = .ok (.dup, 1) := dk_89 (dk_at dksJ5_pollFirst_0 10 rfl rfl)
theorem dJ5_pollFirst_11 : decode cJ5_pollFirst 11 = .ok (.istore_n 2, 1) := dk_61 (dk_at dksJ5_pollFirst_0 11 rfl rfl)
theorem dJ5_pollFirst_12 : decode cJ5_pollFirst 12 = .ok (.invokestatic 103, 3) := dk_184 0 103 (dk_at dksJ5_pollFirst_0 12 rfl rfl)
theorem dJ5_pollFirst_15 : decode cJ5_pollFirst 15 = .ok (.astore_n 3, 1) := dk_78 (dk_at dksJ5_pollFirst_0 15 rfl rfl)
theorem dJ5_pollFirst_16 : decode cJ5_pollFirst 16 = .ok (.aload_n 3, 1) := dk_45 (dk_at dksJ5_pollFirst_0 16 rfl rfl)
theorem dJ5_pollFirst_17 : decode cJ5_pollFirst 17 = .ok (.ifnull 17, 3) := dk_198 0 17 (dk_at dksJ5_pollFirst_0 17 rfl rfl)
theorem dJ5_pollFirst_20 : decode cJ5_pollFirst 20 = .ok (.aload_n 1, 1) := dk_43 (dk_at dksJ5_pollFirst_0 20 rfl rfl)
theorem dJ5_pollFirst_21 : decode cJ5_pollFirst 21 = .ok (.iload_n 2, 1) := dk_28 (dk_at dksJ5_pollFirst_0 21 rfl rfl)
theorem dJ5_pollFirst_22 : decode cJ5_pollFirst 22 = .ok (.aconst_null, 1) := dk_1 (dk_at dksJ5_pollFirst_0 22 rfl rfl)
theorem dJ5_pollFirst_23 : decode cJ5_pollFirst 23 = .ok (.aastore, 1) := dk_83 (dk_at dksJ5_pollFirst_0 23 rfl rfl)
theorem dJ5_pollFirst_24 : decode cJ5_pollFirst 24 = .ok (.aload_n 0, 1) := dk_42 (dk_at dksJ5_pollFirst_1 0 rfl rfl)
theorem dJ5_pollFirst_25 : decode cJ5_pollFirst 25 = .ok (.iload_n 2, 1) := dk_28 (dk_at dksJ5_pollFirst_1 1 rfl rfl)
theorem dJ5_pollFirst_26 : decode cJ5_pollFirst 26 = .ok (.aload_n 1, 1) := dk_43 (dk_at dksJ5_pollFirst_1 2 rfl rfl)
theorem dJ5_pollFirst_27 : decode cJ5_pollFirst 27 = .ok (.arraylength, 1) := dk_190 (dk_at dksJ5_pollFirst_1 3 rfl rfl)
theorem dJ5_pollFirst_28 : decode cJ5_pollFirst 28 = .ok (.invokestatic 74, 3) := dk_184 0 74 (dk_at dksJ5_pollFirst_1 4 rfl rfl)
theorem dJ5_pollFirst_31 : decode cJ5_pollFirst 31 = .ok (.putfield 24, 3) := dk_181 0 24 (dk_at dksJ5_pollFirst_1 7 rfl rfl)
theorem dJ5_pollFirst_34 : decode cJ5_pollFirst 34 = .ok (.aload_n 3, 1) := dk_45 (dk_at dksJ5_pollFirst_1 10 rfl rfl)
theorem dJ5_pollFirst_35 : decode cJ5_pollFirst 35 = .ok (.areturn, 1) := dk_176 (dk_at dksJ5_pollFirst_1 11 rfl rfl)
def dkwJ5_inc_0 : List UInt8 := [132, 0, 1, 26, 27, 161, 0, 5, 3, 59, 26, 172]
abbrev dktJ5_inc_0 : List UInt8 := dkwJ5_inc_0 ++ []
theorem dksJ5_inc_0 : cJ5_inc.data.toList.drop 0 = dktJ5_inc_0 := by decide +kernel
theorem dJ5_inc_0 : decode cJ5_inc 0 = .ok (.iinc 0 1, 3) := dk_132 0 1 (dk_at dksJ5_inc_0 0 rfl rfl)
theorem dJ5_inc_3 : decode cJ5_inc 3 = .ok (.iload_n 0, 1) := dk_26 (dk_at dksJ5_inc_0 3 rfl rfl)
theorem dJ5_inc_4 : decode cJ5_inc 4 = .ok (.iload_n 1, 1) := dk_27 (dk_at dksJ5_inc_0 4 rfl rfl)
theorem dJ5_inc_5 : decode cJ5_inc 5 = .ok (.if_icmp .lt 5, 3) := dk_161 0 5 (dk_at dksJ5_inc_0 5 rfl rfl)
theorem dJ5_inc_8 : decode cJ5_inc 8 = .ok (.iconst 0, 1) := dk_3 (dk_at dksJ5_inc_0 8 rfl rfl)
theorem dJ5_inc_9 : decode cJ5_inc 9 = .ok (.istore_n 0, 1) := dk_59 (dk_at dksJ5_inc_0 9 rfl rfl)
theorem dJ5_inc_10 : decode cJ5_inc 10 = .ok (.iload_n 0, 1) := dk_26 (dk_at dksJ5_inc_0 10 rfl rfl)
theorem dJ5_inc_11 : decode cJ5_inc 11 = .ok (.ireturn, 1) := dk_172 (dk_at dksJ5_inc_0 11 rfl rfl)
theorem dJ5_pop_0 : decode cJ5_pop 0 = .ok (.aload_n 0, 1) := by decide +kernel
theorem dJ5_pop_1 : decode cJ5_pop 1 = .ok (.invokevirtual 118, 3) := by decide +kernel
theorem dJ5_pop_4 : decode cJ5_pop 4 = .ok (.areturn, 1) := by decide +kernel
def dkwJ5_push_0 : List UInt8 := [42, 43, 182, 0, 86, 177]
abbrev dktJ5_push_0 : List UInt8 := dkwJ5_push_0 ++ []
theorem dksJ5_push_0 : cJ5_push.data.toList.drop 0 = dktJ5_push_0 := by decide +kernel
theorem dJ5_push_0 : decode cJ5_push 0 = .ok (.aload_n 0, 1) := dk_42 (dk_at dksJ5_push_0 0 rfl rfl)
theorem dJ5_push_1 : decode cJ5_push 1 = .ok (.aload_n 1, 1) := dk_43 (dk_at dksJ5_push_0 1 rfl rfl)
theorem dJ5_push_2 : decode cJ5_push 2 = .ok (.invokevirtual 86, 3) := dk_182 0 86 (dk_at dksJ5_push_0 2 rfl rfl)
theorem dJ5_push_5 : decode cJ5_push 5 = .ok (.return_, 1) := dk_177 (dk_at dksJ5_push_0 5 rfl rfl)
def dkwJ5_addFirst_2 : List UInt8 := [182, 0, 71, 177]
abbrev dktJ5_addFirst_2 : List UInt8 := dkwJ5_addFirst_2 ++ []
def dkwJ5_addFirst_1 : List UInt8 := [190, 184, 0, 68, 90, 181, 0, 24, 43, 83, 42, 180, 0, 24, 42, 180, 0, 20, 160, 0, 8, 42, 4]
abbrev dktJ5_addFirst_1 : List UInt8 := dkwJ5_addFirst_1 ++ dktJ5_addFirst_2
def dkwJ5_addFirst_0 : List UInt8 := [43, 199, 0, 11, 187, 0, 65, 89, 183, 0, 67, 191, 42, 180, 0, 3, 77, 44, 42, 42, 180, 0, 24, 44]
abbrev dktJ5_addFirst_0 : List UInt8 := dkwJ5_addFirst_0 ++ dktJ5_addFirst_1
theorem dksJ5_addFirst_0 : cJ5_addFirst.data.toList.drop 0 = dktJ5_addFirst_0 := by decide +kernel
theorem dksJ5_addFirst_1 : cJ5_addFirst.data.toList.drop 24 = dktJ5_addFirst_1 := dk_seg dksJ5_addFirst_0 24 rfl rfl
theorem dksJ5_addFirst_2 : cJ5_addFirst.data.toList.drop 47 = dktJ5_addFirst_2 := dk_seg dksJ5_addFirst_1 23 rfl rfl
theorem dJ5_addFirst_0 : decode cJ5_addFirst 0 = .ok (.aload_n 1, 1) := dk_43 (dk_at dksJ5_addFirst_0 0 rfl rfl)
theorem dJ5_addFirst_1 : decode cJ5_addFirst 1 = .ok (.ifnonnull 11, 3) := dk_199 0 11 (dk_at dksJ5_addFirst_0 1 rfl rfl)
theorem dJ5_addFirst_4 : decode cJ5_addFirst 4 = .ok (.new 65, 3) := dk_187 0 65 (dk_at dksJ5_addFirst_0 4 rfl rfl)
theorem dJ5_addFirst_7 : decode cJ5_addFirst 7 = .ok (.dup, 1) := dk_89 (dk_at dksJ5_addFirst_0 7 rfl rfl)
theorem dJ5_addFirst_8 : decode cJ5_addFirst 8 = .ok (.invokespecial 67, 3) := dk_183 0 67 (dk_at dksJ5_addFirst_0 8 rfl rfl)
theorem dJ5_addFirst_11 : decode cJ5_addFirst 11 = .ok (.athrow, 1) := dk_191 (dk_at dksJ5_addFirst_0 11 rfl rfl)
theorem dJ5_addFirst_12 : decode cJ5_addFirst 12 = .ok (.aload_n 0, 1) := dk_42 (dk_at dksJ5_addFirst_0 12 rfl rfl)
theorem dJ5_addFirst_13 : decode cJ5_addFirst 13 = .ok (.getfield 3, 3) := dk_180 0 3 (dk_at dksJ5_addFirst_0 13 rfl rfl)
theorem dJ5_addFirst_16 : decode cJ5_addFirst 16 = .ok (.astore_n 2, 1) := dk_77 (dk_at dksJ5_addFirst_0 16 rfl rfl)
theorem dJ5_addFirst_17 : decode cJ5_addFirst 17 = .ok (.aload_n 2, 1) := dk_44 (dk_at dksJ5_addFirst_0 17 rfl rfl)
theorem dJ5_addFirst_18 : decode cJ5_addFirst 18 = .ok (.aload_n 0, 1) := dk_42 (dk_at dksJ5_addFirst_0 18 rfl rfl)
theorem dJ5_addFirst_19 : decode cJ5_addFirst 19 = .ok (.aload_n 0, 1) := dk_42 (dk_at dksJ5_addFirst_0 19 rfl rfl)
theorem dJ5_addFirst_20 : decode cJ5_addFirst 20 = .ok (.getfield 24, 3) := dk_180 0 24 (dk_at dksJ5_addFirst_0 20 rfl rfl)
theorem dJ5_addFirst_23 : decode cJ5_addFirst 23 = .ok (.aload_n 2, 1) := dk_44 (dk_at dksJ5_addFirst_0 23 rfl rfl)
theorem dJ5_addFirst_24 : decode cJ5_addFirst 24 = .ok (.arraylength, 1) := dk_190 (dk_at dksJ5_addFirst_1 0 rfl rfl)
theorem dJ5_addFirst_25 : decode cJ5_addFirst 25 = .ok (.invokestatic 68, 3) := dk_184 0 68 (dk_at dksJ5_addFirst_1 1 rfl rfl)
theorem dJ5_addFirst_28 : decode cJ5_addFirst 28 = .ok (.dup_x1, 1) := dk_90 (dk_at dksJ5_addFirst_1 4 rfl rfl)
theorem dJ5_addFirst_29 : decode cJ5_addFirst 29 = .ok (.putfield 24, 3) := dk_181 0 24 (dk_at dksJ5_addFirst_1 5 rfl rfl)
theorem dJ5_addFirst_32 : decode cJ5_addFirst 32 = .ok (.aload_n 1, 1) := dk_43 (dk_at dksJ5_addFirst_1 8 rfl rfl)
theorem dJ5_addFirst_33 : decode cJ5_addFirst 33 = .ok (.aastore, 1) := dk_83 (dk_at dksJ5_addFirst_1 9 rfl rfl)
theorem dJ5_addFirst_34 : decode cJ5_addFirst 34 = .ok (.aload_n 0, 1) := dk_42 (dk_at dksJ5_addFirst_1 10 rfl rfl)
theorem dJ5_addFirst_35 : decode cJ5_addFirst 35 = .ok (.getfield 24, 3) := dk_180 0 24 (dk_at dksJ5_addFirst_1 11 rfl rfl)
theorem dJ5_addFirst_38 : decode cJ5_addFirst 38 = .ok (.aload_n 0, 1) := dk_42 (dk_at dksJ5_addFirst_1 14 rfl rfl)
theorem dJ5_addFirst_39 : decode cJ5_addFirst 39 = .ok (.getfield 20, 3) := dk_180 0 20 (dk_at dksJ5_addFirst_1 15 rfl rfl)
theorem dJ5_addFirst_42 : decode cJ5_addFirst 42 = .ok (.if_icmp .ne 8, 3) := dk_160 0 8 (dk_at dksJ5_addFirst_1 18 rfl rfl)
theorem dJ5_addFirst_45 : decode cJ5_addFirst 45 = .ok (.aload_n 0, 1) := dk_42 (dk_at dksJ5_addFirst_1 21 rfl rfl)
theorem dJ5_addFirst_46 : decode cJ5_addFirst 46 = .ok (.iconst 1, 1) := dk_4 (dk_at dksJ5_addFirst_1 22 rfl rfl)
theorem dJ5_addFirst_47 : decode cJ5_addFirst 47 = .ok (.invokevirtual 71, 3) := dk_182 0 71 (dk_at dksJ5_addFirst_2 0 rfl rfl)
theorem dJ5_addFirst_50 : decode cJ5_addFirst 50 = .ok (.return_, 1) := dk_177 (dk_at dksJ5_addFirst_2 3 rfl rfl)
theorem dJ5_poll_0 : decode cJ5_poll 0 = .ok (.aload_n 0, 1) := by decide +kernel
theorem dJ5_poll_1 : decode cJ5_poll 1 = .ok (.invokevirtual 93, 3) := by decide +kernel
theorem dJ5_poll_4 : decode cJ5_poll 4 = .ok (.areturn, 1) := by decide +kernel
def dkwJ5_addLast_2 : List UInt8 := [182, 0, 71, 177]
abbrev dktJ5_addLast_2 : List UInt8 := dkwJ5_addLast_2 ++ []
def dkwJ5_addLast_1 : List UInt8 := [42, 180, 0, 24, 42, 42, 180, 0, 20, 44, 190, 184, 0, 74, 90, 181, 0, 20, 160, 0, 8, 42, 4]
abbrev dktJ5_addLast_1 : List UInt8 := dkwJ5_addLast_1 ++ dktJ5_addLast_2
def dkwJ5_addLast_0 : List UInt8 := [43, 199, 0, 11, 187, 0, 65, 89, 183, 0, 67, 191, 42, 180, 0, 3, 77, 44, 42, 180, 0, 20, 43, 83]
abbrev dktJ5_addLast_0 : List UInt8 := dkwJ5_addLast_0 ++ dktJ5_addLast_1
theorem dksJ5_addLast_0 : cJ5_addLast.data.toList.drop 0 = dktJ5_addLast_0 := by decide +kernel
theorem dksJ5_addLast_1 : cJ5_addLast.data.toList.drop 24 = dktJ5_addLast_1 := dk_seg dksJ5_addLast_0 24 rfl rfl
theorem dksJ5_addLast_2 : cJ5_addLast.data.toList.drop 47 = dktJ5_addLast_2 := dk_seg dksJ5_addLast_1 23 rfl rfl
theorem dJ5_addLast_0 : decode cJ5_addLast 0 = .ok (.aload_n 1, 1) := dk_43 (dk_at dksJ5_addLast_0 0 rfl rfl)
theorem dJ5_addLast_1 : decode cJ5_addLast 1 = .ok (.ifnonnull 11, 3) := dk_199 0 11 (dk_at dksJ5_addLast_0 1 rfl rfl)
theorem dJ5_addLast_4 : decode cJ5_addLast 4 = .ok (.new 65, 3) := dk_187 0 65 (dk_at dksJ5_addLast_0 4 rfl rfl)
theorem dJ5_addLast_7 : decode cJ5_addLast 7 = .ok (.dup, 1) := dk_89 (dk_at dksJ5_addLast_0 7 rfl rfl)
theorem dJ5_addLast_8 : decode cJ5_addLast 8 = .ok (.invokespecial 67, 3) := dk_183 0 67 (dk_at dksJ5_addLast_0 8 rfl rfl)
theorem dJ5_addLast_11 : decode cJ5_addLast 11 = .ok (.athrow, 1) := dk_191 (dk_at dksJ5_addLast_0 11 rfl rfl)
theorem dJ5_addLast_12 : decode cJ5_addLast 12 = .ok (.aload_n 0, 1) := dk_42 (dk_at dksJ5_addLast_0 12 rfl rfl)
theorem dJ5_addLast_13 : decode cJ5_addLast 13 = .ok (.getfield 3, 3) := dk_180 0 3 (dk_at dksJ5_addLast_0 13 rfl rfl)
theorem dJ5_addLast_16 : decode cJ5_addLast 16 = .ok (.astore_n 2, 1) := dk_77 (dk_at dksJ5_addLast_0 16 rfl rfl)
theorem dJ5_addLast_17 : decode cJ5_addLast 17 = .ok (.aload_n 2, 1) := dk_44 (dk_at dksJ5_addLast_0 17 rfl rfl)
theorem dJ5_addLast_18 : decode cJ5_addLast 18 = .ok (.aload_n 0, 1) := dk_42 (dk_at dksJ5_addLast_0 18 rfl rfl)
theorem dJ5_addLast_19 : decode cJ5_addLast 19 = .ok (.getfield 20, 3) := dk_180 0 20 (dk_at dksJ5_addLast_0 19 rfl rfl)
theorem dJ5_addLast_22 : decode cJ5_addLast 22 = .ok (.aload_n 1, 1) := dk_43 (dk_at dksJ5_addLast_0 22 rfl rfl)
theorem dJ5_addLast_23 : decode cJ5_addLast 23 = .ok (.aastore, 1) := dk_83 (dk_at dksJ5_addLast_0 23 rfl rfl)
theorem dJ5_addLast_24 : decode cJ5_addLast 24 = .ok (.aload_n 0, 1) := dk_42 (dk_at dksJ5_addLast_1 0 rfl rfl)
theorem dJ5_addLast_25 : decode cJ5_addLast 25 = .ok (.getfield 24, 3) := dk_180 0 24 (dk_at dksJ5_addLast_1 1 rfl rfl)
theorem dJ5_addLast_28 : decode cJ5_addLast 28 = .ok (.aload_n 0, 1) := dk_42 (dk_at dksJ5_addLast_1 4 rfl rfl)
theorem dJ5_addLast_29 : decode cJ5_addLast 29 = .ok (.aload_n 0, 1) := dk_42 (dk_at dksJ5_addLast_1 5 rfl rfl)
theorem dJ5_addLast_30 : decode cJ5_addLast 30 = .ok (.getfield 20, 3) := dk_180 0 20 (dk_at dksJ5_addLast_1 6 rfl rfl)
theorem dJ5_addLast_33 : decode cJ5_addLast 33 = .ok (.aload_n 2, 1) := dk_44 (dk_at dksJ5_addLast_1 9 rfl rfl)
theorem dJ5_addLast_34 : decode cJ5_addLast 34 = .ok (.arraylength, 1) := dk_190 (dk_at dksJ5_addLast_1 10 rfl rfl)
theorem dJ5_addLast_35 : decode cJ5_addLast 35 = .ok (.invokestatic 74, 3) := dk_184 0 74 (dk_at dksJ5_addLast_1 11 rfl rfl)
theorem dJ5_addLast_38 : decode cJ5_addLast 38 = .ok (.dup_x1, 1) := dk_90 (dk_at dksJ5_addLast_1 14 rfl rfl)
theorem dJ5_addLast_39 : decode cJ5_addLast 39 = .ok (.putfield 20, 3) := dk_181 0 20 (dk_at dksJ5_addLast_1 15 rfl rfl)
theorem dJ5_addLast_42 : decode cJ5_addLast 42 = .ok (.if_icmp .ne 8, 3) := dk_160 0 8 (dk_at dksJ5_addLast_1 18 rfl rfl)
theorem dJ5_addLast_45 : decode cJ5_addLast 45 = .ok (.aload_n 0, 1) := dk_42 (dk_at dksJ5_addLast_1 21 rfl rfl)
theorem dJ5_addLast_46 : decode cJ5_addLast 46 = .ok (.iconst 1, 1) := dk_4 (dk_at dksJ5_addLast_1 22 rfl rfl)
theorem dJ5_addLast_47 : decode cJ5_addLast 47 = .ok (.invokevirtual 71, 3) := dk_182 0 71 (dk_at dksJ5_addLast_2 0 rfl rfl)
theorem dJ5_addLast_50 : decode cJ5_addLast 50 = .ok (.return_, 1) := dk_177 (dk_at dksJ5_addLast_2 3 rfl rfl)
