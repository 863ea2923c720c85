set_option maxRecDepth 100000
def dkwX3_init_3 : List UInt8 := [181, 0, 28, 177]
abbrev dktX3_init_3 : List UInt8 := dkwX3_init_3 ++ []
def dkwX3_init_2 : List UInt8 := [186, 0, 25, 0, 0, 83, 89, 7, 42, 186, 0, 26, 0, 0, 83, 89, 8, 42, 186, 0, 27, 0, 0, 83]
abbrev dktX3_init_2 : List UInt8 := dkwX3_init_2 ++ dktX3_init_3
def dkwX3_init_1 : List UInt8 := [83, 89, 4, 42, 186, 0, 21, 0, 0, 83, 89, 5, 186, 0, 24, 0, 0, 83, 89, 6, 42]
abbrev dktX3_init_1 : List UInt8 := dkwX3_init_1 ++ dktX3_init_2
def dkwX3_init_0 : List UInt8 := [42, 183, 0, 3, 42, 17, 39, 16, 181, 0, 9, 42, 16, 6, 189, 0, 15, 89, 3, 186, 0, 17, 0, 0]
abbrev dktX3_init_0 : List UInt8 := dkwX3_init_0 ++ dktX3_init_1
theorem dksX3_init_0 : cX3_init.data.toList.drop 0 = dktX3_init_0 := by decide +kernel
theorem dksX3_init_1 : cX3_init.data.toList.drop 24 = dktX3_init_1 := dk_seg dksX3_init_0 24 rfl rfl
theorem dksX3_init_2 : cX3_init.data.toList.drop 45 = dktX3_init_2 := dk_seg dksX3_init_1 21 rfl rfl
theorem dksX3_init_3 : cX3_init.data.toList.drop 69 = dktX3_init_3 := dk_seg dksX3_init_2 24 rfl rfl
theorem dX3_init_0 : decode cX3_init 0 = .ok (.aload_n 0, 1) := dk_42 (dk_at dksX3_init_0 0 rfl rfl)
theorem dX3_init_1 : decode cX3_init 1 = .ok (.invokespecial 3, 3) := dk_183 0 3 (dk_at dksX3_init_0 1 rfl rfl)
theorem dX3_init_4 : decode cX3_init 4 = .ok (.aload_n 0, 1) := dk_42 (dk_at dksX3_init_0 4 rfl rfl)
theorem dX3_init_5 : decode cX3_init 5 = .ok (.sipush 10000, 3) := dk_17 39 16 (dk_at dksX3_init_0 5 rfl rfl)
theorem dX3_init_8 : decode cX3_init 8 = .ok (.putfield 9, 3) := dk_181 0 9 (dk_at dksX3_init_0 8 rfl rfl)
theorem dX3_init_11 : decode cX3_init 11 = .ok (.aload_n 0, 1) := dk_42 (dk_at dksX3_init_0 11 rfl rfl)
theorem dX3_init_12 : decode cX3_init 12 = .ok (.bipush 6, 2) := dk_16 6 (dk_at dksX3_init_0 12 rfl rfl)
theorem dX3_init_14 : decode cX3_init 14 = .ok (.anewarray 15, 3) := dk_189 0 15 (dk_at dksX3_init_0 14 rfl rfl)
theorem dX3_init_17 : decode cX3_init 17 = .ok (.dup, 1) := dk_89 (dk_at dksX3_init_0 17 rfl rfl)
theorem dX3_init_18 : decode cX3_init 18 = .ok (.iconst 0, 1) := dk_3 (dk_at dksX3_init_0 18 rfl rfl)
theorem dX3_init_19 : decode cX3_init 19 = .ok (.invokedynamic 17, 5) := by decide +kernel
theorem dX3_init_24 : decode cX3_init 24 = .ok (.aastore, 1) := dk_83 (dk_at dksX3_init_1 0 rfl rfl)
theorem dX3_init_25 : decode cX3_init 25 = .ok (.dup, 1) := dk_89 (dk_at dksX3_init_1 1 rfl rfl)
theorem dX3_init_26 : decode cX3_init 26 = .ok (.iconst 1, 1) := dk_4 (dk_at dksX3_init_1 2 rfl rfl)
theorem dX3_init_27 : decode cX3_init 27 = .ok (.aload_n 0, 1) := dk_42 (dk_at dksX3_init_1 3 rfl rfl)
theorem dX3_init_28 : decode cX3_init 28 = .ok (.invokedynamic 21, 5) := by decide +kernel
theorem dX3_init_33 : decode cX3_init 33 = .ok (.aastore, 1) := dk_83 (dk_at dksX3_init_1 9 rfl rfl)
theorem dX3_init_34 : decode cX3_init 34 = .ok (.dup, 1) := dk_89 (dk_at dksX3_init_1 10 rfl rfl)
theorem dX3_init_35 : decode cX3_init 35 = .ok (.iconst 2, 1) := dk_5 (dk_at dksX3_init_1 11 rfl rfl)
theorem dX3_init_36 : decode cX3_init 36 = .ok (.invokedynamic 24, 5) := by decide +kernel
theorem dX3_init_41 : decode cX3_init 41 = .ok (.aastore, 1) := dk_83 (dk_at dksX3_init_1 17 rfl rfl)
theorem dX3_init_42 : decode cX3_init 42 = .ok (.dup, 1) := dk_89 (dk_at dksX3_init_1 18 rfl rfl)
theorem dX3_init_43 : decode cX3_init 43 = .ok (.iconst 3, 1) := dk_6 (dk_at dksX3_init_1 19 rfl rfl)
theorem dX3_init_44 : decode cX3_init 44 = .ok (.aload_n 0, 1) := dk_42 (dk_at dksX3_init_1 20 rfl rfl)
theorem dX3_init_45 : decode cX3_init 45 = .ok (.invokedynamic 25, 5) := by decide +kernel
theorem dX3_init_50 : decode cX3_init 50 = .ok (.aastore, 1) := dk_83 (dk_at dksX3_init_2 5 rfl rfl)
theorem dX3_init_51 : decode cX3_init 51 = .ok (.dup, 1) := dk_89 (dk_at dksX3_init_2 6 rfl rfl)
theorem dX3_init_52 : decode cX3_init 52 = .ok (.iconst 4, 1) := dk_7 (dk_at dksX3_init_2 7 rfl rfl)
theorem dX3_init_53 : decode cX3_init 53 = .ok (.aload_n 0, 1) := dk_42 (dk_at dksX3_init_2 8 rfl rfl)
theorem dX3_init_54 : decode cX3_init 54 = .ok (.invokedynamic 26, 5) := by decide +kernel
theorem dX3_init_59 : decode cX3_init 59 = .ok (.aastore, 1) := dk_83 (dk_at dksX3_init_2 14 rfl rfl)
theorem dX3_init_60 : decode cX3_init 60 = .ok (.dup, 1) := dk_89 (dk_at dksX3_init_2 15 rfl rfl)
theorem dX3_init_61 : decode cX3_init 61 = .ok (.iconst 5, 1) := dk_8 (dk_at dksX3_init_2 16 rfl rfl)
theorem dX3_init_62 : decode cX3_init 62 = .ok (.aload_n 0, 1) := dk_42 (dk_at dksX3_init_2 17 rfl rfl)
theorem dX3_init_63 : decode cX3_init 63 = .ok (.invokedynamic 27, 5) := by decide +kernel
theorem dX3_init_68 : decode cX3_init 68 = .ok (.aastore, 1) := dk_83 (dk_at dksX3_init_2 23 rfl rfl)
theorem dX3_init_69 : decode cX3_init 69 = .ok (.putfield 28, 3) := dk_181 0 28 (dk_at dksX3_init_3 0 rfl rfl)
theorem dX3_init_72 : decode cX3_init 72 = .ok (.return_, 1) := dk_177 (dk_at dksX3_init_3 3 rfl rfl)
def dkwX3_lambda_new_0_0 : List UInt8 := [42, 27, 28, 79, 177]
abbrev dktX3_lambda_new_0_0 : List UInt8 := dkwX3_lambda_new_0_0 ++ []
theorem dksX3_lambda_new_0_0 : cX3_lambda_new_0.data.toList.drop 0 = dktX3_lambda_new_0_0 := by decide +kernel
theorem dX3_lambda_new_0_0 : decode cX3_lambda_new_0 0 = .ok (.aload_n 0, 1) := dk_42 (dk_at dksX3_lambda_new_0_0 0 rfl rfl)
theorem dX3_lambda_new_0_1 : decode cX3_lambda_new_0 1 = .ok (.iload_n 1, 1) := dk_27 (dk_at dksX3_lambda_new_0_0 1 rfl rfl)
theorem dX3_lambda_new_0_2 : decode cX3_lambda_new_0 2 = .ok (.iload_n 2, 1) := dk_28 (dk_at dksX3_lambda_new_0_0 2 rfl rfl)
theorem dX3_lambda_new_0_3 : decode cX3_lambda_new_0 3 = .ok (.iastore, 1) := dk_79 (dk_at dksX3_lambda_new_0_0 3 rfl rfl)
theorem dX3_lambda_new_0_4 : decode cX3_lambda_new_0 4 = .ok (.return_, 1) := dk_177 (dk_at dksX3_lambda_new_0_0 4 rfl rfl)
def dkwX3_lambda_new_1_0 : List UInt8 := [43, 28, 43, 28, 46, 29, 96, 17, 39, 16, 112, 79, 177]
abbrev dktX3_lambda_new_1_0 : List UInt8 := dkwX3_lambda_new_1_0 ++ []
theorem dksX3_lambda_new_1_0 : cX3_lambda_new_1.data.toList.drop 0 = dktX3_lambda_new_1_0 := by decide +kernel
theorem dX3_lambda_new_1_0 : decode cX3_lambda_new_1 0 = .ok (.aload_n 1, 1) := dk_43 (dk_at dksX3_lambda_new_1_0 0 rfl rfl)
theorem dX3_lambda_new_1_1 : decode cX3_lambda_new_1 1 = .ok (.iload_n 2, 1) := dk_28 (dk_at dksX3_lambda_new_1_0 1 rfl rfl)
theorem dX3_lambda_new_1_2 : decode cX3_lambda_new_1 2 = .ok (.aload_n 1, 1) := dk_43 (dk_at dksX3_lambda_new_1_0 2 rfl rfl)
theorem dX3_lambda_new_1_3 : decode cX3_lambda_new_1 3 = .ok (.iload_n 2, 1) := dk_28 (dk_at dksX3_lambda_new_1_0 3 rfl rfl)
theorem dX3_lambda_new_1_4 : decode cX3_lambda_new_1 4 = .ok (.iaload, 1) := dk_46 (dk_at dksX3_lambda_new_1_0 4 rfl rfl)
theorem dX3_lambda_new_1_5 : decode cX3_lambda_new_1 5 = .ok (.iload_n 3, 1) := dk_29 (dk_at dksX3_lambda_new_1_0 5 rfl rfl)
theorem dX3_lambda_new_1_6 : decode cX3_lambda_new_1 6 = .ok (.iadd, 1) := dk_96 (dk_at dksX3_lambda_new_1_0 6 rfl rfl)
theorem dX3_lambda_new_1_7 : decode cX3_lambda_new_1 7 = .ok (.sipush 10000, 3) := dk_17 39 16 (dk_at dksX3_lambda_new_1_0 7 rfl rfl)
theorem dX3_lambda_new_1_10 : decode cX3_lambda_new_1 10 = .ok (.irem, 1) := dk_112 (dk_at dksX3_lambda_new_1_0 10 rfl rfl)
theorem dX3_lambda_new_1_11 : decode cX3_lambda_new_1 11 = .ok (.iastore, 1) := dk_79 (dk_at dksX3_lambda_new_1_0 11 rfl rfl)
theorem dX3_lambda_new_1_12 : decode cX3_lambda_new_1 12 = .ok (.return_, 1) := dk_177 (dk_at dksX3_lambda_new_1_0 12 rfl rfl)
def dkwX3_lambda_new_2_0 : List UInt8 := [42, 27, 42, 28, 46, 79, 177]
abbrev dktX3_lambda_new_2_0 : List UInt8 := dkwX3_lambda_new_2_0 ++ []
theorem dksX3_lambda_new_2_0 : cX3_lambda_new_2.data.toList.drop 0 = dktX3_lambda_new_2_0 := by decide +kernel
theorem dX3_lambda_new_2_0 : decode cX3_lambda_new_2 0 = .ok (.aload_n 0, 1) := dk_42 (dk_at dksX3_lambda_new_2_0 0 rfl rfl)
theorem dX3_lambda_new_2_1 : decode cX3_lambda_new_2 1 = .ok (.iload_n 1, 1) := dk_27 (dk_at dksX3_lambda_new_2_0 1 rfl rfl)
theorem dX3_lambda_new_2_2 : decode cX3_lambda_new_2 2 = .ok (.aload_n 0, 1) := dk_42 (dk_at dksX3_lambda_new_2_0 2 rfl rfl)
theorem dX3_lambda_new_2_3 : decode cX3_lambda_new_2 3 = .ok (.iload_n 2, 1) := dk_28 (dk_at dksX3_lambda_new_2_0 3 rfl rfl)
theorem dX3_lambda_new_2_4 : decode cX3_lambda_new_2 4 = .ok (.iaload, 1) := dk_46 (dk_at dksX3_lambda_new_2_0 4 rfl rfl)
theorem dX3_lambda_new_2_5 : decode cX3_lambda_new_2 5 = .ok (.iastore, 1) := dk_79 (dk_at dksX3_lambda_new_2_0 5 rfl rfl)
theorem dX3_lambda_new_2_6 : decode cX3_lambda_new_2 6 = .ok (.return_, 1) := dk_177 (dk_at dksX3_lambda_new_2_0 6 rfl rfl)
def dkwX3_lambda_new_3_0 : List UInt8 := [43, 28, 43, 28, 46, 43, 29, 46, 96, 17, 39, 16, 112, 79, 177]
abbrev dktX3_lambda_new_3_0 : List UInt8 := dkwX3_lambda_new_3_0 ++ []
theorem dksX3_lambda_new_3_0 : cX3_lambda_new_3.data.toList.drop 0 = dktX3_lambda_new_3_0 := by decide +kernel
theorem dX3_lambda_new_3_0 : decode cX3_lambda_new_3 0 = .ok (.aload_n 1, 1) := dk_43 (dk_at dksX3_lambda_new_3_0 0 rfl rfl)
theorem dX3_lambda_new_3_1 : decode cX3_lambda_new_3 1 = .ok (.iload_n 2, 1) := dk_28 (dk_at dksX3_lambda_new_3_0 1 rfl rfl)
theorem dX3_lambda_new_3_2 : decode cX3_lambda_new_3 2 = .ok (.aload_n 1, 1) := dk_43 (dk_at dksX3_lambda_new_3_0 2 rfl rfl)
theorem dX3_lambda_new_3_3 : decode cX3_lambda_new_3 3 = .ok (.iload_n 2, 1) := dk_28 (dk_at dksX3_lambda_new_3_0 3 rfl rfl)
theorem dX3_lambda_new_3_4 : decode cX3_lambda_new_3 4 = .ok (.iaload, 1) := dk_46 (dk_at dksX3_lambda_new_3_0 4 rfl rfl)
theorem dX3_lambda_new_3_5 : decode cX3_lambda_new_3 5 = .ok (.aload_n 1, 1) := dk_43 (dk_at dksX3_lambda_new_3_0 5 rfl rfl)
theorem dX3_lambda_new_3_6 : decode cX3_lambda_new_3 6 = .ok (.iload_n 3, 1) := dk_29 (dk_at dksX3_lambda_new_3_0 6 rfl rfl)
theorem dX3_lambda_new_3_7 : decode cX3_lambda_new_3 7 = .ok (.iaload, 1) := dk_46 (dk_at dksX3_lambda_new_3_0 7 rfl rfl)
theorem dX3_lambda_new_3_8 : decode cX3_lambda_new_3 8 = .ok (.iadd, 1) := dk_96 (dk_at dksX3_lambda_new_3_0 8 rfl rfl)
theorem dX3_lambda_new_3_9 : decode cX3_lambda_new_3 9 = .ok (.sipush 10000, 3) := dk_17 39 16 (dk_at dksX3_lambda_new_3_0 9 rfl rfl)
theorem dX3_lambda_new_3_12 : decode cX3_lambda_new_3 12 = .ok (.irem, 1) := dk_112 (dk_at dksX3_lambda_new_3_0 12 rfl rfl)
theorem dX3_lambda_new_3_13 : decode cX3_lambda_new_3 13 = .ok (.iastore, 1) := dk_79 (dk_at dksX3_lambda_new_3_0 13 rfl rfl)
theorem dX3_lambda_new_3_14 : decode cX3_lambda_new_3 14 = .ok (.return_, 1) := dk_177 (dk_at dksX3_lambda_new_3_0 14 rfl rfl)
def dkwX3_swap_0 : List UInt8 := [43, 28, 46, 54, 4, 43, 28, 43, 29, 46, 79, 43, 29, 21, 4, 79, 177]
abbrev dktX3_swap_0 : List UInt8 := dkwX3_swap_0 ++ []
theorem dksX3_swap_0 : cX3_swap.data.toList.drop 0 = dktX3_swap_0 := by decide +kernel
theorem dX3_swap_0 : decode cX3_swap 0 = .ok (.aload_n 1, 1) := dk_43 (dk_at dksX3_swap_0 0 rfl rfl)
theorem dX3_swap_1 : decode cX3_swap 1 = .ok (.iload_n 2, 1) := dk_28 (dk_at dksX3_swap_0 1 rfl rfl)
theorem dX3_swap_2 : decode cX3_swap 2 = .ok (.iaload, 1) := dk_46 (dk_at dksX3_swap_0 2 rfl rfl)
theorem dX3_swap_3 : decode cX3_swap 3 = .ok (.istore 4, 2) := dk_54 4 (dk_at dksX3_swap_0 3 rfl rfl)
theorem dX3_swap_5 : decode cX3_swap 5 = .ok (.aload_n 1, 1) := dk_43 (dk_at dksX3_swap_0 5 rfl rfl)
theorem dX3_swap_6 : decode cX3_swap 6 = .ok (.iload_n 2, 1) := dk_28 (dk_at dksX3_swap_0 6 rfl rfl)
theorem dX3_swap_7 : decode cX3_swap 7 = .ok (.aload_n 1, 1) := dk_43 (dk_at dksX3_swap_0 7 rfl rfl)
theorem dX3_swap_8 : decode cX3_swap 8 = .ok (.iload_n 3, 1) := dk_29 (dk_at dksX3_swap_0 8 rfl rfl)
theorem dX3_swap_9 : decode cX3_swap 9 = .ok (.iaload, 1) := dk_46 (dk_at dksX3_swap_0 9 rfl rfl)
theorem dX3_swap_10 : decode cX3_swap 10 = .ok (.iastore, 1) := dk_79 (dk_at dksX3_swap_0 10 rfl rfl)
theorem dX3_swap_11 : decode cX3_swap 11 = .ok (.aload_n 1, 1) := dk_43 (dk_at dksX3_swap_0 11 rfl rfl)
theorem dX3_swap_12 : decode cX3_swap 12 = .ok (.iload_n 3, 1) := dk_29 (dk_at dksX3_swap_0 12 rfl rfl)
theorem dX3_swap_13 : decode cX3_swap 13 = .ok (.iload 4, 2) := dk_21 4 (dk_at dksX3_swap_0 13 rfl rfl)
theorem dX3_swap_15 : decode cX3_swap 15 = .ok (.iastore, 1) := dk_79 (dk_at dksX3_swap_0 15 rfl rfl)
theorem dX3_swap_16 : decode cX3_swap 16 = .ok (.return_, 1) := dk_177 (dk_at dksX3_swap_0 16 rfl rfl)
def dkwX3_lambda_new_4_0 : List UInt8 := [43, 28, 43, 28, 46, 43, 29, 46, 104, 17, 39, 16, 112, 79, 177]
abbrev dktX3_lambda_new_4_0 : List UInt8 := dkwX3_lambda_new_4_0 ++ []
theorem dksX3_lambda_new_4_0 : cX3_lambda_new_4.data.toList.drop 0 = dktX3_lambda_new_4_0 := by decide +kernel
theorem dX3_lambda_new_4_0 : decode cX3_lambda_new_4 0 = .ok (.aload_n 1, 1) := dk_43 (dk_at dksX3_lambda_new_4_0 0 rfl rfl)
theorem dX3_lambda_new_4_1 : decode cX3_lambda_new_4 1 = .ok (.iload_n 2, 1) := dk_28 (dk_at dksX3_lambda_new_4_0 1 rfl rfl)
theorem dX3_lambda_new_4_2 : decode cX3_lambda_new_4 2 = .ok (.aload_n 1, 1) := dk_43 (dk_at dksX3_lambda_new_4_0 2 rfl rfl)
theorem dX3_lambda_new_4_3 : decode cX3_lambda_new_4 3 = .ok (.iload_n 2, 1) := dk_28 (dk_at dksX3_lambda_new_4_0 3 rfl rfl)
theorem dX3_lambda_new_4_4 : decode cX3_lambda_new_4 4 = .ok (.iaload, 1) := dk_46 (dk_at dksX3_lambda_new_4_0 4 rfl rfl)
theorem dX3_lambda_new_4_5 : decode cX3_lambda_new_4 5 = .ok (.aload_n 1, 1) := dk_43 (dk_at dksX3_lambda_new_4_0 5 rfl rfl)
theorem dX3_lambda_new_4_6 : decode cX3_lambda_new_4 6 = .ok (.iload_n 3, 1) := dk_29 (dk_at dksX3_lambda_new_4_0 6 rfl rfl)
theorem dX3_lambda_new_4_7 : decode cX3_lambda_new_4 7 = .ok (.iaload, 1) := dk_46 (dk_at dksX3_lambda_new_4_0 7 rfl rfl)
theorem dX3_lambda_new_4_8 : decode cX3_lambda_new_4 8 = .ok (.imul, 1) := dk_104 (dk_at dksX3_lambda_new_4_0 8 rfl rfl)
theorem dX3_lambda_new_4_9 : decode cX3_lambda_new_4 9 = .ok (.sipush 10000, 3) := dk_17 39 16 (dk_at dksX3_lambda_new_4_0 9 rfl rfl)
theorem dX3_lambda_new_4_12 : decode cX3_lambda_new_4 12 = .ok (.irem, 1) := dk_112 (dk_at dksX3_lambda_new_4_0 12 rfl rfl)
theorem dX3_lambda_new_4_13 : decode cX3_lambda_new_4 13 = .ok (.iastore, 1) := dk_79 (dk_at dksX3_lambda_new_4_0 13 rfl rfl)
theorem dX3_lambda_new_4_14 : decode cX3_lambda_new_4 14 = .ok (.return_, 1) := dk_177 (dk_at dksX3_lambda_new_4_0 14 rfl rfl)
def dkwX3_execute_2 : List UInt8 := [185, 0, 43, 4, 0, 132, 5, 1, 167, 255, 214, 177]
abbrev dktX3_execute_2 : List UInt8 := dkwX3_execute_2 ++ []
def dkwX3_execute_1 : List UInt8 := [180, 0, 28, 25, 6, 180, 0, 32, 50, 44, 25, 6, 180, 0, 37, 25, 6, 180, 0, 40]
abbrev dktX3_execute_1 : List UInt8 := dkwX3_execute_1 ++ dktX3_execute_2
def dkwX3_execute_0 : List UInt8 := [43, 78, 45, 190, 54, 4, 3, 54, 5, 21, 5, 21, 4, 162, 0, 41, 45, 21, 5, 50, 58, 6, 42]
abbrev dktX3_execute_0 : List UInt8 := dkwX3_execute_0 ++ dktX3_execute_1
theorem dksX3_execute_0 : cX3_execute.data.toList.drop 0 = dktX3_execute_0 := by decide +kernel
theorem dksX3_execute_1 : cX3_execute.data.toList.drop 23 = dktX3_execute_1 := dk_seg dksX3_execute_0 23 rfl rfl
theorem dksX3_execute_2 : cX3_execute.data.toList.drop 43 = dktX3_execute_2 := dk_seg dksX3_execute_1 20 rfl rfl
theorem dX3_execute_0 : decode cX3_execute 0 = .ok (.aload_n 1, 1) := dk_43 (dk_at dksX3_execute_0 0 rfl rfl)
theorem dX3_execute_1 : decode cX3_execute 1 = .ok (.astore_n 3, 1) := dk_78 (dk_at dksX3_execute_0 1 rfl rfl)
theorem dX3_execute_2 : decode cX3_execute 2 = .ok (.aload_n 3, 1) := dk_45 (dk_at dksX3_execute_0 2 rfl rfl)
theorem dX3_execute_3 : decode cX3_execute 3 = .ok (.arraylength, 1) := dk_190 (dk_at dksX3_execute_0 3 rfl rfl)
theorem dX3_execute_4 : decode cX3_execute 4 = .ok (.istore 4, 2) := dk_54 4 (dk_at dksX3_execute_0 4 rfl rfl)
theorem dX3_execute_6 : decode cX3_execute 6 = .ok (.iconst 0, 1) := dk_3 (dk_at dksX3_execute_0 6 rfl rfl)
theorem dX3_execute_7 : decode cX3_execute 7 = .ok (.istore 5, 2) := dk_54 5 (dk_at dksX3_execute_0 7 rfl rfl)
theorem dX3_execute_9 : decode cX3_execute 9 = .ok (.iload 5, 2) := dk_21 5 (dk_at dksX3_execute_0 9 rfl rfl)
theorem dX3_execute_11 : decode cX3_execute 11 = .ok (.iload 4, 2) := dk_21 4 (dk_at dksX3_execute_0 11 rfl rfl)
theorem dX3_execute_13 : decode cX3_execute 13 = .ok (.if_icmp .ge 41, 3) := dk_162 0 41 (dk_at dksX3_execute_0 13 rfl rfl)
theorem dX3_execute_16 : decode cX3_execute 16 = .ok (.aload_n 3, 1) := dk_45 (dk_at dksX3_execute_0 16 rfl rfl)
theorem dX3_execute_17 : decode cX3_execute 17 = .ok (.iload 5, 2) := dk_21 5 (dk_at dksX3_execute_0 17 rfl rfl)
theorem dX3_execute_19 : decode cX3_execute 19 = .ok (.aaload, 1) := dk_50 (dk_at dksX3_execute_0 19 rfl rfl)
theorem dX3_execute_20 : decode cX3_execute 20 = .ok (.astore 6, 2) := dk_58 6 (dk_at dksX3_execute_0 20 rfl rfl)
theorem dX3_execute_22 : decode cX3_execute 22 = .ok (.aload_n 0, 1) := dk_42 (dk_at dksX3_execute_0 22 rfl rfl)
theorem dX3_execute_23 : decode cX3_execute 23 = .ok (.getfield 28, 3) := dk_180 0 28 (dk_at dksX3_execute_1 0 rfl rfl)
theorem dX3_execute_26 : decode cX3_execute 26 = .ok (.aload 6, 2) := dk_25 6 (dk_at dksX3_execute_1 3 rfl rfl)
theorem dX3_execute_28 : decode cX3_execute 28 = .ok (.getfield 32, 3) := dk_180 0 32 (dk_at dksX3_execute_1 5 rfl rfl)
theorem dX3_execute_31 : decode cX3_execute 31 = .ok (.aaload, 1) := dk_50 (dk_at dksX3_execute_1 8 rfl rfl)
theorem dX3_execute_32 : decode cX3_execute 32 = .ok (.aload_n 2, 1) := dk_44 (dk_at dksX3_execute_1 9 rfl rfl)
theorem dX3_execute_33 : decode cX3_execute 33 = .ok (.aload 6, 2) := dk_25 6 (dk_at dksX3_execute_1 10 rfl rfl)
theorem dX3_execute_35 : decode cX3_execute 35 = .ok (.getfield 37, 3) := dk_180 0 37 (dk_at dksX3_execute_1 12 rfl rfl)
theorem dX3_execute_38 : decode cX3_execute 38 = .ok (.aload 6, 2) := dk_25 6 (dk_at dksX3_execute_1 15 rfl rfl)
theorem dX3_execute_40 : decode cX3_execute 40 = .ok (.getfield 40, 3) := dk_180 0 40 (dk_at dksX3_execute_1 17 rfl rfl)
theorem dX3_execute_43 : decode cX3_execute 43 = .ok (.invokeinterface 43 4, 5) := by decide +kernel
theorem dX3_execute_48 : decode cX3_execute 48 = .ok (.iinc 5 1, 3) := dk_132 5 1 (dk_at dksX3_execute_2 5 rfl rfl)
theorem dX3_execute_51 : decode cX3_execute 51 = .ok (.goto (-42), 3) := dk_167 255 214 (dk_at dksX3_execute_2 8 rfl rfl)
theorem dX3_execute_54 : decode cX3_execute 54 = .ok (.return_, 1) := dk_177 (dk_at dksX3_execute_2 11 rfl rfl)
