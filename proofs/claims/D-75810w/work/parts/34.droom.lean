set_option maxRecDepth 100000
def dkwX2_init_3 : List UInt8 := [183, 0, 48, 181, 0, 51, 42, 187, 0, 33, 89, 183, 0, 35, 181, 0, 55, 177]
abbrev dktX2_init_3 : List UInt8 := dkwX2_init_3 ++ []
def dkwX2_init_2 : List UInt8 := [187, 0, 33, 89, 183, 0, 35, 181, 0, 40, 42, 187, 0, 43, 89, 16, 8, 187, 0, 45, 89, 183, 0, 47]
abbrev dktX2_init_2 : List UInt8 := dkwX2_init_2 ++ dktX2_init_3
def dkwX2_init_1 : List UInt8 := [178, 0, 22, 182, 0, 25, 192, 0, 26, 181, 0, 30, 42, 187, 0, 33, 89, 183, 0, 35, 181, 0, 36, 42]
abbrev dktX2_init_1 : List UInt8 := dkwX2_init_1 ++ dktX2_init_2
def dkwX2_init_0 : List UInt8 := [42, 183, 0, 3, 42, 187, 0, 9, 89, 183, 0, 11, 181, 0, 12, 42, 16, 16, 188, 10, 181, 0, 18, 42]
abbrev dktX2_init_0 : List UInt8 := dkwX2_init_0 ++ dktX2_init_1
theorem dksX2_init_0 : cX2_init.data.toList.drop 0 = dktX2_init_0 := by decide +kernel
theorem dksX2_init_1 : cX2_init.data.toList.drop 24 = dktX2_init_1 := dk_seg dksX2_init_0 24 rfl rfl
theorem dksX2_init_2 : cX2_init.data.toList.drop 48 = dktX2_init_2 := dk_seg dksX2_init_1 24 rfl rfl
theorem dksX2_init_3 : cX2_init.data.toList.drop 72 = dktX2_init_3 := dk_seg dksX2_init_2 24 rfl rfl
theorem dX2_init_0 : decode cX2_init 0 = .ok (.aload_n 0, 1) := dk_42 (dk_at dksX2_init_0 0 rfl rfl)
theorem dX2_init_1 : decode cX2_init 1 = .ok (.invokespecial 3, 3) := dk_183 0 3 (dk_at dksX2_init_0 1 rfl rfl)
theorem dX2_init_4 : decode cX2_init 4 = .ok (.aload_n 0, 1) := dk_42 (dk_at dksX2_init_0 4 rfl rfl)
theorem dX2_init_5 : decode cX2_init 5 = .ok (.new 9, 3) := dk_187 0 9 (dk_at dksX2_init_0 5 rfl rfl)
theorem dX2_init_8 : decode cX2_init 8 = .ok (.dup, 1) := dk_89 (dk_at dksX2_init_0 8 rfl rfl)
theorem dX2_init_9 : decode cX2_init 9 = .ok (.invokespecial 11, 3) := dk_183 0 11 (dk_at dksX2_init_0 9 rfl rfl)
theorem dX2_init_12 : decode cX2_init 12 = .ok (.putfield 12, 3) := dk_181 0 12 (dk_at dksX2_init_0 12 rfl rfl)
theorem dX2_init_15 : decode cX2_init 15 = .ok (.aload_n 0, 1) := dk_42 (dk_at dksX2_init_0 15 rfl rfl)
theorem dX2_init_16 : decode cX2_init 16 = .ok (.bipush 16, 2) := dk_16 16 (dk_at dksX2_init_0 16 rfl rfl)
theorem dX2_init_18 : decode cX2_init 18 = .ok (.newarray .int, 2) := dk_188_10 (dk_at dksX2_init_0 18 rfl rfl)
theorem dX2_init_20 : decode cX2_init 20 = .ok (.putfield 18, 3) := dk_181 0 18 (dk_at dksX2_init_0 20 rfl rfl)
theorem dX2_init_23 : decode cX2_init 23 = .ok (.aload_n 0, 1) := dk_42 (dk_at dksX2_init_0 23 rfl rfl)
theorem dX2_init_24 : decode cX2_init 24 = .ok (.getstatic 22, 3) := dk_178 0 22 (dk_at dksX2_init_1 0 rfl rfl)
theorem dX2_init_27 : decode cX2_init 27 = .ok (.invokevirtual 25, 3) := dk_182 0 25 (dk_at dksX2_init_1 3 rfl rfl)
theorem dX2_init_30 : decode cX2_init 30 = .ok (.checkcast 26, 3) := dk_192 0 26 (dk_at dksX2_init_1 6 rfl rfl)
theorem dX2_init_33 : decode cX2_init 33 = .ok (.putfield 30, 3) := dk_181 0 30 (dk_at dksX2_init_1 9 rfl rfl)
theorem dX2_init_36 : decode cX2_init 36 = .ok (.aload_n 0, 1) := dk_42 (dk_at dksX2_init_1 12 rfl rfl)
theorem dX2_init_37 : decode cX2_init 37 = .ok (.new 33, 3) := dk_187 0 33 (dk_at dksX2_init_1 13 rfl rfl)
theorem dX2_init_40 : decode cX2_init 40 = .ok (.dup, 1) := dk_89 (dk_at dksX2_init_1 16 rfl rfl)
theorem dX2_init_41 : decode cX2_init 41 = .ok (.invokespecial 35, 3) := dk_183 0 35 (dk_at dksX2_init_1 17 rfl rfl)
theorem dX2_init_44 : decode cX2_init 44 = .ok (.putfield 36, 3) := dk_181 0 36 (dk_at dksX2_init_1 20 rfl rfl)
theorem dX2_init_47 : decode cX2_init 47 = .ok (.aload_n 0, 1) := dk_42 (dk_at dksX2_init_1 23 rfl rfl)
theorem dX2_init_48 : decode cX2_init 48 = .ok (.new 33, 3) := dk_187 0 33 (dk_at dksX2_init_2 0 rfl rfl)
theorem dX2_init_51 : decode cX2_init 51 = .ok (.dup, 1) := dk_89 (dk_at dksX2_init_2 3 rfl rfl)
theorem dX2_init_52 : decode cX2_init 52 = .ok (.invokespecial 35, 3) := dk_183 0 35 (dk_at dksX2_init_2 4 rfl rfl)
theorem dX2_init_55 : decode cX2_init 55 = .ok (.putfield 40, 3) := dk_181 0 40 (dk_at dksX2_init_2 7 rfl rfl)
theorem dX2_init_58 : decode cX2_init 58 = .ok (.aload_n 0, 1) := dk_42 (dk_at dksX2_init_2 10 rfl rfl)
theorem dX2_init_59 : decode cX2_init 59 = .ok (.new 43, 3) := dk_187 0 43 (dk_at dksX2_init_2 11 rfl rfl)
theorem dX2_init_62 : decode cX2_init 62 = .ok (.dup, 1) := dk_89 (dk_at dksX2_init_2 14 rfl rfl)
theorem dX2_init_63 : decode cX2_init 63 = .ok (.bipush 8, 2) := dk_16 8 (dk_at dksX2_init_2 15 rfl rfl)
theorem dX2_init_65 : decode cX2_init 65 = .ok (.new 45, 3) := dk_187 0 45 (dk_at dksX2_init_2 17 rfl rfl)
theorem dX2_init_68 : decode cX2_init 68 = .ok (.dup, 1) := dk_89 (dk_at dksX2_init_2 20 rfl rfl)
theorem dX2_init_69 : decode cX2_init 69 = .ok (.invokespecial 47, 3) := dk_183 0 47 (dk_at dksX2_init_2 21 rfl rfl)
theorem dX2_init_72 : decode cX2_init 72 = .ok (.invokespecial 48, 3) := dk_183 0 48 (dk_at dksX2_init_3 0 rfl rfl)
theorem dX2_init_75 : decode cX2_init 75 = .ok (.putfield 51, 3) := dk_181 0 51 (dk_at dksX2_init_3 3 rfl rfl)
theorem dX2_init_78 : decode cX2_init 78 = .ok (.aload_n 0, 1) := dk_42 (dk_at dksX2_init_3 6 rfl rfl)
theorem dX2_init_79 : decode cX2_init 79 = .ok (.new 33, 3) := dk_187 0 33 (dk_at dksX2_init_3 7 rfl rfl)
theorem dX2_init_82 : decode cX2_init 82 = .ok (.dup, 1) := dk_89 (dk_at dksX2_init_3 10 rfl rfl)
theorem dX2_init_83 : decode cX2_init 83 = .ok (.invokespecial 35, 3) := dk_183 0 35 (dk_at dksX2_init_3 11 rfl rfl)
theorem dX2_init_86 : decode cX2_init 86 = .ok (.putfield 55, 3) := dk_181 0 55 (dk_at dksX2_init_3 14 rfl rfl)
theorem dX2_init_89 : decode cX2_init 89 = .ok (.return_, 1) := dk_177 (dk_at dksX2_init_3 17 rfl rfl)
def dkwX2_give_1 : List UInt8 := [42, 89, 180, 0, 97, 4, 96, 181, 0, 97, 42, 180, 0, 51, 182, 0, 110, 172]
abbrev dktX2_give_1 : List UInt8 := dkwX2_give_1 ++ []
def dkwX2_give_0 : List UInt8 := [42, 180, 0, 51, 187, 0, 92, 89, 27, 42, 180, 0, 97, 28, 29, 21, 4, 183, 0, 107, 182, 0, 94, 87]
abbrev dktX2_give_0 : List UInt8 := dkwX2_give_0 ++ dktX2_give_1
theorem dksX2_give_0 : cX2_give.data.toList.drop 0 = dktX2_give_0 := by decide +kernel
theorem dksX2_give_1 : cX2_give.data.toList.drop 24 = dktX2_give_1 := dk_seg dksX2_give_0 24 rfl rfl
theorem dX2_give_0 : decode cX2_give 0 = .ok (.aload_n 0, 1) := dk_42 (dk_at dksX2_give_0 0 rfl rfl)
theorem dX2_give_1 : decode cX2_give 1 = .ok (.getfield 51, 3) := dk_180 0 51 (dk_at dksX2_give_0 1 rfl rfl)
theorem dX2_give_4 : decode cX2_give 4 = .ok (.new 92, 3) := dk_187 0 92 (dk_at dksX2_give_0 4 rfl rfl)
theorem dX2_give_7 : decode cX2_give 7 = .ok (.dup, 1) := dk_89 (dk_at dksX2_give_0 7 rfl rfl)
theorem dX2_give_8 : decode cX2_give 8 = .ok (.iload_n 1, 1) := dk_27 (dk_at dksX2_give_0 8 rfl rfl)
theorem dX2_give_9 : decode cX2_give 9 = .ok (.aload_n 0, 1) := dk_42 (dk_at dksX2_give_0 9 rfl rfl)
theorem dX2_give_10 : decode cX2_give 10 = .ok (.getfield 97, 3) := dk_180 0 97 (dk_at dksX2_give_0 10 rfl rfl)
theorem dX2_give_13 : decode cX2_give 13 = .ok (.iload_n 2, 1) := dk_28 (dk_at dksX2_give_0 13 rfl rfl)
theorem dX2_give_14 : decode cX2_give 14 = .ok (.iload_n 3, 1) := dk_29 (dk_at dksX2_give_0 14 rfl rfl)
theorem dX2_give_15 : decode cX2_give 15 = .ok (.iload 4, 2) := dk_21 4 (dk_at dksX2_give_0 15 rfl rfl)
theorem dX2_give_17 : decode cX2_give 17 = .ok (.invokespecial 107, 3) := dk_183 0 107 (dk_at dksX2_give_0 17 rfl rfl)
theorem dX2_give_20 : decode cX2_give 20 = .ok (.invokevirtual 94, 3) := dk_182 0 94 (dk_at dksX2_give_0 20 rfl rfl)
theorem dX2_give_23 : decode cX2_give 23 = .ok (.pop, 1) := dk_87 (dk_at dksX2_give_0 23 rfl rfl)
theorem dX2_give_24 : decode cX2_give 24 = .ok (.aload_n 0, 1) := dk_42 (dk_at dksX2_give_1 0 rfl rfl)
theorem dX2_give_25 : decode cX2_give 25 = .ok (.dup, 1) := dk_89 (dk_at dksX2_give_1 1 rfl rfl)
theorem dX2_give_26 : decode cX2_give 26 = .ok (.getfield 97, 3) := dk_180 0 97 (dk_at dksX2_give_1 2 rfl rfl)
theorem dX2_give_29 : decode cX2_give 29 = .ok (.iconst 1, 1) := dk_4 (dk_at dksX2_give_1 5 rfl rfl)
theorem dX2_give_30 : decode cX2_give 30 = .ok (.iadd, 1) := dk_96 (dk_at dksX2_give_1 6 rfl rfl)
theorem dX2_give_31 : decode cX2_give 31 = .ok (.putfield 97, 3) := dk_181 0 97 (dk_at dksX2_give_1 7 rfl rfl)
theorem dX2_give_34 : decode cX2_give 34 = .ok (.aload_n 0, 1) := dk_42 (dk_at dksX2_give_1 10 rfl rfl)
theorem dX2_give_35 : decode cX2_give 35 = .ok (.getfield 51, 3) := dk_180 0 51 (dk_at dksX2_give_1 11 rfl rfl)
theorem dX2_give_38 : decode cX2_give 38 = .ok (.invokevirtual 110, 3) := dk_182 0 110 (dk_at dksX2_give_1 14 rfl rfl)
theorem dX2_give_41 : decode cX2_give 41 = .ok (.ireturn, 1) := dk_172 (dk_at dksX2_give_1 17 rfl rfl)
def dkwX2_seal_2 : List UInt8 := [87, 42, 180, 0, 40, 182, 0, 59, 172]
abbrev dktX2_seal_2 : List UInt8 := dkwX2_seal_2 ++ []
def dkwX2_seal_1 : List UInt8 := [180, 0, 51, 182, 0, 111, 192, 0, 92, 83, 132, 2, 1, 167, 255, 234, 42, 180, 0, 40, 43, 182, 0, 73]
abbrev dktX2_seal_1 : List UInt8 := dkwX2_seal_1 ++ dktX2_seal_2
def dkwX2_seal_0 : List UInt8 := [42, 180, 0, 51, 182, 0, 110, 189, 0, 92, 76, 3, 61, 28, 43, 190, 162, 0, 22, 43, 28, 42]
abbrev dktX2_seal_0 : List UInt8 := dkwX2_seal_0 ++ dktX2_seal_1
theorem dksX2_seal_0 : cX2_seal.data.toList.drop 0 = dktX2_seal_0 := by decide +kernel
theorem dksX2_seal_1 : cX2_seal.data.toList.drop 22 = dktX2_seal_1 := dk_seg dksX2_seal_0 22 rfl rfl
theorem dksX2_seal_2 : cX2_seal.data.toList.drop 46 = dktX2_seal_2 := dk_seg dksX2_seal_1 24 rfl rfl
theorem dX2_seal_0 : decode cX2_seal 0 = .ok (.aload_n 0, 1) := dk_42 (dk_at dksX2_seal_0 0 rfl rfl)
theorem dX2_seal_1 : decode cX2_seal 1 = .ok (.getfield 51, 3) := dk_180 0 51 (dk_at dksX2_seal_0 1 rfl rfl)
theorem dX2_seal_4 : decode cX2_seal 4 = .ok (.invokevirtual 110, 3) := dk_182 0 110 (dk_at dksX2_seal_0 4 rfl rfl)
theorem dX2_seal_7 : decode cX2_seal 7 = .ok (.anewarray 92, 3) := dk_189 0 92 (dk_at dksX2_seal_0 7 rfl rfl)
theorem dX2_seal_10 : decode cX2_seal 10 = .ok (.astore_n 1, 1) := dk_76 (dk_at dksX2_seal_0 10 rfl rfl)
theorem dX2_seal_11 : decode cX2_seal 11 = .ok (.iconst 0, 1) := dk_3 (dk_at dksX2_seal_0 11 rfl rfl)
theorem dX2_seal_12 : decode cX2_seal 12 = .ok (.istore_n 2, 1) := dk_61 (dk_at dksX2_seal_0 12 rfl rfl)
theorem dX2_seal_13 : decode cX2_seal 13 = .ok (.iload_n 2, 1) := dk_28 (dk_at dksX2_seal_0 13 rfl rfl)
theorem dX2_seal_14 : decode cX2_seal 14 = .ok (.aload_n 1, 1) := dk_43 (dk_at dksX2_seal_0 14 rfl rfl)
theorem dX2_seal_15 : decode cX2_seal 15 = .ok (.arraylength, 1) := dk_190 (dk_at dksX2_seal_0 15 rfl rfl)
theorem dX2_seal_16 : decode cX2_seal 16 = .ok (.if_icmp .ge 22, 3) := dk_162 0 22 (dk_at dksX2_seal_0 16 rfl rfl)
theorem dX2_seal_19 : decode cX2_seal 19 = .ok (.aload_n 1, 1) := dk_43 (dk_at dksX2_seal_0 19 rfl rfl)
theorem dX2_seal_20 : decode cX2_seal 20 = .ok (.iload_n 2, 1) := dk_28 (dk_at dksX2_seal_0 20 rfl rfl)
theorem dX2_seal_21 : decode cX2_seal 21 = .ok (.aload_n 0, 1) := dk_42 (dk_at dksX2_seal_0 21 rfl rfl)
theorem dX2_seal_22 : decode cX2_seal 22 = .ok (.getfield 51, 3) := dk_180 0 51 (dk_at dksX2_seal_1 0 rfl rfl)
theorem dX2_seal_25 : decode cX2_seal 25 = .ok (.invokevirtual 111, 3) := dk_182 0 111 (dk_at dksX2_seal_1 3 rfl rfl)
theorem dX2_seal_28 : decode cX2_seal 28 = .ok (.checkcast 92, 3) := dk_192 0 92 (dk_at dksX2_seal_1 6 rfl rfl)
theorem dX2_seal_31 : decode cX2_seal 31 = .ok (.aastore, 1) := dk_83 (dk_at dksX2_seal_1 9 rfl rfl)
theorem dX2_seal_32 : decode cX2_seal 32 = .ok (.iinc 2 1, 3) := dk_132 2 1 (dk_at dksX2_seal_1 10 rfl rfl)
theorem dX2_seal_35 : decode cX2_seal 35 = .ok (.goto (-22), 3) := dk_167 255 234 (dk_at dksX2_seal_1 13 rfl rfl)
theorem dX2_seal_38 : decode cX2_seal 38 = .ok (.aload_n 0, 1) := dk_42 (dk_at dksX2_seal_1 16 rfl rfl)
theorem dX2_seal_39 : decode cX2_seal 39 = .ok (.getfield 40, 3) := dk_180 0 40 (dk_at dksX2_seal_1 17 rfl rfl)
theorem dX2_seal_42 : decode cX2_seal 42 = .ok (.aload_n 1, 1) := dk_43 (dk_at dksX2_seal_1 20 rfl rfl)
theorem dX2_seal_43 : decode cX2_seal 43 = .ok (.invokevirtual 73, 3) := dk_182 0 73 (dk_at dksX2_seal_1 21 rfl rfl)
theorem dX2_seal_46 : decode cX2_seal 46 = .ok (.pop, 1) := dk_87 (dk_at dksX2_seal_2 0 rfl rfl)
theorem dX2_seal_47 : decode cX2_seal 47 = .ok (.aload_n 0, 1) := dk_42 (dk_at dksX2_seal_2 1 rfl rfl)
theorem dX2_seal_48 : decode cX2_seal 48 = .ok (.getfield 40, 3) := dk_180 0 40 (dk_at dksX2_seal_2 2 rfl rfl)
theorem dX2_seal_51 : decode cX2_seal 51 = .ok (.invokevirtual 59, 3) := dk_182 0 59 (dk_at dksX2_seal_2 5 rfl rfl)
theorem dX2_seal_54 : decode cX2_seal 54 = .ok (.ireturn, 1) := dk_172 (dk_at dksX2_seal_2 8 rfl rfl)
def dkwX2_enter_1 : List UInt8 := [183, 0, 101, 78, 45, 182, 0, 104, 42, 180, 0, 36, 45, 182, 0, 73, 87, 177]
abbrev dktX2_enter_1 : List UInt8 := dkwX2_enter_1 ++ []
def dkwX2_enter_0 : List UInt8 := [187, 0, 67, 89, 42, 180, 0, 36, 182, 0, 59, 27, 28, 42, 180, 0, 18, 182, 0, 25, 192, 0, 26, 3]
abbrev dktX2_enter_0 : List UInt8 := dkwX2_enter_0 ++ dktX2_enter_1
theorem dksX2_enter_0 : cX2_enter.data.toList.drop 0 = dktX2_enter_0 := by decide +kernel
theorem dksX2_enter_1 : cX2_enter.data.toList.drop 24 = dktX2_enter_1 := dk_seg dksX2_enter_0 24 rfl rfl
theorem dX2_enter_0 : decode cX2_enter 0 = .ok (.new 67, 3) := dk_187 0 67 (dk_at dksX2_enter_0 0 rfl rfl)
theorem dX2_enter_3 : decode cX2_enter 3 = .ok (.dup, 1) := dk_89 (dk_at dksX2_enter_0 3 rfl rfl)
theorem dX2_enter_4 : decode cX2_enter 4 = .ok (.aload_n 0, 1) := dk_42 (dk_at dksX2_enter_0 4 rfl rfl)
theorem dX2_enter_5 : decode cX2_enter 5 = .ok (.getfield 36, 3) := dk_180 0 36 (dk_at dksX2_enter_0 5 rfl rfl)
theorem dX2_enter_8 : decode cX2_enter 8 = .ok (.invokevirtual 59, 3) := dk_182 0 59 (dk_at dksX2_enter_0 8 rfl rfl)
theorem dX2_enter_11 : decode cX2_enter 11 = .ok (.iload_n 1, 1) := dk_27 (dk_at dksX2_enter_0 11 rfl rfl)
theorem dX2_enter_12 : decode cX2_enter 12 = .ok (.iload_n 2, 1) := dk_28 (dk_at dksX2_enter_0 12 rfl rfl)
theorem dX2_enter_13 : decode cX2_enter 13 = .ok (.aload_n 0, 1) := dk_42 (dk_at dksX2_enter_0 13 rfl rfl)
theorem dX2_enter_14 : decode cX2_enter 14 = .ok (.getfield 18, 3) := dk_180 0 18 (dk_at dksX2_enter_0 14 rfl rfl)
theorem dX2_enter_17 : decode cX2_enter 17 = .ok (.invokevirtual 25, 3) := dk_182 0 25 (dk_at dksX2_enter_0 17 rfl rfl)
theorem dX2_enter_20 : decode cX2_enter 20 = .ok (.checkcast 26, 3) := dk_192 0 26 (dk_at dksX2_enter_0 20 rfl rfl)
theorem dX2_enter_23 : decode cX2_enter 23 = .ok (.iconst 0, 1) := dk_3 (dk_at dksX2_enter_0 23 rfl rfl)
theorem dX2_enter_24 : decode cX2_enter 24 = .ok (.invokespecial 101, 3) := dk_183 0 101 (dk_at dksX2_enter_1 0 rfl rfl)
theorem dX2_enter_27 : decode cX2_enter 27 = .ok (.astore_n 3, 1) := dk_78 (dk_at dksX2_enter_1 3 rfl rfl)
theorem dX2_enter_28 : decode cX2_enter 28 = .ok (.aload_n 3, 1) := dk_45 (dk_at dksX2_enter_1 4 rfl rfl)
theorem dX2_enter_29 : decode cX2_enter 29 = .ok (.invokevirtual 104, 3) := dk_182 0 104 (dk_at dksX2_enter_1 5 rfl rfl)
theorem dX2_enter_32 : decode cX2_enter 32 = .ok (.aload_n 0, 1) := dk_42 (dk_at dksX2_enter_1 8 rfl rfl)
theorem dX2_enter_33 : decode cX2_enter 33 = .ok (.getfield 36, 3) := dk_180 0 36 (dk_at dksX2_enter_1 9 rfl rfl)
theorem dX2_enter_36 : decode cX2_enter 36 = .ok (.aload_n 3, 1) := dk_45 (dk_at dksX2_enter_1 12 rfl rfl)
theorem dX2_enter_37 : decode cX2_enter 37 = .ok (.invokevirtual 73, 3) := dk_182 0 73 (dk_at dksX2_enter_1 13 rfl rfl)
theorem dX2_enter_40 : decode cX2_enter 40 = .ok (.pop, 1) := dk_87 (dk_at dksX2_enter_1 16 rfl rfl)
theorem dX2_enter_41 : decode cX2_enter 41 = .ok (.return_, 1) := dk_177 (dk_at dksX2_enter_1 17 rfl rfl)
def dkwX2_member_0 : List UInt8 := [42, 180, 0, 36, 27, 182, 0, 63, 192, 0, 67, 176]
abbrev dktX2_member_0 : List UInt8 := dkwX2_member_0 ++ []
theorem dksX2_member_0 : cX2_member.data.toList.drop 0 = dktX2_member_0 := by decide +kernel
theorem dX2_member_0 : decode cX2_member 0 = .ok (.aload_n 0, 1) := dk_42 (dk_at dksX2_member_0 0 rfl rfl)
theorem dX2_member_1 : decode cX2_member 1 = .ok (.getfield 36, 3) := dk_180 0 36 (dk_at dksX2_member_0 1 rfl rfl)
theorem dX2_member_4 : decode cX2_member 4 = .ok (.iload_n 1, 1) := dk_27 (dk_at dksX2_member_0 4 rfl rfl)
theorem dX2_member_5 : decode cX2_member 5 = .ok (.invokevirtual 63, 3) := dk_182 0 63 (dk_at dksX2_member_0 5 rfl rfl)
theorem dX2_member_8 : decode cX2_member 8 = .ok (.checkcast 67, 3) := dk_192 0 67 (dk_at dksX2_member_0 8 rfl rfl)
theorem dX2_member_11 : decode cX2_member 11 = .ok (.areturn, 1) := dk_176 (dk_at dksX2_member_0 11 rfl rfl)
def dkwX2_winner_0 : List UInt8 := [42, 27, 182, 0, 186, 77, 44, 199, 0, 7, 2, 167, 0, 7, 44, 180, 0, 190, 172]
abbrev dktX2_winner_0 : List UInt8 := dkwX2_winner_0 ++ []
theorem dksX2_winner_0 : cX2_winner.data.toList.drop 0 = dktX2_winner_0 := by decide +kernel
theorem dX2_winner_0 : decode cX2_winner 0 = .ok (.aload_n 0, 1) := dk_42 (dk_at dksX2_winner_0 0 rfl rfl)
theorem dX2_winner_1 : decode cX2_winner 1 = .ok (.iload_n 1, 1) := dk_27 (dk_at dksX2_winner_0 1 rfl rfl)
theorem dX2_winner_2 : decode cX2_winner 2 = .ok (.invokevirtual 186, 3) := dk_182 0 186 (dk_at dksX2_winner_0 2 rfl rfl)
theorem dX2_winner_5 : decode cX2_winner 5 = .ok (.astore_n 2, 1) := dk_77 (dk_at dksX2_winner_0 5 rfl rfl)
theorem dX2_winner_6 : decode cX2_winner 6 = .ok (.aload_n 2, 1) := dk_44 (dk_at dksX2_winner_0 6 rfl rfl)
theorem dX2_winner_7 : decode cX2_winner 7 = .ok (.ifnonnull 7, 3) := dk_199 0 7 (dk_at dksX2_winner_0 7 rfl rfl)
theorem dX2_winner_10 : decode cX2_winner 10 = .ok (.iconst (-1), 1) := dk_2 (dk_at dksX2_winner_0 10 rfl rfl)
theorem dX2_winner_11 : decode cX2_winner 11 = .ok (.goto 7, 3) := dk_167 0 7 (dk_at dksX2_winner_0 11 rfl rfl)
theorem dX2_winner_14 : decode cX2_winner 14 = .ok (.aload_n 2, 1) := dk_44 (dk_at dksX2_winner_0 14 rfl rfl)
theorem dX2_winner_15 : decode cX2_winner 15 = .ok (.getfield 190, 3) := dk_180 0 190 (dk_at dksX2_winner_0 15 rfl rfl)
theorem dX2_winner_18 : decode cX2_winner 18 = .ok (.ireturn, 1) := dk_172 (dk_at dksX2_winner_0 18 rfl rfl)
def dkwX2_winning_9 : List UInt8 := [180, 0, 30, 4, 46, 162, 0, 7, 1, 167, 0, 4, 45, 176]
abbrev dktX2_winning_9 : List UInt8 := dkwX2_winning_9 ++ []
def dkwX2_winning_8 : List UInt8 := [192, 0, 177, 167, 0, 4, 45, 78, 132, 5, 1, 167, 255, 204, 45, 198, 0, 16, 45, 180, 0, 184, 42]
abbrev dktX2_winning_8 : List UInt8 := dkwX2_winning_8 ++ dktX2_winning_9
def dkwX2_winning_7 : List UInt8 := [182, 0, 63, 192, 0, 177, 180, 0, 184, 45, 180, 0, 184, 164, 0, 16, 25, 4, 21, 5, 182, 0, 63]
abbrev dktX2_winning_7 : List UInt8 := dkwX2_winning_7 ++ dktX2_winning_8
def dkwX2_winning_6 : List UInt8 := [167, 255, 138, 3, 54, 5, 21, 5, 25, 4, 182, 0, 59, 162, 0, 48, 45, 198, 0, 23, 25, 4, 21, 5]
abbrev dktX2_winning_6 : List UInt8 := dkwX2_winning_6 ++ dktX2_winning_7
def dkwX2_winning_5 : List UInt8 := [25, 4, 25, 8, 182, 0, 73, 87, 25, 8, 89, 180, 0, 184, 4, 96, 181, 0, 184, 132, 5, 1]
abbrev dktX2_winning_5 : List UInt8 := dkwX2_winning_5 ++ dktX2_winning_6
def dkwX2_winning_4 : List UInt8 := [187, 0, 177, 89, 21, 5, 183, 0, 179, 58, 8, 44, 25, 7, 25, 8, 182, 0, 180, 192, 0, 177, 58, 9]
abbrev dktX2_winning_4 : List UInt8 := dkwX2_winning_4 ++ dktX2_winning_5
def dkwX2_winning_3 : List UInt8 := [89, 21, 6, 183, 0, 173, 58, 7, 44, 25, 7, 182, 0, 174, 192, 0, 177, 58, 8, 25, 8, 199, 0, 35]
abbrev dktX2_winning_3 : List UInt8 := dkwX2_winning_3 ++ dktX2_winning_4
def dkwX2_winning_2 : List UInt8 := [42, 21, 5, 182, 0, 114, 180, 0, 118, 153, 0, 82, 21, 6, 2, 160, 0, 6, 167, 0, 73, 187, 0, 171]
abbrev dktX2_winning_2 : List UInt8 := dkwX2_winning_2 ++ dktX2_winning_3
def dkwX2_winning_1 : List UInt8 := [21, 5, 42, 180, 0, 36, 182, 0, 59, 162, 0, 112, 42, 21, 5, 182, 0, 114, 27, 182, 0, 167, 54, 6]
abbrev dktX2_winning_1 : List UInt8 := dkwX2_winning_1 ++ dktX2_winning_2
def dkwX2_winning_0 : List UInt8 := [187, 0, 162, 89, 16, 64, 183, 0, 164, 77, 1, 78, 187, 0, 33, 89, 183, 0, 35, 58, 4, 3, 54, 5]
abbrev dktX2_winning_0 : List UInt8 := dkwX2_winning_0 ++ dktX2_winning_1
theorem dksX2_winning_0 : cX2_winning.data.toList.drop 0 = dktX2_winning_0 := by decide +kernel
theorem dksX2_winning_1 : cX2_winning.data.toList.drop 24 = dktX2_winning_1 := dk_seg dksX2_winning_0 24 rfl rfl
theorem dksX2_winning_2 : cX2_winning.data.toList.drop 48 = dktX2_winning_2 := dk_seg dksX2_winning_1 24 rfl rfl
theorem dksX2_winning_3 : cX2_winning.data.toList.drop 72 = dktX2_winning_3 := dk_seg dksX2_winning_2 24 rfl rfl
theorem dksX2_winning_4 : cX2_winning.data.toList.drop 96 = dktX2_winning_4 := dk_seg dksX2_winning_3 24 rfl rfl
theorem dksX2_winning_5 : cX2_winning.data.toList.drop 120 = dktX2_winning_5 := dk_seg dksX2_winning_4 24 rfl rfl
theorem dksX2_winning_6 : cX2_winning.data.toList.drop 142 = dktX2_winning_6 := dk_seg dksX2_winning_5 22 rfl rfl
theorem dksX2_winning_7 : cX2_winning.data.toList.drop 166 = dktX2_winning_7 := dk_seg dksX2_winning_6 24 rfl rfl
theorem dksX2_winning_8 : cX2_winning.data.toList.drop 189 = dktX2_winning_8 := dk_seg dksX2_winning_7 23 rfl rfl
theorem dksX2_winning_9 : cX2_winning.data.toList.drop 212 = dktX2_winning_9 := dk_seg dksX2_winning_8 23 rfl rfl
theorem dX2_winning_0 : decode cX2_winning 0 = .ok (.new 162, 3) := dk_187 0 162 (dk_at dksX2_winning_0 0 rfl rfl)
theorem dX2_winning_3 : decode cX2_winning 3 = .ok (.dup, 1) := dk_89 (dk_at dksX2_winning_0 3 rfl rfl)
theorem dX2_winning_4 : decode cX2_winning 4 = .ok (.bipush 64, 2) := dk_16 64 (dk_at dksX2_winning_0 4 rfl rfl)
theorem dX2_winning_6 : decode cX2_winning 6 = .ok (.invokespecial 164, 3) := dk_183 0 164 (dk_at dksX2_winning_0 6 rfl rfl)
theorem dX2_winning_9 : decode cX2_winning 9 = .ok (.astore_n 2, 1) := dk_77 (dk_at dksX2_winning_0 9 rfl rfl)
theorem dX2_winning_10 : decode cX2_winning 10 = .ok (.aconst_null, 1) := dk_1 (dk_at dksX2_winning_0 10 rfl rfl)
theorem dX2_winning_11 : decode cX2_winning 11 = .ok (.astore_n 3, 1) := dk_78 (dk_at dksX2_winning_0 11 rfl rfl)
theorem dX2_winning_12 : decode cX2_winning 12 = .ok (.new 33, 3) := dk_187 0 33 (dk_at dksX2_winning_0 12 rfl rfl)
theorem dX2_winning_15 : decode cX2_winning 15 = .ok (.dup, 1) := dk_89 (dk_at dksX2_winning_0 15 rfl rfl)
theorem dX2_winning_16 : decode cX2_winning 16 = .ok (.invokespecial 35, 3) := dk_183 0 35 (dk_at dksX2_winning_0 16 rfl rfl)
theorem dX2_winning_19 : decode cX2_winning 19 = .ok (.astore 4, 2) := dk_58 4 (dk_at dksX2_winning_0 19 rfl rfl)
theorem dX2_winning_21 : decode cX2_winning 21 = .ok (.iconst 0, 1) := dk_3 (dk_at dksX2_winning_0 21 rfl rfl)
theorem dX2_winning_22 : decode cX2_winning 22 = .ok (.istore 5, 2) := dk_54 5 (dk_at dksX2_winning_0 22 rfl rfl)
theorem dX2_winning_24 : decode cX2_winning 24 = .ok (.iload 5, 2) := dk_21 5 (dk_at dksX2_winning_1 0 rfl rfl)
theorem dX2_winning_26 : decode cX2_winning 26 = .ok (.aload_n 0, 1) := dk_42 (dk_at dksX2_winning_1 2 rfl rfl)
theorem dX2_winning_27 : decode cX2_winning 27 = .ok (.getfield 36, 3) := dk_180 0 36 (dk_at dksX2_winning_1 3 rfl rfl)
theorem dX2_winning_30 : decode cX2_winning 30 = .ok (.invokevirtual 59, 3) := dk_182 0 59 (dk_at dksX2_winning_1 6 rfl rfl)
theorem dX2_winning_33 : decode cX2_winning 33 = .ok (.if_icmp .ge 112, 3) := dk_162 0 112 (dk_at dksX2_winning_1 9 rfl rfl)
theorem dX2_winning_36 : decode cX2_winning 36 = .ok (.aload_n 0, 1) := dk_42 (dk_at dksX2_winning_1 12 rfl rfl)
theorem dX2_winning_37 : decode cX2_winning 37 = .ok (.iload 5, 2) := dk_21 5 (dk_at dksX2_winning_1 13 rfl rfl)
theorem dX2_winning_39 : decode cX2_winning 39 = .ok (.invokevirtual 114, 3) := dk_182 0 114 (dk_at dksX2_winning_1 15 rfl rfl)
theorem dX2_winning_42 : decode cX2_winning 42 = .ok (.iload_n 1, 1) := dk_27 (dk_at dksX2_winning_1 18 rfl rfl)
theorem dX2_winning_43 : decode cX2_winning 43 = .ok (.invokevirtual 167, 3) := dk_182 0 167 (dk_at dksX2_winning_1 19 rfl rfl)
theorem dX2_winning_46 : decode cX2_winning 46 = .ok (.istore 6, 2) := dk_54 6 (dk_at dksX2_winning_1 22 rfl rfl)
theorem dX2_winning_48 : decode cX2_winning 48 = .ok (.aload_n 0, 1) := dk_42 (dk_at dksX2_winning_2 0 rfl rfl)
theorem dX2_winning_49 : decode cX2_winning 49 = .ok (.iload 5, 2) := dk_21 5 (dk_at dksX2_winning_2 1 rfl rfl)
theorem dX2_winning_51 : decode cX2_winning 51 = .ok (.invokevirtual 114, 3) := dk_182 0 114 (dk_at dksX2_winning_2 3 rfl rfl)
theorem dX2_winning_54 : decode cX2_winning 54 = .ok (.getfield 118, 3) := dk_180 0 118 (dk_at dksX2_winning_2 6 rfl rfl)
theorem dX2_winning_57 : decode cX2_winning 57 = .ok (.ifCond .eq 82, 3) := dk_153 0 82 (dk_at dksX2_winning_2 9 rfl rfl)
theorem dX2_winning_60 : decode cX2_winning 60 = .ok (.iload 6, 2) := dk_21 6 (dk_at dksX2_winning_2 12 rfl rfl)
theorem dX2_winning_62 : decode cX2_winning 62 = .ok (.iconst (-1), 1) := dk_2 (dk_at dksX2_winning_2 14 rfl rfl)
theorem dX2_winning_63 : decode cX2_winning 63 = .ok (.if_icmp .ne 6, 3) := dk_160 0 6 (dk_at dksX2_winning_2 15 rfl rfl)
theorem dX2_winning_66 : decode cX2_winning 66 = .ok (.goto 73, 3) := dk_167 0 73 (dk_at dksX2_winning_2 18 rfl rfl)
theorem dX2_winning_69 : decode cX2_winning 69 = .ok (.new 171, 3) := dk_187 0 171 (dk_at dksX2_winning_2 21 rfl rfl)
theorem dX2_winning_72 : decode cX2_winning 72 = .ok (.dup, 1) := dk_89 (dk_at dksX2_winning_3 0 rfl rfl)
theorem dX2_winning_73 : decode cX2_winning 73 = .ok (.iload 6, 2) := dk_21 6 (dk_at dksX2_winning_3 1 rfl rfl)
theorem dX2_winning_75 : decode cX2_winning 75 = .ok (.invokespecial 173, 3) := dk_183 0 173 (dk_at dksX2_winning_3 3 rfl rfl)
theorem dX2_winning_78 : decode cX2_winning 78 = .ok (.astore 7, 2) := dk_58 7 (dk_at dksX2_winning_3 6 rfl rfl)
theorem dX2_winning_80 : decode cX2_winning 80 = .ok (.aload_n 2, 1) := dk_44 (dk_at dksX2_winning_3 8 rfl rfl)
theorem dX2_winning_81 : decode cX2_winning 81 = .ok (.aload 7, 2) := dk_25 7 (dk_at dksX2_winning_3 9 rfl rfl)
theorem dX2_winning_83 : decode cX2_winning 83 = .ok (.invokevirtual 174, 3) := dk_182 0 174 (dk_at dksX2_winning_3 11 rfl rfl)
theorem dX2_winning_86 : decode cX2_winning 86 = .ok (.checkcast 177, 3) := dk_192 0 177 (dk_at dksX2_winning_3 14 rfl rfl)
theorem dX2_winning_89 : decode cX2_winning 89 = .ok (.astore 8, 2) := dk_58 8 (dk_at dksX2_winning_3 17 rfl rfl)
theorem dX2_winning_91 : decode cX2_winning 91 = .ok (.aload 8, 2) := dk_25 8 (dk_at dksX2_winning_3 19 rfl rfl)
theorem dX2_winning_93 : decode cX2_winning 93 = .ok (.ifnonnull 35, 3) := dk_199 0 35 (dk_at dksX2_winning_3 21 rfl rfl)
theorem dX2_winning_96 : decode cX2_winning 96 = .ok (.new 177, 3) := dk_187 0 177 (dk_at dksX2_winning_4 0 rfl rfl)
theorem dX2_winning_99 : decode cX2_winning 99 = .ok (.dup, 1) := dk_89 (dk_at dksX2_winning_4 3 rfl rfl)
theorem dX2_winning_100 : decode cX2_winning 100 = .ok (.iload 5, 2) := dk_21 5 (dk_at dksX2_winning_4 4 rfl rfl)
theorem dX2_winning_102 : decode cX2_winning 102 = .ok (.invokespecial 179, 3) := dk_183 0 179 (dk_at dksX2_winning_4 6 rfl rfl)
theorem dX2_winning_105 : decode cX2_winning 105 = .ok (.astore 8, 2) := dk_58 8 (dk_at dksX2_winning_4 9 rfl rfl)
theorem dX2_winning_107 : decode cX2_winning 107 = .ok (.aload_n 2, 1) := dk_44 (dk_at dksX2_winning_4 11 rfl rfl)
theorem dX2_winning_108 : decode cX2_winning 108 = .ok (.aload 7, 2) := dk_25 7 (dk_at dksX2_winning_4 12 rfl rfl)
theorem dX2_winning_110 : decode cX2_winning 110 = .ok (.aload 8, 2) := dk_25 8 (dk_at dksX2_winning_4 14 rfl rfl)
theorem dX2_winning_112 : decode cX2_winning 112 = .ok (.invokevirtual 180, 3) := dk_182 0 180 (dk_at dksX2_winning_4 16 rfl rfl)
theorem dX2_winning_115 : decode cX2_winning 115 = .ok (.checkcast 177, 3) := dk_192 0 177 (dk_at dksX2_winning_4 19 rfl rfl)
theorem dX2_winning_118 : decode cX2_winning 118 = .ok (.astore 9, 2) := dk_58 9 (dk_at dksX2_winning_4 22 rfl rfl)
theorem dX2_winning_120 : decode cX2_winning 120 = .ok (.aload 4, 2) := dk_25 4 (dk_at dksX2_winning_5 0 rfl rfl)
theorem dX2_winning_122 : decode cX2_winning 122 = .ok (.aload 8, 2) := dk_25 8 (dk_at dksX2_winning_5 2 rfl rfl)
theorem dX2_winning_124 : decode cX2_winning 124 = .ok (.invokevirtual 73, 3) := dk_182 0 73 (dk_at dksX2_winning_5 4 rfl rfl)
theorem dX2_winning_127 : decode cX2_winning 127 = .ok (.pop, 1) := dk_87 (dk_at dksX2_winning_5 7 rfl rfl)
theorem dX2_winning_128 : decode cX2_winning 128 = .ok (.aload 8, 2) := dk_25 8 (dk_at dksX2_winning_5 8 rfl rfl)
theorem dX2_winning_130 : decode cX2_winning 130 = .ok (.dup, 1) := dk_89 (dk_at dksX2_winning_5 10 rfl rfl)
theorem dX2_winning_131 : decode cX2_winning 131 = .ok (.getfield 184, 3) := dk_180 0 184 (dk_at dksX2_winning_5 11 rfl rfl)
theorem dX2_winning_134 : decode cX2_winning 134 = .ok (.iconst 1, 1) := dk_4 (dk_at dksX2_winning_5 14 rfl rfl)
theorem dX2_winning_135 : decode cX2_winning 135 = .ok (.iadd, 1) := dk_96 (dk_at dksX2_winning_5 15 rfl rfl)
theorem dX2_winning_136 : decode cX2_winning 136 = .ok (.putfield 184, 3) := dk_181 0 184 (dk_at dksX2_winning_5 16 rfl rfl)
theorem dX2_winning_139 : decode cX2_winning 139 = .ok (.iinc 5 1, 3) := dk_132 5 1 (dk_at dksX2_winning_5 19 rfl rfl)
theorem dX2_winning_142 : decode cX2_winning 142 = .ok (.goto (-118), 3) := dk_167 255 138 (dk_at dksX2_winning_6 0 rfl rfl)
theorem dX2_winning_145 : decode cX2_winning 145 = .ok (.iconst 0, 1) := dk_3 (dk_at dksX2_winning_6 3 rfl rfl)
theorem dX2_winning_146 : decode cX2_winning 146 = .ok (.istore 5, 2) := dk_54 5 (dk_at dksX2_winning_6 4 rfl rfl)
theorem dX2_winning_148 : decode cX2_winning 148 = .ok (.iload 5, 2) := dk_21 5 (dk_at dksX2_winning_6 6 rfl rfl)
theorem dX2_winning_150 : decode cX2_winning 150 = .ok (.aload 4, 2) := dk_25 4 (dk_at dksX2_winning_6 8 rfl rfl)
theorem dX2_winning_152 : decode cX2_winning 152 = .ok (.invokevirtual 59, 3) := dk_182 0 59 (dk_at dksX2_winning_6 10 rfl rfl)
theorem dX2_winning_155 : decode cX2_winning 155 = .ok (.if_icmp .ge 48, 3) := dk_162 0 48 (dk_at dksX2_winning_6 13 rfl rfl)
theorem dX2_winning_158 : decode cX2_winning 158 = .ok (.aload_n 3, 1) := dk_45 (dk_at dksX2_winning_6 16 rfl rfl)
theorem dX2_winning_159 : decode cX2_winning 159 = .ok (.ifnull 23, 3) := dk_198 0 23 (dk_at dksX2_winning_6 17 rfl rfl)
theorem dX2_winning_162 : decode cX2_winning 162 = .ok (.aload 4, 2) := dk_25 4 (dk_at dksX2_winning_6 20 rfl rfl)
theorem dX2_winning_164 : decode cX2_winning 164 = .ok (.iload 5, 2) := dk_21 5 (dk_at dksX2_winning_6 22 rfl rfl)
theorem dX2_winning_166 : decode cX2_winning 166 = .ok (.invokevirtual 63, 3) := dk_182 0 63 (dk_at dksX2_winning_7 0 rfl rfl)
theorem dX2_winning_169 : decode cX2_winning 169 = .ok (.checkcast 177, 3) := dk_192 0 177 (dk_at dksX2_winning_7 3 rfl rfl)
theorem dX2_winning_172 : decode cX2_winning 172 = .ok (.getfield 184, 3) := dk_180 0 184 (dk_at dksX2_winning_7 6 rfl rfl)
theorem dX2_winning_175 : decode cX2_winning 175 = .ok (.aload_n 3, 1) := dk_45 (dk_at dksX2_winning_7 9 rfl rfl)
theorem dX2_winning_176 : decode cX2_winning 176 = .ok (.getfield 184, 3) := dk_180 0 184 (dk_at dksX2_winning_7 10 rfl rfl)
theorem dX2_winning_179 : decode cX2_winning 179 = .ok (.if_icmp .le 16, 3) := dk_164 0 16 (dk_at dksX2_winning_7 13 rfl rfl)
theorem dX2_winning_182 : decode cX2_winning 182 = .ok (.aload 4, 2) := dk_25 4 (dk_at dksX2_winning_7 16 rfl rfl)
theorem dX2_winning_184 : decode cX2_winning 184 = .ok (.iload 5, 2) := dk_21 5 (dk_at dksX2_winning_7 18 rfl rfl)
theorem dX2_winning_186 : decode cX2_winning 186 = .ok (.invokevirtual 63, 3) := dk_182 0 63 (dk_at dksX2_winning_7 20 rfl rfl)
theorem dX2_winning_189 : decode cX2_winning 189 = .ok (.checkcast 177, 3) := dk_192 0 177 (dk_at dksX2_winning_8 0 rfl rfl)
theorem dX2_winning_192 : decode cX2_winning 192 = .ok (.goto 4, 3) := dk_167 0 4 (dk_at dksX2_winning_8 3 rfl rfl)
theorem dX2_winning_195 : decode cX2_winning 195 = .ok (.aload_n 3, 1) := dk_45 (dk_at dksX2_winning_8 6 rfl rfl)
theorem dX2_winning_196 : decode cX2_winning 196 = .ok (.astore_n 3, 1) := dk_78 (dk_at dksX2_winning_8 7 rfl rfl)
theorem dX2_winning_197 : decode cX2_winning 197 = .ok (.iinc 5 1, 3) := dk_132 5 1 (dk_at dksX2_winning_8 8 rfl rfl)
theorem dX2_winning_200 : decode cX2_winning 200 = .ok (.goto (-52), 3) := dk_167 255 204 (dk_at dksX2_winning_8 11 rfl rfl)
theorem dX2_winning_203 : decode cX2_winning 203 = .ok (.aload_n 3, 1) := dk_45 (dk_at dksX2_winning_8 14 rfl rfl)
theorem dX2_winning_204 : decode cX2_winning 204 = .ok (.ifnull 16, 3) := dk_198 0 16 (dk_at dksX2_winning_8 15 rfl rfl)
theorem dX2_winning_207 : decode cX2_winning 207 = .ok (.aload_n 3, 1) := dk_45 (dk_at dksX2_winning_8 18 rfl rfl)
theorem dX2_winning_208 : decode cX2_winning 208 = .ok (.getfield 184, 3) := dk_180 0 184 (dk_at dksX2_winning_8 19 rfl rfl)
theorem dX2_winning_211 : decode cX2_winning 211 = .ok (.aload_n 0, 1) := dk_42 (dk_at dksX2_winning_8 22 rfl rfl)
theorem dX2_winning_212 : decode cX2_winning 212 = .ok (.getfield 30, 3) := dk_180 0 30 (dk_at dksX2_winning_9 0 rfl rfl)
theorem dX2_winning_215 : decode cX2_winning 215 = .ok (.iconst 1, 1) := dk_4 (dk_at dksX2_winning_9 3 rfl rfl)
theorem dX2_winning_216 : decode cX2_winning 216 = .ok (.iaload, 1) := dk_46 (dk_at dksX2_winning_9 4 rfl rfl)
theorem dX2_winning_217 : decode cX2_winning 217 = .ok (.if_icmp .ge 7, 3) := dk_162 0 7 (dk_at dksX2_winning_9 5 rfl rfl)
theorem dX2_winning_220 : decode cX2_winning 220 = .ok (.aconst_null, 1) := dk_1 (dk_at dksX2_winning_9 8 rfl rfl)
theorem dX2_winning_221 : decode cX2_winning 221 = .ok (.goto 4, 3) := dk_167 0 4 (dk_at dksX2_winning_9 9 rfl rfl)
theorem dX2_winning_224 : decode cX2_winning 224 = .ok (.aload_n 3, 1) := dk_45 (dk_at dksX2_winning_9 12 rfl rfl)
theorem dX2_winning_225 : decode cX2_winning 225 = .ok (.areturn, 1) := dk_176 (dk_at dksX2_winning_9 13 rfl rfl)
def dkwX2_isWrong_2 : List UInt8 := [167, 0, 4, 3, 172]
abbrev dktX2_isWrong_2 : List UInt8 := dkwX2_isWrong_2 ++ []
def dkwX2_isWrong_1 : List UInt8 := [182, 0, 114, 43, 180, 0, 122, 182, 0, 167, 43, 43, 180, 0, 122, 182, 0, 167, 159, 0, 7, 4]
abbrev dktX2_isWrong_1 : List UInt8 := dkwX2_isWrong_1 ++ dktX2_isWrong_2
def dkwX2_isWrong_0 : List UInt8 := [42, 43, 180, 0, 122, 182, 0, 193, 61, 43, 180, 0, 118, 153, 0, 35, 28, 2, 159, 0, 30, 42, 28]
abbrev dktX2_isWrong_0 : List UInt8 := dkwX2_isWrong_0 ++ dktX2_isWrong_1
theorem dksX2_isWrong_0 : cX2_isWrong.data.toList.drop 0 = dktX2_isWrong_0 := by decide +kernel
theorem dksX2_isWrong_1 : cX2_isWrong.data.toList.drop 23 = dktX2_isWrong_1 := dk_seg dksX2_isWrong_0 23 rfl rfl
theorem dksX2_isWrong_2 : cX2_isWrong.data.toList.drop 45 = dktX2_isWrong_2 := dk_seg dksX2_isWrong_1 22 rfl rfl
theorem dX2_isWrong_0 : decode cX2_isWrong 0 = .ok (.aload_n 0, 1) := dk_42 (dk_at dksX2_isWrong_0 0 rfl rfl)
theorem dX2_isWrong_1 : decode cX2_isWrong 1 = .ok (.aload_n 1, 1) := dk_43 (dk_at dksX2_isWrong_0 1 rfl rfl)
theorem dX2_isWrong_2 : decode cX2_isWrong 2 = .ok (.getfield 122, 3) := dk_180 0 122 (dk_at dksX2_isWrong_0 2 rfl rfl)
theorem dX2_isWrong_5 : decode cX2_isWrong 5 = .ok (.invokevirtual 193, 3) := dk_182 0 193 (dk_at dksX2_isWrong_0 5 rfl rfl)
theorem dX2_isWrong_8 : decode cX2_isWrong 8 = .ok (.istore_n 2, 1) := dk_61 (dk_at dksX2_isWrong_0 8 rfl rfl)
theorem dX2_isWrong_9 : decode cX2_isWrong 9 = .ok (.aload_n 1, 1) := dk_43 (dk_at dksX2_isWrong_0 9 rfl rfl)
theorem dX2_isWrong_10 : decode cX2_isWrong 10 = .ok (.getfield 118, 3) := dk_180 0 118 (dk_at dksX2_isWrong_0 10 rfl rfl)
theorem dX2_isWrong_13 : decode cX2_isWrong 13 = .ok (.ifCond .eq 35, 3) := dk_153 0 35 (dk_at dksX2_isWrong_0 13 rfl rfl)
theorem dX2_isWrong_16 : decode cX2_isWrong 16 = .ok (.iload_n 2, 1) := dk_28 (dk_at dksX2_isWrong_0 16 rfl rfl)
theorem dX2_isWrong_17 : decode cX2_isWrong 17 = .ok (.iconst (-1), 1) := dk_2 (dk_at dksX2_isWrong_0 17 rfl rfl)
theorem dX2_isWrong_18 : decode cX2_isWrong 18 = .ok (.if_icmp .eq 30, 3) := dk_159 0 30 (dk_at dksX2_isWrong_0 18 rfl rfl)
theorem dX2_isWrong_21 : decode cX2_isWrong 21 = .ok (.aload_n 0, 1) := dk_42 (dk_at dksX2_isWrong_0 21 rfl rfl)
theorem dX2_isWrong_22 : decode cX2_isWrong 22 = .ok (.iload_n 2, 1) := dk_28 (dk_at dksX2_isWrong_0 22 rfl rfl)
theorem dX2_isWrong_23 : decode cX2_isWrong 23 = .ok (.invokevirtual 114, 3) := dk_182 0 114 (dk_at dksX2_isWrong_1 0 rfl rfl)
theorem dX2_isWrong_26 : decode cX2_isWrong 26 = .ok (.aload_n 1, 1) := dk_43 (dk_at dksX2_isWrong_1 3 rfl rfl)
theorem dX2_isWrong_27 : decode cX2_isWrong 27 = .ok (.getfield 122, 3) := dk_180 0 122 (dk_at dksX2_isWrong_1 4 rfl rfl)
theorem dX2_isWrong_30 : decode cX2_isWrong 30 = .ok (.invokevirtual 167, 3) := dk_182 0 167 (dk_at dksX2_isWrong_1 7 rfl rfl)
theorem dX2_isWrong_33 : decode cX2_isWrong 33 = .ok (.aload_n 1, 1) := dk_43 (dk_at dksX2_isWrong_1 10 rfl rfl)
theorem dX2_isWrong_34 : decode cX2_isWrong 34 = .ok (.aload_n 1, 1) := dk_43 (dk_at dksX2_isWrong_1 11 rfl rfl)
theorem dX2_isWrong_35 : decode cX2_isWrong 35 = .ok (.getfield 122, 3) := dk_180 0 122 (dk_at dksX2_isWrong_1 12 rfl rfl)
theorem dX2_isWrong_38 : decode cX2_isWrong 38 = .ok (.invokevirtual 167, 3) := dk_182 0 167 (dk_at dksX2_isWrong_1 15 rfl rfl)
theorem dX2_isWrong_41 : decode cX2_isWrong 41 = .ok (.if_icmp .eq 7, 3) := dk_159 0 7 (dk_at dksX2_isWrong_1 18 rfl rfl)
theorem dX2_isWrong_44 : decode cX2_isWrong 44 = .ok (.iconst 1, 1) := dk_4 (dk_at dksX2_isWrong_1 21 rfl rfl)
theorem dX2_isWrong_45 : decode cX2_isWrong 45 = .ok (.goto 4, 3) := dk_167 0 4 (dk_at dksX2_isWrong_2 0 rfl rfl)
theorem dX2_isWrong_48 : decode cX2_isWrong 48 = .ok (.iconst 0, 1) := dk_3 (dk_at dksX2_isWrong_2 3 rfl rfl)
theorem dX2_isWrong_49 : decode cX2_isWrong 49 = .ok (.ireturn, 1) := dk_172 (dk_at dksX2_isWrong_2 4 rfl rfl)
def dkwX2_greatest_2 : List UInt8 := [167, 255, 214, 27, 172]
abbrev dktX2_greatest_2 : List UInt8 := dkwX2_greatest_2 ++ []
def dkwX2_greatest_1 : List UInt8 := [153, 0, 18, 27, 42, 28, 182, 0, 114, 180, 0, 122, 184, 0, 125, 167, 0, 4, 27, 60, 132, 2, 1]
abbrev dktX2_greatest_1 : List UInt8 := dkwX2_greatest_1 ++ dktX2_greatest_2
def dkwX2_greatest_0 : List UInt8 := [2, 60, 3, 61, 28, 42, 180, 0, 36, 182, 0, 59, 162, 0, 37, 42, 28, 182, 0, 114, 180, 0, 118]
abbrev dktX2_greatest_0 : List UInt8 := dkwX2_greatest_0 ++ dktX2_greatest_1
theorem dksX2_greatest_0 : cX2_greatest.data.toList.drop 0 = dktX2_greatest_0 := by decide +kernel
theorem dksX2_greatest_1 : cX2_greatest.data.toList.drop 23 = dktX2_greatest_1 := dk_seg dksX2_greatest_0 23 rfl rfl
theorem dksX2_greatest_2 : cX2_greatest.data.toList.drop 46 = dktX2_greatest_2 := dk_seg dksX2_greatest_1 23 rfl rfl
theorem dX2_greatest_0 : decode cX2_greatest 0 = .ok (.iconst (-1), 1) := dk_2 (dk_at dksX2_greatest_0 0 rfl rfl)
theorem dX2_greatest_1 : decode cX2_greatest 1 = .ok (.istore_n 1, 1) := dk_60 (dk_at dksX2_greatest_0 1 rfl rfl)
theorem dX2_greatest_2 : decode cX2_greatest 2 = .ok (.iconst 0, 1) := dk_3 (dk_at dksX2_greatest_0 2 rfl rfl)
theorem dX2_greatest_3 : decode cX2_greatest 3 = .ok (.istore_n 2, 1) := dk_61 (dk_at dksX2_greatest_0 3 rfl rfl)
theorem dX2_greatest_4 : decode cX2_greatest 4 = .ok (.iload_n 2, 1) := dk_28 (dk_at dksX2_greatest_0 4 rfl rfl)
theorem dX2_greatest_5 : decode cX2_greatest 5 = .ok (.aload_n 0, 1) := dk_42 (dk_at dksX2_greatest_0 5 rfl rfl)
theorem dX2_greatest_6 : decode cX2_greatest 6 = .ok (.getfield 36, 3) := dk_180 0 36 (dk_at dksX2_greatest_0 6 rfl rfl)
theorem dX2_greatest_9 : decode cX2_greatest 9 = .ok (.invokevirtual 59, 3) := dk_182 0 59 (dk_at dksX2_greatest_0 9 rfl rfl)
theorem dX2_greatest_12 : decode cX2_greatest 12 = .ok (.if_icmp .ge 37, 3) := dk_162 0 37 (dk_at dksX2_greatest_0 12 rfl rfl)
theorem dX2_greatest_15 : decode cX2_greatest 15 = .ok (.aload_n 0, 1) := dk_42 (dk_at dksX2_greatest_0 15 rfl rfl)
theorem dX2_greatest_16 : decode cX2_greatest 16 = .ok (.iload_n 2, 1) := dk_28 (dk_at dksX2_greatest_0 16 rfl rfl)
theorem dX2_greatest_17 : decode cX2_greatest 17 = .ok (.invokevirtual 114, 3) := dk_182 0 114 (dk_at dksX2_greatest_0 17 rfl rfl)
theorem dX2_greatest_20 : decode cX2_greatest 20 = .ok (.getfield 118, 3) := dk_180 0 118 (dk_at dksX2_greatest_0 20 rfl rfl)
theorem dX2_greatest_23 : decode cX2_greatest 23 = .ok (.ifCond .eq 18, 3) := dk_153 0 18 (dk_at dksX2_greatest_1 0 rfl rfl)
theorem dX2_greatest_26 : decode cX2_greatest 26 = .ok (.iload_n 1, 1) := dk_27 (dk_at dksX2_greatest_1 3 rfl rfl)
theorem dX2_greatest_27 : decode cX2_greatest 27 = .ok (.aload_n 0, 1) := dk_42 (dk_at dksX2_greatest_1 4 rfl rfl)
theorem dX2_greatest_28 : decode cX2_greatest 28 = .ok (.iload_n 2, 1) := dk_28 (dk_at dksX2_greatest_1 5 rfl rfl)
theorem dX2_greatest_29 : decode cX2_greatest 29 = .ok (.invokevirtual 114, 3) := dk_182 0 114 (dk_at dksX2_greatest_1 6 rfl rfl)
theorem dX2_greatest_32 : decode cX2_greatest 32 = .ok (.getfield 122, 3) := dk_180 0 122 (dk_at dksX2_greatest_1 9 rfl rfl)
theorem dX2_greatest_35 : decode cX2_greatest 35 = .ok (.invokestatic 125, 3) := dk_184 0 125 (dk_at dksX2_greatest_1 12 rfl rfl)
theorem dX2_greatest_38 : decode cX2_greatest 38 = .ok (.goto 4, 3) := dk_167 0 4 (dk_at dksX2_greatest_1 15 rfl rfl)
theorem dX2_greatest_41 : decode cX2_greatest 41 = .ok (.iload_n 1, 1) := dk_27 (dk_at dksX2_greatest_1 18 rfl rfl)
theorem dX2_greatest_42 : decode cX2_greatest 42 = .ok (.istore_n 1, 1) := dk_60 (dk_at dksX2_greatest_1 19 rfl rfl)
theorem dX2_greatest_43 : decode cX2_greatest 43 = .ok (.iinc 2 1, 3) := dk_132 2 1 (dk_at dksX2_greatest_1 20 rfl rfl)
theorem dX2_greatest_46 : decode cX2_greatest 46 = .ok (.goto (-42), 3) := dk_167 255 214 (dk_at dksX2_greatest_2 0 rfl rfl)
theorem dX2_greatest_49 : decode cX2_greatest 49 = .ok (.iload_n 1, 1) := dk_27 (dk_at dksX2_greatest_2 3 rfl rfl)
theorem dX2_greatest_50 : decode cX2_greatest 50 = .ok (.ireturn, 1) := dk_172 (dk_at dksX2_greatest_2 4 rfl rfl)
def dkwX2_least_2 : List UInt8 := [167, 0, 4, 27, 60, 132, 2, 1, 167, 255, 207, 27, 172]
abbrev dktX2_least_2 : List UInt8 := dkwX2_least_2 ++ []
def dkwX2_least_1 : List UInt8 := [180, 0, 118, 153, 0, 23, 27, 2, 159, 0, 11, 45, 180, 0, 122, 27, 162, 0, 10, 45, 180, 0, 122]
abbrev dktX2_least_1 : List UInt8 := dkwX2_least_1 ++ dktX2_least_2
def dkwX2_least_0 : List UInt8 := [2, 60, 3, 61, 28, 42, 180, 0, 36, 182, 0, 59, 162, 0, 44, 42, 28, 182, 0, 114, 78, 45]
abbrev dktX2_least_0 : List UInt8 := dkwX2_least_0 ++ dktX2_least_1
theorem dksX2_least_0 : cX2_least.data.toList.drop 0 = dktX2_least_0 := by decide +kernel
theorem dksX2_least_1 : cX2_least.data.toList.drop 22 = dktX2_least_1 := dk_seg dksX2_least_0 22 rfl rfl
theorem dksX2_least_2 : cX2_least.data.toList.drop 45 = dktX2_least_2 := dk_seg dksX2_least_1 23 rfl rfl
theorem dX2_least_0 : decode cX2_least 0 = .ok (.iconst (-1), 1) := dk_2 (dk_at dksX2_least_0 0 rfl rfl)
theorem dX2_least_1 : decode cX2_least 1 = .ok (.istore_n 1, 1) := dk_60 (dk_at dksX2_least_0 1 rfl rfl)
theorem dX2_least_2 : decode cX2_least 2 = .ok (.iconst 0, 1) := dk_3 (dk_at dksX2_least_0 2 rfl rfl)
theorem dX2_least_3 : decode cX2_least 3 = .ok (.istore_n 2, 1) := dk_61 (dk_at dksX2_least_0 3 rfl rfl)
theorem dX2_least_4 : decode cX2_least 4 = .ok (.iload_n 2, 1) := dk_28 (dk_at dksX2_least_0 4 rfl rfl)
theorem dX2_least_5 : decode cX2_least 5 = .ok (.aload_n 0, 1) := dk_42 (dk_at dksX2_least_0 5 rfl rfl)
theorem dX2_least_6 : decode cX2_least 6 = .ok (.getfield 36, 3) := dk_180 0 36 (dk_at dksX2_least_0 6 rfl rfl)
theorem dX2_least_9 : decode cX2_least 9 = .ok (.invokevirtual 59, 3) := dk_182 0 59 (dk_at dksX2_least_0 9 rfl rfl)
theorem dX2_least_12 : decode cX2_least 12 = .ok (.if_icmp .ge 44, 3) := dk_162 0 44 (dk_at dksX2_least_0 12 rfl rfl)
theorem dX2_least_15 : decode cX2_least 15 = .ok (.aload_n 0, 1) := dk_42 (dk_at dksX2_least_0 15 rfl rfl)
theorem dX2_least_16 : decode cX2_least 16 = .ok (.iload_n 2, 1) := dk_28 (dk_at dksX2_least_0 16 rfl rfl)
theorem dX2_least_17 : decode cX2_least 17 = .ok (.invokevirtual 114, 3) := dk_182 0 114 (dk_at dksX2_least_0 17 rfl rfl)
theorem dX2_least_20 : decode cX2_least 20 = .ok (.astore_n 3, 1) := dk_78 (dk_at dksX2_least_0 20 rfl rfl)
theorem dX2_least_21 : decode cX2_least 21 = .ok (.aload_n 3, 1) := dk_45 (dk_at dksX2_least_0 21 rfl rfl)
theorem dX2_least_22 : decode cX2_least 22 = .ok (.getfield 118, 3) := dk_180 0 118 (dk_at dksX2_least_1 0 rfl rfl)
theorem dX2_least_25 : decode cX2_least 25 = .ok (.ifCond .eq 23, 3) := dk_153 0 23 (dk_at dksX2_least_1 3 rfl rfl)
theorem dX2_least_28 : decode cX2_least 28 = .ok (.iload_n 1, 1) := dk_27 (dk_at dksX2_least_1 6 rfl rfl)
theorem dX2_least_29 : decode cX2_least 29 = .ok (.iconst (-1), 1) := dk_2 (dk_at dksX2_least_1 7 rfl rfl)
theorem dX2_least_30 : decode cX2_least 30 = .ok (.if_icmp .eq 11, 3) := dk_159 0 11 (dk_at dksX2_least_1 8 rfl rfl)
theorem dX2_least_33 : decode cX2_least 33 = .ok (.aload_n 3, 1) := dk_45 (dk_at dksX2_least_1 11 rfl rfl)
theorem dX2_least_34 : decode cX2_least 34 = .ok (.getfield 122, 3) := dk_180 0 122 (dk_at dksX2_least_1 12 rfl rfl)
theorem dX2_least_37 : decode cX2_least 37 = .ok (.iload_n 1, 1) := dk_27 (dk_at dksX2_least_1 15 rfl rfl)
theorem dX2_least_38 : decode cX2_least 38 = .ok (.if_icmp .ge 10, 3) := dk_162 0 10 (dk_at dksX2_least_1 16 rfl rfl)
theorem dX2_least_41 : decode cX2_least 41 = .ok (.aload_n 3, 1) := dk_45 (dk_at dksX2_least_1 19 rfl rfl)
theorem dX2_least_42 : decode cX2_least 42 = .ok (.getfield 122, 3) := dk_180 0 122 (dk_at dksX2_least_1 20 rfl rfl)
theorem dX2_least_45 : decode cX2_least 45 = .ok (.goto 4, 3) := dk_167 0 4 (dk_at dksX2_least_2 0 rfl rfl)
theorem dX2_least_48 : decode cX2_least 48 = .ok (.iload_n 1, 1) := dk_27 (dk_at dksX2_least_2 3 rfl rfl)
theorem dX2_least_49 : decode cX2_least 49 = .ok (.istore_n 1, 1) := dk_60 (dk_at dksX2_least_2 4 rfl rfl)
theorem dX2_least_50 : decode cX2_least 50 = .ok (.iinc 2 1, 3) := dk_132 2 1 (dk_at dksX2_least_2 5 rfl rfl)
theorem dX2_least_53 : decode cX2_least 53 = .ok (.goto (-49), 3) := dk_167 255 207 (dk_at dksX2_least_2 8 rfl rfl)
theorem dX2_least_56 : decode cX2_least 56 = .ok (.iload_n 1, 1) := dk_27 (dk_at dksX2_least_2 11 rfl rfl)
theorem dX2_least_57 : decode cX2_least 57 = .ok (.ireturn, 1) := dk_172 (dk_at dksX2_least_2 12 rfl rfl)
def dkwX2_active_1 : List UInt8 := [153, 0, 7, 4, 167, 0, 4, 3, 96, 60, 132, 2, 1, 167, 255, 223, 27, 172]
abbrev dktX2_active_1 : List UInt8 := dkwX2_active_1 ++ []
def dkwX2_active_0 : List UInt8 := [3, 60, 3, 61, 28, 42, 180, 0, 36, 182, 0, 59, 162, 0, 28, 27, 42, 28, 182, 0, 114, 180, 0, 118]
abbrev dktX2_active_0 : List UInt8 := dkwX2_active_0 ++ dktX2_active_1
theorem dksX2_active_0 : cX2_active.data.toList.drop 0 = dktX2_active_0 := by decide +kernel
theorem dksX2_active_1 : cX2_active.data.toList.drop 24 = dktX2_active_1 := dk_seg dksX2_active_0 24 rfl rfl
theorem dX2_active_0 : decode cX2_active 0 = .ok (.iconst 0, 1) := dk_3 (dk_at dksX2_active_0 0 rfl rfl)
theorem dX2_active_1 : decode cX2_active 1 = .ok (.istore_n 1, 1) := dk_60 (dk_at dksX2_active_0 1 rfl rfl)
theorem dX2_active_2 : decode cX2_active 2 = .ok (.iconst 0, 1) := dk_3 (dk_at dksX2_active_0 2 rfl rfl)
theorem dX2_active_3 : decode cX2_active 3 = .ok (.istore_n 2, 1) := dk_61 (dk_at dksX2_active_0 3 rfl rfl)
theorem dX2_active_4 : decode cX2_active 4 = .ok (.iload_n 2, 1) := dk_28 (dk_at dksX2_active_0 4 rfl rfl)
theorem dX2_active_5 : decode cX2_active 5 = .ok (.aload_n 0, 1) := dk_42 (dk_at dksX2_active_0 5 rfl rfl)
theorem dX2_active_6 : decode cX2_active 6 = .ok (.getfield 36, 3) := dk_180 0 36 (dk_at dksX2_active_0 6 rfl rfl)
theorem dX2_active_9 : decode cX2_active 9 = .ok (.invokevirtual 59, 3) := dk_182 0 59 (dk_at dksX2_active_0 9 rfl rfl)
theorem dX2_active_12 : decode cX2_active 12 = .ok (.if_icmp .ge 28, 3) := dk_162 0 28 (dk_at dksX2_active_0 12 rfl rfl)
theorem dX2_active_15 : decode cX2_active 15 = .ok (.iload_n 1, 1) := dk_27 (dk_at dksX2_active_0 15 rfl rfl)
theorem dX2_active_16 : decode cX2_active 16 = .ok (.aload_n 0, 1) := dk_42 (dk_at dksX2_active_0 16 rfl rfl)
theorem dX2_active_17 : decode cX2_active 17 = .ok (.iload_n 2, 1) := dk_28 (dk_at dksX2_active_0 17 rfl rfl)
theorem dX2_active_18 : decode cX2_active 18 = .ok (.invokevirtual 114, 3) := dk_182 0 114 (dk_at dksX2_active_0 18 rfl rfl)
theorem dX2_active_21 : decode cX2_active 21 = .ok (.getfield 118, 3) := dk_180 0 118 (dk_at dksX2_active_0 21 rfl rfl)
theorem dX2_active_24 : decode cX2_active 24 = .ok (.ifCond .eq 7, 3) := dk_153 0 7 (dk_at dksX2_active_1 0 rfl rfl)
theorem dX2_active_27 : decode cX2_active 27 = .ok (.iconst 1, 1) := dk_4 (dk_at dksX2_active_1 3 rfl rfl)
theorem dX2_active_28 : decode cX2_active 28 = .ok (.goto 4, 3) := dk_167 0 4 (dk_at dksX2_active_1 4 rfl rfl)
theorem dX2_active_31 : decode cX2_active 31 = .ok (.iconst 0, 1) := dk_3 (dk_at dksX2_active_1 7 rfl rfl)
theorem dX2_active_32 : decode cX2_active 32 = .ok (.iadd, 1) := dk_96 (dk_at dksX2_active_1 8 rfl rfl)
theorem dX2_active_33 : decode cX2_active 33 = .ok (.istore_n 1, 1) := dk_60 (dk_at dksX2_active_1 9 rfl rfl)
theorem dX2_active_34 : decode cX2_active 34 = .ok (.iinc 2 1, 3) := dk_132 2 1 (dk_at dksX2_active_1 10 rfl rfl)
theorem dX2_active_37 : decode cX2_active 37 = .ok (.goto (-33), 3) := dk_167 255 223 (dk_at dksX2_active_1 13 rfl rfl)
theorem dX2_active_40 : decode cX2_active 40 = .ok (.iload_n 1, 1) := dk_27 (dk_at dksX2_active_1 16 rfl rfl)
theorem dX2_active_41 : decode cX2_active 41 = .ok (.ireturn, 1) := dk_172 (dk_at dksX2_active_1 17 rfl rfl)
def dkwX2_truth_1 : List UInt8 := [180, 0, 40, 29, 182, 0, 63, 192, 0, 77, 44, 182, 0, 137, 132, 3, 1, 167, 255, 229, 44, 176]
abbrev dktX2_truth_1 : List UInt8 := dkwX2_truth_1 ++ []
def dkwX2_truth_0 : List UInt8 := [42, 180, 0, 18, 182, 0, 25, 192, 0, 26, 77, 3, 62, 29, 27, 162, 0, 28, 42, 180, 0, 12, 42]
abbrev dktX2_truth_0 : List UInt8 := dkwX2_truth_0 ++ dktX2_truth_1
theorem dksX2_truth_0 : cX2_truth.data.toList.drop 0 = dktX2_truth_0 := by decide +kernel
theorem dksX2_truth_1 : cX2_truth.data.toList.drop 23 = dktX2_truth_1 := dk_seg dksX2_truth_0 23 rfl rfl
theorem dX2_truth_0 : decode cX2_truth 0 = .ok (.aload_n 0, 1) := dk_42 (dk_at dksX2_truth_0 0 rfl rfl)
theorem dX2_truth_1 : decode cX2_truth 1 = .ok (.getfield 18, 3) := dk_180 0 18 (dk_at dksX2_truth_0 1 rfl rfl)
theorem dX2_truth_4 : decode cX2_truth 4 = .ok (.invokevirtual 25, 3) := dk_182 0 25 (dk_at dksX2_truth_0 4 rfl rfl)
theorem dX2_truth_7 : decode cX2_truth 7 = .ok (.checkcast 26, 3) := dk_192 0 26 (dk_at dksX2_truth_0 7 rfl rfl)
theorem dX2_truth_10 : decode cX2_truth 10 = .ok (.astore_n 2, 1) := dk_77 (dk_at dksX2_truth_0 10 rfl rfl)
theorem dX2_truth_11 : decode cX2_truth 11 = .ok (.iconst 0, 1) := dk_3 (dk_at dksX2_truth_0 11 rfl rfl)
theorem dX2_truth_12 : decode cX2_truth 12 = .ok (.istore_n 3, 1) := dk_62 (dk_at dksX2_truth_0 12 rfl rfl)
theorem dX2_truth_13 : decode cX2_truth 13 = .ok (.iload_n 3, 1) := dk_29 (dk_at dksX2_truth_0 13 rfl rfl)
theorem dX2_truth_14 : decode cX2_truth 14 = .ok (.iload_n 1, 1) := dk_27 (dk_at dksX2_truth_0 14 rfl rfl)
theorem dX2_truth_15 : decode cX2_truth 15 = .ok (.if_icmp .ge 28, 3) := dk_162 0 28 (dk_at dksX2_truth_0 15 rfl rfl)
theorem dX2_truth_18 : decode cX2_truth 18 = .ok (.aload_n 0, 1) := dk_42 (dk_at dksX2_truth_0 18 rfl rfl)
theorem dX2_truth_19 : decode cX2_truth 19 = .ok (.getfield 12, 3) := dk_180 0 12 (dk_at dksX2_truth_0 19 rfl rfl)
theorem dX2_truth_22 : decode cX2_truth 22 = .ok (.aload_n 0, 1) := dk_42 (dk_at dksX2_truth_0 22 rfl rfl)
theorem dX2_truth_23 : decode cX2_truth 23 = .ok (.getfield 40, 3) := dk_180 0 40 (dk_at dksX2_truth_1 0 rfl rfl)
theorem dX2_truth_26 : decode cX2_truth 26 = .ok (.iload_n 3, 1) := dk_29 (dk_at dksX2_truth_1 3 rfl rfl)
theorem dX2_truth_27 : decode cX2_truth 27 = .ok (.invokevirtual 63, 3) := dk_182 0 63 (dk_at dksX2_truth_1 4 rfl rfl)
theorem dX2_truth_30 : decode cX2_truth 30 = .ok (.checkcast 77, 3) := dk_192 0 77 (dk_at dksX2_truth_1 7 rfl rfl)
theorem dX2_truth_33 : decode cX2_truth 33 = .ok (.aload_n 2, 1) := dk_44 (dk_at dksX2_truth_1 10 rfl rfl)
theorem dX2_truth_34 : decode cX2_truth 34 = .ok (.invokevirtual 137, 3) := dk_182 0 137 (dk_at dksX2_truth_1 11 rfl rfl)
theorem dX2_truth_37 : decode cX2_truth 37 = .ok (.iinc 3 1, 3) := dk_132 3 1 (dk_at dksX2_truth_1 14 rfl rfl)
theorem dX2_truth_40 : decode cX2_truth 40 = .ok (.goto (-27), 3) := dk_167 255 229 (dk_at dksX2_truth_1 17 rfl rfl)
theorem dX2_truth_43 : decode cX2_truth 43 = .ok (.aload_n 2, 1) := dk_44 (dk_at dksX2_truth_1 20 rfl rfl)
theorem dX2_truth_44 : decode cX2_truth 44 = .ok (.areturn, 1) := dk_176 (dk_at dksX2_truth_1 21 rfl rfl)
def dkwX2_copy_8 : List UInt8 := [180, 0, 97, 181, 0, 97, 43, 176]
abbrev dktX2_copy_8 : List UInt8 := dkwX2_copy_8 ++ []
def dkwX2_copy_7 : List UInt8 := [42, 180, 0, 55, 28, 182, 0, 63, 192, 0, 95, 182, 0, 73, 87, 132, 2, 1, 167, 255, 223, 43, 42]
abbrev dktX2_copy_7 : List UInt8 := dkwX2_copy_7 ++ dktX2_copy_8
def dkwX2_copy_6 : List UInt8 := [182, 0, 94, 87, 167, 255, 228, 3, 61, 28, 42, 180, 0, 55, 182, 0, 59, 162, 0, 28, 43, 180, 0, 55]
abbrev dktX2_copy_6 : List UInt8 := dkwX2_copy_6 ++ dktX2_copy_7
def dkwX2_copy_5 : List UInt8 := [185, 0, 83, 1, 0, 153, 0, 25, 44, 185, 0, 89, 1, 0, 192, 0, 92, 78, 43, 180, 0, 51, 45]
abbrev dktX2_copy_5 : List UInt8 := dkwX2_copy_5 ++ dktX2_copy_6
def dkwX2_copy_4 : List UInt8 := [192, 0, 77, 182, 0, 73, 87, 132, 2, 1, 167, 255, 223, 42, 180, 0, 51, 182, 0, 79, 77, 44]
abbrev dktX2_copy_4 : List UInt8 := dkwX2_copy_4 ++ dktX2_copy_5
def dkwX2_copy_3 : List UInt8 := [61, 28, 42, 180, 0, 40, 182, 0, 59, 162, 0, 28, 43, 180, 0, 40, 42, 180, 0, 40, 28, 182, 0, 63]
abbrev dktX2_copy_3 : List UInt8 := dkwX2_copy_3 ++ dktX2_copy_4
def dkwX2_copy_2 : List UInt8 := [180, 0, 36, 28, 182, 0, 63, 192, 0, 67, 182, 0, 69, 182, 0, 73, 87, 132, 2, 1, 167, 255, 220, 3]
abbrev dktX2_copy_2 : List UInt8 := dkwX2_copy_2 ++ dktX2_copy_3
def dkwX2_copy_1 : List UInt8 := [192, 0, 26, 181, 0, 30, 3, 61, 28, 42, 180, 0, 36, 182, 0, 59, 162, 0, 31, 43, 180, 0, 36, 42]
abbrev dktX2_copy_1 : List UInt8 := dkwX2_copy_1 ++ dktX2_copy_2
def dkwX2_copy_0 : List UInt8 := [187, 0, 13, 89, 183, 0, 58, 76, 43, 42, 180, 0, 18, 181, 0, 18, 43, 42, 180, 0, 30, 182, 0, 25]
abbrev dktX2_copy_0 : List UInt8 := dkwX2_copy_0 ++ dktX2_copy_1
theorem dksX2_copy_0 : cX2_copy.data.toList.drop 0 = dktX2_copy_0 := by decide +kernel
theorem dksX2_copy_1 : cX2_copy.data.toList.drop 24 = dktX2_copy_1 := dk_seg dksX2_copy_0 24 rfl rfl
theorem dksX2_copy_2 : cX2_copy.data.toList.drop 48 = dktX2_copy_2 := dk_seg dksX2_copy_1 24 rfl rfl
theorem dksX2_copy_3 : cX2_copy.data.toList.drop 72 = dktX2_copy_3 := dk_seg dksX2_copy_2 24 rfl rfl
theorem dksX2_copy_4 : cX2_copy.data.toList.drop 96 = dktX2_copy_4 := dk_seg dksX2_copy_3 24 rfl rfl
theorem dksX2_copy_5 : cX2_copy.data.toList.drop 118 = dktX2_copy_5 := dk_seg dksX2_copy_4 22 rfl rfl
theorem dksX2_copy_6 : cX2_copy.data.toList.drop 141 = dktX2_copy_6 := dk_seg dksX2_copy_5 23 rfl rfl
theorem dksX2_copy_7 : cX2_copy.data.toList.drop 165 = dktX2_copy_7 := dk_seg dksX2_copy_6 24 rfl rfl
theorem dksX2_copy_8 : cX2_copy.data.toList.drop 188 = dktX2_copy_8 := dk_seg dksX2_copy_7 23 rfl rfl
theorem dX2_copy_0 : decode cX2_copy 0 = .ok (.new 13, 3) := dk_187 0 13 (dk_at dksX2_copy_0 0 rfl rfl)
theorem dX2_copy_3 : decode cX2_copy 3 = .ok (.dup, 1) := dk_89 (dk_at dksX2_copy_0 3 rfl rfl)
theorem dX2_copy_4 : decode cX2_copy 4 = .ok (.invokespecial 58, 3) := dk_183 0 58 (dk_at dksX2_copy_0 4 rfl rfl)
theorem dX2_copy_7 : decode cX2_copy 7 = .ok (.astore_n 1, 1) := dk_76 (dk_at dksX2_copy_0 7 rfl rfl)
theorem dX2_copy_8 : decode cX2_copy 8 = .ok (.aload_n 1, 1) := dk_43 (dk_at dksX2_copy_0 8 rfl rfl)
theorem dX2_copy_9 : decode cX2_copy 9 = .ok (.aload_n 0, 1) := dk_42 (dk_at dksX2_copy_0 9 rfl rfl)
theorem dX2_copy_10 : decode cX2_copy 10 = .ok (.getfield 18, 3) := dk_180 0 18 (dk_at dksX2_copy_0 10 rfl rfl)
theorem dX2_copy_13 : decode cX2_copy 13 = .ok (.putfield 18, 3) := dk_181 0 18 (dk_at dksX2_copy_0 13 rfl rfl)
theorem dX2_copy_16 : decode cX2_copy 16 = .ok (.aload_n 1, 1) := dk_43 (dk_at dksX2_copy_0 16 rfl rfl)
theorem dX2_copy_17 : decode cX2_copy 17 = .ok (.aload_n 0, 1) := dk_42 (dk_at dksX2_copy_0 17 rfl rfl)
theorem dX2_copy_18 : decode cX2_copy 18 = .ok (.getfield 30, 3) := dk_180 0 30 (dk_at dksX2_copy_0 18 rfl rfl)
theorem dX2_copy_21 : decode cX2_copy 21 = .ok (.invokevirtual 25, 3) := dk_182 0 25 (dk_at dksX2_copy_0 21 rfl rfl)
theorem dX2_copy_24 : decode cX2_copy 24 = .ok (.checkcast 26, 3) := dk_192 0 26 (dk_at dksX2_copy_1 0 rfl rfl)
theorem dX2_copy_27 : decode cX2_copy 27 = .ok (.putfield 30, 3) := dk_181 0 30 (dk_at dksX2_copy_1 3 rfl rfl)
theorem dX2_copy_30 : decode cX2_copy 30 = .ok (.iconst 0, 1) := dk_3 (dk_at dksX2_copy_1 6 rfl rfl)
theorem dX2_copy_31 : decode cX2_copy 31 = .ok (.istore_n 2, 1) := dk_61 (dk_at dksX2_copy_1 7 rfl rfl)
theorem dX2_copy_32 : decode cX2_copy 32 = .ok (.iload_n 2, 1) := dk_28 (dk_at dksX2_copy_1 8 rfl rfl)
theorem dX2_copy_33 : decode cX2_copy 33 = .ok (.aload_n 0, 1) := dk_42 (dk_at dksX2_copy_1 9 rfl rfl)
theorem dX2_copy_34 : decode cX2_copy 34 = .ok (.getfield 36, 3) := dk_180 0 36 (dk_at dksX2_copy_1 10 rfl rfl)
theorem dX2_copy_37 : decode cX2_copy 37 = .ok (.invokevirtual 59, 3) := dk_182 0 59 (dk_at dksX2_copy_1 13 rfl rfl)
theorem dX2_copy_40 : decode cX2_copy 40 = .ok (.if_icmp .ge 31, 3) := dk_162 0 31 (dk_at dksX2_copy_1 16 rfl rfl)
theorem dX2_copy_43 : decode cX2_copy 43 = .ok (.aload_n 1, 1) := dk_43 (dk_at dksX2_copy_1 19 rfl rfl)
theorem dX2_copy_44 : decode cX2_copy 44 = .ok (.getfield 36, 3) := dk_180 0 36 (dk_at dksX2_copy_1 20 rfl rfl)
theorem dX2_copy_47 : decode cX2_copy 47 = .ok (.aload_n 0, 1) := dk_42 (dk_at dksX2_copy_1 23 rfl rfl)
theorem dX2_copy_48 : decode cX2_copy 48 = .ok (.getfield 36, 3) := dk_180 0 36 (dk_at dksX2_copy_2 0 rfl rfl)
theorem dX2_copy_51 : decode cX2_copy 51 = .ok (.iload_n 2, 1) := dk_28 (dk_at dksX2_copy_2 3 rfl rfl)
theorem dX2_copy_52 : decode cX2_copy 52 = .ok (.invokevirtual 63, 3) := dk_182 0 63 (dk_at dksX2_copy_2 4 rfl rfl)
theorem dX2_copy_55 : decode cX2_copy 55 = .ok (.checkcast 67, 3) := dk_192 0 67 (dk_at dksX2_copy_2 7 rfl rfl)
theorem dX2_copy_58 : decode cX2_copy 58 = .ok (.invokevirtual 69, 3) := dk_182 0 69 (dk_at dksX2_copy_2 10 rfl rfl)
theorem dX2_copy_61 : decode cX2_copy 61 = .ok (.invokevirtual 73, 3) := dk_182 0 73 (dk_at dksX2_copy_2 13 rfl rfl)
theorem dX2_copy_64 : decode cX2_copy 64 = .ok (.pop, 1) := dk_87 (dk_at dksX2_copy_2 16 rfl rfl)
theorem dX2_copy_65 : decode cX2_copy 65 = .ok (.iinc 2 1, 3) := dk_132 2 1 (dk_at dksX2_copy_2 17 rfl rfl)
theorem dX2_copy_68 : decode cX2_copy 68 = .ok (.goto (-36), 3) := dk_167 255 220 (dk_at dksX2_copy_2 20 rfl rfl)
theorem dX2_copy_71 : decode cX2_copy 71 = .ok (.iconst 0, 1) := dk_3 (dk_at dksX2_copy_2 23 rfl rfl)
theorem dX2_copy_72 : decode cX2_copy 72 = .ok (.istore_n 2, 1) := dk_61 (dk_at dksX2_copy_3 0 rfl rfl)
theorem dX2_copy_73 : decode cX2_copy 73 = .ok (.iload_n 2, 1) := dk_28 (dk_at dksX2_copy_3 1 rfl rfl)
theorem dX2_copy_74 : decode cX2_copy 74 = .ok (.aload_n 0, 1) := dk_42 (dk_at dksX2_copy_3 2 rfl rfl)
theorem dX2_copy_75 : decode cX2_copy 75 = .ok (.getfield 40, 3) := dk_180 0 40 (dk_at dksX2_copy_3 3 rfl rfl)
theorem dX2_copy_78 : decode cX2_copy 78 = .ok (.invokevirtual 59, 3) := dk_182 0 59 (dk_at dksX2_copy_3 6 rfl rfl)
theorem dX2_copy_81 : decode cX2_copy 81 = .ok (.if_icmp .ge 28, 3) := dk_162 0 28 (dk_at dksX2_copy_3 9 rfl rfl)
theorem dX2_copy_84 : decode cX2_copy 84 = .ok (.aload_n 1, 1) := dk_43 (dk_at dksX2_copy_3 12 rfl rfl)
theorem dX2_copy_85 : decode cX2_copy 85 = .ok (.getfield 40, 3) := dk_180 0 40 (dk_at dksX2_copy_3 13 rfl rfl)
theorem dX2_copy_88 : decode cX2_copy 88 = .ok (.aload_n 0, 1) := dk_42 (dk_at dksX2_copy_3 16 rfl rfl)
theorem dX2_copy_89 : decode cX2_copy 89 = .ok (.getfield 40, 3) := dk_180 0 40 (dk_at dksX2_copy_3 17 rfl rfl)
theorem dX2_copy_92 : decode cX2_copy 92 = .ok (.iload_n 2, 1) := dk_28 (dk_at dksX2_copy_3 20 rfl rfl)
theorem dX2_copy_93 : decode cX2_copy 93 = .ok (.invokevirtual 63, 3) := dk_182 0 63 (dk_at dksX2_copy_3 21 rfl rfl)
theorem dX2_copy_96 : decode cX2_copy 96 = .ok (.checkcast 77, 3) := dk_192 0 77 (dk_at dksX2_copy_4 0 rfl rfl)
theorem dX2_copy_99 : decode cX2_copy 99 = .ok (.invokevirtual 73, 3) := dk_182 0 73 (dk_at dksX2_copy_4 3 rfl rfl)
theorem dX2_copy_102 : decode cX2_copy 102 = .ok (.pop, 1) := dk_87 (dk_at dksX2_copy_4 6 rfl rfl)
theorem dX2_copy_103 : decode cX2_copy 103 = .ok (.iinc 2 1, 3) := dk_132 2 1 (dk_at dksX2_copy_4 7 rfl rfl)
theorem dX2_copy_106 : decode cX2_copy 106 = .ok (.goto (-33), 3) := dk_167 255 223 (dk_at dksX2_copy_4 10 rfl rfl)
theorem dX2_copy_109 : decode cX2_copy 109 = .ok (.aload_n 0, 1) := dk_42 (dk_at dksX2_copy_4 13 rfl rfl)
theorem dX2_copy_110 : decode cX2_copy 110 = .ok (.getfield 51, 3) := dk_180 0 51 (dk_at dksX2_copy_4 14 rfl rfl)
theorem dX2_copy_113 : decode cX2_copy 113 = .ok (.invokevirtual 79, 3) := dk_182 0 79 (dk_at dksX2_copy_4 17 rfl rfl)
theorem dX2_copy_116 : decode cX2_copy 116 = .ok (.astore_n 2, 1) := dk_77 (dk_at dksX2_copy_4 20 rfl rfl)
theorem dX2_copy_117 : decode cX2_copy 117 = .ok (.aload_n 2, 1) := dk_44 (dk_at dksX2_copy_4 21 rfl rfl)
theorem dX2_copy_118 : decode cX2_copy 118 = .ok (.invokeinterface 83 1, 5) := by decide +kernel
theorem dX2_copy_123 : decode cX2_copy 123 = .ok (.ifCond .eq 25, 3) := dk_153 0 25 (dk_at dksX2_copy_5 5 rfl rfl)
theorem dX2_copy_126 : decode cX2_copy 126 = .ok (.aload_n 2, 1) := dk_44 (dk_at dksX2_copy_5 8 rfl rfl)
theorem dX2_copy_127 : decode cX2_copy 127 = .ok (.invokeinterface 89 1, 5) := by decide +kernel
theorem dX2_copy_132 : decode cX2_copy 132 = .ok (.checkcast 92, 3) := dk_192 0 92 (dk_at dksX2_copy_5 14 rfl rfl)
theorem dX2_copy_135 : decode cX2_copy 135 = .ok (.astore_n 3, 1) := dk_78 (dk_at dksX2_copy_5 17 rfl rfl)
theorem dX2_copy_136 : decode cX2_copy 136 = .ok (.aload_n 1, 1) := dk_43 (dk_at dksX2_copy_5 18 rfl rfl)
theorem dX2_copy_137 : decode cX2_copy 137 = .ok (.getfield 51, 3) := dk_180 0 51 (dk_at dksX2_copy_5 19 rfl rfl)
theorem dX2_copy_140 : decode cX2_copy 140 = .ok (.aload_n 3, 1) := dk_45 (dk_at dksX2_copy_5 22 rfl rfl)
theorem dX2_copy_141 : decode cX2_copy 141 = .ok (.invokevirtual 94, 3) := dk_182 0 94 (dk_at dksX2_copy_6 0 rfl rfl)
theorem dX2_copy_144 : decode cX2_copy 144 = .ok (.pop, 1) := dk_87 (dk_at dksX2_copy_6 3 rfl rfl)
theorem dX2_copy_145 : decode cX2_copy 145 = .ok (.goto (-28), 3) := dk_167 255 228 (dk_at dksX2_copy_6 4 rfl rfl)
theorem dX2_copy_148 : decode cX2_copy 148 = .ok (.iconst 0, 1) := dk_3 (dk_at dksX2_copy_6 7 rfl rfl)
theorem dX2_copy_149 : decode cX2_copy 149 = .ok (.istore_n 2, 1) := dk_61 (dk_at dksX2_copy_6 8 rfl rfl)
theorem dX2_copy_150 : decode cX2_copy 150 = .ok (.iload_n 2, 1) := dk_28 (dk_at dksX2_copy_6 9 rfl rfl)
theorem dX2_copy_151 : decode cX2_copy 151 = .ok (.aload_n 0, 1) := dk_42 (dk_at dksX2_copy_6 10 rfl rfl)
theorem dX2_copy_152 : decode cX2_copy 152 = .ok (.getfield 55, 3) := dk_180 0 55 (dk_at dksX2_copy_6 11 rfl rfl)
theorem dX2_copy_155 : decode cX2_copy 155 = .ok (.invokevirtual 59, 3) := dk_182 0 59 (dk_at dksX2_copy_6 14 rfl rfl)
theorem dX2_copy_158 : decode cX2_copy 158 = .ok (.if_icmp .ge 28, 3) := dk_162 0 28 (dk_at dksX2_copy_6 17 rfl rfl)
theorem dX2_copy_161 : decode cX2_copy 161 = .ok (.aload_n 1, 1) := dk_43 (dk_at dksX2_copy_6 20 rfl rfl)
theorem dX2_copy_162 : decode cX2_copy 162 = .ok (.getfield 55, 3) := dk_180 0 55 (dk_at dksX2_copy_6 21 rfl rfl)
theorem dX2_copy_165 : decode cX2_copy 165 = .ok (.aload_n 0, 1) := dk_42 (dk_at dksX2_copy_7 0 rfl rfl)
theorem dX2_copy_166 : decode cX2_copy 166 = .ok (.getfield 55, 3) := dk_180 0 55 (dk_at dksX2_copy_7 1 rfl rfl)
theorem dX2_copy_169 : decode cX2_copy 169 = .ok (.iload_n 2, 1) := dk_28 (dk_at dksX2_copy_7 4 rfl rfl)
theorem dX2_copy_170 : decode cX2_copy 170 = .ok (.invokevirtual 63, 3) := dk_182 0 63 (dk_at dksX2_copy_7 5 rfl rfl)
theorem dX2_copy_173 : decode cX2_copy 173 = .ok (.checkcast 95, 3) := dk_192 0 95 (dk_at dksX2_copy_7 8 rfl rfl)
theorem dX2_copy_176 : decode cX2_copy 176 = .ok (.invokevirtual 73, 3) := dk_182 0 73 (dk_at dksX2_copy_7 11 rfl rfl)
theorem dX2_copy_179 : decode cX2_copy 179 = .ok (.pop, 1) := dk_87 (dk_at dksX2_copy_7 14 rfl rfl)
theorem dX2_copy_180 : decode cX2_copy 180 = .ok (.iinc 2 1, 3) := dk_132 2 1 (dk_at dksX2_copy_7 15 rfl rfl)
theorem dX2_copy_183 : decode cX2_copy 183 = .ok (.goto (-33), 3) := dk_167 255 223 (dk_at dksX2_copy_7 18 rfl rfl)
theorem dX2_copy_186 : decode cX2_copy 186 = .ok (.aload_n 1, 1) := dk_43 (dk_at dksX2_copy_7 21 rfl rfl)
theorem dX2_copy_187 : decode cX2_copy 187 = .ok (.aload_n 0, 1) := dk_42 (dk_at dksX2_copy_7 22 rfl rfl)
theorem dX2_copy_188 : decode cX2_copy 188 = .ok (.getfield 97, 3) := dk_180 0 97 (dk_at dksX2_copy_8 0 rfl rfl)
theorem dX2_copy_191 : decode cX2_copy 191 = .ok (.putfield 97, 3) := dk_181 0 97 (dk_at dksX2_copy_8 3 rfl rfl)
theorem dX2_copy_194 : decode cX2_copy 194 = .ok (.aload_n 1, 1) := dk_43 (dk_at dksX2_copy_8 6 rfl rfl)
theorem dX2_copy_195 : decode cX2_copy 195 = .ok (.areturn, 1) := dk_176 (dk_at dksX2_copy_8 7 rfl rfl)
def dkwX2_mayRun_1 : List UInt8 := [184, 0, 131, 43, 180, 0, 122, 100, 184, 0, 125, 167, 0, 4, 3, 172]
abbrev dktX2_mayRun_1 : List UInt8 := dkwX2_mayRun_1 ++ []
def dkwX2_mayRun_0 : List UInt8 := [43, 180, 0, 118, 153, 0, 33, 3, 42, 180, 0, 40, 182, 0, 59, 28, 42, 180, 0, 30, 3, 46, 96]
abbrev dktX2_mayRun_0 : List UInt8 := dkwX2_mayRun_0 ++ dktX2_mayRun_1
theorem dksX2_mayRun_0 : cX2_mayRun.data.toList.drop 0 = dktX2_mayRun_0 := by decide +kernel
theorem dksX2_mayRun_1 : cX2_mayRun.data.toList.drop 23 = dktX2_mayRun_1 := dk_seg dksX2_mayRun_0 23 rfl rfl
theorem dX2_mayRun_0 : decode cX2_mayRun 0 = .ok (.aload_n 1, 1) := dk_43 (dk_at dksX2_mayRun_0 0 rfl rfl)
theorem dX2_mayRun_1 : decode cX2_mayRun 1 = .ok (.getfield 118, 3) := dk_180 0 118 (dk_at dksX2_mayRun_0 1 rfl rfl)
theorem dX2_mayRun_4 : decode cX2_mayRun 4 = .ok (.ifCond .eq 33, 3) := dk_153 0 33 (dk_at dksX2_mayRun_0 4 rfl rfl)
theorem dX2_mayRun_7 : decode cX2_mayRun 7 = .ok (.iconst 0, 1) := dk_3 (dk_at dksX2_mayRun_0 7 rfl rfl)
theorem dX2_mayRun_8 : decode cX2_mayRun 8 = .ok (.aload_n 0, 1) := dk_42 (dk_at dksX2_mayRun_0 8 rfl rfl)
theorem dX2_mayRun_9 : decode cX2_mayRun 9 = .ok (.getfield 40, 3) := dk_180 0 40 (dk_at dksX2_mayRun_0 9 rfl rfl)
theorem dX2_mayRun_12 : decode cX2_mayRun 12 = .ok (.invokevirtual 59, 3) := dk_182 0 59 (dk_at dksX2_mayRun_0 12 rfl rfl)
theorem dX2_mayRun_15 : decode cX2_mayRun 15 = .ok (.iload_n 2, 1) := dk_28 (dk_at dksX2_mayRun_0 15 rfl rfl)
theorem dX2_mayRun_16 : decode cX2_mayRun 16 = .ok (.aload_n 0, 1) := dk_42 (dk_at dksX2_mayRun_0 16 rfl rfl)
theorem dX2_mayRun_17 : decode cX2_mayRun 17 = .ok (.getfield 30, 3) := dk_180 0 30 (dk_at dksX2_mayRun_0 17 rfl rfl)
theorem dX2_mayRun_20 : decode cX2_mayRun 20 = .ok (.iconst 0, 1) := dk_3 (dk_at dksX2_mayRun_0 20 rfl rfl)
theorem dX2_mayRun_21 : decode cX2_mayRun 21 = .ok (.iaload, 1) := dk_46 (dk_at dksX2_mayRun_0 21 rfl rfl)
theorem dX2_mayRun_22 : decode cX2_mayRun 22 = .ok (.iadd, 1) := dk_96 (dk_at dksX2_mayRun_0 22 rfl rfl)
theorem dX2_mayRun_23 : decode cX2_mayRun 23 = .ok (.invokestatic 131, 3) := dk_184 0 131 (dk_at dksX2_mayRun_1 0 rfl rfl)
theorem dX2_mayRun_26 : decode cX2_mayRun 26 = .ok (.aload_n 1, 1) := dk_43 (dk_at dksX2_mayRun_1 3 rfl rfl)
theorem dX2_mayRun_27 : decode cX2_mayRun 27 = .ok (.getfield 122, 3) := dk_180 0 122 (dk_at dksX2_mayRun_1 4 rfl rfl)
theorem dX2_mayRun_30 : decode cX2_mayRun 30 = .ok (.isub, 1) := dk_100 (dk_at dksX2_mayRun_1 7 rfl rfl)
theorem dX2_mayRun_31 : decode cX2_mayRun 31 = .ok (.invokestatic 125, 3) := dk_184 0 125 (dk_at dksX2_mayRun_1 8 rfl rfl)
theorem dX2_mayRun_34 : decode cX2_mayRun 34 = .ok (.goto 4, 3) := dk_167 0 4 (dk_at dksX2_mayRun_1 11 rfl rfl)
theorem dX2_mayRun_37 : decode cX2_mayRun 37 = .ok (.iconst 0, 1) := dk_3 (dk_at dksX2_mayRun_1 14 rfl rfl)
theorem dX2_mayRun_38 : decode cX2_mayRun 38 = .ok (.ireturn, 1) := dk_172 (dk_at dksX2_mayRun_1 15 rfl rfl)
def dkwX2_run_0 : List UInt8 := [3, 62, 29, 28, 162, 0, 14, 42, 43, 182, 0, 158, 132, 3, 1, 167, 255, 243, 28, 172]
abbrev dktX2_run_0 : List UInt8 := dkwX2_run_0 ++ []
theorem dksX2_run_0 : cX2_run.data.toList.drop 0 = dktX2_run_0 := by decide +kernel
theorem dX2_run_0 : decode cX2_run 0 = .ok (.iconst 0, 1) := dk_3 (dk_at dksX2_run_0 0 rfl rfl)
theorem dX2_run_1 : decode cX2_run 1 = .ok (.istore_n 3, 1) := dk_62 (dk_at dksX2_run_0 1 rfl rfl)
theorem dX2_run_2 : decode cX2_run 2 = .ok (.iload_n 3, 1) := dk_29 (dk_at dksX2_run_0 2 rfl rfl)
theorem dX2_run_3 : decode cX2_run 3 = .ok (.iload_n 2, 1) := dk_28 (dk_at dksX2_run_0 3 rfl rfl)
theorem dX2_run_4 : decode cX2_run 4 = .ok (.if_icmp .ge 14, 3) := dk_162 0 14 (dk_at dksX2_run_0 4 rfl rfl)
theorem dX2_run_7 : decode cX2_run 7 = .ok (.aload_n 0, 1) := dk_42 (dk_at dksX2_run_0 7 rfl rfl)
theorem dX2_run_8 : decode cX2_run 8 = .ok (.aload_n 1, 1) := dk_43 (dk_at dksX2_run_0 8 rfl rfl)
theorem dX2_run_9 : decode cX2_run 9 = .ok (.invokevirtual 158, 3) := dk_182 0 158 (dk_at dksX2_run_0 9 rfl rfl)
theorem dX2_run_12 : decode cX2_run 12 = .ok (.iinc 3 1, 3) := dk_132 3 1 (dk_at dksX2_run_0 12 rfl rfl)
theorem dX2_run_15 : decode cX2_run 15 = .ok (.goto (-13), 3) := dk_167 255 243 (dk_at dksX2_run_0 15 rfl rfl)
theorem dX2_run_18 : decode cX2_run 18 = .ok (.iload_n 2, 1) := dk_28 (dk_at dksX2_run_0 18 rfl rfl)
theorem dX2_run_19 : decode cX2_run 19 = .ok (.ireturn, 1) := dk_172 (dk_at dksX2_run_0 19 rfl rfl)
def dkwX2_step_5 : List UInt8 := [167, 0, 6, 132, 3, 1, 167, 255, 162, 43, 89, 180, 0, 122, 4, 96, 181, 0, 122, 43, 182, 0, 104, 177]
abbrev dktX2_step_5 : List UInt8 := dkwX2_step_5 ++ []
def dkwX2_step_4 : List UInt8 := [180, 0, 152, 96, 17, 39, 16, 112, 79, 42, 180, 0, 55, 29, 182, 0, 155, 192, 0, 95, 58, 5]
abbrev dktX2_step_4 : List UInt8 := dkwX2_step_4 ++ dktX2_step_5
def dkwX2_step_3 : List UInt8 := [160, 0, 49, 43, 180, 0, 134, 25, 4, 180, 0, 149, 43, 180, 0, 134, 25, 4, 180, 0, 149, 46, 25, 4]
abbrev dktX2_step_3 : List UInt8 := dkwX2_step_3 ++ dktX2_step_4
def dkwX2_step_2 : List UInt8 := [192, 0, 95, 58, 4, 25, 4, 180, 0, 141, 43, 180, 0, 143, 160, 0, 58, 25, 4, 180, 0, 146, 28]
abbrev dktX2_step_2 : List UInt8 := dkwX2_step_2 ++ dktX2_step_3
def dkwX2_step_1 : List UInt8 := [182, 0, 137, 3, 62, 29, 42, 180, 0, 55, 182, 0, 59, 162, 0, 89, 42, 180, 0, 55, 29, 182, 0, 63]
abbrev dktX2_step_1 : List UInt8 := dkwX2_step_1 ++ dktX2_step_2
def dkwX2_step_0 : List UInt8 := [43, 180, 0, 122, 61, 42, 180, 0, 12, 42, 180, 0, 40, 28, 182, 0, 63, 192, 0, 77, 43, 180, 0, 134]
abbrev dktX2_step_0 : List UInt8 := dkwX2_step_0 ++ dktX2_step_1
theorem dksX2_step_0 : cX2_step.data.toList.drop 0 = dktX2_step_0 := by decide +kernel
theorem dksX2_step_1 : cX2_step.data.toList.drop 24 = dktX2_step_1 := dk_seg dksX2_step_0 24 rfl rfl
theorem dksX2_step_2 : cX2_step.data.toList.drop 48 = dktX2_step_2 := dk_seg dksX2_step_1 24 rfl rfl
theorem dksX2_step_3 : cX2_step.data.toList.drop 71 = dktX2_step_3 := dk_seg dksX2_step_2 23 rfl rfl
theorem dksX2_step_4 : cX2_step.data.toList.drop 95 = dktX2_step_4 := dk_seg dksX2_step_3 24 rfl rfl
theorem dksX2_step_5 : cX2_step.data.toList.drop 117 = dktX2_step_5 := dk_seg dksX2_step_4 22 rfl rfl
theorem dX2_step_0 : decode cX2_step 0 = .ok (.aload_n 1, 1) := dk_43 (dk_at dksX2_step_0 0 rfl rfl)
theorem dX2_step_1 : decode cX2_step 1 = .ok (.getfield 122, 3) := dk_180 0 122 (dk_at dksX2_step_0 1 rfl rfl)
theorem dX2_step_4 : decode cX2_step 4 = .ok (.istore_n 2, 1) := dk_61 (dk_at dksX2_step_0 4 rfl rfl)
theorem dX2_step_5 : decode cX2_step 5 = .ok (.aload_n 0, 1) := dk_42 (dk_at dksX2_step_0 5 rfl rfl)
theorem dX2_step_6 : decode cX2_step 6 = .ok (.getfield 12, 3) := dk_180 0 12 (dk_at dksX2_step_0 6 rfl rfl)
theorem dX2_step_9 : decode cX2_step 9 = .ok (.aload_n 0, 1) := dk_42 (dk_at dksX2_step_0 9 rfl rfl)
theorem dX2_step_10 : decode cX2_step 10 = .ok (.getfield 40, 3) := dk_180 0 40 (dk_at dksX2_step_0 10 rfl rfl)
theorem dX2_step_13 : decode cX2_step 13 = .ok (.iload_n 2, 1) := dk_28 (dk_at dksX2_step_0 13 rfl rfl)
theorem dX2_step_14 : decode cX2_step 14 = .ok (.invokevirtual 63, 3) := dk_182 0 63 (dk_at dksX2_step_0 14 rfl rfl)
theorem dX2_step_17 : decode cX2_step 17 = .ok (.checkcast 77, 3) := dk_192 0 77 (dk_at dksX2_step_0 17 rfl rfl)
theorem dX2_step_20 : decode cX2_step 20 = .ok (.aload_n 1, 1) := dk_43 (dk_at dksX2_step_0 20 rfl rfl)
theorem dX2_step_21 : decode cX2_step 21 = .ok (.getfield 134, 3) := dk_180 0 134 (dk_at dksX2_step_0 21 rfl rfl)
theorem dX2_step_24 : decode cX2_step 24 = .ok (.invokevirtual 137, 3) := dk_182 0 137 (dk_at dksX2_step_1 0 rfl rfl)
theorem dX2_step_27 : decode cX2_step 27 = .ok (.iconst 0, 1) := dk_3 (dk_at dksX2_step_1 3 rfl rfl)
theorem dX2_step_28 : decode cX2_step 28 = .ok (.istore_n 3, 1) := dk_62 (dk_at dksX2_step_1 4 rfl rfl)
theorem dX2_step_29 : decode cX2_step 29 = .ok (.iload_n 3, 1) := dk_29 (dk_at dksX2_step_1 5 rfl rfl)
theorem dX2_step_30 : decode cX2_step 30 = .ok (.aload_n 0, 1) := dk_42 (dk_at dksX2_step_1 6 rfl rfl)
theorem dX2_step_31 : decode cX2_step 31 = .ok (.getfield 55, 3) := dk_180 0 55 (dk_at dksX2_step_1 7 rfl rfl)
theorem dX2_step_34 : decode cX2_step 34 = .ok (.invokevirtual 59, 3) := dk_182 0 59 (dk_at dksX2_step_1 10 rfl rfl)
theorem dX2_step_37 : decode cX2_step 37 = .ok (.if_icmp .ge 89, 3) := dk_162 0 89 (dk_at dksX2_step_1 13 rfl rfl)
theorem dX2_step_40 : decode cX2_step 40 = .ok (.aload_n 0, 1) := dk_42 (dk_at dksX2_step_1 16 rfl rfl)
theorem dX2_step_41 : decode cX2_step 41 = .ok (.getfield 55, 3) := dk_180 0 55 (dk_at dksX2_step_1 17 rfl rfl)
theorem dX2_step_44 : decode cX2_step 44 = .ok (.iload_n 3, 1) := dk_29 (dk_at dksX2_step_1 20 rfl rfl)
theorem dX2_step_45 : decode cX2_step 45 = .ok (.invokevirtual 63, 3) := dk_182 0 63 (dk_at dksX2_step_1 21 rfl rfl)
theorem dX2_step_48 : decode cX2_step 48 = .ok (.checkcast 95, 3) := dk_192 0 95 (dk_at dksX2_step_2 0 rfl rfl)
theorem dX2_step_51 : decode cX2_step 51 = .ok (.astore 4, 2) := dk_58 4 (dk_at dksX2_step_2 3 rfl rfl)
theorem dX2_step_53 : decode cX2_step 53 = .ok (.aload 4, 2) := dk_25 4 (dk_at dksX2_step_2 5 rfl rfl)
theorem dX2_step_55 : decode cX2_step 55 = .ok (.getfield 141, 3) := dk_180 0 141 (dk_at dksX2_step_2 7 rfl rfl)
theorem dX2_step_58 : decode cX2_step 58 = .ok (.aload_n 1, 1) := dk_43 (dk_at dksX2_step_2 10 rfl rfl)
theorem dX2_step_59 : decode cX2_step 59 = .ok (.getfield 143, 3) := dk_180 0 143 (dk_at dksX2_step_2 11 rfl rfl)
theorem dX2_step_62 : decode cX2_step 62 = .ok (.if_icmp .ne 58, 3) := dk_160 0 58 (dk_at dksX2_step_2 14 rfl rfl)
theorem dX2_step_65 : decode cX2_step 65 = .ok (.aload 4, 2) := dk_25 4 (dk_at dksX2_step_2 17 rfl rfl)
theorem dX2_step_67 : decode cX2_step 67 = .ok (.getfield 146, 3) := dk_180 0 146 (dk_at dksX2_step_2 19 rfl rfl)
theorem dX2_step_70 : decode cX2_step 70 = .ok (.iload_n 2, 1) := dk_28 (dk_at dksX2_step_2 22 rfl rfl)
theorem dX2_step_71 : decode cX2_step 71 = .ok (.if_icmp .ne 49, 3) := dk_160 0 49 (dk_at dksX2_step_3 0 rfl rfl)
theorem dX2_step_74 : decode cX2_step 74 = .ok (.aload_n 1, 1) := dk_43 (dk_at dksX2_step_3 3 rfl rfl)
theorem dX2_step_75 : decode cX2_step 75 = .ok (.getfield 134, 3) := dk_180 0 134 (dk_at dksX2_step_3 4 rfl rfl)
theorem dX2_step_78 : decode cX2_step 78 = .ok (.aload 4, 2) := dk_25 4 (dk_at dksX2_step_3 7 rfl rfl)
theorem dX2_step_80 : decode cX2_step 80 = .ok (.getfield 149, 3) := dk_180 0 149 (dk_at dksX2_step_3 9 rfl rfl)
theorem dX2_step_83 : decode cX2_step 83 = .ok (.aload_n 1, 1) := dk_43 (dk_at dksX2_step_3 12 rfl rfl)
theorem dX2_step_84 : decode cX2_step 84 = .ok (.getfield 134, 3) := dk_180 0 134 (dk_at dksX2_step_3 13 rfl rfl)
theorem dX2_step_87 : decode cX2_step 87 = .ok (.aload 4, 2) := dk_25 4 (dk_at dksX2_step_3 16 rfl rfl)
theorem dX2_step_89 : decode cX2_step 89 = .ok (.getfield 149, 3) := dk_180 0 149 (dk_at dksX2_step_3 18 rfl rfl)
theorem dX2_step_92 : decode cX2_step 92 = .ok (.iaload, 1) := dk_46 (dk_at dksX2_step_3 21 rfl rfl)
theorem dX2_step_93 : decode cX2_step 93 = .ok (.aload 4, 2) := dk_25 4 (dk_at dksX2_step_3 22 rfl rfl)
theorem dX2_step_95 : decode cX2_step 95 = .ok (.getfield 152, 3) := dk_180 0 152 (dk_at dksX2_step_4 0 rfl rfl)
theorem dX2_step_98 : decode cX2_step 98 = .ok (.iadd, 1) := dk_96 (dk_at dksX2_step_4 3 rfl rfl)
theorem dX2_step_99 : decode cX2_step 99 = .ok (.sipush 10000, 3) := dk_17 39 16 (dk_at dksX2_step_4 4 rfl rfl)
theorem dX2_step_102 : decode cX2_step 102 = .ok (.irem, 1) := dk_112 (dk_at dksX2_step_4 7 rfl rfl)
theorem dX2_step_103 : decode cX2_step 103 = .ok (.iastore, 1) := dk_79 (dk_at dksX2_step_4 8 rfl rfl)
theorem dX2_step_104 : decode cX2_step 104 = .ok (.aload_n 0, 1) := dk_42 (dk_at dksX2_step_4 9 rfl rfl)
theorem dX2_step_105 : decode cX2_step 105 = .ok (.getfield 55, 3) := dk_180 0 55 (dk_at dksX2_step_4 10 rfl rfl)
theorem dX2_step_108 : decode cX2_step 108 = .ok (.iload_n 3, 1) := dk_29 (dk_at dksX2_step_4 13 rfl rfl)
theorem dX2_step_109 : decode cX2_step 109 = .ok (.invokevirtual 155, 3) := dk_182 0 155 (dk_at dksX2_step_4 14 rfl rfl)
theorem dX2_step_112 : decode cX2_step 112 = .ok (.checkcast 95, 3) := dk_192 0 95 (dk_at dksX2_step_4 17 rfl rfl)
theorem dX2_step_115 : decode cX2_step 115 = .ok (.astore 5, 2) := dk_58 5 (dk_at dksX2_step_4 20 rfl rfl)
theorem dX2_step_117 : decode cX2_step 117 = .ok (.goto 6, 3) := dk_167 0 6 (dk_at dksX2_step_5 0 rfl rfl)
theorem dX2_step_120 : decode cX2_step 120 = .ok (.iinc 3 1, 3) := dk_132 3 1 (dk_at dksX2_step_5 3 rfl rfl)
theorem dX2_step_123 : decode cX2_step 123 = .ok (.goto (-94), 3) := dk_167 255 162 (dk_at dksX2_step_5 6 rfl rfl)
theorem dX2_step_126 : decode cX2_step 126 = .ok (.aload_n 1, 1) := dk_43 (dk_at dksX2_step_5 9 rfl rfl)
theorem dX2_step_127 : decode cX2_step 127 = .ok (.dup, 1) := dk_89 (dk_at dksX2_step_5 10 rfl rfl)
theorem dX2_step_128 : decode cX2_step 128 = .ok (.getfield 122, 3) := dk_180 0 122 (dk_at dksX2_step_5 11 rfl rfl)
theorem dX2_step_131 : decode cX2_step 131 = .ok (.iconst 1, 1) := dk_4 (dk_at dksX2_step_5 14 rfl rfl)
theorem dX2_step_132 : decode cX2_step 132 = .ok (.iadd, 1) := dk_96 (dk_at dksX2_step_5 15 rfl rfl)
theorem dX2_step_133 : decode cX2_step 133 = .ok (.putfield 122, 3) := dk_181 0 122 (dk_at dksX2_step_5 16 rfl rfl)
theorem dX2_step_136 : decode cX2_step 136 = .ok (.aload_n 1, 1) := dk_43 (dk_at dksX2_step_5 19 rfl rfl)
theorem dX2_step_137 : decode cX2_step 137 = .ok (.invokevirtual 104, 3) := dk_182 0 104 (dk_at dksX2_step_5 20 rfl rfl)
theorem dX2_step_140 : decode cX2_step 140 = .ok (.return_, 1) := dk_177 (dk_at dksX2_step_5 23 rfl rfl)
def dkwX2_whyNot_2 : List UInt8 := [160, 0, 7, 7, 167, 0, 4, 3, 172]
abbrev dktX2_whyNot_2 : List UInt8 := dkwX2_whyNot_2 ++ []
def dkwX2_whyNot_1 : List UInt8 := [43, 182, 0, 199, 154, 0, 7, 6, 167, 0, 24, 42, 43, 180, 0, 122, 43, 180, 0, 143, 182, 0, 203, 2]
abbrev dktX2_whyNot_1 : List UInt8 := dkwX2_whyNot_1 ++ dktX2_whyNot_2
def dkwX2_whyNot_0 : List UInt8 := [43, 180, 0, 118, 154, 0, 5, 4, 172, 42, 43, 180, 0, 122, 182, 0, 193, 2, 160, 0, 5, 5, 172, 42]
abbrev dktX2_whyNot_0 : List UInt8 := dkwX2_whyNot_0 ++ dktX2_whyNot_1
theorem dksX2_whyNot_0 : cX2_whyNot.data.toList.drop 0 = dktX2_whyNot_0 := by decide +kernel
theorem dksX2_whyNot_1 : cX2_whyNot.data.toList.drop 24 = dktX2_whyNot_1 := dk_seg dksX2_whyNot_0 24 rfl rfl
theorem dksX2_whyNot_2 : cX2_whyNot.data.toList.drop 48 = dktX2_whyNot_2 := dk_seg dksX2_whyNot_1 24 rfl rfl
theorem dX2_whyNot_0 : decode cX2_whyNot 0 = .ok (.aload_n 1, 1) := dk_43 (dk_at dksX2_whyNot_0 0 rfl rfl)
theorem dX2_whyNot_1 : decode cX2_whyNot 1 = .ok (.getfield 118, 3) := dk_180 0 118 (dk_at dksX2_whyNot_0 1 rfl rfl)
theorem dX2_whyNot_4 : decode cX2_whyNot 4 = .ok (.ifCond .ne 5, 3) := dk_154 0 5 (dk_at dksX2_whyNot_0 4 rfl rfl)
theorem dX2_whyNot_7 : decode cX2_whyNot 7 = .ok (.iconst 1, 1) := dk_4 (dk_at dksX2_whyNot_0 7 rfl rfl)
theorem dX2_whyNot_8 : decode cX2_whyNot 8 = .ok (.ireturn, 1) := dk_172 (dk_at dksX2_whyNot_0 8 rfl rfl)
theorem dX2_whyNot_9 : decode cX2_whyNot 9 = .ok (.aload_n 0, 1) := dk_42 (dk_at dksX2_whyNot_0 9 rfl rfl)
theorem dX2_whyNot_10 : decode cX2_whyNot 10 = .ok (.aload_n 1, 1) := dk_43 (dk_at dksX2_whyNot_0 10 rfl rfl)
theorem dX2_whyNot_11 : decode cX2_whyNot 11 = .ok (.getfield 122, 3) := dk_180 0 122 (dk_at dksX2_whyNot_0 11 rfl rfl)
theorem dX2_whyNot_14 : decode cX2_whyNot 14 = .ok (.invokevirtual 193, 3) := dk_182 0 193 (dk_at dksX2_whyNot_0 14 rfl rfl)
theorem dX2_whyNot_17 : decode cX2_whyNot 17 = .ok (.iconst (-1), 1) := dk_2 (dk_at dksX2_whyNot_0 17 rfl rfl)
theorem dX2_whyNot_18 : decode cX2_whyNot 18 = .ok (.if_icmp .ne 5, 3) := dk_160 0 5 (dk_at dksX2_whyNot_0 18 rfl rfl)
theorem dX2_whyNot_21 : decode cX2_whyNot 21 = .ok (.iconst 2, 1) := dk_5 (dk_at dksX2_whyNot_0 21 rfl rfl)
theorem dX2_whyNot_22 : decode cX2_whyNot 22 = .ok (.ireturn, 1) := dk_172 (dk_at dksX2_whyNot_0 22 rfl rfl)
theorem dX2_whyNot_23 : decode cX2_whyNot 23 = .ok (.aload_n 0, 1) := dk_42 (dk_at dksX2_whyNot_0 23 rfl rfl)
theorem dX2_whyNot_24 : decode cX2_whyNot 24 = .ok (.aload_n 1, 1) := dk_43 (dk_at dksX2_whyNot_1 0 rfl rfl)
theorem dX2_whyNot_25 : decode cX2_whyNot 25 = .ok (.invokevirtual 199, 3) := dk_182 0 199 (dk_at dksX2_whyNot_1 1 rfl rfl)
theorem dX2_whyNot_28 : decode cX2_whyNot 28 = .ok (.ifCond .ne 7, 3) := dk_154 0 7 (dk_at dksX2_whyNot_1 4 rfl rfl)
theorem dX2_whyNot_31 : decode cX2_whyNot 31 = .ok (.iconst 3, 1) := dk_6 (dk_at dksX2_whyNot_1 7 rfl rfl)
theorem dX2_whyNot_32 : decode cX2_whyNot 32 = .ok (.goto 24, 3) := dk_167 0 24 (dk_at dksX2_whyNot_1 8 rfl rfl)
theorem dX2_whyNot_35 : decode cX2_whyNot 35 = .ok (.aload_n 0, 1) := dk_42 (dk_at dksX2_whyNot_1 11 rfl rfl)
theorem dX2_whyNot_36 : decode cX2_whyNot 36 = .ok (.aload_n 1, 1) := dk_43 (dk_at dksX2_whyNot_1 12 rfl rfl)
theorem dX2_whyNot_37 : decode cX2_whyNot 37 = .ok (.getfield 122, 3) := dk_180 0 122 (dk_at dksX2_whyNot_1 13 rfl rfl)
theorem dX2_whyNot_40 : decode cX2_whyNot 40 = .ok (.aload_n 1, 1) := dk_43 (dk_at dksX2_whyNot_1 16 rfl rfl)
theorem dX2_whyNot_41 : decode cX2_whyNot 41 = .ok (.getfield 143, 3) := dk_180 0 143 (dk_at dksX2_whyNot_1 17 rfl rfl)
theorem dX2_whyNot_44 : decode cX2_whyNot 44 = .ok (.invokevirtual 203, 3) := dk_182 0 203 (dk_at dksX2_whyNot_1 20 rfl rfl)
theorem dX2_whyNot_47 : decode cX2_whyNot 47 = .ok (.iconst (-1), 1) := dk_2 (dk_at dksX2_whyNot_1 23 rfl rfl)
theorem dX2_whyNot_48 : decode cX2_whyNot 48 = .ok (.if_icmp .ne 7, 3) := dk_160 0 7 (dk_at dksX2_whyNot_2 0 rfl rfl)
theorem dX2_whyNot_51 : decode cX2_whyNot 51 = .ok (.iconst 4, 1) := dk_7 (dk_at dksX2_whyNot_2 3 rfl rfl)
theorem dX2_whyNot_52 : decode cX2_whyNot 52 = .ok (.goto 4, 3) := dk_167 0 4 (dk_at dksX2_whyNot_2 4 rfl rfl)
theorem dX2_whyNot_55 : decode cX2_whyNot 55 = .ok (.iconst 0, 1) := dk_3 (dk_at dksX2_whyNot_2 7 rfl rfl)
theorem dX2_whyNot_56 : decode cX2_whyNot 56 = .ok (.ireturn, 1) := dk_172 (dk_at dksX2_whyNot_2 8 rfl rfl)
def dkwX2_donorAt_5 : List UInt8 := [199, 0, 7, 2, 167, 0, 8, 25, 5, 180, 0, 143, 172]
abbrev dktX2_donorAt_5 : List UInt8 := dkwX2_donorAt_5 ++ []
def dkwX2_donorAt_4 : List UInt8 := [25, 6, 182, 0, 94, 87, 132, 5, 1, 167, 255, 179, 25, 4, 182, 0, 111, 192, 0, 67, 58, 5, 25, 5]
abbrev dktX2_donorAt_4 : List UInt8 := dkwX2_donorAt_4 ++ dktX2_donorAt_5
def dkwX2_donorAt_3 : List UInt8 := [27, 160, 0, 29, 25, 6, 27, 182, 0, 167, 42, 29, 182, 0, 114, 27, 182, 0, 167, 160, 0, 11, 25, 4]
abbrev dktX2_donorAt_3 : List UInt8 := dkwX2_donorAt_3 ++ dktX2_donorAt_4
def dkwX2_donorAt_2 : List UInt8 := [182, 0, 114, 58, 6, 21, 5, 28, 159, 0, 46, 25, 6, 180, 0, 118, 153, 0, 38, 25, 6, 180, 0, 122]
abbrev dktX2_donorAt_2 : List UInt8 := dkwX2_donorAt_2 ++ dktX2_donorAt_3
def dkwX2_donorAt_1 : List UInt8 := [3, 54, 5, 21, 5, 42, 180, 0, 36, 182, 0, 59, 162, 0, 71, 29, 2, 159, 0, 66, 42, 21, 5]
abbrev dktX2_donorAt_1 : List UInt8 := dkwX2_donorAt_1 ++ dktX2_donorAt_2
def dkwX2_donorAt_0 : List UInt8 := [42, 27, 182, 0, 193, 62, 187, 0, 43, 89, 16, 6, 187, 0, 196, 89, 183, 0, 198, 183, 0, 48, 58, 4]
abbrev dktX2_donorAt_0 : List UInt8 := dkwX2_donorAt_0 ++ dktX2_donorAt_1
theorem dksX2_donorAt_0 : cX2_donorAt.data.toList.drop 0 = dktX2_donorAt_0 := by decide +kernel
theorem dksX2_donorAt_1 : cX2_donorAt.data.toList.drop 24 = dktX2_donorAt_1 := dk_seg dksX2_donorAt_0 24 rfl rfl
theorem dksX2_donorAt_2 : cX2_donorAt.data.toList.drop 47 = dktX2_donorAt_2 := dk_seg dksX2_donorAt_1 23 rfl rfl
theorem dksX2_donorAt_3 : cX2_donorAt.data.toList.drop 71 = dktX2_donorAt_3 := dk_seg dksX2_donorAt_2 24 rfl rfl
theorem dksX2_donorAt_4 : cX2_donorAt.data.toList.drop 95 = dktX2_donorAt_4 := dk_seg dksX2_donorAt_3 24 rfl rfl
theorem dksX2_donorAt_5 : cX2_donorAt.data.toList.drop 119 = dktX2_donorAt_5 := dk_seg dksX2_donorAt_4 24 rfl rfl
theorem dX2_donorAt_0 : decode cX2_donorAt 0 = .ok (.aload_n 0, 1) := dk_42 (dk_at dksX2_donorAt_0 0 rfl rfl)
theorem dX2_donorAt_1 : decode cX2_donorAt 1 = .ok (.iload_n 1, 1) := dk_27 (dk_at dksX2_donorAt_0 1 rfl rfl)
theorem dX2_donorAt_2 : decode cX2_donorAt 2 = .ok (.invokevirtual 193, 3) := dk_182 0 193 (dk_at dksX2_donorAt_0 2 rfl rfl)
theorem dX2_donorAt_5 : decode cX2_donorAt 5 = .ok (.istore_n 3, 1) := dk_62 (dk_at dksX2_donorAt_0 5 rfl rfl)
theorem dX2_donorAt_6 : decode cX2_donorAt 6 = .ok (.new 43, 3) := dk_187 0 43 (dk_at dksX2_donorAt_0 6 rfl rfl)
theorem dX2_donorAt_9 : decode cX2_donorAt 9 = .ok (.dup, 1) := dk_89 (dk_at dksX2_donorAt_0 9 rfl rfl)
theorem dX2_donorAt_10 : decode cX2_donorAt 10 = .ok (.bipush 6, 2) := dk_16 6 (dk_at dksX2_donorAt_0 10 rfl rfl)
theorem dX2_donorAt_12 : decode cX2_donorAt 12 = .ok (.new 196, 3) := dk_187 0 196 (dk_at dksX2_donorAt_0 12 rfl rfl)
theorem dX2_donorAt_15 : decode cX2_donorAt 15 = .ok (.dup, 1) := dk_89 (dk_at dksX2_donorAt_0 15 rfl rfl)
theorem dX2_donorAt_16 : decode cX2_donorAt 16 = .ok (.invokespecial 198, 3) := dk_183 0 198 (dk_at dksX2_donorAt_0 16 rfl rfl)
theorem dX2_donorAt_19 : decode cX2_donorAt 19 = .ok (.invokespecial 48, 3) := dk_183 0 48 (dk_at dksX2_donorAt_0 19 rfl rfl)
theorem dX2_donorAt_22 : decode cX2_donorAt 22 = .ok (.astore 4, 2) := dk_58 4 (dk_at dksX2_donorAt_0 22 rfl rfl)
theorem dX2_donorAt_24 : decode cX2_donorAt 24 = .ok (.iconst 0, 1) := dk_3 (dk_at dksX2_donorAt_1 0 rfl rfl)
theorem dX2_donorAt_25 : decode cX2_donorAt 25 = .ok (.istore 5, 2) := dk_54 5 (dk_at dksX2_donorAt_1 1 rfl rfl)
theorem dX2_donorAt_27 : decode cX2_donorAt 27 = .ok (.iload 5, 2) := dk_21 5 (dk_at dksX2_donorAt_1 3 rfl rfl)
theorem dX2_donorAt_29 : decode cX2_donorAt 29 = .ok (.aload_n 0, 1) := dk_42 (dk_at dksX2_donorAt_1 5 rfl rfl)
theorem dX2_donorAt_30 : decode cX2_donorAt 30 = .ok (.getfield 36, 3) := dk_180 0 36 (dk_at dksX2_donorAt_1 6 rfl rfl)
theorem dX2_donorAt_33 : decode cX2_donorAt 33 = .ok (.invokevirtual 59, 3) := dk_182 0 59 (dk_at dksX2_donorAt_1 9 rfl rfl)
theorem dX2_donorAt_36 : decode cX2_donorAt 36 = .ok (.if_icmp .ge 71, 3) := dk_162 0 71 (dk_at dksX2_donorAt_1 12 rfl rfl)
theorem dX2_donorAt_39 : decode cX2_donorAt 39 = .ok (.iload_n 3, 1) := dk_29 (dk_at dksX2_donorAt_1 15 rfl rfl)
theorem dX2_donorAt_40 : decode cX2_donorAt 40 = .ok (.iconst (-1), 1) := dk_2 (dk_at dksX2_donorAt_1 16 rfl rfl)
theorem dX2_donorAt_41 : decode cX2_donorAt 41 = .ok (.if_icmp .eq 66, 3) := dk_159 0 66 (dk_at dksX2_donorAt_1 17 rfl rfl)
theorem dX2_donorAt_44 : decode cX2_donorAt 44 = .ok (.aload_n 0, 1) := dk_42 (dk_at dksX2_donorAt_1 20 rfl rfl)
theorem dX2_donorAt_45 : decode cX2_donorAt 45 = .ok (.iload 5, 2) := dk_21 5 (dk_at dksX2_donorAt_1 21 rfl rfl)
theorem dX2_donorAt_47 : decode cX2_donorAt 47 = .ok (.invokevirtual 114, 3) := dk_182 0 114 (dk_at dksX2_donorAt_2 0 rfl rfl)
theorem dX2_donorAt_50 : decode cX2_donorAt 50 = .ok (.astore 6, 2) := dk_58 6 (dk_at dksX2_donorAt_2 3 rfl rfl)
theorem dX2_donorAt_52 : decode cX2_donorAt 52 = .ok (.iload 5, 2) := dk_21 5 (dk_at dksX2_donorAt_2 5 rfl rfl)
theorem dX2_donorAt_54 : decode cX2_donorAt 54 = .ok (.iload_n 2, 1) := dk_28 (dk_at dksX2_donorAt_2 7 rfl rfl)
theorem dX2_donorAt_55 : decode cX2_donorAt 55 = .ok (.if_icmp .eq 46, 3) := dk_159 0 46 (dk_at dksX2_donorAt_2 8 rfl rfl)
theorem dX2_donorAt_58 : decode cX2_donorAt 58 = .ok (.aload 6, 2) := dk_25 6 (dk_at dksX2_donorAt_2 11 rfl rfl)
theorem dX2_donorAt_60 : decode cX2_donorAt 60 = .ok (.getfield 118, 3) := dk_180 0 118 (dk_at dksX2_donorAt_2 13 rfl rfl)
theorem dX2_donorAt_63 : decode cX2_donorAt 63 = .ok (.ifCond .eq 38, 3) := dk_153 0 38 (dk_at dksX2_donorAt_2 16 rfl rfl)
theorem dX2_donorAt_66 : decode cX2_donorAt 66 = .ok (.aload 6, 2) := dk_25 6 (dk_at dksX2_donorAt_2 19 rfl rfl)
theorem dX2_donorAt_68 : decode cX2_donorAt 68 = .ok (.getfield 122, 3) := dk_180 0 122 (dk_at dksX2_donorAt_2 21 rfl rfl)
theorem dX2_donorAt_71 : decode cX2_donorAt 71 = .ok (.iload_n 1, 1) := dk_27 (dk_at dksX2_donorAt_3 0 rfl rfl)
theorem dX2_donorAt_72 : decode cX2_donorAt 72 = .ok (.if_icmp .ne 29, 3) := dk_160 0 29 (dk_at dksX2_donorAt_3 1 rfl rfl)
theorem dX2_donorAt_75 : decode cX2_donorAt 75 = .ok (.aload 6, 2) := dk_25 6 (dk_at dksX2_donorAt_3 4 rfl rfl)
theorem dX2_donorAt_77 : decode cX2_donorAt 77 = .ok (.iload_n 1, 1) := dk_27 (dk_at dksX2_donorAt_3 6 rfl rfl)
theorem dX2_donorAt_78 : decode cX2_donorAt 78 = .ok (.invokevirtual 167, 3) := dk_182 0 167 (dk_at dksX2_donorAt_3 7 rfl rfl)
theorem dX2_donorAt_81 : decode cX2_donorAt 81 = .ok (.aload_n 0, 1) := dk_42 (dk_at dksX2_donorAt_3 10 rfl rfl)
theorem dX2_donorAt_82 : decode cX2_donorAt 82 = .ok (.iload_n 3, 1) := dk_29 (dk_at dksX2_donorAt_3 11 rfl rfl)
theorem dX2_donorAt_83 : decode cX2_donorAt 83 = .ok (.invokevirtual 114, 3) := dk_182 0 114 (dk_at dksX2_donorAt_3 12 rfl rfl)
theorem dX2_donorAt_86 : decode cX2_donorAt 86 = .ok (.iload_n 1, 1) := dk_27 (dk_at dksX2_donorAt_3 15 rfl rfl)
theorem dX2_donorAt_87 : decode cX2_donorAt 87 = .ok (.invokevirtual 167, 3) := dk_182 0 167 (dk_at dksX2_donorAt_3 16 rfl rfl)
theorem dX2_donorAt_90 : decode cX2_donorAt 90 = .ok (.if_icmp .ne 11, 3) := dk_160 0 11 (dk_at dksX2_donorAt_3 19 rfl rfl)
theorem dX2_donorAt_93 : decode cX2_donorAt 93 = .ok (.aload 4, 2) := dk_25 4 (dk_at dksX2_donorAt_3 22 rfl rfl)
theorem dX2_donorAt_95 : decode cX2_donorAt 95 = .ok (.aload 6, 2) := dk_25 6 (dk_at dksX2_donorAt_4 0 rfl rfl)
theorem dX2_donorAt_97 : decode cX2_donorAt 97 = .ok (.invokevirtual 94, 3) := dk_182 0 94 (dk_at dksX2_donorAt_4 2 rfl rfl)
theorem dX2_donorAt_100 : decode cX2_donorAt 100 = .ok (.pop, 1) := dk_87 (dk_at dksX2_donorAt_4 5 rfl rfl)
theorem dX2_donorAt_101 : decode cX2_donorAt 101 = .ok (.iinc 5 1, 3) := dk_132 5 1 (dk_at dksX2_donorAt_4 6 rfl rfl)
theorem dX2_donorAt_104 : decode cX2_donorAt 104 = .ok (.goto (-77), 3) := dk_167 255 179 (dk_at dksX2_donorAt_4 9 rfl rfl)
theorem dX2_donorAt_107 : decode cX2_donorAt 107 = .ok (.aload 4, 2) := dk_25 4 (dk_at dksX2_donorAt_4 12 rfl rfl)
theorem dX2_donorAt_109 : decode cX2_donorAt 109 = .ok (.invokevirtual 111, 3) := dk_182 0 111 (dk_at dksX2_donorAt_4 14 rfl rfl)
theorem dX2_donorAt_112 : decode cX2_donorAt 112 = .ok (.checkcast 67, 3) := dk_192 0 67 (dk_at dksX2_donorAt_4 17 rfl rfl)
theorem dX2_donorAt_115 : decode cX2_donorAt 115 = .ok (.astore 5, 2) := dk_58 5 (dk_at dksX2_donorAt_4 20 rfl rfl)
theorem dX2_donorAt_117 : decode cX2_donorAt 117 = .ok (.aload 5, 2) := dk_25 5 (dk_at dksX2_donorAt_4 22 rfl rfl)
theorem dX2_donorAt_119 : decode cX2_donorAt 119 = .ok (.ifnonnull 7, 3) := dk_199 0 7 (dk_at dksX2_donorAt_5 0 rfl rfl)
theorem dX2_donorAt_122 : decode cX2_donorAt 122 = .ok (.iconst (-1), 1) := dk_2 (dk_at dksX2_donorAt_5 3 rfl rfl)
theorem dX2_donorAt_123 : decode cX2_donorAt 123 = .ok (.goto 8, 3) := dk_167 0 8 (dk_at dksX2_donorAt_5 4 rfl rfl)
theorem dX2_donorAt_126 : decode cX2_donorAt 126 = .ok (.aload 5, 2) := dk_25 5 (dk_at dksX2_donorAt_5 7 rfl rfl)
theorem dX2_donorAt_128 : decode cX2_donorAt 128 = .ok (.getfield 143, 3) := dk_180 0 143 (dk_at dksX2_donorAt_5 9 rfl rfl)
theorem dX2_donorAt_131 : decode cX2_donorAt 131 = .ok (.ireturn, 1) := dk_172 (dk_at dksX2_donorAt_5 12 rfl rfl)
def dkwX2_heal_5 : List UInt8 := [182, 0, 104, 29, 172]
abbrev dktX2_heal_5 : List UInt8 := dkwX2_heal_5 ++ []
def dkwX2_heal_4 : List UInt8 := [181, 0, 221, 43, 89, 180, 0, 224, 29, 96, 181, 0, 224, 43, 89, 180, 0, 227, 4, 96, 181, 0, 227, 43]
abbrev dktX2_heal_4 : List UInt8 := dkwX2_heal_4 ++ dktX2_heal_5
def dkwX2_heal_3 : List UInt8 := [44, 180, 0, 134, 25, 5, 182, 0, 218, 46, 79, 132, 3, 1, 167, 255, 211, 44, 89, 180, 0, 221, 29, 96]
abbrev dktX2_heal_3 : List UInt8 := dkwX2_heal_3 ++ dktX2_heal_4
def dkwX2_heal_2 : List UInt8 := [153, 0, 41, 25, 4, 185, 0, 89, 1, 0, 192, 0, 216, 58, 5, 43, 180, 0, 134, 25, 5, 182, 0, 218]
abbrev dktX2_heal_2 : List UInt8 := dkwX2_heal_2 ++ dktX2_heal_3
def dkwX2_heal_1 : List UInt8 := [182, 0, 208, 44, 182, 0, 208, 183, 0, 212, 182, 0, 215, 58, 4, 25, 4, 185, 0, 83, 1, 0]
abbrev dktX2_heal_1 : List UInt8 := dkwX2_heal_1 ++ dktX2_heal_2
def dkwX2_heal_0 : List UInt8 := [42, 42, 43, 180, 0, 122, 43, 180, 0, 143, 182, 0, 203, 182, 0, 114, 77, 3, 62, 187, 0, 206, 89, 43]
abbrev dktX2_heal_0 : List UInt8 := dkwX2_heal_0 ++ dktX2_heal_1
theorem dksX2_heal_0 : cX2_heal.data.toList.drop 0 = dktX2_heal_0 := by decide +kernel
theorem dksX2_heal_1 : cX2_heal.data.toList.drop 24 = dktX2_heal_1 := dk_seg dksX2_heal_0 24 rfl rfl
theorem dksX2_heal_2 : cX2_heal.data.toList.drop 46 = dktX2_heal_2 := dk_seg dksX2_heal_1 22 rfl rfl
theorem dksX2_heal_3 : cX2_heal.data.toList.drop 70 = dktX2_heal_3 := dk_seg dksX2_heal_2 24 rfl rfl
theorem dksX2_heal_4 : cX2_heal.data.toList.drop 94 = dktX2_heal_4 := dk_seg dksX2_heal_3 24 rfl rfl
theorem dksX2_heal_5 : cX2_heal.data.toList.drop 118 = dktX2_heal_5 := dk_seg dksX2_heal_4 24 rfl rfl
theorem dX2_heal_0 : decode cX2_heal 0 = .ok (.aload_n 0, 1) := dk_42 (dk_at dksX2_heal_0 0 rfl rfl)
theorem dX2_heal_1 : decode cX2_heal 1 = .ok (.aload_n 0, 1) := dk_42 (dk_at dksX2_heal_0 1 rfl rfl)
theorem dX2_heal_2 : decode cX2_heal 2 = .ok (.aload_n 1, 1) := dk_43 (dk_at dksX2_heal_0 2 rfl rfl)
theorem dX2_heal_3 : decode cX2_heal 3 = .ok (.getfield 122, 3) := dk_180 0 122 (dk_at dksX2_heal_0 3 rfl rfl)
theorem dX2_heal_6 : decode cX2_heal 6 = .ok (.aload_n 1, 1) := dk_43 (dk_at dksX2_heal_0 6 rfl rfl)
theorem dX2_heal_7 : decode cX2_heal 7 = .ok (.getfield 143, 3) := dk_180 0 143 (dk_at dksX2_heal_0 7 rfl rfl)
theorem dX2_heal_10 : decode cX2_heal 10 = .ok (.invokevirtual 203, 3) := dk_182 0 203 (dk_at dksX2_heal_0 10 rfl rfl)
theorem dX2_heal_13 : decode cX2_heal 13 = .ok (.invokevirtual 114, 3) := dk_182 0 114 (dk_at dksX2_heal_0 13 rfl rfl)
theorem dX2_heal_16 : decode cX2_heal 16 = .ok (.astore_n 2, 1) := dk_77 (dk_at dksX2_heal_0 16 rfl rfl)
theorem dX2_heal_17 : decode cX2_heal 17 = .ok (.iconst 0, 1) := dk_3 (dk_at dksX2_heal_0 17 rfl rfl)
theorem dX2_heal_18 : decode cX2_heal 18 = .ok (.istore_n 3, 1) := dk_62 (dk_at dksX2_heal_0 18 rfl rfl)
theorem dX2_heal_19 : decode cX2_heal 19 = .ok (.new 206, 3) := dk_187 0 206 (dk_at dksX2_heal_0 19 rfl rfl)
theorem dX2_heal_22 : decode cX2_heal 22 = .ok (.dup, 1) := dk_89 (dk_at dksX2_heal_0 22 rfl rfl)
theorem dX2_heal_23 : decode cX2_heal 23 = .ok (.aload_n 1, 1) := dk_43 (dk_at dksX2_heal_0 23 rfl rfl)
theorem dX2_heal_24 : decode cX2_heal 24 = .ok (.invokevirtual 208, 3) := dk_182 0 208 (dk_at dksX2_heal_1 0 rfl rfl)
theorem dX2_heal_27 : decode cX2_heal 27 = .ok (.aload_n 2, 1) := dk_44 (dk_at dksX2_heal_1 3 rfl rfl)
theorem dX2_heal_28 : decode cX2_heal 28 = .ok (.invokevirtual 208, 3) := dk_182 0 208 (dk_at dksX2_heal_1 4 rfl rfl)
theorem dX2_heal_31 : decode cX2_heal 31 = .ok (.invokespecial 212, 3) := dk_183 0 212 (dk_at dksX2_heal_1 7 rfl rfl)
theorem dX2_heal_34 : decode cX2_heal 34 = .ok (.invokevirtual 215, 3) := dk_182 0 215 (dk_at dksX2_heal_1 10 rfl rfl)
theorem dX2_heal_37 : decode cX2_heal 37 = .ok (.astore 4, 2) := dk_58 4 (dk_at dksX2_heal_1 13 rfl rfl)
theorem dX2_heal_39 : decode cX2_heal 39 = .ok (.aload 4, 2) := dk_25 4 (dk_at dksX2_heal_1 15 rfl rfl)
theorem dX2_heal_41 : decode cX2_heal 41 = .ok (.invokeinterface 83 1, 5) := by decide +kernel
theorem dX2_heal_46 : decode cX2_heal 46 = .ok (.ifCond .eq 41, 3) := dk_153 0 41 (dk_at dksX2_heal_2 0 rfl rfl)
theorem dX2_heal_49 : decode cX2_heal 49 = .ok (.aload 4, 2) := dk_25 4 (dk_at dksX2_heal_2 3 rfl rfl)
theorem dX2_heal_51 : decode cX2_heal 51 = .ok (.invokeinterface 89 1, 5) := by decide +kernel
theorem dX2_heal_56 : decode cX2_heal 56 = .ok (.checkcast 216, 3) := dk_192 0 216 (dk_at dksX2_heal_2 10 rfl rfl)
theorem dX2_heal_59 : decode cX2_heal 59 = .ok (.astore 5, 2) := dk_58 5 (dk_at dksX2_heal_2 13 rfl rfl)
theorem dX2_heal_61 : decode cX2_heal 61 = .ok (.aload_n 1, 1) := dk_43 (dk_at dksX2_heal_2 15 rfl rfl)
theorem dX2_heal_62 : decode cX2_heal 62 = .ok (.getfield 134, 3) := dk_180 0 134 (dk_at dksX2_heal_2 16 rfl rfl)
theorem dX2_heal_65 : decode cX2_heal 65 = .ok (.aload 5, 2) := dk_25 5 (dk_at dksX2_heal_2 19 rfl rfl)
theorem dX2_heal_67 : decode cX2_heal 67 = .ok (.invokevirtual 218, 3) := dk_182 0 218 (dk_at dksX2_heal_2 21 rfl rfl)
theorem dX2_heal_70 : decode cX2_heal 70 = .ok (.aload_n 2, 1) := dk_44 (dk_at dksX2_heal_3 0 rfl rfl)
theorem dX2_heal_71 : decode cX2_heal 71 = .ok (.getfield 134, 3) := dk_180 0 134 (dk_at dksX2_heal_3 1 rfl rfl)
theorem dX2_heal_74 : decode cX2_heal 74 = .ok (.aload 5, 2) := dk_25 5 (dk_at dksX2_heal_3 4 rfl rfl)
theorem dX2_heal_76 : decode cX2_heal 76 = .ok (.invokevirtual 218, 3) := dk_182 0 218 (dk_at dksX2_heal_3 6 rfl rfl)
theorem dX2_heal_79 : decode cX2_heal 79 = .ok (.iaload, 1) := dk_46 (dk_at dksX2_heal_3 9 rfl rfl)
theorem dX2_heal_80 : decode cX2_heal 80 = .ok (.iastore, 1) := dk_79 (dk_at dksX2_heal_3 10 rfl rfl)
theorem dX2_heal_81 : decode cX2_heal 81 = .ok (.iinc 3 1, 3) := dk_132 3 1 (dk_at dksX2_heal_3 11 rfl rfl)
theorem dX2_heal_84 : decode cX2_heal 84 = .ok (.goto (-45), 3) := dk_167 255 211 (dk_at dksX2_heal_3 14 rfl rfl)
theorem dX2_heal_87 : decode cX2_heal 87 = .ok (.aload_n 2, 1) := dk_44 (dk_at dksX2_heal_3 17 rfl rfl)
theorem dX2_heal_88 : decode cX2_heal 88 = .ok (.dup, 1) := dk_89 (dk_at dksX2_heal_3 18 rfl rfl)
theorem dX2_heal_89 : decode cX2_heal 89 = .ok (.getfield 221, 3) := dk_180 0 221 (dk_at dksX2_heal_3 19 rfl rfl)
theorem dX2_heal_92 : decode cX2_heal 92 = .ok (.iload_n 3, 1) := dk_29 (dk_at dksX2_heal_3 22 rfl rfl)
theorem dX2_heal_93 : decode cX2_heal 93 = .ok (.iadd, 1) := dk_96 (dk_at dksX2_heal_3 23 rfl rfl)
theorem dX2_heal_94 : decode cX2_heal 94 = .ok (.putfield 221, 3) := dk_181 0 221 (dk_at dksX2_heal_4 0 rfl rfl)
theorem dX2_heal_97 : decode cX2_heal 97 = .ok (.aload_n 1, 1) := dk_43 (dk_at dksX2_heal_4 3 rfl rfl)
theorem dX2_heal_98 : decode cX2_heal 98 = .ok (.dup, 1) := dk_89 (dk_at dksX2_heal_4 4 rfl rfl)
theorem dX2_heal_99 : decode cX2_heal 99 = .ok (.getfield 224, 3) := dk_180 0 224 (dk_at dksX2_heal_4 5 rfl rfl)
theorem dX2_heal_102 : decode cX2_heal 102 = .ok (.iload_n 3, 1) := dk_29 (dk_at dksX2_heal_4 8 rfl rfl)
theorem dX2_heal_103 : decode cX2_heal 103 = .ok (.iadd, 1) := dk_96 (dk_at dksX2_heal_4 9 rfl rfl)
theorem dX2_heal_104 : decode cX2_heal 104 = .ok (.putfield 224, 3) := dk_181 0 224 (dk_at dksX2_heal_4 10 rfl rfl)
theorem dX2_heal_107 : decode cX2_heal 107 = .ok (.aload_n 1, 1) := dk_43 (dk_at dksX2_heal_4 13 rfl rfl)
theorem dX2_heal_108 : decode cX2_heal 108 = .ok (.dup, 1) := dk_89 (dk_at dksX2_heal_4 14 rfl rfl)
theorem dX2_heal_109 : decode cX2_heal 109 = .ok (.getfield 227, 3) := dk_180 0 227 (dk_at dksX2_heal_4 15 rfl rfl)
theorem dX2_heal_112 : decode cX2_heal 112 = .ok (.iconst 1, 1) := dk_4 (dk_at dksX2_heal_4 18 rfl rfl)
theorem dX2_heal_113 : decode cX2_heal 113 = .ok (.iadd, 1) := dk_96 (dk_at dksX2_heal_4 19 rfl rfl)
theorem dX2_heal_114 : decode cX2_heal 114 = .ok (.putfield 227, 3) := dk_181 0 227 (dk_at dksX2_heal_4 20 rfl rfl)
theorem dX2_heal_117 : decode cX2_heal 117 = .ok (.aload_n 1, 1) := dk_43 (dk_at dksX2_heal_4 23 rfl rfl)
theorem dX2_heal_118 : decode cX2_heal 118 = .ok (.invokevirtual 104, 3) := dk_182 0 104 (dk_at dksX2_heal_5 0 rfl rfl)
theorem dX2_heal_121 : decode cX2_heal 121 = .ok (.iload_n 3, 1) := dk_29 (dk_at dksX2_heal_5 3 rfl rfl)
theorem dX2_heal_122 : decode cX2_heal 122 = .ok (.ireturn, 1) := dk_172 (dk_at dksX2_heal_5 4 rfl rfl)
def dkwX2_healAll_1 : List UInt8 := [154, 0, 16, 42, 42, 28, 182, 0, 114, 182, 0, 234, 62, 132, 1, 1, 132, 2, 1, 167, 255, 217, 27, 172]
abbrev dktX2_healAll_1 : List UInt8 := dkwX2_healAll_1 ++ []
def dkwX2_healAll_0 : List UInt8 := [3, 60, 3, 61, 28, 42, 180, 0, 36, 182, 0, 59, 162, 0, 34, 42, 42, 28, 182, 0, 114, 182, 0, 230]
abbrev dktX2_healAll_0 : List UInt8 := dkwX2_healAll_0 ++ dktX2_healAll_1
theorem dksX2_healAll_0 : cX2_healAll.data.toList.drop 0 = dktX2_healAll_0 := by decide +kernel
theorem dksX2_healAll_1 : cX2_healAll.data.toList.drop 24 = dktX2_healAll_1 := dk_seg dksX2_healAll_0 24 rfl rfl
theorem dX2_healAll_0 : decode cX2_healAll 0 = .ok (.iconst 0, 1) := dk_3 (dk_at dksX2_healAll_0 0 rfl rfl)
theorem dX2_healAll_1 : decode cX2_healAll 1 = .ok (.istore_n 1, 1) := dk_60 (dk_at dksX2_healAll_0 1 rfl rfl)
theorem dX2_healAll_2 : decode cX2_healAll 2 = .ok (.iconst 0, 1) := dk_3 (dk_at dksX2_healAll_0 2 rfl rfl)
theorem dX2_healAll_3 : decode cX2_healAll 3 = .ok (.istore_n 2, 1) := dk_61 (dk_at dksX2_healAll_0 3 rfl rfl)
theorem dX2_healAll_4 : decode cX2_healAll 4 = .ok (.iload_n 2, 1) := dk_28 (dk_at dksX2_healAll_0 4 rfl rfl)
theorem dX2_healAll_5 : decode cX2_healAll 5 = .ok (.aload_n 0, 1) := dk_42 (dk_at dksX2_healAll_0 5 rfl rfl)
theorem dX2_healAll_6 : decode cX2_healAll 6 = .ok (.getfield 36, 3) := dk_180 0 36 (dk_at dksX2_healAll_0 6 rfl rfl)
theorem dX2_healAll_9 : decode cX2_healAll 9 = .ok (.invokevirtual 59, 3) := dk_182 0 59 (dk_at dksX2_healAll_0 9 rfl rfl)
theorem dX2_healAll_12 : decode cX2_healAll 12 = .ok (.if_icmp .ge 34, 3) := dk_162 0 34 (dk_at dksX2_healAll_0 12 rfl rfl)
theorem dX2_healAll_15 : decode cX2_healAll 15 = .ok (.aload_n 0, 1) := dk_42 (dk_at dksX2_healAll_0 15 rfl rfl)
theorem dX2_healAll_16 : decode cX2_healAll 16 = .ok (.aload_n 0, 1) := dk_42 (dk_at dksX2_healAll_0 16 rfl rfl)
theorem dX2_healAll_17 : decode cX2_healAll 17 = .ok (.iload_n 2, 1) := dk_28 (dk_at dksX2_healAll_0 17 rfl rfl)
theorem dX2_healAll_18 : decode cX2_healAll 18 = .ok (.invokevirtual 114, 3) := dk_182 0 114 (dk_at dksX2_healAll_0 18 rfl rfl)
theorem dX2_healAll_21 : decode cX2_healAll 21 = .ok (.invokevirtual 230, 3) := dk_182 0 230 (dk_at dksX2_healAll_0 21 rfl rfl)
theorem dX2_healAll_24 : decode cX2_healAll 24 = .ok (.ifCond .ne 16, 3) := dk_154 0 16 (dk_at dksX2_healAll_1 0 rfl rfl)
theorem dX2_healAll_27 : decode cX2_healAll 27 = .ok (.aload_n 0, 1) := dk_42 (dk_at dksX2_healAll_1 3 rfl rfl)
theorem dX2_healAll_28 : decode cX2_healAll 28 = .ok (.aload_n 0, 1) := dk_42 (dk_at dksX2_healAll_1 4 rfl rfl)
theorem dX2_healAll_29 : decode cX2_healAll 29 = .ok (.iload_n 2, 1) := dk_28 (dk_at dksX2_healAll_1 5 rfl rfl)
theorem dX2_healAll_30 : decode cX2_healAll 30 = .ok (.invokevirtual 114, 3) := dk_182 0 114 (dk_at dksX2_healAll_1 6 rfl rfl)
theorem dX2_healAll_33 : decode cX2_healAll 33 = .ok (.invokevirtual 234, 3) := dk_182 0 234 (dk_at dksX2_healAll_1 9 rfl rfl)
theorem dX2_healAll_36 : decode cX2_healAll 36 = .ok (.istore_n 3, 1) := dk_62 (dk_at dksX2_healAll_1 12 rfl rfl)
theorem dX2_healAll_37 : decode cX2_healAll 37 = .ok (.iinc 1 1, 3) := dk_132 1 1 (dk_at dksX2_healAll_1 13 rfl rfl)
theorem dX2_healAll_40 : decode cX2_healAll 40 = .ok (.iinc 2 1, 3) := dk_132 2 1 (dk_at dksX2_healAll_1 16 rfl rfl)
theorem dX2_healAll_43 : decode cX2_healAll 43 = .ok (.goto (-39), 3) := dk_167 255 217 (dk_at dksX2_healAll_1 19 rfl rfl)
theorem dX2_healAll_46 : decode cX2_healAll 46 = .ok (.iload_n 1, 1) := dk_27 (dk_at dksX2_healAll_1 22 rfl rfl)
theorem dX2_healAll_47 : decode cX2_healAll 47 = .ok (.ireturn, 1) := dk_172 (dk_at dksX2_healAll_1 23 rfl rfl)
def dkwX2_join_3 : List UInt8 := [87, 25, 4, 180, 0, 143, 172]
abbrev dktX2_join_3 : List UInt8 := dkwX2_join_3 ++ []
def dkwX2_join_2 : List UInt8 := [181, 0, 221, 25, 4, 16, 16, 181, 0, 224, 25, 4, 182, 0, 104, 42, 180, 0, 36, 25, 4, 182, 0, 73]
abbrev dktX2_join_2 : List UInt8 := dkwX2_join_2 ++ dktX2_join_3
def dkwX2_join_1 : List UInt8 := [182, 0, 25, 192, 0, 26, 45, 180, 0, 122, 183, 0, 101, 58, 4, 45, 89, 180, 0, 221, 16, 16, 96]
abbrev dktX2_join_1 : List UInt8 := dkwX2_join_1 ++ dktX2_join_2
def dkwX2_join_0 : List UInt8 := [42, 28, 182, 0, 114, 78, 187, 0, 67, 89, 42, 180, 0, 36, 182, 0, 59, 3, 27, 45, 180, 0, 134]
abbrev dktX2_join_0 : List UInt8 := dkwX2_join_0 ++ dktX2_join_1
theorem dksX2_join_0 : cX2_join.data.toList.drop 0 = dktX2_join_0 := by decide +kernel
theorem dksX2_join_1 : cX2_join.data.toList.drop 23 = dktX2_join_1 := dk_seg dksX2_join_0 23 rfl rfl
theorem dksX2_join_2 : cX2_join.data.toList.drop 46 = dktX2_join_2 := dk_seg dksX2_join_1 23 rfl rfl
theorem dksX2_join_3 : cX2_join.data.toList.drop 70 = dktX2_join_3 := dk_seg dksX2_join_2 24 rfl rfl
theorem dX2_join_0 : decode cX2_join 0 = .ok (.aload_n 0, 1) := dk_42 (dk_at dksX2_join_0 0 rfl rfl)
theorem dX2_join_1 : decode cX2_join 1 = .ok (.iload_n 2, 1) := dk_28 (dk_at dksX2_join_0 1 rfl rfl)
theorem dX2_join_2 : decode cX2_join 2 = .ok (.invokevirtual 114, 3) := dk_182 0 114 (dk_at dksX2_join_0 2 rfl rfl)
theorem dX2_join_5 : decode cX2_join 5 = .ok (.astore_n 3, 1) := dk_78 (dk_at dksX2_join_0 5 rfl rfl)
theorem dX2_join_6 : decode cX2_join 6 = .ok (.new 67, 3) := dk_187 0 67 (dk_at dksX2_join_0 6 rfl rfl)
theorem dX2_join_9 : decode cX2_join 9 = .ok (.dup, 1) := dk_89 (dk_at dksX2_join_0 9 rfl rfl)
theorem dX2_join_10 : decode cX2_join 10 = .ok (.aload_n 0, 1) := dk_42 (dk_at dksX2_join_0 10 rfl rfl)
theorem dX2_join_11 : decode cX2_join 11 = .ok (.getfield 36, 3) := dk_180 0 36 (dk_at dksX2_join_0 11 rfl rfl)
theorem dX2_join_14 : decode cX2_join 14 = .ok (.invokevirtual 59, 3) := dk_182 0 59 (dk_at dksX2_join_0 14 rfl rfl)
theorem dX2_join_17 : decode cX2_join 17 = .ok (.iconst 0, 1) := dk_3 (dk_at dksX2_join_0 17 rfl rfl)
theorem dX2_join_18 : decode cX2_join 18 = .ok (.iload_n 1, 1) := dk_27 (dk_at dksX2_join_0 18 rfl rfl)
theorem dX2_join_19 : decode cX2_join 19 = .ok (.aload_n 3, 1) := dk_45 (dk_at dksX2_join_0 19 rfl rfl)
theorem dX2_join_20 : decode cX2_join 20 = .ok (.getfield 134, 3) := dk_180 0 134 (dk_at dksX2_join_0 20 rfl rfl)
theorem dX2_join_23 : decode cX2_join 23 = .ok (.invokevirtual 25, 3) := dk_182 0 25 (dk_at dksX2_join_1 0 rfl rfl)
theorem dX2_join_26 : decode cX2_join 26 = .ok (.checkcast 26, 3) := dk_192 0 26 (dk_at dksX2_join_1 3 rfl rfl)
theorem dX2_join_29 : decode cX2_join 29 = .ok (.aload_n 3, 1) := dk_45 (dk_at dksX2_join_1 6 rfl rfl)
theorem dX2_join_30 : decode cX2_join 30 = .ok (.getfield 122, 3) := dk_180 0 122 (dk_at dksX2_join_1 7 rfl rfl)
theorem dX2_join_33 : decode cX2_join 33 = .ok (.invokespecial 101, 3) := dk_183 0 101 (dk_at dksX2_join_1 10 rfl rfl)
theorem dX2_join_36 : decode cX2_join 36 = .ok (.astore 4, 2) := dk_58 4 (dk_at dksX2_join_1 13 rfl rfl)
theorem dX2_join_38 : decode cX2_join 38 = .ok (.aload_n 3, 1) := dk_45 (dk_at dksX2_join_1 15 rfl rfl)
theorem dX2_join_39 : decode cX2_join 39 = .ok (.dup, 1) := dk_89 (dk_at dksX2_join_1 16 rfl rfl)
theorem dX2_join_40 : decode cX2_join 40 = .ok (.getfield 221, 3) := dk_180 0 221 (dk_at dksX2_join_1 17 rfl rfl)
theorem dX2_join_43 : decode cX2_join 43 = .ok (.bipush 16, 2) := dk_16 16 (dk_at dksX2_join_1 20 rfl rfl)
theorem dX2_join_45 : decode cX2_join 45 = .ok (.iadd, 1) := dk_96 (dk_at dksX2_join_1 22 rfl rfl)
theorem dX2_join_46 : decode cX2_join 46 = .ok (.putfield 221, 3) := dk_181 0 221 (dk_at dksX2_join_2 0 rfl rfl)
theorem dX2_join_49 : decode cX2_join 49 = .ok (.aload 4, 2) := dk_25 4 (dk_at dksX2_join_2 3 rfl rfl)
theorem dX2_join_51 : decode cX2_join 51 = .ok (.bipush 16, 2) := dk_16 16 (dk_at dksX2_join_2 5 rfl rfl)
theorem dX2_join_53 : decode cX2_join 53 = .ok (.putfield 224, 3) := dk_181 0 224 (dk_at dksX2_join_2 7 rfl rfl)
theorem dX2_join_56 : decode cX2_join 56 = .ok (.aload 4, 2) := dk_25 4 (dk_at dksX2_join_2 10 rfl rfl)
theorem dX2_join_58 : decode cX2_join 58 = .ok (.invokevirtual 104, 3) := dk_182 0 104 (dk_at dksX2_join_2 12 rfl rfl)
theorem dX2_join_61 : decode cX2_join 61 = .ok (.aload_n 0, 1) := dk_42 (dk_at dksX2_join_2 15 rfl rfl)
theorem dX2_join_62 : decode cX2_join 62 = .ok (.getfield 36, 3) := dk_180 0 36 (dk_at dksX2_join_2 16 rfl rfl)
theorem dX2_join_65 : decode cX2_join 65 = .ok (.aload 4, 2) := dk_25 4 (dk_at dksX2_join_2 19 rfl rfl)
theorem dX2_join_67 : decode cX2_join 67 = .ok (.invokevirtual 73, 3) := dk_182 0 73 (dk_at dksX2_join_2 21 rfl rfl)
theorem dX2_join_70 : decode cX2_join 70 = .ok (.pop, 1) := dk_87 (dk_at dksX2_join_3 0 rfl rfl)
theorem dX2_join_71 : decode cX2_join 71 = .ok (.aload 4, 2) := dk_25 4 (dk_at dksX2_join_3 1 rfl rfl)
theorem dX2_join_73 : decode cX2_join 73 = .ok (.getfield 143, 3) := dk_180 0 143 (dk_at dksX2_join_3 3 rfl rfl)
theorem dX2_join_76 : decode cX2_join 76 = .ok (.ireturn, 1) := dk_172 (dk_at dksX2_join_3 6 rfl rfl)
def dkwX2_leave_2 : List UInt8 := [192, 0, 95, 78, 167, 255, 212, 132, 2, 1, 167, 255, 206, 177]
abbrev dktX2_leave_2 : List UInt8 := dkwX2_leave_2 ++ []
def dkwX2_leave_1 : List UInt8 := [182, 0, 63, 192, 0, 95, 180, 0, 141, 43, 180, 0, 143, 160, 0, 18, 42, 180, 0, 55, 28, 182, 0, 155]
abbrev dktX2_leave_1 : List UInt8 := dkwX2_leave_1 ++ dktX2_leave_2
def dkwX2_leave_0 : List UInt8 := [43, 3, 181, 0, 118, 3, 61, 28, 42, 180, 0, 55, 182, 0, 59, 162, 0, 45, 42, 180, 0, 55, 28]
abbrev dktX2_leave_0 : List UInt8 := dkwX2_leave_0 ++ dktX2_leave_1
theorem dksX2_leave_0 : cX2_leave.data.toList.drop 0 = dktX2_leave_0 := by decide +kernel
theorem dksX2_leave_1 : cX2_leave.data.toList.drop 23 = dktX2_leave_1 := dk_seg dksX2_leave_0 23 rfl rfl
theorem dksX2_leave_2 : cX2_leave.data.toList.drop 47 = dktX2_leave_2 := dk_seg dksX2_leave_1 24 rfl rfl
theorem dX2_leave_0 : decode cX2_leave 0 = .ok (.aload_n 1, 1) := dk_43 (dk_at dksX2_leave_0 0 rfl rfl)
theorem dX2_leave_1 : decode cX2_leave 1 = .ok (.iconst 0, 1) := dk_3 (dk_at dksX2_leave_0 1 rfl rfl)
theorem dX2_leave_2 : decode cX2_leave 2 = .ok (.putfield 118, 3) := dk_181 0 118 (dk_at dksX2_leave_0 2 rfl rfl)
theorem dX2_leave_5 : decode cX2_leave 5 = .ok (.iconst 0, 1) := dk_3 (dk_at dksX2_leave_0 5 rfl rfl)
theorem dX2_leave_6 : decode cX2_leave 6 = .ok (.istore_n 2, 1) := dk_61 (dk_at dksX2_leave_0 6 rfl rfl)
theorem dX2_leave_7 : decode cX2_leave 7 = .ok (.iload_n 2, 1) := dk_28 (dk_at dksX2_leave_0 7 rfl rfl)
theorem dX2_leave_8 : decode cX2_leave 8 = .ok (.aload_n 0, 1) := dk_42 (dk_at dksX2_leave_0 8 rfl rfl)
theorem dX2_leave_9 : decode cX2_leave 9 = .ok (.getfield 55, 3) := dk_180 0 55 (dk_at dksX2_leave_0 9 rfl rfl)
theorem dX2_leave_12 : decode cX2_leave 12 = .ok (.invokevirtual 59, 3) := dk_182 0 59 (dk_at dksX2_leave_0 12 rfl rfl)
theorem dX2_leave_15 : decode cX2_leave 15 = .ok (.if_icmp .ge 45, 3) := dk_162 0 45 (dk_at dksX2_leave_0 15 rfl rfl)
theorem dX2_leave_18 : decode cX2_leave 18 = .ok (.aload_n 0, 1) := dk_42 (dk_at dksX2_leave_0 18 rfl rfl)
theorem dX2_leave_19 : decode cX2_leave 19 = .ok (.getfield 55, 3) := dk_180 0 55 (dk_at dksX2_leave_0 19 rfl rfl)
theorem dX2_leave_22 : decode cX2_leave 22 = .ok (.iload_n 2, 1) := dk_28 (dk_at dksX2_leave_0 22 rfl rfl)
theorem dX2_leave_23 : decode cX2_leave 23 = .ok (.invokevirtual 63, 3) := dk_182 0 63 (dk_at dksX2_leave_1 0 rfl rfl)
theorem dX2_leave_26 : decode cX2_leave 26 = .ok (.checkcast 95, 3) := dk_192 0 95 (dk_at dksX2_leave_1 3 rfl rfl)
theorem dX2_leave_29 : decode cX2_leave 29 = .ok (.getfield 141, 3) := dk_180 0 141 (dk_at dksX2_leave_1 6 rfl rfl)
theorem dX2_leave_32 : decode cX2_leave 32 = .ok (.aload_n 1, 1) := dk_43 (dk_at dksX2_leave_1 9 rfl rfl)
theorem dX2_leave_33 : decode cX2_leave 33 = .ok (.getfield 143, 3) := dk_180 0 143 (dk_at dksX2_leave_1 10 rfl rfl)
theorem dX2_leave_36 : decode cX2_leave 36 = .ok (.if_icmp .ne 18, 3) := dk_160 0 18 (dk_at dksX2_leave_1 13 rfl rfl)
theorem dX2_leave_39 : decode cX2_leave 39 = .ok (.aload_n 0, 1) := dk_42 (dk_at dksX2_leave_1 16 rfl rfl)
theorem dX2_leave_40 : decode cX2_leave 40 = .ok (.getfield 55, 3) := dk_180 0 55 (dk_at dksX2_leave_1 17 rfl rfl)
theorem dX2_leave_43 : decode cX2_leave 43 = .ok (.iload_n 2, 1) := dk_28 (dk_at dksX2_leave_1 20 rfl rfl)
theorem dX2_leave_44 : decode cX2_leave 44 = .ok (.invokevirtual 155, 3) := dk_182 0 155 (dk_at dksX2_leave_1 21 rfl rfl)
theorem dX2_leave_47 : decode cX2_leave 47 = .ok (.checkcast 95, 3) := dk_192 0 95 (dk_at dksX2_leave_2 0 rfl rfl)
theorem dX2_leave_50 : decode cX2_leave 50 = .ok (.astore_n 3, 1) := dk_78 (dk_at dksX2_leave_2 3 rfl rfl)
theorem dX2_leave_51 : decode cX2_leave 51 = .ok (.goto (-44), 3) := dk_167 255 212 (dk_at dksX2_leave_2 4 rfl rfl)
theorem dX2_leave_54 : decode cX2_leave 54 = .ok (.iinc 2 1, 3) := dk_132 2 1 (dk_at dksX2_leave_2 7 rfl rfl)
theorem dX2_leave_57 : decode cX2_leave 57 = .ok (.goto (-50), 3) := dk_167 255 206 (dk_at dksX2_leave_2 10 rfl rfl)
theorem dX2_leave_60 : decode cX2_leave 60 = .ok (.return_, 1) := dk_177 (dk_at dksX2_leave_2 13 rfl rfl)
def dkwX2_foresee_5 : List UInt8 := [17, 39, 16, 112, 79, 132, 5, 1, 167, 255, 181, 132, 4, 1, 167, 255, 140, 45, 176]
abbrev dktX2_foresee_5 : List UInt8 := dkwX2_foresee_5 ++ []
def dkwX2_foresee_4 : List UInt8 := [160, 0, 27, 45, 25, 6, 180, 0, 149, 45, 25, 6, 180, 0, 149, 46, 25, 6, 180, 0, 152, 96]
abbrev dktX2_foresee_4 : List UInt8 := dkwX2_foresee_4 ++ dktX2_foresee_5
def dkwX2_foresee_3 : List UInt8 := [192, 0, 95, 58, 6, 25, 6, 180, 0, 141, 43, 180, 0, 143, 160, 0, 37, 25, 6, 180, 0, 146, 21, 4]
abbrev dktX2_foresee_3 : List UInt8 := dkwX2_foresee_3 ++ dktX2_foresee_4
def dkwX2_foresee_2 : List UInt8 := [54, 5, 21, 5, 42, 180, 0, 55, 182, 0, 59, 162, 0, 69, 42, 180, 0, 55, 21, 5, 182, 0, 63]
abbrev dktX2_foresee_2 : List UInt8 := dkwX2_foresee_2 ++ dktX2_foresee_3
def dkwX2_foresee_1 : List UInt8 := [162, 0, 110, 42, 180, 0, 12, 42, 180, 0, 40, 21, 4, 182, 0, 63, 192, 0, 77, 45, 182, 0, 137, 3]
abbrev dktX2_foresee_1 : List UInt8 := dkwX2_foresee_1 ++ dktX2_foresee_2
def dkwX2_foresee_0 : List UInt8 := [43, 180, 0, 134, 182, 0, 25, 192, 0, 26, 78, 28, 54, 4, 21, 4, 42, 180, 0, 40, 182, 0, 59]
abbrev dktX2_foresee_0 : List UInt8 := dkwX2_foresee_0 ++ dktX2_foresee_1
theorem dksX2_foresee_0 : cX2_foresee.data.toList.drop 0 = dktX2_foresee_0 := by decide +kernel
theorem dksX2_foresee_1 : cX2_foresee.data.toList.drop 23 = dktX2_foresee_1 := dk_seg dksX2_foresee_0 23 rfl rfl
theorem dksX2_foresee_2 : cX2_foresee.data.toList.drop 47 = dktX2_foresee_2 := dk_seg dksX2_foresee_1 24 rfl rfl
theorem dksX2_foresee_3 : cX2_foresee.data.toList.drop 70 = dktX2_foresee_3 := dk_seg dksX2_foresee_2 23 rfl rfl
theorem dksX2_foresee_4 : cX2_foresee.data.toList.drop 94 = dktX2_foresee_4 := dk_seg dksX2_foresee_3 24 rfl rfl
theorem dksX2_foresee_5 : cX2_foresee.data.toList.drop 116 = dktX2_foresee_5 := dk_seg dksX2_foresee_4 22 rfl rfl
theorem dX2_foresee_0 : decode cX2_foresee 0 = .ok (.aload_n 1, 1) := dk_43 (dk_at dksX2_foresee_0 0 rfl rfl)
theorem dX2_foresee_1 : decode cX2_foresee 1 = .ok (.getfield 134, 3) := dk_180 0 134 (dk_at dksX2_foresee_0 1 rfl rfl)
theorem dX2_foresee_4 : decode cX2_foresee 4 = .ok (.invokevirtual 25, 3) := dk_182 0 25 (dk_at dksX2_foresee_0 4 rfl rfl)
theorem dX2_foresee_7 : decode cX2_foresee 7 = .ok (.checkcast 26, 3) := dk_192 0 26 (dk_at dksX2_foresee_0 7 rfl rfl)
theorem dX2_foresee_10 : decode cX2_foresee 10 = .ok (.astore_n 3, 1) := dk_78 (dk_at dksX2_foresee_0 10 rfl rfl)
theorem dX2_foresee_11 : decode cX2_foresee 11 = .ok (.iload_n 2, 1) := dk_28 (dk_at dksX2_foresee_0 11 rfl rfl)
theorem dX2_foresee_12 : decode cX2_foresee 12 = .ok (.istore 4, 2) := dk_54 4 (dk_at dksX2_foresee_0 12 rfl rfl)
theorem dX2_foresee_14 : decode cX2_foresee 14 = .ok (.iload 4, 2) := dk_21 4 (dk_at dksX2_foresee_0 14 rfl rfl)
theorem dX2_foresee_16 : decode cX2_foresee 16 = .ok (.aload_n 0, 1) := dk_42 (dk_at dksX2_foresee_0 16 rfl rfl)
theorem dX2_foresee_17 : decode cX2_foresee 17 = .ok (.getfield 40, 3) := dk_180 0 40 (dk_at dksX2_foresee_0 17 rfl rfl)
theorem dX2_foresee_20 : decode cX2_foresee 20 = .ok (.invokevirtual 59, 3) := dk_182 0 59 (dk_at dksX2_foresee_0 20 rfl rfl)
theorem dX2_foresee_23 : decode cX2_foresee 23 = .ok (.if_icmp .ge 110, 3) := dk_162 0 110 (dk_at dksX2_foresee_1 0 rfl rfl)
theorem dX2_foresee_26 : decode cX2_foresee 26 = .ok (.aload_n 0, 1) := dk_42 (dk_at dksX2_foresee_1 3 rfl rfl)
theorem dX2_foresee_27 : decode cX2_foresee 27 = .ok (.getfield 12, 3) := dk_180 0 12 (dk_at dksX2_foresee_1 4 rfl rfl)
theorem dX2_foresee_30 : decode cX2_foresee 30 = .ok (.aload_n 0, 1) := dk_42 (dk_at dksX2_foresee_1 7 rfl rfl)
theorem dX2_foresee_31 : decode cX2_foresee 31 = .ok (.getfield 40, 3) := dk_180 0 40 (dk_at dksX2_foresee_1 8 rfl rfl)
theorem dX2_foresee_34 : decode cX2_foresee 34 = .ok (.iload 4, 2) := dk_21 4 (dk_at dksX2_foresee_1 11 rfl rfl)
theorem dX2_foresee_36 : decode cX2_foresee 36 = .ok (.invokevirtual 63, 3) := dk_182 0 63 (dk_at dksX2_foresee_1 13 rfl rfl)
theorem dX2_foresee_39 : decode cX2_foresee 39 = .ok (.checkcast 77, 3) := dk_192 0 77 (dk_at dksX2_foresee_1 16 rfl rfl)
theorem dX2_foresee_42 : decode cX2_foresee 42 = .ok (.aload_n 3, 1) := dk_45 (dk_at dksX2_foresee_1 19 rfl rfl)
theorem dX2_foresee_43 : decode cX2_foresee 43 = .ok (.invokevirtual 137, 3) := dk_182 0 137 (dk_at dksX2_foresee_1 20 rfl rfl)
theorem dX2_foresee_46 : decode cX2_foresee 46 = .ok (.iconst 0, 1) := dk_3 (dk_at dksX2_foresee_1 23 rfl rfl)
theorem dX2_foresee_47 : decode cX2_foresee 47 = .ok (.istore 5, 2) := dk_54 5 (dk_at dksX2_foresee_2 0 rfl rfl)
theorem dX2_foresee_49 : decode cX2_foresee 49 = .ok (.iload 5, 2) := dk_21 5 (dk_at dksX2_foresee_2 2 rfl rfl)
theorem dX2_foresee_51 : decode cX2_foresee 51 = .ok (.aload_n 0, 1) := dk_42 (dk_at dksX2_foresee_2 4 rfl rfl)
theorem dX2_foresee_52 : decode cX2_foresee 52 = .ok (.getfield 55, 3) := dk_180 0 55 (dk_at dksX2_foresee_2 5 rfl rfl)
theorem dX2_foresee_55 : decode cX2_foresee 55 = .ok (.invokevirtual 59, 3) := dk_182 0 59 (dk_at dksX2_foresee_2 8 rfl rfl)
theorem dX2_foresee_58 : decode cX2_foresee 58 = .ok (.if_icmp .ge 69, 3) := dk_162 0 69 (dk_at dksX2_foresee_2 11 rfl rfl)
theorem dX2_foresee_61 : decode cX2_foresee 61 = .ok (.aload_n 0, 1) := dk_42 (dk_at dksX2_foresee_2 14 rfl rfl)
theorem dX2_foresee_62 : decode cX2_foresee 62 = .ok (.getfield 55, 3) := dk_180 0 55 (dk_at dksX2_foresee_2 15 rfl rfl)
theorem dX2_foresee_65 : decode cX2_foresee 65 = .ok (.iload 5, 2) := dk_21 5 (dk_at dksX2_foresee_2 18 rfl rfl)
theorem dX2_foresee_67 : decode cX2_foresee 67 = .ok (.invokevirtual 63, 3) := dk_182 0 63 (dk_at dksX2_foresee_2 20 rfl rfl)
theorem dX2_foresee_70 : decode cX2_foresee 70 = .ok (.checkcast 95, 3) := dk_192 0 95 (dk_at dksX2_foresee_3 0 rfl rfl)
theorem dX2_foresee_73 : decode cX2_foresee 73 = .ok (.astore 6, 2) := dk_58 6 (dk_at dksX2_foresee_3 3 rfl rfl)
theorem dX2_foresee_75 : decode cX2_foresee 75 = .ok (.aload 6, 2) := dk_25 6 (dk_at dksX2_foresee_3 5 rfl rfl)
theorem dX2_foresee_77 : decode cX2_foresee 77 = .ok (.getfield 141, 3) := dk_180 0 141 (dk_at dksX2_foresee_3 7 rfl rfl)
theorem dX2_foresee_80 : decode cX2_foresee 80 = .ok (.aload_n 1, 1) := dk_43 (dk_at dksX2_foresee_3 10 rfl rfl)
theorem dX2_foresee_81 : decode cX2_foresee 81 = .ok (.getfield 143, 3) := dk_180 0 143 (dk_at dksX2_foresee_3 11 rfl rfl)
theorem dX2_foresee_84 : decode cX2_foresee 84 = .ok (.if_icmp .ne 37, 3) := dk_160 0 37 (dk_at dksX2_foresee_3 14 rfl rfl)
theorem dX2_foresee_87 : decode cX2_foresee 87 = .ok (.aload 6, 2) := dk_25 6 (dk_at dksX2_foresee_3 17 rfl rfl)
theorem dX2_foresee_89 : decode cX2_foresee 89 = .ok (.getfield 146, 3) := dk_180 0 146 (dk_at dksX2_foresee_3 19 rfl rfl)
theorem dX2_foresee_92 : decode cX2_foresee 92 = .ok (.iload 4, 2) := dk_21 4 (dk_at dksX2_foresee_3 22 rfl rfl)
theorem dX2_foresee_94 : decode cX2_foresee 94 = .ok (.if_icmp .ne 27, 3) := dk_160 0 27 (dk_at dksX2_foresee_4 0 rfl rfl)
theorem dX2_foresee_97 : decode cX2_foresee 97 = .ok (.aload_n 3, 1) := dk_45 (dk_at dksX2_foresee_4 3 rfl rfl)
theorem dX2_foresee_98 : decode cX2_foresee 98 = .ok (.aload 6, 2) := dk_25 6 (dk_at dksX2_foresee_4 4 rfl rfl)
theorem dX2_foresee_100 : decode cX2_foresee 100 = .ok (.getfield 149, 3) := dk_180 0 149 (dk_at dksX2_foresee_4 6 rfl rfl)
theorem dX2_foresee_103 : decode cX2_foresee 103 = .ok (.aload_n 3, 1) := dk_45 (dk_at dksX2_foresee_4 9 rfl rfl)
theorem dX2_foresee_104 : decode cX2_foresee 104 = .ok (.aload 6, 2) := dk_25 6 (dk_at dksX2_foresee_4 10 rfl rfl)
theorem dX2_foresee_106 : decode cX2_foresee 106 = .ok (.getfield 149, 3) := dk_180 0 149 (dk_at dksX2_foresee_4 12 rfl rfl)
theorem dX2_foresee_109 : decode cX2_foresee 109 = .ok (.iaload, 1) := dk_46 (dk_at dksX2_foresee_4 15 rfl rfl)
theorem dX2_foresee_110 : decode cX2_foresee 110 = .ok (.aload 6, 2) := dk_25 6 (dk_at dksX2_foresee_4 16 rfl rfl)
theorem dX2_foresee_112 : decode cX2_foresee 112 = .ok (.getfield 152, 3) := dk_180 0 152 (dk_at dksX2_foresee_4 18 rfl rfl)
theorem dX2_foresee_115 : decode cX2_foresee 115 = .ok (.iadd, 1) := dk_96 (dk_at dksX2_foresee_4 21 rfl rfl)
theorem dX2_foresee_116 : decode cX2_foresee 116 = .ok (.sipush 10000, 3) := dk_17 39 16 (dk_at dksX2_foresee_5 0 rfl rfl)
theorem dX2_foresee_119 : decode cX2_foresee 119 = .ok (.irem, 1) := dk_112 (dk_at dksX2_foresee_5 3 rfl rfl)
theorem dX2_foresee_120 : decode cX2_foresee 120 = .ok (.iastore, 1) := dk_79 (dk_at dksX2_foresee_5 4 rfl rfl)
theorem dX2_foresee_121 : decode cX2_foresee 121 = .ok (.iinc 5 1, 3) := dk_132 5 1 (dk_at dksX2_foresee_5 5 rfl rfl)
theorem dX2_foresee_124 : decode cX2_foresee 124 = .ok (.goto (-75), 3) := dk_167 255 181 (dk_at dksX2_foresee_5 8 rfl rfl)
theorem dX2_foresee_127 : decode cX2_foresee 127 = .ok (.iinc 4 1, 3) := dk_132 4 1 (dk_at dksX2_foresee_5 11 rfl rfl)
theorem dX2_foresee_130 : decode cX2_foresee 130 = .ok (.goto (-116), 3) := dk_167 255 140 (dk_at dksX2_foresee_5 14 rfl rfl)
theorem dX2_foresee_133 : decode cX2_foresee 133 = .ok (.aload_n 3, 1) := dk_45 (dk_at dksX2_foresee_5 17 rfl rfl)
theorem dX2_foresee_134 : decode cX2_foresee 134 = .ok (.areturn, 1) := dk_176 (dk_at dksX2_foresee_5 18 rfl rfl)
