set_option maxRecDepth 100000
def dkwX6_init_2 : List UInt8 := [188, 4, 181, 0, 36, 42, 178, 0, 40, 181, 0, 46, 42, 18, 49, 181, 0, 51, 42, 28, 181, 0, 55, 177]
abbrev dktX6_init_2 : List UInt8 := dkwX6_init_2 ++ []
def dkwX6_init_1 : List UInt8 := [89, 183, 0, 24, 181, 0, 25, 42, 187, 0, 22, 89, 183, 0, 24, 181, 0, 29, 42, 178, 0, 32, 190]
abbrev dktX6_init_1 : List UInt8 := dkwX6_init_1 ++ dktX6_init_2
def dkwX6_init_0 : List UInt8 := [42, 43, 181, 0, 3, 42, 183, 0, 9, 42, 187, 0, 15, 89, 183, 0, 17, 181, 0, 18, 42, 187, 0, 22]
abbrev dktX6_init_0 : List UInt8 := dkwX6_init_0 ++ dktX6_init_1
theorem dksX6_init_0 : cX6_init.data.toList.drop 0 = dktX6_init_0 := by decide +kernel
theorem dksX6_init_1 : cX6_init.data.toList.drop 24 = dktX6_init_1 := dk_seg dksX6_init_0 24 rfl rfl
theorem dksX6_init_2 : cX6_init.data.toList.drop 47 = dktX6_init_2 := dk_seg dksX6_init_1 23 rfl rfl
theorem dX6_init_0 : decode cX6_init 0 = .ok (.aload_n 0, 1) := dk_42 (dk_at dksX6_init_0 0 rfl rfl)
theorem dX6_init_1 : decode cX6_init 1 = .ok (.aload_n 1, 1) := dk_43 (dk_at dksX6_init_0 1 rfl rfl)
theorem dX6_init_2 : decode cX6_init 2 = .ok (.putfield 3, 3) := dk_181 0 3 (dk_at dksX6_init_0 2 rfl rfl)
theorem dX6_init_5 : decode cX6_init 5 = .ok (.aload_n 0, 1) := dk_42 (dk_at dksX6_init_0 5 rfl rfl)
theorem dX6_init_6 : decode cX6_init 6 = .ok (.invokespecial 9, 3) := dk_183 0 9 (dk_at dksX6_init_0 6 rfl rfl)
theorem dX6_init_9 : decode cX6_init 9 = .ok (.aload_n 0, 1) := dk_42 (dk_at dksX6_init_0 9 rfl rfl)
theorem dX6_init_10 : decode cX6_init 10 = .ok (.new 15, 3) := dk_187 0 15 (dk_at dksX6_init_0 10 rfl rfl)
theorem dX6_init_13 : decode cX6_init 13 = .ok (.dup, 1) := dk_89 (dk_at dksX6_init_0 13 rfl rfl)
theorem dX6_init_14 : decode cX6_init 14 = .ok (.invokespecial 17, 3) := dk_183 0 17 (dk_at dksX6_init_0 14 rfl rfl)
theorem dX6_init_17 : decode cX6_init 17 = .ok (.putfield 18, 3) := dk_181 0 18 (dk_at dksX6_init_0 17 rfl rfl)
theorem dX6_init_20 : decode cX6_init 20 = .ok (.aload_n 0, 1) := dk_42 (dk_at dksX6_init_0 20 rfl rfl)
theorem dX6_init_21 : decode cX6_init 21 = .ok (.new 22, 3) := dk_187 0 22 (dk_at dksX6_init_0 21 rfl rfl)
theorem dX6_init_24 : decode cX6_init 24 = .ok (.dup, 1) := dk_89 (dk_at dksX6_init_1 0 rfl rfl)
theorem dX6_init_25 : decode cX6_init 25 = .ok (.invokespecial 24, 3) := dk_183 0 24 (dk_at dksX6_init_1 1 rfl rfl)
theorem dX6_init_28 : decode cX6_init 28 = .ok (.putfield 25, 3) := dk_181 0 25 (dk_at dksX6_init_1 4 rfl rfl)
theorem dX6_init_31 : decode cX6_init 31 = .ok (.aload_n 0, 1) := dk_42 (dk_at dksX6_init_1 7 rfl rfl)
theorem dX6_init_32 : decode cX6_init 32 = .ok (.new 22, 3) := dk_187 0 22 (dk_at dksX6_init_1 8 rfl rfl)
theorem dX6_init_35 : decode cX6_init 35 = .ok (.dup, 1) := dk_89 (dk_at dksX6_init_1 11 rfl rfl)
theorem dX6_init_36 : decode cX6_init 36 = .ok (.invokespecial 24, 3) := dk_183 0 24 (dk_at dksX6_init_1 12 rfl rfl)
theorem dX6_init_39 : decode cX6_init 39 = .ok (.putfield 29, 3) := dk_181 0 29 (dk_at dksX6_init_1 15 rfl rfl)
theorem dX6_init_42 : decode cX6_init 42 = .ok (.aload_n 0, 1) := dk_42 (dk_at dksX6_init_1 18 rfl rfl)
theorem dX6_init_43 : decode cX6_init 43 = .ok (.getstatic 32, 3) := dk_178 0 32 (dk_at dksX6_init_1 19 rfl rfl)
theorem dX6_init_46 : decode cX6_init 46 = .ok (.arraylength, 1) := dk_190 (dk_at dksX6_init_1 22 rfl rfl)
theorem dX6_init_47 : decode cX6_init 47 = .ok (.newarray .boolean, 2) := dk_188_4 (dk_at dksX6_init_2 0 rfl rfl)
theorem dX6_init_49 : decode cX6_init 49 = .ok (.putfield 36, 3) := dk_181 0 36 (dk_at dksX6_init_2 2 rfl rfl)
theorem dX6_init_52 : decode cX6_init 52 = .ok (.aload_n 0, 1) := dk_42 (dk_at dksX6_init_2 5 rfl rfl)
theorem dX6_init_53 : decode cX6_init 53 = .ok (.getstatic 40, 3) := dk_178 0 40 (dk_at dksX6_init_2 6 rfl rfl)
theorem dX6_init_56 : decode cX6_init 56 = .ok (.putfield 46, 3) := dk_181 0 46 (dk_at dksX6_init_2 9 rfl rfl)
theorem dX6_init_59 : decode cX6_init 59 = .ok (.aload_n 0, 1) := dk_42 (dk_at dksX6_init_2 12 rfl rfl)
theorem dX6_init_60 : decode cX6_init 60 = .ok (.ldc 49, 2) := dk_18 49 (dk_at dksX6_init_2 13 rfl rfl)
theorem dX6_init_62 : decode cX6_init 62 = .ok (.putfield 51, 3) := dk_181 0 51 (dk_at dksX6_init_2 15 rfl rfl)
theorem dX6_init_65 : decode cX6_init 65 = .ok (.aload_n 0, 1) := dk_42 (dk_at dksX6_init_2 18 rfl rfl)
theorem dX6_init_66 : decode cX6_init 66 = .ok (.iload_n 2, 1) := dk_28 (dk_at dksX6_init_2 19 rfl rfl)
theorem dX6_init_67 : decode cX6_init 67 = .ok (.putfield 55, 3) := dk_181 0 55 (dk_at dksX6_init_2 20 rfl rfl)
theorem dX6_init_70 : decode cX6_init 70 = .ok (.return_, 1) := dk_177 (dk_at dksX6_init_2 23 rfl rfl)
def dkwX6_parse_4 : List UInt8 := [182, 0, 141, 192, 0, 145, 182, 0, 147, 182, 0, 163, 132, 1, 1, 167, 255, 207, 42, 180, 0, 18, 176]
abbrev dktX6_parse_4 : List UInt8 := dkwX6_parse_4 ++ []
def dkwX6_parse_3 : List UInt8 := [42, 180, 0, 18, 42, 180, 0, 25, 27, 182, 0, 141, 192, 0, 145, 182, 0, 147, 42, 180, 0, 29, 27]
abbrev dktX6_parse_3 : List UInt8 := dkwX6_parse_3 ++ dktX6_parse_4
def dkwX6_parse_2 : List UInt8 := [180, 0, 160, 4, 96, 181, 0, 160, 167, 255, 207, 3, 60, 27, 42, 180, 0, 25, 182, 0, 139, 162, 0, 44]
abbrev dktX6_parse_2 : List UInt8 := dkwX6_parse_2 ++ dktX6_parse_3
def dkwX6_parse_1 : List UInt8 := [178, 0, 112, 166, 0, 7, 4, 167, 0, 4, 3, 16, 245, 182, 0, 123, 42, 182, 0, 127, 42, 89]
abbrev dktX6_parse_1 : List UInt8 := dkwX6_parse_1 ++ dktX6_parse_2
def dkwX6_parse_0 : List UInt8 := [42, 182, 0, 127, 42, 180, 0, 46, 178, 0, 40, 165, 0, 45, 42, 182, 0, 157, 42, 42, 180, 0, 46]
abbrev dktX6_parse_0 : List UInt8 := dkwX6_parse_0 ++ dktX6_parse_1
theorem dksX6_parse_0 : cX6_parse.data.toList.drop 0 = dktX6_parse_0 := by decide +kernel
theorem dksX6_parse_1 : cX6_parse.data.toList.drop 23 = dktX6_parse_1 := dk_seg dksX6_parse_0 23 rfl rfl
theorem dksX6_parse_2 : cX6_parse.data.toList.drop 45 = dktX6_parse_2 := dk_seg dksX6_parse_1 22 rfl rfl
theorem dksX6_parse_3 : cX6_parse.data.toList.drop 69 = dktX6_parse_3 := dk_seg dksX6_parse_2 24 rfl rfl
theorem dksX6_parse_4 : cX6_parse.data.toList.drop 92 = dktX6_parse_4 := dk_seg dksX6_parse_3 23 rfl rfl
theorem dX6_parse_0 : decode cX6_parse 0 = .ok (.aload_n 0, 1) := dk_42 (dk_at dksX6_parse_0 0 rfl rfl)
theorem dX6_parse_1 : decode cX6_parse 1 = .ok (.invokevirtual 127, 3) := dk_182 0 127 (dk_at dksX6_parse_0 1 rfl rfl)
theorem dX6_parse_4 : decode cX6_parse 4 = .ok (.aload_n 0, 1) := dk_42 (dk_at dksX6_parse_0 4 rfl rfl)
theorem dX6_parse_5 : decode cX6_parse 5 = .ok (.getfield 46, 3) := dk_180 0 46 (dk_at dksX6_parse_0 5 rfl rfl)
theorem dX6_parse_8 : decode cX6_parse 8 = .ok (.getstatic 40, 3) := dk_178 0 40 (dk_at dksX6_parse_0 8 rfl rfl)
theorem dX6_parse_11 : decode cX6_parse 11 = .ok (.if_acmp .eq 45, 3) := dk_165 0 45 (dk_at dksX6_parse_0 11 rfl rfl)
theorem dX6_parse_14 : decode cX6_parse 14 = .ok (.aload_n 0, 1) := dk_42 (dk_at dksX6_parse_0 14 rfl rfl)
theorem dX6_parse_15 : decode cX6_parse 15 = .ok (.invokevirtual 157, 3) := dk_182 0 157 (dk_at dksX6_parse_0 15 rfl rfl)
theorem dX6_parse_18 : decode cX6_parse 18 = .ok (.aload_n 0, 1) := dk_42 (dk_at dksX6_parse_0 18 rfl rfl)
theorem dX6_parse_19 : decode cX6_parse 19 = .ok (.aload_n 0, 1) := dk_42 (dk_at dksX6_parse_0 19 rfl rfl)
theorem dX6_parse_20 : decode cX6_parse 20 = .ok (.getfield 46, 3) := dk_180 0 46 (dk_at dksX6_parse_0 20 rfl rfl)
theorem dX6_parse_23 : decode cX6_parse 23 = .ok (.getstatic 112, 3) := dk_178 0 112 (dk_at dksX6_parse_1 0 rfl rfl)
theorem dX6_parse_26 : decode cX6_parse 26 = .ok (.if_acmp .ne 7, 3) := dk_166 0 7 (dk_at dksX6_parse_1 3 rfl rfl)
theorem dX6_parse_29 : decode cX6_parse 29 = .ok (.iconst 1, 1) := dk_4 (dk_at dksX6_parse_1 6 rfl rfl)
theorem dX6_parse_30 : decode cX6_parse 30 = .ok (.goto 4, 3) := dk_167 0 4 (dk_at dksX6_parse_1 7 rfl rfl)
theorem dX6_parse_33 : decode cX6_parse 33 = .ok (.iconst 0, 1) := dk_3 (dk_at dksX6_parse_1 10 rfl rfl)
theorem dX6_parse_34 : decode cX6_parse 34 = .ok (.bipush (-11), 2) := dk_16 245 (dk_at dksX6_parse_1 11 rfl rfl)
theorem dX6_parse_36 : decode cX6_parse 36 = .ok (.invokevirtual 123, 3) := dk_182 0 123 (dk_at dksX6_parse_1 13 rfl rfl)
theorem dX6_parse_39 : decode cX6_parse 39 = .ok (.aload_n 0, 1) := dk_42 (dk_at dksX6_parse_1 16 rfl rfl)
theorem dX6_parse_40 : decode cX6_parse 40 = .ok (.invokevirtual 127, 3) := dk_182 0 127 (dk_at dksX6_parse_1 17 rfl rfl)
theorem dX6_parse_43 : decode cX6_parse 43 = .ok (.aload_n 0, 1) := dk_42 (dk_at dksX6_parse_1 20 rfl rfl)
theorem dX6_parse_44 : decode cX6_parse 44 = .ok (.dup, 1) := dk_89 (dk_at dksX6_parse_1 21 rfl rfl)
theorem dX6_parse_45 : decode cX6_parse 45 = .ok (.getfield 160, 3) := dk_180 0 160 (dk_at dksX6_parse_2 0 rfl rfl)
theorem dX6_parse_48 : decode cX6_parse 48 = .ok (.iconst 1, 1) := dk_4 (dk_at dksX6_parse_2 3 rfl rfl)
theorem dX6_parse_49 : decode cX6_parse 49 = .ok (.iadd, 1) := dk_96 (dk_at dksX6_parse_2 4 rfl rfl)
theorem dX6_parse_50 : decode cX6_parse 50 = .ok (.putfield 160, 3) := dk_181 0 160 (dk_at dksX6_parse_2 5 rfl rfl)
theorem dX6_parse_53 : decode cX6_parse 53 = .ok (.goto (-49), 3) := dk_167 255 207 (dk_at dksX6_parse_2 8 rfl rfl)
theorem dX6_parse_56 : decode cX6_parse 56 = .ok (.iconst 0, 1) := dk_3 (dk_at dksX6_parse_2 11 rfl rfl)
theorem dX6_parse_57 : decode cX6_parse 57 = .ok (.istore_n 1, 1) := dk_60 (dk_at dksX6_parse_2 12 rfl rfl)
theorem dX6_parse_58 : decode cX6_parse 58 = .ok (.iload_n 1, 1) := dk_27 (dk_at dksX6_parse_2 13 rfl rfl)
theorem dX6_parse_59 : decode cX6_parse 59 = .ok (.aload_n 0, 1) := dk_42 (dk_at dksX6_parse_2 14 rfl rfl)
theorem dX6_parse_60 : decode cX6_parse 60 = .ok (.getfield 25, 3) := dk_180 0 25 (dk_at dksX6_parse_2 15 rfl rfl)
theorem dX6_parse_63 : decode cX6_parse 63 = .ok (.invokevirtual 139, 3) := dk_182 0 139 (dk_at dksX6_parse_2 18 rfl rfl)
theorem dX6_parse_66 : decode cX6_parse 66 = .ok (.if_icmp .ge 44, 3) := dk_162 0 44 (dk_at dksX6_parse_2 21 rfl rfl)
theorem dX6_parse_69 : decode cX6_parse 69 = .ok (.aload_n 0, 1) := dk_42 (dk_at dksX6_parse_3 0 rfl rfl)
theorem dX6_parse_70 : decode cX6_parse 70 = .ok (.getfield 18, 3) := dk_180 0 18 (dk_at dksX6_parse_3 1 rfl rfl)
theorem dX6_parse_73 : decode cX6_parse 73 = .ok (.aload_n 0, 1) := dk_42 (dk_at dksX6_parse_3 4 rfl rfl)
theorem dX6_parse_74 : decode cX6_parse 74 = .ok (.getfield 25, 3) := dk_180 0 25 (dk_at dksX6_parse_3 5 rfl rfl)
theorem dX6_parse_77 : decode cX6_parse 77 = .ok (.iload_n 1, 1) := dk_27 (dk_at dksX6_parse_3 8 rfl rfl)
theorem dX6_parse_78 : decode cX6_parse 78 = .ok (.invokevirtual 141, 3) := dk_182 0 141 (dk_at dksX6_parse_3 9 rfl rfl)
theorem dX6_parse_81 : decode cX6_parse 81 = .ok (.checkcast 145, 3) := dk_192 0 145 (dk_at dksX6_parse_3 12 rfl rfl)
theorem dX6_parse_84 : decode cX6_parse 84 = .ok (.invokevirtual 147, 3) := dk_182 0 147 (dk_at dksX6_parse_3 15 rfl rfl)
theorem dX6_parse_87 : decode cX6_parse 87 = .ok (.aload_n 0, 1) := dk_42 (dk_at dksX6_parse_3 18 rfl rfl)
theorem dX6_parse_88 : decode cX6_parse 88 = .ok (.getfield 29, 3) := dk_180 0 29 (dk_at dksX6_parse_3 19 rfl rfl)
theorem dX6_parse_91 : decode cX6_parse 91 = .ok (.iload_n 1, 1) := dk_27 (dk_at dksX6_parse_3 22 rfl rfl)
theorem dX6_parse_92 : decode cX6_parse 92 = .ok (.invokevirtual 141, 3) := dk_182 0 141 (dk_at dksX6_parse_4 0 rfl rfl)
theorem dX6_parse_95 : decode cX6_parse 95 = .ok (.checkcast 145, 3) := dk_192 0 145 (dk_at dksX6_parse_4 3 rfl rfl)
theorem dX6_parse_98 : decode cX6_parse 98 = .ok (.invokevirtual 147, 3) := dk_182 0 147 (dk_at dksX6_parse_4 6 rfl rfl)
theorem dX6_parse_101 : decode cX6_parse 101 = .ok (.invokevirtual 163, 3) := dk_182 0 163 (dk_at dksX6_parse_4 9 rfl rfl)
theorem dX6_parse_104 : decode cX6_parse 104 = .ok (.iinc 1 1, 3) := dk_132 1 1 (dk_at dksX6_parse_4 12 rfl rfl)
theorem dX6_parse_107 : decode cX6_parse 107 = .ok (.goto (-49), 3) := dk_167 255 207 (dk_at dksX6_parse_4 15 rfl rfl)
theorem dX6_parse_110 : decode cX6_parse 110 = .ok (.aload_n 0, 1) := dk_42 (dk_at dksX6_parse_4 18 rfl rfl)
theorem dX6_parse_111 : decode cX6_parse 111 = .ok (.getfield 18, 3) := dk_180 0 18 (dk_at dksX6_parse_4 19 rfl rfl)
theorem dX6_parse_114 : decode cX6_parse 114 = .ok (.areturn, 1) := dk_176 (dk_at dksX6_parse_4 22 rfl rfl)
def dkwX6_advance_10 : List UInt8 := [178, 0, 112, 167, 0, 6, 178, 0, 115, 181, 0, 46, 42, 89, 180, 0, 59, 4, 96, 181, 0, 59, 177]
abbrev dktX6_advance_10 : List UInt8 := dkwX6_advance_10 ++ []
def dkwX6_advance_9 : List UInt8 := [181, 0, 102, 42, 89, 180, 0, 59, 4, 96, 181, 0, 59, 167, 255, 205, 42, 27, 16, 59, 160, 0, 9]
abbrev dktX6_advance_9 : List UInt8 := dkwX6_advance_9 ++ dktX6_advance_10
def dkwX6_advance_8 : List UInt8 := [153, 0, 69, 42, 16, 10, 42, 180, 0, 102, 104, 42, 182, 0, 66, 96, 16, 48, 100, 18, 105, 184, 0, 106]
abbrev dktX6_advance_8 : List UInt8 := dkwX6_advance_8 ++ dktX6_advance_9
def dkwX6_advance_7 : List UInt8 := [181, 0, 46, 42, 3, 181, 0, 102, 42, 182, 0, 66, 133, 20, 0, 95, 20, 0, 97, 184, 0, 77]
abbrev dktX6_advance_7 : List UInt8 := dkwX6_advance_7 ++ dktX6_advance_8
def dkwX6_advance_6 : List UInt8 := [181, 0, 51, 167, 0, 112, 27, 133, 20, 0, 95, 20, 0, 97, 184, 0, 77, 153, 0, 69, 42, 178, 0, 99]
abbrev dktX6_advance_6 : List UInt8 := dkwX6_advance_6 ++ dktX6_advance_7
def dkwX6_advance_5 : List UInt8 := [182, 0, 87, 87, 42, 89, 180, 0, 59, 4, 96, 181, 0, 59, 167, 255, 219, 42, 44, 182, 0, 91]
abbrev dktX6_advance_5 : List UInt8 := dkwX6_advance_5 ++ dktX6_advance_6
def dkwX6_advance_4 : List UInt8 := [42, 182, 0, 66, 133, 20, 0, 73, 20, 0, 75, 184, 0, 77, 153, 0, 26, 44, 42, 182, 0, 66, 146]
abbrev dktX6_advance_4 : List UInt8 := dkwX6_advance_4 ++ dktX6_advance_5
def dkwX6_advance_3 : List UInt8 := [20, 0, 75, 184, 0, 77, 153, 0, 69, 42, 178, 0, 81, 181, 0, 46, 187, 0, 84, 89, 183, 0, 86, 77]
abbrev dktX6_advance_3 : List UInt8 := dkwX6_advance_3 ++ dktX6_advance_4
def dkwX6_advance_2 : List UInt8 := [182, 0, 66, 60, 27, 156, 0, 13, 42, 178, 0, 40, 181, 0, 46, 167, 0, 192, 27, 133, 20, 0, 73]
abbrev dktX6_advance_2 : List UInt8 := dkwX6_advance_2 ++ dktX6_advance_3
def dkwX6_advance_1 : List UInt8 := [96, 181, 0, 59, 167, 255, 228, 42, 42, 180, 0, 59, 181, 0, 70, 42, 18, 49, 181, 0, 51, 42]
abbrev dktX6_advance_1 : List UInt8 := dkwX6_advance_1 ++ dktX6_advance_2
def dkwX6_advance_0 : List UInt8 := [42, 182, 0, 66, 16, 32, 159, 0, 12, 42, 182, 0, 66, 16, 10, 160, 0, 16, 42, 89, 180, 0, 59, 4]
abbrev dktX6_advance_0 : List UInt8 := dkwX6_advance_0 ++ dktX6_advance_1
theorem dksX6_advance_0 : cX6_advance.data.toList.drop 0 = dktX6_advance_0 := by decide +kernel
theorem dksX6_advance_1 : cX6_advance.data.toList.drop 24 = dktX6_advance_1 := dk_seg dksX6_advance_0 24 rfl rfl
theorem dksX6_advance_2 : cX6_advance.data.toList.drop 46 = dktX6_advance_2 := dk_seg dksX6_advance_1 22 rfl rfl
theorem dksX6_advance_3 : cX6_advance.data.toList.drop 69 = dktX6_advance_3 := dk_seg dksX6_advance_2 23 rfl rfl
theorem dksX6_advance_4 : cX6_advance.data.toList.drop 93 = dktX6_advance_4 := dk_seg dksX6_advance_3 24 rfl rfl
theorem dksX6_advance_5 : cX6_advance.data.toList.drop 116 = dktX6_advance_5 := dk_seg dksX6_advance_4 23 rfl rfl
theorem dksX6_advance_6 : cX6_advance.data.toList.drop 138 = dktX6_advance_6 := dk_seg dksX6_advance_5 22 rfl rfl
theorem dksX6_advance_7 : cX6_advance.data.toList.drop 162 = dktX6_advance_7 := dk_seg dksX6_advance_6 24 rfl rfl
theorem dksX6_advance_8 : cX6_advance.data.toList.drop 184 = dktX6_advance_8 := dk_seg dksX6_advance_7 22 rfl rfl
theorem dksX6_advance_9 : cX6_advance.data.toList.drop 208 = dktX6_advance_9 := dk_seg dksX6_advance_8 24 rfl rfl
theorem dksX6_advance_10 : cX6_advance.data.toList.drop 231 = dktX6_advance_10 := dk_seg dksX6_advance_9 23 rfl rfl
theorem dX6_advance_0 : decode cX6_advance 0 = .ok (.aload_n 0, 1) := dk_42 (dk_at dksX6_advance_0 0 rfl rfl)
theorem dX6_advance_1 : decode cX6_advance 1 = .ok (.invokevirtual 66, 3) := dk_182 0 66 (dk_at dksX6_advance_0 1 rfl rfl)
theorem dX6_advance_4 : decode cX6_advance 4 = .ok (.bipush 32, 2) := dk_16 32 (dk_at dksX6_advance_0 4 rfl rfl)
theorem dX6_advance_6 : decode cX6_advance 6 = .ok (.if_icmp .eq 12, 3) := dk_159 0 12 (dk_at dksX6_advance_0 6 rfl rfl)
theorem dX6_advance_9 : decode cX6_advance 9 = .ok (.aload_n 0, 1) := dk_42 (dk_at dksX6_advance_0 9 rfl rfl)
theorem dX6_advance_10 : decode cX6_advance 10 = .ok (.invokevirtual 66, 3) := dk_182 0 66 (dk_at dksX6_advance_0 10 rfl rfl)
theorem dX6_advance_13 : decode cX6_advance 13 = .ok (.bipush 10, 2) := dk_16 10 (dk_at dksX6_advance_0 13 rfl rfl)
theorem dX6_advance_15 : decode cX6_advance 15 = .ok (.if_icmp .ne 16, 3) := dk_160 0 16 (dk_at dksX6_advance_0 15 rfl rfl)
theorem dX6_advance_18 : decode cX6_advance 18 = .ok (.aload_n 0, 1) := dk_42 (dk_at dksX6_advance_0 18 rfl rfl)
theorem dX6_advance_19 : decode cX6_advance 19 = .ok (.dup, 1) := dk_89 (dk_at dksX6_advance_0 19 rfl rfl)
theorem dX6_advance_20 : decode cX6_advance 20 = .ok (.getfield 59, 3) := dk_180 0 59 (dk_at dksX6_advance_0 20 rfl rfl)
theorem dX6_advance_23 : decode cX6_advance 23 = .ok (.iconst 1, 1) := dk_4 (dk_at dksX6_advance_0 23 rfl rfl)
theorem dX6_advance_24 : decode cX6_advance 24 = .ok (.iadd, 1) := dk_96 (dk_at dksX6_advance_1 0 rfl rfl)
theorem dX6_advance_25 : decode cX6_advance 25 = .ok (.putfield 59, 3) := dk_181 0 59 (dk_at dksX6_advance_1 1 rfl rfl)
theorem dX6_advance_28 : decode cX6_advance 28 = .ok (.goto (-28), 3) := dk_167 255 228 (dk_at dksX6_advance_1 4 rfl rfl)
theorem dX6_advance_31 : decode cX6_advance 31 = .ok (.aload_n 0, 1) := dk_42 (dk_at dksX6_advance_1 7 rfl rfl)
theorem dX6_advance_32 : decode cX6_advance 32 = .ok (.aload_n 0, 1) := dk_42 (dk_at dksX6_advance_1 8 rfl rfl)
theorem dX6_advance_33 : decode cX6_advance 33 = .ok (.getfield 59, 3) := dk_180 0 59 (dk_at dksX6_advance_1 9 rfl rfl)
theorem dX6_advance_36 : decode cX6_advance 36 = .ok (.putfield 70, 3) := dk_181 0 70 (dk_at dksX6_advance_1 12 rfl rfl)
theorem dX6_advance_39 : decode cX6_advance 39 = .ok (.aload_n 0, 1) := dk_42 (dk_at dksX6_advance_1 15 rfl rfl)
theorem dX6_advance_40 : decode cX6_advance 40 = .ok (.ldc 49, 2) := dk_18 49 (dk_at dksX6_advance_1 16 rfl rfl)
theorem dX6_advance_42 : decode cX6_advance 42 = .ok (.putfield 51, 3) := dk_181 0 51 (dk_at dksX6_advance_1 18 rfl rfl)
theorem dX6_advance_45 : decode cX6_advance 45 = .ok (.aload_n 0, 1) := dk_42 (dk_at dksX6_advance_1 21 rfl rfl)
theorem dX6_advance_46 : decode cX6_advance 46 = .ok (.invokevirtual 66, 3) := dk_182 0 66 (dk_at dksX6_advance_2 0 rfl rfl)
theorem dX6_advance_49 : decode cX6_advance 49 = .ok (.istore_n 1, 1) := dk_60 (dk_at dksX6_advance_2 3 rfl rfl)
theorem dX6_advance_50 : decode cX6_advance 50 = .ok (.iload_n 1, 1) := dk_27 (dk_at dksX6_advance_2 4 rfl rfl)
theorem dX6_advance_51 : decode cX6_advance 51 = .ok (.ifCond .ge 13, 3) := dk_156 0 13 (dk_at dksX6_advance_2 5 rfl rfl)
theorem dX6_advance_54 : decode cX6_advance 54 = .ok (.aload_n 0, 1) := dk_42 (dk_at dksX6_advance_2 8 rfl rfl)
theorem dX6_advance_55 : decode cX6_advance 55 = .ok (.getstatic 40, 3) := dk_178 0 40 (dk_at dksX6_advance_2 9 rfl rfl)
theorem dX6_advance_58 : decode cX6_advance 58 = .ok (.putfield 46, 3) := dk_181 0 46 (dk_at dksX6_advance_2 12 rfl rfl)
theorem dX6_advance_61 : decode cX6_advance 61 = .ok (.goto 192, 3) := dk_167 0 192 (dk_at dksX6_advance_2 15 rfl rfl)
theorem dX6_advance_64 : decode cX6_advance 64 = .ok (.iload_n 1, 1) := dk_27 (dk_at dksX6_advance_2 18 rfl rfl)
theorem dX6_advance_65 : decode cX6_advance 65 = .ok (.i2l, 1) := dk_133 (dk_at dksX6_advance_2 19 rfl rfl)
theorem dX6_advance_66 : decode cX6_advance 66 = .ok (.ldc2_w 73, 3) := dk_20 0 73 (dk_at dksX6_advance_2 20 rfl rfl)
theorem dX6_advance_69 : decode cX6_advance 69 = .ok (.ldc2_w 75, 3) := dk_20 0 75 (dk_at dksX6_advance_3 0 rfl rfl)
theorem dX6_advance_72 : decode cX6_advance 72 = .ok (.invokestatic 77, 3) := dk_184 0 77 (dk_at dksX6_advance_3 3 rfl rfl)
theorem dX6_advance_75 : decode cX6_advance 75 = .ok (.ifCond .eq 69, 3) := dk_153 0 69 (dk_at dksX6_advance_3 6 rfl rfl)
theorem dX6_advance_78 : decode cX6_advance 78 = .ok (.aload_n 0, 1) := dk_42 (dk_at dksX6_advance_3 9 rfl rfl)
theorem dX6_advance_79 : decode cX6_advance 79 = .ok (.getstatic 81, 3) := dk_178 0 81 (dk_at dksX6_advance_3 10 rfl rfl)
theorem dX6_advance_82 : decode cX6_advance 82 = .ok (.putfield 46, 3) := dk_181 0 46 (dk_at dksX6_advance_3 13 rfl rfl)
theorem dX6_advance_85 : decode cX6_advance 85 = .ok (.new 84, 3) := dk_187 0 84 (dk_at dksX6_advance_3 16 rfl rfl)
theorem dX6_advance_88 : decode cX6_advance 88 = .ok (.dup, 1) := dk_89 (dk_at dksX6_advance_3 19 rfl rfl)
theorem dX6_advance_89 : decode cX6_advance 89 = .ok (.invokespecial 86, 3) := dk_183 0 86 (dk_at dksX6_advance_3 20 rfl rfl)
theorem dX6_advance_92 : decode cX6_advance 92 = .ok (.astore_n 2, 1) := dk_77 (dk_at dksX6_advance_3 23 rfl rfl)
theorem dX6_advance_93 : decode cX6_advance 93 = .ok (.aload_n 0, 1) := dk_42 (dk_at dksX6_advance_4 0 rfl rfl)
theorem dX6_advance_94 : decode cX6_advance 94 = .ok (.invokevirtual 66, 3) := dk_182 0 66 (dk_at dksX6_advance_4 1 rfl rfl)
theorem dX6_advance_97 : decode cX6_advance 97 = .ok (.i2l, 1) := dk_133 (dk_at dksX6_advance_4 4 rfl rfl)
theorem dX6_advance_98 : decode cX6_advance 98 = .ok (.ldc2_w 73, 3) := dk_20 0 73 (dk_at dksX6_advance_4 5 rfl rfl)
theorem dX6_advance_101 : decode cX6_advance 101 = .ok (.ldc2_w 75, 3) := dk_20 0 75 (dk_at dksX6_advance_4 8 rfl rfl)
theorem dX6_advance_104 : decode cX6_advance 104 = .ok (.invokestatic 77, 3) := dk_184 0 77 (dk_at dksX6_advance_4 11 rfl rfl)
theorem dX6_advance_107 : decode cX6_advance 107 = .ok (.ifCond .eq 26, 3) := dk_153 0 26 (dk_at dksX6_advance_4 14 rfl rfl)
theorem dX6_advance_110 : decode cX6_advance 110 = .ok (.aload_n 2, 1) := dk_44 (dk_at dksX6_advance_4 17 rfl rfl)
theorem dX6_advance_111 : decode cX6_advance 111 = .ok (.aload_n 0, 1) := dk_42 (dk_at dksX6_advance_4 18 rfl rfl)
theorem dX6_advance_112 : decode cX6_advance 112 = .ok (.invokevirtual 66, 3) := dk_182 0 66 (dk_at dksX6_advance_4 19 rfl rfl)
theorem dX6_advance_115 : decode cX6_advance 115 = .ok (.i2c, 1) := dk_146 (dk_at dksX6_advance_4 22 rfl rfl)
theorem dX6_advance_116 : decode cX6_advance 116 = .ok (.invokevirtual 87, 3) := dk_182 0 87 (dk_at dksX6_advance_5 0 rfl rfl)
theorem dX6_advance_119 : decode cX6_advance 119 = .ok (.pop, 1) := dk_87 (dk_at dksX6_advance_5 3 rfl rfl)
theorem dX6_advance_120 : decode cX6_advance 120 = .ok (.aload_n 0, 1) := dk_42 (dk_at dksX6_advance_5 4 rfl rfl)
theorem dX6_advance_121 : decode cX6_advance 121 = .ok (.dup, 1) := dk_89 (dk_at dksX6_advance_5 5 rfl rfl)
theorem dX6_advance_122 : decode cX6_advance 122 = .ok (.getfield 59, 3) := dk_180 0 59 (dk_at dksX6_advance_5 6 rfl rfl)
theorem dX6_advance_125 : decode cX6_advance 125 = .ok (.iconst 1, 1) := dk_4 (dk_at dksX6_advance_5 9 rfl rfl)
theorem dX6_advance_126 : decode cX6_advance 126 = .ok (.iadd, 1) := dk_96 (dk_at dksX6_advance_5 10 rfl rfl)
theorem dX6_advance_127 : decode cX6_advance 127 = .ok (.putfield 59, 3) := dk_181 0 59 (dk_at dksX6_advance_5 11 rfl rfl)
theorem dX6_advance_130 : decode cX6_advance 130 = .ok (.goto (-37), 3) := dk_167 255 219 (dk_at dksX6_advance_5 14 rfl rfl)
theorem dX6_advance_133 : decode cX6_advance 133 = .ok (.aload_n 0, 1) := dk_42 (dk_at dksX6_advance_5 17 rfl rfl)
theorem dX6_advance_134 : decode cX6_advance 134 = .ok (.aload_n 2, 1) := dk_44 (dk_at dksX6_advance_5 18 rfl rfl)
theorem dX6_advance_135 : decode cX6_advance 135 = .ok (.invokevirtual 91, 3) := dk_182 0 91 (dk_at dksX6_advance_5 19 rfl rfl)
theorem dX6_advance_138 : decode cX6_advance 138 = .ok (.putfield 51, 3) := dk_181 0 51 (dk_at dksX6_advance_6 0 rfl rfl)
theorem dX6_advance_141 : decode cX6_advance 141 = .ok (.goto 112, 3) := dk_167 0 112 (dk_at dksX6_advance_6 3 rfl rfl)
theorem dX6_advance_144 : decode cX6_advance 144 = .ok (.iload_n 1, 1) := dk_27 (dk_at dksX6_advance_6 6 rfl rfl)
theorem dX6_advance_145 : decode cX6_advance 145 = .ok (.i2l, 1) := dk_133 (dk_at dksX6_advance_6 7 rfl rfl)
theorem dX6_advance_146 : decode cX6_advance 146 = .ok (.ldc2_w 95, 3) := dk_20 0 95 (dk_at dksX6_advance_6 8 rfl rfl)
theorem dX6_advance_149 : decode cX6_advance 149 = .ok (.ldc2_w 97, 3) := dk_20 0 97 (dk_at dksX6_advance_6 11 rfl rfl)
theorem dX6_advance_152 : decode cX6_advance 152 = .ok (.invokestatic 77, 3) := dk_184 0 77 (dk_at dksX6_advance_6 14 rfl rfl)
theorem dX6_advance_155 : decode cX6_advance 155 = .ok (.ifCond .eq 69, 3) := dk_153 0 69 (dk_at dksX6_advance_6 17 rfl rfl)
theorem dX6_advance_158 : decode cX6_advance 158 = .ok (.aload_n 0, 1) := dk_42 (dk_at dksX6_advance_6 20 rfl rfl)
theorem dX6_advance_159 : decode cX6_advance 159 = .ok (.getstatic 99, 3) := dk_178 0 99 (dk_at dksX6_advance_6 21 rfl rfl)
theorem dX6_advance_162 : decode cX6_advance 162 = .ok (.putfield 46, 3) := dk_181 0 46 (dk_at dksX6_advance_7 0 rfl rfl)
theorem dX6_advance_165 : decode cX6_advance 165 = .ok (.aload_n 0, 1) := dk_42 (dk_at dksX6_advance_7 3 rfl rfl)
theorem dX6_advance_166 : decode cX6_advance 166 = .ok (.iconst 0, 1) := dk_3 (dk_at dksX6_advance_7 4 rfl rfl)
theorem dX6_advance_167 : decode cX6_advance 167 = .ok (.putfield 102, 3) := dk_181 0 102 (dk_at dksX6_advance_7 5 rfl rfl)
theorem dX6_advance_170 : decode cX6_advance 170 = .ok (.aload_n 0, 1) := dk_42 (dk_at dksX6_advance_7 8 rfl rfl)
theorem dX6_advance_171 : decode cX6_advance 171 = .ok (.invokevirtual 66, 3) := dk_182 0 66 (dk_at dksX6_advance_7 9 rfl rfl)
theorem dX6_advance_174 : decode cX6_advance 174 = .ok (.i2l, 1) := dk_133 (dk_at dksX6_advance_7 12 rfl rfl)
theorem dX6_advance_175 : decode cX6_advance 175 = .ok (.ldc2_w 95, 3) := dk_20 0 95 (dk_at dksX6_advance_7 13 rfl rfl)
theorem dX6_advance_178 : decode cX6_advance 178 = .ok (.ldc2_w 97, 3) := dk_20 0 97 (dk_at dksX6_advance_7 16 rfl rfl)
theorem dX6_advance_181 : decode cX6_advance 181 = .ok (.invokestatic 77, 3) := dk_184 0 77 (dk_at dksX6_advance_7 19 rfl rfl)
theorem dX6_advance_184 : decode cX6_advance 184 = .ok (.ifCond .eq 69, 3) := dk_153 0 69 (dk_at dksX6_advance_8 0 rfl rfl)
theorem dX6_advance_187 : decode cX6_advance 187 = .ok (.aload_n 0, 1) := dk_42 (dk_at dksX6_advance_8 3 rfl rfl)
theorem dX6_advance_188 : decode cX6_advance 188 = .ok (.bipush 10, 2) := dk_16 10 (dk_at dksX6_advance_8 4 rfl rfl)
theorem dX6_advance_190 : decode cX6_advance 190 = .ok (.aload_n 0, 1) := dk_42 (dk_at dksX6_advance_8 6 rfl rfl)
theorem dX6_advance_191 : decode cX6_advance 191 = .ok (.getfield 102, 3) := dk_180 0 102 (dk_at dksX6_advance_8 7 rfl rfl)
theorem dX6_advance_194 : decode cX6_advance 194 = .ok (.imul, 1) := dk_104 (dk_at dksX6_advance_8 10 rfl rfl)
theorem dX6_advance_195 : decode cX6_advance 195 = .ok (.aload_n 0, 1) := dk_42 (dk_at dksX6_advance_8 11 rfl rfl)
theorem dX6_advance_196 : decode cX6_advance 196 = .ok (.invokevirtual 66, 3) := dk_182 0 66 (dk_at dksX6_advance_8 12 rfl rfl)
theorem dX6_advance_199 : decode cX6_advance 199 = .ok (.iadd, 1) := dk_96 (dk_at dksX6_advance_8 15 rfl rfl)
theorem dX6_advance_200 : decode cX6_advance 200 = .ok (.bipush 48, 2) := dk_16 48 (dk_at dksX6_advance_8 16 rfl rfl)
theorem dX6_advance_202 : decode cX6_advance 202 = .ok (.isub, 1) := dk_100 (dk_at dksX6_advance_8 18 rfl rfl)
theorem dX6_advance_203 : decode cX6_advance 203 = .ok (.ldc 105, 2) := dk_18 105 (dk_at dksX6_advance_8 19 rfl rfl)
theorem dX6_advance_205 : decode cX6_advance 205 = .ok (.invokestatic 106, 3) := dk_184 0 106 (dk_at dksX6_advance_8 21 rfl rfl)
theorem dX6_advance_208 : decode cX6_advance 208 = .ok (.putfield 102, 3) := dk_181 0 102 (dk_at dksX6_advance_9 0 rfl rfl)
theorem dX6_advance_211 : decode cX6_advance 211 = .ok (.aload_n 0, 1) := dk_42 (dk_at dksX6_advance_9 3 rfl rfl)
theorem dX6_advance_212 : decode cX6_advance 212 = .ok (.dup, 1) := dk_89 (dk_at dksX6_advance_9 4 rfl rfl)
theorem dX6_advance_213 : decode cX6_advance 213 = .ok (.getfield 59, 3) := dk_180 0 59 (dk_at dksX6_advance_9 5 rfl rfl)
theorem dX6_advance_216 : decode cX6_advance 216 = .ok (.iconst 1, 1) := dk_4 (dk_at dksX6_advance_9 8 rfl rfl)
theorem dX6_advance_217 : decode cX6_advance 217 = .ok (.iadd, 1) := dk_96 (dk_at dksX6_advance_9 9 rfl rfl)
theorem dX6_advance_218 : decode cX6_advance 218 = .ok (.putfield 59, 3) := dk_181 0 59 (dk_at dksX6_advance_9 10 rfl rfl)
theorem dX6_advance_221 : decode cX6_advance 221 = .ok (.goto (-51), 3) := dk_167 255 205 (dk_at dksX6_advance_9 13 rfl rfl)
theorem dX6_advance_224 : decode cX6_advance 224 = .ok (.aload_n 0, 1) := dk_42 (dk_at dksX6_advance_9 16 rfl rfl)
theorem dX6_advance_225 : decode cX6_advance 225 = .ok (.iload_n 1, 1) := dk_27 (dk_at dksX6_advance_9 17 rfl rfl)
theorem dX6_advance_226 : decode cX6_advance 226 = .ok (.bipush 59, 2) := dk_16 59 (dk_at dksX6_advance_9 18 rfl rfl)
theorem dX6_advance_228 : decode cX6_advance 228 = .ok (.if_icmp .ne 9, 3) := dk_160 0 9 (dk_at dksX6_advance_9 20 rfl rfl)
theorem dX6_advance_231 : decode cX6_advance 231 = .ok (.getstatic 112, 3) := dk_178 0 112 (dk_at dksX6_advance_10 0 rfl rfl)
theorem dX6_advance_234 : decode cX6_advance 234 = .ok (.goto 6, 3) := dk_167 0 6 (dk_at dksX6_advance_10 3 rfl rfl)
theorem dX6_advance_237 : decode cX6_advance 237 = .ok (.getstatic 115, 3) := dk_178 0 115 (dk_at dksX6_advance_10 6 rfl rfl)
theorem dX6_advance_240 : decode cX6_advance 240 = .ok (.putfield 46, 3) := dk_181 0 46 (dk_at dksX6_advance_10 9 rfl rfl)
theorem dX6_advance_243 : decode cX6_advance 243 = .ok (.aload_n 0, 1) := dk_42 (dk_at dksX6_advance_10 12 rfl rfl)
theorem dX6_advance_244 : decode cX6_advance 244 = .ok (.dup, 1) := dk_89 (dk_at dksX6_advance_10 13 rfl rfl)
theorem dX6_advance_245 : decode cX6_advance 245 = .ok (.getfield 59, 3) := dk_180 0 59 (dk_at dksX6_advance_10 14 rfl rfl)
theorem dX6_advance_248 : decode cX6_advance 248 = .ok (.iconst 1, 1) := dk_4 (dk_at dksX6_advance_10 17 rfl rfl)
theorem dX6_advance_249 : decode cX6_advance 249 = .ok (.iadd, 1) := dk_96 (dk_at dksX6_advance_10 18 rfl rfl)
theorem dX6_advance_250 : decode cX6_advance 250 = .ok (.putfield 59, 3) := dk_181 0 59 (dk_at dksX6_advance_10 19 rfl rfl)
theorem dX6_advance_253 : decode cX6_advance 253 = .ok (.return_, 1) := dk_177 (dk_at dksX6_advance_10 22 rfl rfl)
def dkwX6_peek_1 : List UInt8 := [17, 0, 255, 126, 167, 0, 4, 2, 172]
abbrev dktX6_peek_1 : List UInt8 := dkwX6_peek_1 ++ []
def dkwX6_peek_0 : List UInt8 := [42, 180, 0, 59, 42, 180, 0, 55, 162, 0, 22, 42, 180, 0, 3, 180, 0, 62, 42, 180, 0, 59, 51]
abbrev dktX6_peek_0 : List UInt8 := dkwX6_peek_0 ++ dktX6_peek_1
theorem dksX6_peek_0 : cX6_peek.data.toList.drop 0 = dktX6_peek_0 := by decide +kernel
theorem dksX6_peek_1 : cX6_peek.data.toList.drop 23 = dktX6_peek_1 := dk_seg dksX6_peek_0 23 rfl rfl
theorem dX6_peek_0 : decode cX6_peek 0 = .ok (.aload_n 0, 1) := dk_42 (dk_at dksX6_peek_0 0 rfl rfl)
theorem dX6_peek_1 : decode cX6_peek 1 = .ok (.getfield 59, 3) := dk_180 0 59 (dk_at dksX6_peek_0 1 rfl rfl)
theorem dX6_peek_4 : decode cX6_peek 4 = .ok (.aload_n 0, 1) := dk_42 (dk_at dksX6_peek_0 4 rfl rfl)
theorem dX6_peek_5 : decode cX6_peek 5 = .ok (.getfield 55, 3) := dk_180 0 55 (dk_at dksX6_peek_0 5 rfl rfl)
theorem dX6_peek_8 : decode cX6_peek 8 = .ok (.if_icmp .ge 22, 3) := dk_162 0 22 (dk_at dksX6_peek_0 8 rfl rfl)
theorem dX6_peek_11 : decode cX6_peek 11 = .ok (.aload_n 0, 1) := dk_42 (dk_at dksX6_peek_0 11 rfl rfl)
theorem dX6_peek_12 : decode cX6_peek 12 = .ok (.getfield 3, 3) := dk_180 0 3 (dk_at dksX6_peek_0 12 rfl rfl)
theorem dX6_peek_15 : decode cX6_peek 15 = .ok (.getfield 62, 3) := dk_180 0 62 (dk_at dksX6_peek_0 15 rfl rfl)
theorem dX6_peek_18 : decode cX6_peek 18 = .ok (.aload_n 0, 1) := dk_42 (dk_at dksX6_peek_0 18 rfl rfl)
theorem dX6_peek_19 : decode cX6_peek 19 = .ok (.getfield 59, 3) := dk_180 0 59 (dk_at dksX6_peek_0 19 rfl rfl)
theorem dX6_peek_22 : decode cX6_peek 22 = .ok (.baload, 1) := dk_51 (dk_at dksX6_peek_0 22 rfl rfl)
theorem dX6_peek_23 : decode cX6_peek 23 = .ok (.sipush 255, 3) := dk_17 0 255 (dk_at dksX6_peek_1 0 rfl rfl)
theorem dX6_peek_26 : decode cX6_peek 26 = .ok (.iand, 1) := dk_126 (dk_at dksX6_peek_1 3 rfl rfl)
theorem dX6_peek_27 : decode cX6_peek 27 = .ok (.goto 4, 3) := dk_167 0 4 (dk_at dksX6_peek_1 4 rfl rfl)
theorem dX6_peek_30 : decode cX6_peek 30 = .ok (.iconst (-1), 1) := dk_2 (dk_at dksX6_peek_1 7 rfl rfl)
theorem dX6_peek_31 : decode cX6_peek 31 = .ok (.ireturn, 1) := dk_172 (dk_at dksX6_peek_1 8 rfl rfl)
def dkwX6_parseStatement_18 : List UInt8 := [177]
abbrev dktX6_parseStatement_18 : List UInt8 := dkwX6_parseStatement_18 ++ []
def dkwX6_parseStatement_17 : List UInt8 := [167, 0, 24, 42, 182, 0, 127, 42, 182, 0, 223, 167, 0, 13, 187, 0, 118, 89, 16, 245, 183, 0, 120, 191]
abbrev dktX6_parseStatement_17 : List UInt8 := dkwX6_parseStatement_17 ++ dktX6_parseStatement_18
def dkwX6_parseStatement_16 : List UInt8 := [16, 10, 162, 0, 7, 4, 167, 0, 4, 3, 16, 241, 182, 0, 123, 42, 182, 0, 127, 42, 182, 0, 220]
abbrev dktX6_parseStatement_16 : List UInt8 := dkwX6_parseStatement_16 ++ dktX6_parseStatement_17
def dkwX6_parseStatement_15 : List UInt8 := [182, 0, 215, 54, 4, 42, 182, 0, 127, 167, 0, 61, 42, 42, 180, 0, 18, 180, 0, 217, 182, 0, 139]
abbrev dktX6_parseStatement_15 : List UInt8 := dkwX6_parseStatement_15 ++ dktX6_parseStatement_16
def dkwX6_parseStatement_14 : List UInt8 := [182, 0, 139, 16, 40, 162, 0, 7, 4, 167, 0, 4, 3, 16, 241, 182, 0, 123, 42, 180, 0, 18]
abbrev dktX6_parseStatement_14 : List UInt8 := dkwX6_parseStatement_14 ++ dktX6_parseStatement_15
def dkwX6_parseStatement_13 : List UInt8 := [16, 241, 182, 0, 123, 42, 182, 0, 127, 42, 182, 0, 209, 167, 0, 103, 42, 42, 180, 0, 18, 180, 0, 212]
abbrev dktX6_parseStatement_13 : List UInt8 := dkwX6_parseStatement_13 ++ dktX6_parseStatement_14
def dkwX6_parseStatement_12 : List UInt8 := [167, 0, 140, 42, 42, 180, 0, 18, 180, 0, 202, 182, 0, 206, 16, 8, 162, 0, 7, 4, 167, 0, 4, 3]
abbrev dktX6_parseStatement_12 : List UInt8 := dkwX6_parseStatement_12 ++ dktX6_parseStatement_13
def dkwX6_parseStatement_11 : List UInt8 := [7, 182, 0, 192, 184, 0, 195, 182, 0, 199, 87, 42, 180, 0, 25, 29, 184, 0, 195, 182, 0, 199, 87]
abbrev dktX6_parseStatement_11 : List UInt8 := dkwX6_parseStatement_11 ++ dktX6_parseStatement_12
def dkwX6_parseStatement_10 : List UInt8 := [2, 160, 0, 7, 4, 167, 0, 4, 3, 16, 242, 182, 0, 123, 42, 182, 0, 127, 42, 180, 0, 29, 42, 4]
abbrev dktX6_parseStatement_10 : List UInt8 := dkwX6_parseStatement_10 ++ dktX6_parseStatement_11
def dkwX6_parseStatement_9 : List UInt8 := [167, 0, 4, 3, 16, 241, 182, 0, 123, 42, 182, 0, 127, 42, 182, 0, 150, 62, 42, 42, 29, 182, 0, 153]
abbrev dktX6_parseStatement_9 : List UInt8 := dkwX6_parseStatement_9 ++ dktX6_parseStatement_10
def dkwX6_parseStatement_8 : List UInt8 := [182, 0, 127, 42, 182, 0, 189, 167, 0, 228, 42, 42, 180, 0, 25, 182, 0, 139, 16, 6, 162, 0, 7, 4]
abbrev dktX6_parseStatement_8 : List UInt8 := dkwX6_parseStatement_8 ++ dktX6_parseStatement_9
def dkwX6_parseStatement_7 : List UInt8 := [42, 42, 180, 0, 185, 154, 0, 7, 4, 167, 0, 4, 3, 16, 242, 182, 0, 123, 42, 4, 181, 0, 185, 42]
abbrev dktX6_parseStatement_7 : List UInt8 := dkwX6_parseStatement_7 ++ dktX6_parseStatement_8
def dkwX6_parseStatement_6 : List UInt8 := [170, 0, 0, 0, 1, 31, 0, 0, 0, 0, 0, 0, 0, 5, 0, 0, 0, 38, 0, 0, 0, 72, 0, 0, 0, 160, 0, 0, 0, 197, 0, 0, 0, 239, 0, 0, 1, 20]
abbrev dktX6_parseStatement_6 : List UInt8 := dkwX6_parseStatement_6 ++ dktX6_parseStatement_7
def dkwX6_parseStatement_5 : List UInt8 := [18, 183, 182, 0, 171, 153, 0, 5, 8, 61, 28]
abbrev dktX6_parseStatement_5 : List UInt8 := dkwX6_parseStatement_5 ++ dktX6_parseStatement_6
def dkwX6_parseStatement_4 : List UInt8 := [153, 0, 33, 6, 61, 167, 0, 28, 43, 18, 181, 182, 0, 171, 153, 0, 19, 7, 61, 167, 0, 14, 43]
abbrev dktX6_parseStatement_4 : List UInt8 := dkwX6_parseStatement_4 ++ dktX6_parseStatement_5
def dkwX6_parseStatement_3 : List UInt8 := [61, 167, 0, 56, 43, 18, 177, 182, 0, 171, 153, 0, 47, 5, 61, 167, 0, 42, 43, 18, 179, 182, 0, 171]
abbrev dktX6_parseStatement_3 : List UInt8 := dkwX6_parseStatement_3 ++ dktX6_parseStatement_4
def dkwX6_parseStatement_2 : List UInt8 := [43, 18, 170, 182, 0, 171, 153, 0, 75, 3, 61, 167, 0, 70, 43, 18, 175, 182, 0, 171, 153, 0, 61, 4]
abbrev dktX6_parseStatement_2 : List UInt8 := dkwX6_parseStatement_2 ++ dktX6_parseStatement_3
def dkwX6_parseStatement_1 : List UInt8 := [171, 0, 0, 0, 138, 0, 0, 0, 6, 191, 194, 138, 154, 0, 0, 0, 71, 0, 0, 12, 139, 0, 0, 0, 85, 0, 1, 188, 98, 0, 0, 0, 127, 0, 53, 205, 253, 0, 0, 0, 99, 5, 203, 58, 34, 0, 0, 0, 113, 6, 138, 196, 98, 0, 0, 0, 57]
abbrev dktX6_parseStatement_1 : List UInt8 := dkwX6_parseStatement_1 ++ dktX6_parseStatement_2
def dkwX6_parseStatement_0 : List UInt8 := [42, 180, 0, 51, 76, 2, 61, 43, 182, 0, 167]
abbrev dktX6_parseStatement_0 : List UInt8 := dkwX6_parseStatement_0 ++ dktX6_parseStatement_1
theorem dksX6_parseStatement_0 : cX6_parseStatement.data.toList.drop 0 = dktX6_parseStatement_0 := by decide +kernel
theorem dksX6_parseStatement_1 : cX6_parseStatement.data.toList.drop 11 = dktX6_parseStatement_1 := dk_seg dksX6_parseStatement_0 11 rfl rfl
theorem dksX6_parseStatement_2 : cX6_parseStatement.data.toList.drop 68 = dktX6_parseStatement_2 := dk_seg dksX6_parseStatement_1 57 rfl rfl
theorem dksX6_parseStatement_3 : cX6_parseStatement.data.toList.drop 92 = dktX6_parseStatement_3 := dk_seg dksX6_parseStatement_2 24 rfl rfl
theorem dksX6_parseStatement_4 : cX6_parseStatement.data.toList.drop 116 = dktX6_parseStatement_4 := dk_seg dksX6_parseStatement_3 24 rfl rfl
theorem dksX6_parseStatement_5 : cX6_parseStatement.data.toList.drop 139 = dktX6_parseStatement_5 := dk_seg dksX6_parseStatement_4 23 rfl rfl
theorem dksX6_parseStatement_6 : cX6_parseStatement.data.toList.drop 150 = dktX6_parseStatement_6 := dk_seg dksX6_parseStatement_5 11 rfl rfl
theorem dksX6_parseStatement_7 : cX6_parseStatement.data.toList.drop 188 = dktX6_parseStatement_7 := dk_seg dksX6_parseStatement_6 38 rfl rfl
theorem dksX6_parseStatement_8 : cX6_parseStatement.data.toList.drop 212 = dktX6_parseStatement_8 := dk_seg dksX6_parseStatement_7 24 rfl rfl
theorem dksX6_parseStatement_9 : cX6_parseStatement.data.toList.drop 236 = dktX6_parseStatement_9 := dk_seg dksX6_parseStatement_8 24 rfl rfl
theorem dksX6_parseStatement_10 : cX6_parseStatement.data.toList.drop 260 = dktX6_parseStatement_10 := dk_seg dksX6_parseStatement_9 24 rfl rfl
theorem dksX6_parseStatement_11 : cX6_parseStatement.data.toList.drop 284 = dktX6_parseStatement_11 := dk_seg dksX6_parseStatement_10 24 rfl rfl
theorem dksX6_parseStatement_12 : cX6_parseStatement.data.toList.drop 307 = dktX6_parseStatement_12 := dk_seg dksX6_parseStatement_11 23 rfl rfl
theorem dksX6_parseStatement_13 : cX6_parseStatement.data.toList.drop 331 = dktX6_parseStatement_13 := dk_seg dksX6_parseStatement_12 24 rfl rfl
theorem dksX6_parseStatement_14 : cX6_parseStatement.data.toList.drop 355 = dktX6_parseStatement_14 := dk_seg dksX6_parseStatement_13 24 rfl rfl
theorem dksX6_parseStatement_15 : cX6_parseStatement.data.toList.drop 377 = dktX6_parseStatement_15 := dk_seg dksX6_parseStatement_14 22 rfl rfl
theorem dksX6_parseStatement_16 : cX6_parseStatement.data.toList.drop 400 = dktX6_parseStatement_16 := dk_seg dksX6_parseStatement_15 23 rfl rfl
theorem dksX6_parseStatement_17 : cX6_parseStatement.data.toList.drop 423 = dktX6_parseStatement_17 := dk_seg dksX6_parseStatement_16 23 rfl rfl
theorem dksX6_parseStatement_18 : cX6_parseStatement.data.toList.drop 447 = dktX6_parseStatement_18 := dk_seg dksX6_parseStatement_17 24 rfl rfl
theorem dX6_parseStatement_0 : decode cX6_parseStatement 0 = .ok (.aload_n 0, 1) := dk_42 (dk_at dksX6_parseStatement_0 0 rfl rfl)
theorem dX6_parseStatement_1 : decode cX6_parseStatement 1 = .ok (.getfield 51, 3) := dk_180 0 51 (dk_at dksX6_parseStatement_0 1 rfl rfl)
theorem dX6_parseStatement_4 : decode cX6_parseStatement 4 = .ok (.astore_n 1, 1) := dk_76 (dk_at dksX6_parseStatement_0 4 rfl rfl)
theorem dX6_parseStatement_5 : decode cX6_parseStatement 5 = .ok (.iconst (-1), 1) := dk_2 (dk_at dksX6_parseStatement_0 5 rfl rfl)
theorem dX6_parseStatement_6 : decode cX6_parseStatement 6 = .ok (.istore_n 2, 1) := dk_61 (dk_at dksX6_parseStatement_0 6 rfl rfl)
theorem dX6_parseStatement_7 : decode cX6_parseStatement 7 = .ok (.aload_n 1, 1) := dk_43 (dk_at dksX6_parseStatement_0 7 rfl rfl)
theorem dX6_parseStatement_8 : decode cX6_parseStatement 8 = .ok (.invokevirtual 167, 3) := dk_182 0 167 (dk_at dksX6_parseStatement_0 8 rfl rfl)
theorem dX6_parseStatement_11 : decode cX6_parseStatement 11 = .ok (.lookupswitch 138 #[(-1077769574, 71), (3211, 85), (113762, 127), (3526141, 99), (97204770, 113), (109757538, 57)], 57) := by decide +kernel
theorem dX6_parseStatement_68 : decode cX6_parseStatement 68 = .ok (.aload_n 1, 1) := dk_43 (dk_at dksX6_parseStatement_2 0 rfl rfl)
theorem dX6_parseStatement_69 : decode cX6_parseStatement 69 = .ok (.ldc 170, 2) := dk_18 170 (dk_at dksX6_parseStatement_2 1 rfl rfl)
theorem dX6_parseStatement_71 : decode cX6_parseStatement 71 = .ok (.invokevirtual 171, 3) := dk_182 0 171 (dk_at dksX6_parseStatement_2 3 rfl rfl)
theorem dX6_parseStatement_74 : decode cX6_parseStatement 74 = .ok (.ifCond .eq 75, 3) := dk_153 0 75 (dk_at dksX6_parseStatement_2 6 rfl rfl)
theorem dX6_parseStatement_77 : decode cX6_parseStatement 77 = .ok (.iconst 0, 1) := dk_3 (dk_at dksX6_parseStatement_2 9 rfl rfl)
theorem dX6_parseStatement_78 : decode cX6_parseStatement 78 = .ok (.istore_n 2, 1) := dk_61 (dk_at dksX6_parseStatement_2 10 rfl rfl)
theorem dX6_parseStatement_79 : decode cX6_parseStatement 79 = .ok (.goto 70, 3) := dk_167 0 70 (dk_at dksX6_parseStatement_2 11 rfl rfl)
theorem dX6_parseStatement_82 : decode cX6_parseStatement 82 = .ok (.aload_n 1, 1) := dk_43 (dk_at dksX6_parseStatement_2 14 rfl rfl)
theorem dX6_parseStatement_83 : decode cX6_parseStatement 83 = .ok (.ldc 175, 2) := dk_18 175 (dk_at dksX6_parseStatement_2 15 rfl rfl)
theorem dX6_parseStatement_85 : decode cX6_parseStatement 85 = .ok (.invokevirtual 171, 3) := dk_182 0 171 (dk_at dksX6_parseStatement_2 17 rfl rfl)
theorem dX6_parseStatement_88 : decode cX6_parseStatement 88 = .ok (.ifCond .eq 61, 3) := dk_153 0 61 (dk_at dksX6_parseStatement_2 20 rfl rfl)
theorem dX6_parseStatement_91 : decode cX6_parseStatement 91 = .ok (.iconst 1, 1) := dk_4 (dk_at dksX6_parseStatement_2 23 rfl rfl)
theorem dX6_parseStatement_92 : decode cX6_parseStatement 92 = .ok (.istore_n 2, 1) := dk_61 (dk_at dksX6_parseStatement_3 0 rfl rfl)
theorem dX6_parseStatement_93 : decode cX6_parseStatement 93 = .ok (.goto 56, 3) := dk_167 0 56 (dk_at dksX6_parseStatement_3 1 rfl rfl)
theorem dX6_parseStatement_96 : decode cX6_parseStatement 96 = .ok (.aload_n 1, 1) := dk_43 (dk_at dksX6_parseStatement_3 4 rfl rfl)
theorem dX6_parseStatement_97 : decode cX6_parseStatement 97 = .ok (.ldc 177, 2) := dk_18 177 (dk_at dksX6_parseStatement_3 5 rfl rfl)
theorem dX6_parseStatement_99 : decode cX6_parseStatement 99 = .ok (.invokevirtual 171, 3) := dk_182 0 171 (dk_at dksX6_parseStatement_3 7 rfl rfl)
theorem dX6_parseStatement_102 : decode cX6_parseStatement 102 = .ok (.ifCond .eq 47, 3) := dk_153 0 47 (dk_at dksX6_parseStatement_3 10 rfl rfl)
theorem dX6_parseStatement_105 : decode cX6_parseStatement 105 = .ok (.iconst 2, 1) := dk_5 (dk_at dksX6_parseStatement_3 13 rfl rfl)
theorem dX6_parseStatement_106 : decode cX6_parseStatement 106 = .ok (.istore_n 2, 1) := dk_61 (dk_at dksX6_parseStatement_3 14 rfl rfl)
theorem dX6_parseStatement_107 : decode cX6_parseStatement 107 = .ok (.goto 42, 3) := dk_167 0 42 (dk_at dksX6_parseStatement_3 15 rfl rfl)
theorem dX6_parseStatement_110 : decode cX6_parseStatement 110 = .ok (.aload_n 1, 1) := dk_43 (dk_at dksX6_parseStatement_3 18 rfl rfl)
theorem dX6_parseStatement_111 : decode cX6_parseStatement 111 = .ok (.ldc 179, 2) := dk_18 179 (dk_at dksX6_parseStatement_3 19 rfl rfl)
theorem dX6_parseStatement_113 : decode cX6_parseStatement 113 = .ok (.invokevirtual 171, 3) := dk_182 0 171 (dk_at dksX6_parseStatement_3 21 rfl rfl)
theorem dX6_parseStatement_116 : decode cX6_parseStatement 116 = .ok (.ifCond .eq 33, 3) := dk_153 0 33 (dk_at dksX6_parseStatement_4 0 rfl rfl)
theorem dX6_parseStatement_119 : decode cX6_parseStatement 119 = .ok (.iconst 3, 1) := dk_6 (dk_at dksX6_parseStatement_4 3 rfl rfl)
theorem dX6_parseStatement_120 : decode cX6_parseStatement 120 = .ok (.istore_n 2, 1) := dk_61 (dk_at dksX6_parseStatement_4 4 rfl rfl)
theorem dX6_parseStatement_121 : decode cX6_parseStatement 121 = .ok (.goto 28, 3) := dk_167 0 28 (dk_at dksX6_parseStatement_4 5 rfl rfl)
theorem dX6_parseStatement_124 : decode cX6_parseStatement 124 = .ok (.aload_n 1, 1) := dk_43 (dk_at dksX6_parseStatement_4 8 rfl rfl)
theorem dX6_parseStatement_125 : decode cX6_parseStatement 125 = .ok (.ldc 181, 2) := dk_18 181 (dk_at dksX6_parseStatement_4 9 rfl rfl)
theorem dX6_parseStatement_127 : decode cX6_parseStatement 127 = .ok (.invokevirtual 171, 3) := dk_182 0 171 (dk_at dksX6_parseStatement_4 11 rfl rfl)
theorem dX6_parseStatement_130 : decode cX6_parseStatement 130 = .ok (.ifCond .eq 19, 3) := dk_153 0 19 (dk_at dksX6_parseStatement_4 14 rfl rfl)
theorem dX6_parseStatement_133 : decode cX6_parseStatement 133 = .ok (.iconst 4, 1) := dk_7 (dk_at dksX6_parseStatement_4 17 rfl rfl)
theorem dX6_parseStatement_134 : decode cX6_parseStatement 134 = .ok (.istore_n 2, 1) := dk_61 (dk_at dksX6_parseStatement_4 18 rfl rfl)
theorem dX6_parseStatement_135 : decode cX6_parseStatement 135 = .ok (.goto 14, 3) := dk_167 0 14 (dk_at dksX6_parseStatement_4 19 rfl rfl)
theorem dX6_parseStatement_138 : decode cX6_parseStatement 138 = .ok (.aload_n 1, 1) := dk_43 (dk_at dksX6_parseStatement_4 22 rfl rfl)
theorem dX6_parseStatement_139 : decode cX6_parseStatement 139 = .ok (.ldc 183, 2) := dk_18 183 (dk_at dksX6_parseStatement_5 0 rfl rfl)
theorem dX6_parseStatement_141 : decode cX6_parseStatement 141 = .ok (.invokevirtual 171, 3) := dk_182 0 171 (dk_at dksX6_parseStatement_5 2 rfl rfl)
theorem dX6_parseStatement_144 : decode cX6_parseStatement 144 = .ok (.ifCond .eq 5, 3) := dk_153 0 5 (dk_at dksX6_parseStatement_5 5 rfl rfl)
theorem dX6_parseStatement_147 : decode cX6_parseStatement 147 = .ok (.iconst 5, 1) := dk_8 (dk_at dksX6_parseStatement_5 8 rfl rfl)
theorem dX6_parseStatement_148 : decode cX6_parseStatement 148 = .ok (.istore_n 2, 1) := dk_61 (dk_at dksX6_parseStatement_5 9 rfl rfl)
theorem dX6_parseStatement_149 : decode cX6_parseStatement 149 = .ok (.iload_n 2, 1) := dk_28 (dk_at dksX6_parseStatement_5 10 rfl rfl)
theorem dX6_parseStatement_150 : decode cX6_parseStatement 150 = .ok (.tableswitch 287 0 5 #[38, 72, 160, 197, 239, 276], 38) := by decide +kernel
theorem dX6_parseStatement_188 : decode cX6_parseStatement 188 = .ok (.aload_n 0, 1) := dk_42 (dk_at dksX6_parseStatement_7 0 rfl rfl)
theorem dX6_parseStatement_189 : decode cX6_parseStatement 189 = .ok (.aload_n 0, 1) := dk_42 (dk_at dksX6_parseStatement_7 1 rfl rfl)
theorem dX6_parseStatement_190 : decode cX6_parseStatement 190 = .ok (.getfield 185, 3) := dk_180 0 185 (dk_at dksX6_parseStatement_7 2 rfl rfl)
theorem dX6_parseStatement_193 : decode cX6_parseStatement 193 = .ok (.ifCond .ne 7, 3) := dk_154 0 7 (dk_at dksX6_parseStatement_7 5 rfl rfl)
theorem dX6_parseStatement_196 : decode cX6_parseStatement 196 = .ok (.iconst 1, 1) := dk_4 (dk_at dksX6_parseStatement_7 8 rfl rfl)
theorem dX6_parseStatement_197 : decode cX6_parseStatement 197 = .ok (.goto 4, 3) := dk_167 0 4 (dk_at dksX6_parseStatement_7 9 rfl rfl)
theorem dX6_parseStatement_200 : decode cX6_parseStatement 200 = .ok (.iconst 0, 1) := dk_3 (dk_at dksX6_parseStatement_7 12 rfl rfl)
theorem dX6_parseStatement_201 : decode cX6_parseStatement 201 = .ok (.bipush (-14), 2) := dk_16 242 (dk_at dksX6_parseStatement_7 13 rfl rfl)
theorem dX6_parseStatement_203 : decode cX6_parseStatement 203 = .ok (.invokevirtual 123, 3) := dk_182 0 123 (dk_at dksX6_parseStatement_7 15 rfl rfl)
theorem dX6_parseStatement_206 : decode cX6_parseStatement 206 = .ok (.aload_n 0, 1) := dk_42 (dk_at dksX6_parseStatement_7 18 rfl rfl)
theorem dX6_parseStatement_207 : decode cX6_parseStatement 207 = .ok (.iconst 1, 1) := dk_4 (dk_at dksX6_parseStatement_7 19 rfl rfl)
theorem dX6_parseStatement_208 : decode cX6_parseStatement 208 = .ok (.putfield 185, 3) := dk_181 0 185 (dk_at dksX6_parseStatement_7 20 rfl rfl)
theorem dX6_parseStatement_211 : decode cX6_parseStatement 211 = .ok (.aload_n 0, 1) := dk_42 (dk_at dksX6_parseStatement_7 23 rfl rfl)
theorem dX6_parseStatement_212 : decode cX6_parseStatement 212 = .ok (.invokevirtual 127, 3) := dk_182 0 127 (dk_at dksX6_parseStatement_8 0 rfl rfl)
theorem dX6_parseStatement_215 : decode cX6_parseStatement 215 = .ok (.aload_n 0, 1) := dk_42 (dk_at dksX6_parseStatement_8 3 rfl rfl)
theorem dX6_parseStatement_216 : decode cX6_parseStatement 216 = .ok (.invokevirtual 189, 3) := dk_182 0 189 (dk_at dksX6_parseStatement_8 4 rfl rfl)
theorem dX6_parseStatement_219 : decode cX6_parseStatement 219 = .ok (.goto 228, 3) := dk_167 0 228 (dk_at dksX6_parseStatement_8 7 rfl rfl)
theorem dX6_parseStatement_222 : decode cX6_parseStatement 222 = .ok (.aload_n 0, 1) := dk_42 (dk_at dksX6_parseStatement_8 10 rfl rfl)
theorem dX6_parseStatement_223 : decode cX6_parseStatement 223 = .ok (.aload_n 0, 1) := dk_42 (dk_at dksX6_parseStatement_8 11 rfl rfl)
theorem dX6_parseStatement_224 : decode cX6_parseStatement 224 = .ok (.getfield 25, 3) := dk_180 0 25 (dk_at dksX6_parseStatement_8 12 rfl rfl)
theorem dX6_parseStatement_227 : decode cX6_parseStatement 227 = .ok (.invokevirtual 139, 3) := dk_182 0 139 (dk_at dksX6_parseStatement_8 15 rfl rfl)
theorem dX6_parseStatement_230 : decode cX6_parseStatement 230 = .ok (.bipush 6, 2) := dk_16 6 (dk_at dksX6_parseStatement_8 18 rfl rfl)
theorem dX6_parseStatement_232 : decode cX6_parseStatement 232 = .ok (.if_icmp .ge 7, 3) := dk_162 0 7 (dk_at dksX6_parseStatement_8 20 rfl rfl)
theorem dX6_parseStatement_235 : decode cX6_parseStatement 235 = .ok (.iconst 1, 1) := dk_4 (dk_at dksX6_parseStatement_8 23 rfl rfl)
theorem dX6_parseStatement_236 : decode cX6_parseStatement 236 = .ok (.goto 4, 3) := dk_167 0 4 (dk_at dksX6_parseStatement_9 0 rfl rfl)
theorem dX6_parseStatement_239 : decode cX6_parseStatement 239 = .ok (.iconst 0, 1) := dk_3 (dk_at dksX6_parseStatement_9 3 rfl rfl)
theorem dX6_parseStatement_240 : decode cX6_parseStatement 240 = .ok (.bipush (-15), 2) := dk_16 241 (dk_at dksX6_parseStatement_9 4 rfl rfl)
theorem dX6_parseStatement_242 : decode cX6_parseStatement 242 = .ok (.invokevirtual 123, 3) := dk_182 0 123 (dk_at dksX6_parseStatement_9 6 rfl rfl)
theorem dX6_parseStatement_245 : decode cX6_parseStatement 245 = .ok (.aload_n 0, 1) := dk_42 (dk_at dksX6_parseStatement_9 9 rfl rfl)
theorem dX6_parseStatement_246 : decode cX6_parseStatement 246 = .ok (.invokevirtual 127, 3) := dk_182 0 127 (dk_at dksX6_parseStatement_9 10 rfl rfl)
theorem dX6_parseStatement_249 : decode cX6_parseStatement 249 = .ok (.aload_n 0, 1) := dk_42 (dk_at dksX6_parseStatement_9 13 rfl rfl)
theorem dX6_parseStatement_250 : decode cX6_parseStatement 250 = .ok (.invokevirtual 150, 3) := dk_182 0 150 (dk_at dksX6_parseStatement_9 14 rfl rfl)
theorem dX6_parseStatement_253 : decode cX6_parseStatement 253 = .ok (.istore_n 3, 1) := dk_62 (dk_at dksX6_parseStatement_9 17 rfl rfl)
theorem dX6_parseStatement_254 : decode cX6_parseStatement 254 = .ok (.aload_n 0, 1) := dk_42 (dk_at dksX6_parseStatement_9 18 rfl rfl)
theorem dX6_parseStatement_255 : decode cX6_parseStatement 255 = .ok (.aload_n 0, 1) := dk_42 (dk_at dksX6_parseStatement_9 19 rfl rfl)
theorem dX6_parseStatement_256 : decode cX6_parseStatement 256 = .ok (.iload_n 3, 1) := dk_29 (dk_at dksX6_parseStatement_9 20 rfl rfl)
theorem dX6_parseStatement_257 : decode cX6_parseStatement 257 = .ok (.invokevirtual 153, 3) := dk_182 0 153 (dk_at dksX6_parseStatement_9 21 rfl rfl)
theorem dX6_parseStatement_260 : decode cX6_parseStatement 260 = .ok (.iconst (-1), 1) := dk_2 (dk_at dksX6_parseStatement_10 0 rfl rfl)
theorem dX6_parseStatement_261 : decode cX6_parseStatement 261 = .ok (.if_icmp .ne 7, 3) := dk_160 0 7 (dk_at dksX6_parseStatement_10 1 rfl rfl)
theorem dX6_parseStatement_264 : decode cX6_parseStatement 264 = .ok (.iconst 1, 1) := dk_4 (dk_at dksX6_parseStatement_10 4 rfl rfl)
theorem dX6_parseStatement_265 : decode cX6_parseStatement 265 = .ok (.goto 4, 3) := dk_167 0 4 (dk_at dksX6_parseStatement_10 5 rfl rfl)
theorem dX6_parseStatement_268 : decode cX6_parseStatement 268 = .ok (.iconst 0, 1) := dk_3 (dk_at dksX6_parseStatement_10 8 rfl rfl)
theorem dX6_parseStatement_269 : decode cX6_parseStatement 269 = .ok (.bipush (-14), 2) := dk_16 242 (dk_at dksX6_parseStatement_10 9 rfl rfl)
theorem dX6_parseStatement_271 : decode cX6_parseStatement 271 = .ok (.invokevirtual 123, 3) := dk_182 0 123 (dk_at dksX6_parseStatement_10 11 rfl rfl)
theorem dX6_parseStatement_274 : decode cX6_parseStatement 274 = .ok (.aload_n 0, 1) := dk_42 (dk_at dksX6_parseStatement_10 14 rfl rfl)
theorem dX6_parseStatement_275 : decode cX6_parseStatement 275 = .ok (.invokevirtual 127, 3) := dk_182 0 127 (dk_at dksX6_parseStatement_10 15 rfl rfl)
theorem dX6_parseStatement_278 : decode cX6_parseStatement 278 = .ok (.aload_n 0, 1) := dk_42 (dk_at dksX6_parseStatement_10 18 rfl rfl)
theorem dX6_parseStatement_279 : decode cX6_parseStatement 279 = .ok (.getfield 29, 3) := dk_180 0 29 (dk_at dksX6_parseStatement_10 19 rfl rfl)
theorem dX6_parseStatement_282 : decode cX6_parseStatement 282 = .ok (.aload_n 0, 1) := dk_42 (dk_at dksX6_parseStatement_10 22 rfl rfl)
theorem dX6_parseStatement_283 : decode cX6_parseStatement 283 = .ok (.iconst 1, 1) := dk_4 (dk_at dksX6_parseStatement_10 23 rfl rfl)
theorem dX6_parseStatement_284 : decode cX6_parseStatement 284 = .ok (.iconst 4, 1) := dk_7 (dk_at dksX6_parseStatement_11 0 rfl rfl)
theorem dX6_parseStatement_285 : decode cX6_parseStatement 285 = .ok (.invokevirtual 192, 3) := dk_182 0 192 (dk_at dksX6_parseStatement_11 1 rfl rfl)
theorem dX6_parseStatement_288 : decode cX6_parseStatement 288 = .ok (.invokestatic 195, 3) := dk_184 0 195 (dk_at dksX6_parseStatement_11 4 rfl rfl)
theorem dX6_parseStatement_291 : decode cX6_parseStatement 291 = .ok (.invokevirtual 199, 3) := dk_182 0 199 (dk_at dksX6_parseStatement_11 7 rfl rfl)
theorem dX6_parseStatement_294 : decode cX6_parseStatement 294 = .ok (.pop, 1) := dk_87 (dk_at dksX6_parseStatement_11 10 rfl rfl)
theorem dX6_parseStatement_295 : decode cX6_parseStatement 295 = .ok (.aload_n 0, 1) := dk_42 (dk_at dksX6_parseStatement_11 11 rfl rfl)
theorem dX6_parseStatement_296 : decode cX6_parseStatement 296 = .ok (.getfield 25, 3) := dk_180 0 25 (dk_at dksX6_parseStatement_11 12 rfl rfl)
theorem dX6_parseStatement_299 : decode cX6_parseStatement 299 = .ok (.iload_n 3, 1) := dk_29 (dk_at dksX6_parseStatement_11 15 rfl rfl)
theorem dX6_parseStatement_300 : decode cX6_parseStatement 300 = .ok (.invokestatic 195, 3) := dk_184 0 195 (dk_at dksX6_parseStatement_11 16 rfl rfl)
theorem dX6_parseStatement_303 : decode cX6_parseStatement 303 = .ok (.invokevirtual 199, 3) := dk_182 0 199 (dk_at dksX6_parseStatement_11 19 rfl rfl)
theorem dX6_parseStatement_306 : decode cX6_parseStatement 306 = .ok (.pop, 1) := dk_87 (dk_at dksX6_parseStatement_11 22 rfl rfl)
theorem dX6_parseStatement_307 : decode cX6_parseStatement 307 = .ok (.goto 140, 3) := dk_167 0 140 (dk_at dksX6_parseStatement_12 0 rfl rfl)
theorem dX6_parseStatement_310 : decode cX6_parseStatement 310 = .ok (.aload_n 0, 1) := dk_42 (dk_at dksX6_parseStatement_12 3 rfl rfl)
theorem dX6_parseStatement_311 : decode cX6_parseStatement 311 = .ok (.aload_n 0, 1) := dk_42 (dk_at dksX6_parseStatement_12 4 rfl rfl)
theorem dX6_parseStatement_312 : decode cX6_parseStatement 312 = .ok (.getfield 18, 3) := dk_180 0 18 (dk_at dksX6_parseStatement_12 5 rfl rfl)
theorem dX6_parseStatement_315 : decode cX6_parseStatement 315 = .ok (.getfield 202, 3) := dk_180 0 202 (dk_at dksX6_parseStatement_12 8 rfl rfl)
theorem dX6_parseStatement_318 : decode cX6_parseStatement 318 = .ok (.invokevirtual 206, 3) := dk_182 0 206 (dk_at dksX6_parseStatement_12 11 rfl rfl)
theorem dX6_parseStatement_321 : decode cX6_parseStatement 321 = .ok (.bipush 8, 2) := dk_16 8 (dk_at dksX6_parseStatement_12 14 rfl rfl)
theorem dX6_parseStatement_323 : decode cX6_parseStatement 323 = .ok (.if_icmp .ge 7, 3) := dk_162 0 7 (dk_at dksX6_parseStatement_12 16 rfl rfl)
theorem dX6_parseStatement_326 : decode cX6_parseStatement 326 = .ok (.iconst 1, 1) := dk_4 (dk_at dksX6_parseStatement_12 19 rfl rfl)
theorem dX6_parseStatement_327 : decode cX6_parseStatement 327 = .ok (.goto 4, 3) := dk_167 0 4 (dk_at dksX6_parseStatement_12 20 rfl rfl)
theorem dX6_parseStatement_330 : decode cX6_parseStatement 330 = .ok (.iconst 0, 1) := dk_3 (dk_at dksX6_parseStatement_12 23 rfl rfl)
theorem dX6_parseStatement_331 : decode cX6_parseStatement 331 = .ok (.bipush (-15), 2) := dk_16 241 (dk_at dksX6_parseStatement_13 0 rfl rfl)
theorem dX6_parseStatement_333 : decode cX6_parseStatement 333 = .ok (.invokevirtual 123, 3) := dk_182 0 123 (dk_at dksX6_parseStatement_13 2 rfl rfl)
theorem dX6_parseStatement_336 : decode cX6_parseStatement 336 = .ok (.aload_n 0, 1) := dk_42 (dk_at dksX6_parseStatement_13 5 rfl rfl)
theorem dX6_parseStatement_337 : decode cX6_parseStatement 337 = .ok (.invokevirtual 127, 3) := dk_182 0 127 (dk_at dksX6_parseStatement_13 6 rfl rfl)
theorem dX6_parseStatement_340 : decode cX6_parseStatement 340 = .ok (.aload_n 0, 1) := dk_42 (dk_at dksX6_parseStatement_13 9 rfl rfl)
theorem dX6_parseStatement_341 : decode cX6_parseStatement 341 = .ok (.invokevirtual 209, 3) := dk_182 0 209 (dk_at dksX6_parseStatement_13 10 rfl rfl)
theorem dX6_parseStatement_344 : decode cX6_parseStatement 344 = .ok (.goto 103, 3) := dk_167 0 103 (dk_at dksX6_parseStatement_13 13 rfl rfl)
theorem dX6_parseStatement_347 : decode cX6_parseStatement 347 = .ok (.aload_n 0, 1) := dk_42 (dk_at dksX6_parseStatement_13 16 rfl rfl)
theorem dX6_parseStatement_348 : decode cX6_parseStatement 348 = .ok (.aload_n 0, 1) := dk_42 (dk_at dksX6_parseStatement_13 17 rfl rfl)
theorem dX6_parseStatement_349 : decode cX6_parseStatement 349 = .ok (.getfield 18, 3) := dk_180 0 18 (dk_at dksX6_parseStatement_13 18 rfl rfl)
theorem dX6_parseStatement_352 : decode cX6_parseStatement 352 = .ok (.getfield 212, 3) := dk_180 0 212 (dk_at dksX6_parseStatement_13 21 rfl rfl)
theorem dX6_parseStatement_355 : decode cX6_parseStatement 355 = .ok (.invokevirtual 139, 3) := dk_182 0 139 (dk_at dksX6_parseStatement_14 0 rfl rfl)
theorem dX6_parseStatement_358 : decode cX6_parseStatement 358 = .ok (.bipush 40, 2) := dk_16 40 (dk_at dksX6_parseStatement_14 3 rfl rfl)
theorem dX6_parseStatement_360 : decode cX6_parseStatement 360 = .ok (.if_icmp .ge 7, 3) := dk_162 0 7 (dk_at dksX6_parseStatement_14 5 rfl rfl)
theorem dX6_parseStatement_363 : decode cX6_parseStatement 363 = .ok (.iconst 1, 1) := dk_4 (dk_at dksX6_parseStatement_14 8 rfl rfl)
theorem dX6_parseStatement_364 : decode cX6_parseStatement 364 = .ok (.goto 4, 3) := dk_167 0 4 (dk_at dksX6_parseStatement_14 9 rfl rfl)
theorem dX6_parseStatement_367 : decode cX6_parseStatement 367 = .ok (.iconst 0, 1) := dk_3 (dk_at dksX6_parseStatement_14 12 rfl rfl)
theorem dX6_parseStatement_368 : decode cX6_parseStatement 368 = .ok (.bipush (-15), 2) := dk_16 241 (dk_at dksX6_parseStatement_14 13 rfl rfl)
theorem dX6_parseStatement_370 : decode cX6_parseStatement 370 = .ok (.invokevirtual 123, 3) := dk_182 0 123 (dk_at dksX6_parseStatement_14 15 rfl rfl)
theorem dX6_parseStatement_373 : decode cX6_parseStatement 373 = .ok (.aload_n 0, 1) := dk_42 (dk_at dksX6_parseStatement_14 18 rfl rfl)
theorem dX6_parseStatement_374 : decode cX6_parseStatement 374 = .ok (.getfield 18, 3) := dk_180 0 18 (dk_at dksX6_parseStatement_14 19 rfl rfl)
theorem dX6_parseStatement_377 : decode cX6_parseStatement 377 = .ok (.invokevirtual 215, 3) := dk_182 0 215 (dk_at dksX6_parseStatement_15 0 rfl rfl)
theorem dX6_parseStatement_380 : decode cX6_parseStatement 380 = .ok (.istore 4, 2) := dk_54 4 (dk_at dksX6_parseStatement_15 3 rfl rfl)
theorem dX6_parseStatement_382 : decode cX6_parseStatement 382 = .ok (.aload_n 0, 1) := dk_42 (dk_at dksX6_parseStatement_15 5 rfl rfl)
theorem dX6_parseStatement_383 : decode cX6_parseStatement 383 = .ok (.invokevirtual 127, 3) := dk_182 0 127 (dk_at dksX6_parseStatement_15 6 rfl rfl)
theorem dX6_parseStatement_386 : decode cX6_parseStatement 386 = .ok (.goto 61, 3) := dk_167 0 61 (dk_at dksX6_parseStatement_15 9 rfl rfl)
theorem dX6_parseStatement_389 : decode cX6_parseStatement 389 = .ok (.aload_n 0, 1) := dk_42 (dk_at dksX6_parseStatement_15 12 rfl rfl)
theorem dX6_parseStatement_390 : decode cX6_parseStatement 390 = .ok (.aload_n 0, 1) := dk_42 (dk_at dksX6_parseStatement_15 13 rfl rfl)
theorem dX6_parseStatement_391 : decode cX6_parseStatement 391 = .ok (.getfield 18, 3) := dk_180 0 18 (dk_at dksX6_parseStatement_15 14 rfl rfl)
theorem dX6_parseStatement_394 : decode cX6_parseStatement 394 = .ok (.getfield 217, 3) := dk_180 0 217 (dk_at dksX6_parseStatement_15 17 rfl rfl)
theorem dX6_parseStatement_397 : decode cX6_parseStatement 397 = .ok (.invokevirtual 139, 3) := dk_182 0 139 (dk_at dksX6_parseStatement_15 20 rfl rfl)
theorem dX6_parseStatement_400 : decode cX6_parseStatement 400 = .ok (.bipush 10, 2) := dk_16 10 (dk_at dksX6_parseStatement_16 0 rfl rfl)
theorem dX6_parseStatement_402 : decode cX6_parseStatement 402 = .ok (.if_icmp .ge 7, 3) := dk_162 0 7 (dk_at dksX6_parseStatement_16 2 rfl rfl)
theorem dX6_parseStatement_405 : decode cX6_parseStatement 405 = .ok (.iconst 1, 1) := dk_4 (dk_at dksX6_parseStatement_16 5 rfl rfl)
theorem dX6_parseStatement_406 : decode cX6_parseStatement 406 = .ok (.goto 4, 3) := dk_167 0 4 (dk_at dksX6_parseStatement_16 6 rfl rfl)
theorem dX6_parseStatement_409 : decode cX6_parseStatement 409 = .ok (.iconst 0, 1) := dk_3 (dk_at dksX6_parseStatement_16 9 rfl rfl)
theorem dX6_parseStatement_410 : decode cX6_parseStatement 410 = .ok (.bipush (-15), 2) := dk_16 241 (dk_at dksX6_parseStatement_16 10 rfl rfl)
theorem dX6_parseStatement_412 : decode cX6_parseStatement 412 = .ok (.invokevirtual 123, 3) := dk_182 0 123 (dk_at dksX6_parseStatement_16 12 rfl rfl)
theorem dX6_parseStatement_415 : decode cX6_parseStatement 415 = .ok (.aload_n 0, 1) := dk_42 (dk_at dksX6_parseStatement_16 15 rfl rfl)
theorem dX6_parseStatement_416 : decode cX6_parseStatement 416 = .ok (.invokevirtual 127, 3) := dk_182 0 127 (dk_at dksX6_parseStatement_16 16 rfl rfl)
theorem dX6_parseStatement_419 : decode cX6_parseStatement 419 = .ok (.aload_n 0, 1) := dk_42 (dk_at dksX6_parseStatement_16 19 rfl rfl)
theorem dX6_parseStatement_420 : decode cX6_parseStatement 420 = .ok (.invokevirtual 220, 3) := dk_182 0 220 (dk_at dksX6_parseStatement_16 20 rfl rfl)
theorem dX6_parseStatement_423 : decode cX6_parseStatement 423 = .ok (.goto 24, 3) := dk_167 0 24 (dk_at dksX6_parseStatement_17 0 rfl rfl)
theorem dX6_parseStatement_426 : decode cX6_parseStatement 426 = .ok (.aload_n 0, 1) := dk_42 (dk_at dksX6_parseStatement_17 3 rfl rfl)
theorem dX6_parseStatement_427 : decode cX6_parseStatement 427 = .ok (.invokevirtual 127, 3) := dk_182 0 127 (dk_at dksX6_parseStatement_17 4 rfl rfl)
theorem dX6_parseStatement_430 : decode cX6_parseStatement 430 = .ok (.aload_n 0, 1) := dk_42 (dk_at dksX6_parseStatement_17 7 rfl rfl)
theorem dX6_parseStatement_431 : decode cX6_parseStatement 431 = .ok (.invokevirtual 223, 3) := dk_182 0 223 (dk_at dksX6_parseStatement_17 8 rfl rfl)
theorem dX6_parseStatement_434 : decode cX6_parseStatement 434 = .ok (.goto 13, 3) := dk_167 0 13 (dk_at dksX6_parseStatement_17 11 rfl rfl)
theorem dX6_parseStatement_437 : decode cX6_parseStatement 437 = .ok (.new 118, 3) := dk_187 0 118 (dk_at dksX6_parseStatement_17 14 rfl rfl)
theorem dX6_parseStatement_440 : decode cX6_parseStatement 440 = .ok (.dup, 1) := dk_89 (dk_at dksX6_parseStatement_17 17 rfl rfl)
theorem dX6_parseStatement_441 : decode cX6_parseStatement 441 = .ok (.bipush (-11), 2) := dk_16 245 (dk_at dksX6_parseStatement_17 18 rfl rfl)
theorem dX6_parseStatement_443 : decode cX6_parseStatement 443 = .ok (.invokespecial 120, 3) := dk_183 0 120 (dk_at dksX6_parseStatement_17 20 rfl rfl)
theorem dX6_parseStatement_446 : decode cX6_parseStatement 446 = .ok (.athrow, 1) := dk_191 (dk_at dksX6_parseStatement_17 23 rfl rfl)
theorem dX6_parseStatement_447 : decode cX6_parseStatement 447 = .ok (.return_, 1) := dk_177 (dk_at dksX6_parseStatement_18 0 rfl rfl)
def dkwX6_require_0 : List UInt8 := [27, 154, 0, 12, 187, 0, 118, 89, 28, 183, 0, 120, 191, 177]
abbrev dktX6_require_0 : List UInt8 := dkwX6_require_0 ++ []
theorem dksX6_require_0 : cX6_require.data.toList.drop 0 = dktX6_require_0 := by decide +kernel
theorem dX6_require_0 : decode cX6_require 0 = .ok (.iload_n 1, 1) := dk_27 (dk_at dksX6_require_0 0 rfl rfl)
theorem dX6_require_1 : decode cX6_require 1 = .ok (.ifCond .ne 12, 3) := dk_154 0 12 (dk_at dksX6_require_0 1 rfl rfl)
theorem dX6_require_4 : decode cX6_require 4 = .ok (.new 118, 3) := dk_187 0 118 (dk_at dksX6_require_0 4 rfl rfl)
theorem dX6_require_7 : decode cX6_require 7 = .ok (.dup, 1) := dk_89 (dk_at dksX6_require_0 7 rfl rfl)
theorem dX6_require_8 : decode cX6_require 8 = .ok (.iload_n 2, 1) := dk_28 (dk_at dksX6_require_0 8 rfl rfl)
theorem dX6_require_9 : decode cX6_require 9 = .ok (.invokespecial 120, 3) := dk_183 0 120 (dk_at dksX6_require_0 9 rfl rfl)
theorem dX6_require_12 : decode cX6_require 12 = .ok (.athrow, 1) := dk_191 (dk_at dksX6_require_0 12 rfl rfl)
theorem dX6_require_13 : decode cX6_require 13 = .ok (.return_, 1) := dk_177 (dk_at dksX6_require_0 13 rfl rfl)
def dkwX6_parseStart_3 : List UInt8 := [27, 42, 180, 0, 102, 79, 132, 1, 1, 42, 182, 0, 127, 167, 255, 191, 177]
abbrev dktX6_parseStart_3 : List UInt8 := dkwX6_parseStart_3 ++ []
def dkwX6_parseStart_2 : List UInt8 := [42, 27, 16, 16, 162, 0, 7, 4, 167, 0, 4, 3, 16, 241, 182, 0, 123, 42, 180, 0, 18, 180, 0, 226]
abbrev dktX6_parseStart_2 : List UInt8 := dkwX6_parseStart_2 ++ dktX6_parseStart_3
def dkwX6_parseStart_1 : List UInt8 := [178, 0, 99, 166, 0, 61, 42, 42, 180, 0, 102, 133, 9, 20, 0, 228, 184, 0, 77, 16, 244, 182, 0, 123]
abbrev dktX6_parseStart_1 : List UInt8 := dkwX6_parseStart_1 ++ dktX6_parseStart_2
def dkwX6_parseStart_0 : List UInt8 := [42, 180, 0, 18, 180, 0, 226, 3, 42, 3, 17, 39, 15, 182, 0, 192, 79, 4, 60, 42, 180, 0, 46]
abbrev dktX6_parseStart_0 : List UInt8 := dkwX6_parseStart_0 ++ dktX6_parseStart_1
theorem dksX6_parseStart_0 : cX6_parseStart.data.toList.drop 0 = dktX6_parseStart_0 := by decide +kernel
theorem dksX6_parseStart_1 : cX6_parseStart.data.toList.drop 23 = dktX6_parseStart_1 := dk_seg dksX6_parseStart_0 23 rfl rfl
theorem dksX6_parseStart_2 : cX6_parseStart.data.toList.drop 47 = dktX6_parseStart_2 := dk_seg dksX6_parseStart_1 24 rfl rfl
theorem dksX6_parseStart_3 : cX6_parseStart.data.toList.drop 71 = dktX6_parseStart_3 := dk_seg dksX6_parseStart_2 24 rfl rfl
theorem dX6_parseStart_0 : decode cX6_parseStart 0 = .ok (.aload_n 0, 1) := dk_42 (dk_at dksX6_parseStart_0 0 rfl rfl)
theorem dX6_parseStart_1 : decode cX6_parseStart 1 = .ok (.getfield 18, 3) := dk_180 0 18 (dk_at dksX6_parseStart_0 1 rfl rfl)
theorem dX6_parseStart_4 : decode cX6_parseStart 4 = .ok (.getfield 226, 3) := dk_180 0 226 (dk_at dksX6_parseStart_0 4 rfl rfl)
theorem dX6_parseStart_7 : decode cX6_parseStart 7 = .ok (.iconst 0, 1) := dk_3 (dk_at dksX6_parseStart_0 7 rfl rfl)
theorem dX6_parseStart_8 : decode cX6_parseStart 8 = .ok (.aload_n 0, 1) := dk_42 (dk_at dksX6_parseStart_0 8 rfl rfl)
theorem dX6_parseStart_9 : decode cX6_parseStart 9 = .ok (.iconst 0, 1) := dk_3 (dk_at dksX6_parseStart_0 9 rfl rfl)
theorem dX6_parseStart_10 : decode cX6_parseStart 10 = .ok (.sipush 9999, 3) := dk_17 39 15 (dk_at dksX6_parseStart_0 10 rfl rfl)
theorem dX6_parseStart_13 : decode cX6_parseStart 13 = .ok (.invokevirtual 192, 3) := dk_182 0 192 (dk_at dksX6_parseStart_0 13 rfl rfl)
theorem dX6_parseStart_16 : decode cX6_parseStart 16 = .ok (.iastore, 1) := dk_79 (dk_at dksX6_parseStart_0 16 rfl rfl)
theorem dX6_parseStart_17 : decode cX6_parseStart 17 = .ok (.iconst 1, 1) := dk_4 (dk_at dksX6_parseStart_0 17 rfl rfl)
theorem dX6_parseStart_18 : decode cX6_parseStart 18 = .ok (.istore_n 1, 1) := dk_60 (dk_at dksX6_parseStart_0 18 rfl rfl)
theorem dX6_parseStart_19 : decode cX6_parseStart 19 = .ok (.aload_n 0, 1) := dk_42 (dk_at dksX6_parseStart_0 19 rfl rfl)
theorem dX6_parseStart_20 : decode cX6_parseStart 20 = .ok (.getfield 46, 3) := dk_180 0 46 (dk_at dksX6_parseStart_0 20 rfl rfl)
theorem dX6_parseStart_23 : decode cX6_parseStart 23 = .ok (.getstatic 99, 3) := dk_178 0 99 (dk_at dksX6_parseStart_1 0 rfl rfl)
theorem dX6_parseStart_26 : decode cX6_parseStart 26 = .ok (.if_acmp .ne 61, 3) := dk_166 0 61 (dk_at dksX6_parseStart_1 3 rfl rfl)
theorem dX6_parseStart_29 : decode cX6_parseStart 29 = .ok (.aload_n 0, 1) := dk_42 (dk_at dksX6_parseStart_1 6 rfl rfl)
theorem dX6_parseStart_30 : decode cX6_parseStart 30 = .ok (.aload_n 0, 1) := dk_42 (dk_at dksX6_parseStart_1 7 rfl rfl)
theorem dX6_parseStart_31 : decode cX6_parseStart 31 = .ok (.getfield 102, 3) := dk_180 0 102 (dk_at dksX6_parseStart_1 8 rfl rfl)
theorem dX6_parseStart_34 : decode cX6_parseStart 34 = .ok (.i2l, 1) := dk_133 (dk_at dksX6_parseStart_1 11 rfl rfl)
theorem dX6_parseStart_35 : decode cX6_parseStart 35 = .ok (.lconst 0, 1) := dk_9 (dk_at dksX6_parseStart_1 12 rfl rfl)
theorem dX6_parseStart_36 : decode cX6_parseStart 36 = .ok (.ldc2_w 228, 3) := dk_20 0 228 (dk_at dksX6_parseStart_1 13 rfl rfl)
theorem dX6_parseStart_39 : decode cX6_parseStart 39 = .ok (.invokestatic 77, 3) := dk_184 0 77 (dk_at dksX6_parseStart_1 16 rfl rfl)
theorem dX6_parseStart_42 : decode cX6_parseStart 42 = .ok (.bipush (-12), 2) := dk_16 244 (dk_at dksX6_parseStart_1 19 rfl rfl)
theorem dX6_parseStart_44 : decode cX6_parseStart 44 = .ok (.invokevirtual 123, 3) := dk_182 0 123 (dk_at dksX6_parseStart_1 21 rfl rfl)
theorem dX6_parseStart_47 : decode cX6_parseStart 47 = .ok (.aload_n 0, 1) := dk_42 (dk_at dksX6_parseStart_2 0 rfl rfl)
theorem dX6_parseStart_48 : decode cX6_parseStart 48 = .ok (.iload_n 1, 1) := dk_27 (dk_at dksX6_parseStart_2 1 rfl rfl)
theorem dX6_parseStart_49 : decode cX6_parseStart 49 = .ok (.bipush 16, 2) := dk_16 16 (dk_at dksX6_parseStart_2 2 rfl rfl)
theorem dX6_parseStart_51 : decode cX6_parseStart 51 = .ok (.if_icmp .ge 7, 3) := dk_162 0 7 (dk_at dksX6_parseStart_2 4 rfl rfl)
theorem dX6_parseStart_54 : decode cX6_parseStart 54 = .ok (.iconst 1, 1) := dk_4 (dk_at dksX6_parseStart_2 7 rfl rfl)
theorem dX6_parseStart_55 : decode cX6_parseStart 55 = .ok (.goto 4, 3) := dk_167 0 4 (dk_at dksX6_parseStart_2 8 rfl rfl)
theorem dX6_parseStart_58 : decode cX6_parseStart 58 = .ok (.iconst 0, 1) := dk_3 (dk_at dksX6_parseStart_2 11 rfl rfl)
theorem dX6_parseStart_59 : decode cX6_parseStart 59 = .ok (.bipush (-15), 2) := dk_16 241 (dk_at dksX6_parseStart_2 12 rfl rfl)
theorem dX6_parseStart_61 : decode cX6_parseStart 61 = .ok (.invokevirtual 123, 3) := dk_182 0 123 (dk_at dksX6_parseStart_2 14 rfl rfl)
theorem dX6_parseStart_64 : decode cX6_parseStart 64 = .ok (.aload_n 0, 1) := dk_42 (dk_at dksX6_parseStart_2 17 rfl rfl)
theorem dX6_parseStart_65 : decode cX6_parseStart 65 = .ok (.getfield 18, 3) := dk_180 0 18 (dk_at dksX6_parseStart_2 18 rfl rfl)
theorem dX6_parseStart_68 : decode cX6_parseStart 68 = .ok (.getfield 226, 3) := dk_180 0 226 (dk_at dksX6_parseStart_2 21 rfl rfl)
theorem dX6_parseStart_71 : decode cX6_parseStart 71 = .ok (.iload_n 1, 1) := dk_27 (dk_at dksX6_parseStart_3 0 rfl rfl)
theorem dX6_parseStart_72 : decode cX6_parseStart 72 = .ok (.aload_n 0, 1) := dk_42 (dk_at dksX6_parseStart_3 1 rfl rfl)
theorem dX6_parseStart_73 : decode cX6_parseStart 73 = .ok (.getfield 102, 3) := dk_180 0 102 (dk_at dksX6_parseStart_3 2 rfl rfl)
theorem dX6_parseStart_76 : decode cX6_parseStart 76 = .ok (.iastore, 1) := dk_79 (dk_at dksX6_parseStart_3 5 rfl rfl)
theorem dX6_parseStart_77 : decode cX6_parseStart 77 = .ok (.iinc 1 1, 3) := dk_132 1 1 (dk_at dksX6_parseStart_3 6 rfl rfl)
theorem dX6_parseStart_80 : decode cX6_parseStart 80 = .ok (.aload_n 0, 1) := dk_42 (dk_at dksX6_parseStart_3 9 rfl rfl)
theorem dX6_parseStart_81 : decode cX6_parseStart 81 = .ok (.invokevirtual 127, 3) := dk_182 0 127 (dk_at dksX6_parseStart_3 10 rfl rfl)
theorem dX6_parseStart_84 : decode cX6_parseStart 84 = .ok (.goto (-65), 3) := dk_167 255 191 (dk_at dksX6_parseStart_3 13 rfl rfl)
theorem dX6_parseStart_87 : decode cX6_parseStart 87 = .ok (.return_, 1) := dk_177 (dk_at dksX6_parseStart_3 16 rfl rfl)
def dkwX6_integer_2 : List UInt8 := [182, 0, 127, 29, 172]
abbrev dktX6_integer_2 : List UInt8 := dkwX6_integer_2 ++ []
def dkwX6_integer_1 : List UInt8 := [180, 0, 102, 133, 27, 133, 28, 133, 184, 0, 77, 16, 244, 182, 0, 123, 42, 180, 0, 102, 62, 42]
abbrev dktX6_integer_1 : List UInt8 := dkwX6_integer_1 ++ dktX6_integer_2
def dkwX6_integer_0 : List UInt8 := [42, 42, 180, 0, 46, 178, 0, 99, 166, 0, 7, 4, 167, 0, 4, 3, 16, 245, 182, 0, 123, 42, 42]
abbrev dktX6_integer_0 : List UInt8 := dkwX6_integer_0 ++ dktX6_integer_1
theorem dksX6_integer_0 : cX6_integer.data.toList.drop 0 = dktX6_integer_0 := by decide +kernel
theorem dksX6_integer_1 : cX6_integer.data.toList.drop 23 = dktX6_integer_1 := dk_seg dksX6_integer_0 23 rfl rfl
theorem dksX6_integer_2 : cX6_integer.data.toList.drop 45 = dktX6_integer_2 := dk_seg dksX6_integer_1 22 rfl rfl
theorem dX6_integer_0 : decode cX6_integer 0 = .ok (.aload_n 0, 1) := dk_42 (dk_at dksX6_integer_0 0 rfl rfl)
theorem dX6_integer_1 : decode cX6_integer 1 = .ok (.aload_n 0, 1) := dk_42 (dk_at dksX6_integer_0 1 rfl rfl)
theorem dX6_integer_2 : decode cX6_integer 2 = .ok (.getfield 46, 3) := dk_180 0 46 (dk_at dksX6_integer_0 2 rfl rfl)
theorem dX6_integer_5 : decode cX6_integer 5 = .ok (.getstatic 99, 3) := dk_178 0 99 (dk_at dksX6_integer_0 5 rfl rfl)
theorem dX6_integer_8 : decode cX6_integer 8 = .ok (.if_acmp .ne 7, 3) := dk_166 0 7 (dk_at dksX6_integer_0 8 rfl rfl)
theorem dX6_integer_11 : decode cX6_integer 11 = .ok (.iconst 1, 1) := dk_4 (dk_at dksX6_integer_0 11 rfl rfl)
theorem dX6_integer_12 : decode cX6_integer 12 = .ok (.goto 4, 3) := dk_167 0 4 (dk_at dksX6_integer_0 12 rfl rfl)
theorem dX6_integer_15 : decode cX6_integer 15 = .ok (.iconst 0, 1) := dk_3 (dk_at dksX6_integer_0 15 rfl rfl)
theorem dX6_integer_16 : decode cX6_integer 16 = .ok (.bipush (-11), 2) := dk_16 245 (dk_at dksX6_integer_0 16 rfl rfl)
theorem dX6_integer_18 : decode cX6_integer 18 = .ok (.invokevirtual 123, 3) := dk_182 0 123 (dk_at dksX6_integer_0 18 rfl rfl)
theorem dX6_integer_21 : decode cX6_integer 21 = .ok (.aload_n 0, 1) := dk_42 (dk_at dksX6_integer_0 21 rfl rfl)
theorem dX6_integer_22 : decode cX6_integer 22 = .ok (.aload_n 0, 1) := dk_42 (dk_at dksX6_integer_0 22 rfl rfl)
theorem dX6_integer_23 : decode cX6_integer 23 = .ok (.getfield 102, 3) := dk_180 0 102 (dk_at dksX6_integer_1 0 rfl rfl)
theorem dX6_integer_26 : decode cX6_integer 26 = .ok (.i2l, 1) := dk_133 (dk_at dksX6_integer_1 3 rfl rfl)
theorem dX6_integer_27 : decode cX6_integer 27 = .ok (.iload_n 1, 1) := dk_27 (dk_at dksX6_integer_1 4 rfl rfl)
theorem dX6_integer_28 : decode cX6_integer 28 = .ok (.i2l, 1) := dk_133 (dk_at dksX6_integer_1 5 rfl rfl)
theorem dX6_integer_29 : decode cX6_integer 29 = .ok (.iload_n 2, 1) := dk_28 (dk_at dksX6_integer_1 6 rfl rfl)
theorem dX6_integer_30 : decode cX6_integer 30 = .ok (.i2l, 1) := dk_133 (dk_at dksX6_integer_1 7 rfl rfl)
theorem dX6_integer_31 : decode cX6_integer 31 = .ok (.invokestatic 77, 3) := dk_184 0 77 (dk_at dksX6_integer_1 8 rfl rfl)
theorem dX6_integer_34 : decode cX6_integer 34 = .ok (.bipush (-12), 2) := dk_16 244 (dk_at dksX6_integer_1 11 rfl rfl)
theorem dX6_integer_36 : decode cX6_integer 36 = .ok (.invokevirtual 123, 3) := dk_182 0 123 (dk_at dksX6_integer_1 13 rfl rfl)
theorem dX6_integer_39 : decode cX6_integer 39 = .ok (.aload_n 0, 1) := dk_42 (dk_at dksX6_integer_1 16 rfl rfl)
theorem dX6_integer_40 : decode cX6_integer 40 = .ok (.getfield 102, 3) := dk_180 0 102 (dk_at dksX6_integer_1 17 rfl rfl)
theorem dX6_integer_43 : decode cX6_integer 43 = .ok (.istore_n 3, 1) := dk_62 (dk_at dksX6_integer_1 20 rfl rfl)
theorem dX6_integer_44 : decode cX6_integer 44 = .ok (.aload_n 0, 1) := dk_42 (dk_at dksX6_integer_1 21 rfl rfl)
theorem dX6_integer_45 : decode cX6_integer 45 = .ok (.invokevirtual 127, 3) := dk_182 0 127 (dk_at dksX6_integer_2 0 rfl rfl)
theorem dX6_integer_48 : decode cX6_integer 48 = .ok (.iload_n 3, 1) := dk_29 (dk_at dksX6_integer_2 3 rfl rfl)
theorem dX6_integer_49 : decode cX6_integer 49 = .ok (.ireturn, 1) := dk_172 (dk_at dksX6_integer_2 4 rfl rfl)
def dkwX6_name_3 : List UInt8 := [167, 0, 4, 3, 128, 60, 132, 2, 1, 167, 255, 214, 27, 172]
abbrev dktX6_name_3 : List UInt8 := dkwX6_name_3 ++ []
def dkwX6_name_2 : List UInt8 := [180, 0, 51, 182, 0, 130, 162, 0, 19, 42, 180, 0, 51, 28, 182, 0, 135, 16, 97, 100, 4, 96]
abbrev dktX6_name_2 : List UInt8 := dkwX6_name_2 ++ dktX6_name_3
def dkwX6_name_1 : List UInt8 := [167, 0, 4, 3, 16, 245, 182, 0, 123, 3, 60, 3, 61, 28, 16, 6, 162, 0, 42, 27, 8, 120, 28, 42]
abbrev dktX6_name_1 : List UInt8 := dkwX6_name_1 ++ dktX6_name_2
def dkwX6_name_0 : List UInt8 := [42, 42, 180, 0, 46, 178, 0, 81, 166, 0, 19, 42, 180, 0, 51, 182, 0, 130, 16, 6, 163, 0, 7, 4]
abbrev dktX6_name_0 : List UInt8 := dkwX6_name_0 ++ dktX6_name_1
theorem dksX6_name_0 : cX6_name.data.toList.drop 0 = dktX6_name_0 := by decide +kernel
theorem dksX6_name_1 : cX6_name.data.toList.drop 24 = dktX6_name_1 := dk_seg dksX6_name_0 24 rfl rfl
theorem dksX6_name_2 : cX6_name.data.toList.drop 48 = dktX6_name_2 := dk_seg dksX6_name_1 24 rfl rfl
theorem dksX6_name_3 : cX6_name.data.toList.drop 70 = dktX6_name_3 := dk_seg dksX6_name_2 22 rfl rfl
theorem dX6_name_0 : decode cX6_name 0 = .ok (.aload_n 0, 1) := dk_42 (dk_at dksX6_name_0 0 rfl rfl)
theorem dX6_name_1 : decode cX6_name 1 = .ok (.aload_n 0, 1) := dk_42 (dk_at dksX6_name_0 1 rfl rfl)
theorem dX6_name_2 : decode cX6_name 2 = .ok (.getfield 46, 3) := dk_180 0 46 (dk_at dksX6_name_0 2 rfl rfl)
theorem dX6_name_5 : decode cX6_name 5 = .ok (.getstatic 81, 3) := dk_178 0 81 (dk_at dksX6_name_0 5 rfl rfl)
theorem dX6_name_8 : decode cX6_name 8 = .ok (.if_acmp .ne 19, 3) := dk_166 0 19 (dk_at dksX6_name_0 8 rfl rfl)
theorem dX6_name_11 : decode cX6_name 11 = .ok (.aload_n 0, 1) := dk_42 (dk_at dksX6_name_0 11 rfl rfl)
theorem dX6_name_12 : decode cX6_name 12 = .ok (.getfield 51, 3) := dk_180 0 51 (dk_at dksX6_name_0 12 rfl rfl)
theorem dX6_name_15 : decode cX6_name 15 = .ok (.invokevirtual 130, 3) := dk_182 0 130 (dk_at dksX6_name_0 15 rfl rfl)
theorem dX6_name_18 : decode cX6_name 18 = .ok (.bipush 6, 2) := dk_16 6 (dk_at dksX6_name_0 18 rfl rfl)
theorem dX6_name_20 : decode cX6_name 20 = .ok (.if_icmp .gt 7, 3) := dk_163 0 7 (dk_at dksX6_name_0 20 rfl rfl)
theorem dX6_name_23 : decode cX6_name 23 = .ok (.iconst 1, 1) := dk_4 (dk_at dksX6_name_0 23 rfl rfl)
theorem dX6_name_24 : decode cX6_name 24 = .ok (.goto 4, 3) := dk_167 0 4 (dk_at dksX6_name_1 0 rfl rfl)
theorem dX6_name_27 : decode cX6_name 27 = .ok (.iconst 0, 1) := dk_3 (dk_at dksX6_name_1 3 rfl rfl)
theorem dX6_name_28 : decode cX6_name 28 = .ok (.bipush (-11), 2) := dk_16 245 (dk_at dksX6_name_1 4 rfl rfl)
theorem dX6_name_30 : decode cX6_name 30 = .ok (.invokevirtual 123, 3) := dk_182 0 123 (dk_at dksX6_name_1 6 rfl rfl)
theorem dX6_name_33 : decode cX6_name 33 = .ok (.iconst 0, 1) := dk_3 (dk_at dksX6_name_1 9 rfl rfl)
theorem dX6_name_34 : decode cX6_name 34 = .ok (.istore_n 1, 1) := dk_60 (dk_at dksX6_name_1 10 rfl rfl)
theorem dX6_name_35 : decode cX6_name 35 = .ok (.iconst 0, 1) := dk_3 (dk_at dksX6_name_1 11 rfl rfl)
theorem dX6_name_36 : decode cX6_name 36 = .ok (.istore_n 2, 1) := dk_61 (dk_at dksX6_name_1 12 rfl rfl)
theorem dX6_name_37 : decode cX6_name 37 = .ok (.iload_n 2, 1) := dk_28 (dk_at dksX6_name_1 13 rfl rfl)
theorem dX6_name_38 : decode cX6_name 38 = .ok (.bipush 6, 2) := dk_16 6 (dk_at dksX6_name_1 14 rfl rfl)
theorem dX6_name_40 : decode cX6_name 40 = .ok (.if_icmp .ge 42, 3) := dk_162 0 42 (dk_at dksX6_name_1 16 rfl rfl)
theorem dX6_name_43 : decode cX6_name 43 = .ok (.iload_n 1, 1) := dk_27 (dk_at dksX6_name_1 19 rfl rfl)
theorem dX6_name_44 : decode cX6_name 44 = .ok (.iconst 5, 1) := dk_8 (dk_at dksX6_name_1 20 rfl rfl)
theorem dX6_name_45 : decode cX6_name 45 = .ok (.ishl, 1) := dk_120 (dk_at dksX6_name_1 21 rfl rfl)
theorem dX6_name_46 : decode cX6_name 46 = .ok (.iload_n 2, 1) := dk_28 (dk_at dksX6_name_1 22 rfl rfl)
theorem dX6_name_47 : decode cX6_name 47 = .ok (.aload_n 0, 1) := dk_42 (dk_at dksX6_name_1 23 rfl rfl)
theorem dX6_name_48 : decode cX6_name 48 = .ok (.getfield 51, 3) := dk_180 0 51 (dk_at dksX6_name_2 0 rfl rfl)
theorem dX6_name_51 : decode cX6_name 51 = .ok (.invokevirtual 130, 3) := dk_182 0 130 (dk_at dksX6_name_2 3 rfl rfl)
theorem dX6_name_54 : decode cX6_name 54 = .ok (.if_icmp .ge 19, 3) := dk_162 0 19 (dk_at dksX6_name_2 6 rfl rfl)
theorem dX6_name_57 : decode cX6_name 57 = .ok (.aload_n 0, 1) := dk_42 (dk_at dksX6_name_2 9 rfl rfl)
theorem dX6_name_58 : decode cX6_name 58 = .ok (.getfield 51, 3) := dk_180 0 51 (dk_at dksX6_name_2 10 rfl rfl)
theorem dX6_name_61 : decode cX6_name 61 = .ok (.iload_n 2, 1) := dk_28 (dk_at dksX6_name_2 13 rfl rfl)
theorem dX6_name_62 : decode cX6_name 62 = .ok (.invokevirtual 135, 3) := dk_182 0 135 (dk_at dksX6_name_2 14 rfl rfl)
theorem dX6_name_65 : decode cX6_name 65 = .ok (.bipush 97, 2) := dk_16 97 (dk_at dksX6_name_2 17 rfl rfl)
theorem dX6_name_67 : decode cX6_name 67 = .ok (.isub, 1) := dk_100 (dk_at dksX6_name_2 19 rfl rfl)
theorem dX6_name_68 : decode cX6_name 68 = .ok (.iconst 1, 1) := dk_4 (dk_at dksX6_name_2 20 rfl rfl)
theorem dX6_name_69 : decode cX6_name 69 = .ok (.iadd, 1) := dk_96 (dk_at dksX6_name_2 21 rfl rfl)
theorem dX6_name_70 : decode cX6_name 70 = .ok (.goto 4, 3) := dk_167 0 4 (dk_at dksX6_name_3 0 rfl rfl)
theorem dX6_name_73 : decode cX6_name 73 = .ok (.iconst 0, 1) := dk_3 (dk_at dksX6_name_3 3 rfl rfl)
theorem dX6_name_74 : decode cX6_name 74 = .ok (.ior, 1) := dk_128 (dk_at dksX6_name_3 4 rfl rfl)
theorem dX6_name_75 : decode cX6_name 75 = .ok (.istore_n 1, 1) := dk_60 (dk_at dksX6_name_3 5 rfl rfl)
theorem dX6_name_76 : decode cX6_name 76 = .ok (.iinc 2 1, 3) := dk_132 2 1 (dk_at dksX6_name_3 6 rfl rfl)
theorem dX6_name_79 : decode cX6_name 79 = .ok (.goto (-42), 3) := dk_167 255 214 (dk_at dksX6_name_3 9 rfl rfl)
theorem dX6_name_82 : decode cX6_name 82 = .ok (.iload_n 1, 1) := dk_27 (dk_at dksX6_name_3 12 rfl rfl)
theorem dX6_name_83 : decode cX6_name 83 = .ok (.ireturn, 1) := dk_172 (dk_at dksX6_name_3 13 rfl rfl)
def dkwX6_find_1 : List UInt8 := [182, 0, 147, 27, 160, 0, 5, 28, 172, 132, 2, 1, 167, 255, 222, 2, 172]
abbrev dktX6_find_1 : List UInt8 := dkwX6_find_1 ++ []
def dkwX6_find_0 : List UInt8 := [3, 61, 28, 42, 180, 0, 25, 182, 0, 139, 162, 0, 29, 42, 180, 0, 25, 28, 182, 0, 141, 192, 0, 145]
abbrev dktX6_find_0 : List UInt8 := dkwX6_find_0 ++ dktX6_find_1
theorem dksX6_find_0 : cX6_find.data.toList.drop 0 = dktX6_find_0 := by decide +kernel
theorem dksX6_find_1 : cX6_find.data.toList.drop 24 = dktX6_find_1 := dk_seg dksX6_find_0 24 rfl rfl
theorem dX6_find_0 : decode cX6_find 0 = .ok (.iconst 0, 1) := dk_3 (dk_at dksX6_find_0 0 rfl rfl)
theorem dX6_find_1 : decode cX6_find 1 = .ok (.istore_n 2, 1) := dk_61 (dk_at dksX6_find_0 1 rfl rfl)
theorem dX6_find_2 : decode cX6_find 2 = .ok (.iload_n 2, 1) := dk_28 (dk_at dksX6_find_0 2 rfl rfl)
theorem dX6_find_3 : decode cX6_find 3 = .ok (.aload_n 0, 1) := dk_42 (dk_at dksX6_find_0 3 rfl rfl)
theorem dX6_find_4 : decode cX6_find 4 = .ok (.getfield 25, 3) := dk_180 0 25 (dk_at dksX6_find_0 4 rfl rfl)
theorem dX6_find_7 : decode cX6_find 7 = .ok (.invokevirtual 139, 3) := dk_182 0 139 (dk_at dksX6_find_0 7 rfl rfl)
theorem dX6_find_10 : decode cX6_find 10 = .ok (.if_icmp .ge 29, 3) := dk_162 0 29 (dk_at dksX6_find_0 10 rfl rfl)
theorem dX6_find_13 : decode cX6_find 13 = .ok (.aload_n 0, 1) := dk_42 (dk_at dksX6_find_0 13 rfl rfl)
theorem dX6_find_14 : decode cX6_find 14 = .ok (.getfield 25, 3) := dk_180 0 25 (dk_at dksX6_find_0 14 rfl rfl)
theorem dX6_find_17 : decode cX6_find 17 = .ok (.iload_n 2, 1) := dk_28 (dk_at dksX6_find_0 17 rfl rfl)
theorem dX6_find_18 : decode cX6_find 18 = .ok (.invokevirtual 141, 3) := dk_182 0 141 (dk_at dksX6_find_0 18 rfl rfl)
theorem dX6_find_21 : decode cX6_find 21 = .ok (.checkcast 145, 3) := dk_192 0 145 (dk_at dksX6_find_0 21 rfl rfl)
theorem dX6_find_24 : decode cX6_find 24 = .ok (.invokevirtual 147, 3) := dk_182 0 147 (dk_at dksX6_find_1 0 rfl rfl)
theorem dX6_find_27 : decode cX6_find 27 = .ok (.iload_n 1, 1) := dk_27 (dk_at dksX6_find_1 3 rfl rfl)
theorem dX6_find_28 : decode cX6_find 28 = .ok (.if_icmp .ne 5, 3) := dk_160 0 5 (dk_at dksX6_find_1 4 rfl rfl)
theorem dX6_find_31 : decode cX6_find 31 = .ok (.iload_n 2, 1) := dk_28 (dk_at dksX6_find_1 7 rfl rfl)
theorem dX6_find_32 : decode cX6_find 32 = .ok (.ireturn, 1) := dk_172 (dk_at dksX6_find_1 8 rfl rfl)
theorem dX6_find_33 : decode cX6_find 33 = .ok (.iinc 2 1, 3) := dk_132 2 1 (dk_at dksX6_find_1 9 rfl rfl)
theorem dX6_find_36 : decode cX6_find 36 = .ok (.goto (-34), 3) := dk_167 255 222 (dk_at dksX6_find_1 12 rfl rfl)
theorem dX6_find_39 : decode cX6_find 39 = .ok (.iconst (-1), 1) := dk_2 (dk_at dksX6_find_1 15 rfl rfl)
theorem dX6_find_40 : decode cX6_find 40 = .ok (.ireturn, 1) := dk_172 (dk_at dksX6_find_1 16 rfl rfl)
def dkwX6_parseCommand_10 : List UInt8 := [16, 15, 182, 0, 192, 182, 0, 243, 54, 4, 177]
abbrev dktX6_parseCommand_10 : List UInt8 := dkwX6_parseCommand_10 ++ []
def dkwX6_parseCommand_9 : List UInt8 := [180, 0, 18, 27, 28, 29, 42, 3, 28, 153, 0, 8, 28, 4, 160, 0, 9, 17, 39, 15, 167, 0, 5]
abbrev dktX6_parseCommand_9 : List UInt8 := dkwX6_parseCommand_9 ++ dktX6_parseCommand_10
def dkwX6_parseCommand_8 : List UInt8 := [187, 0, 118, 89, 16, 245, 183, 0, 120, 191, 61, 42, 182, 0, 127, 42, 3, 16, 15, 182, 0, 192, 62, 42]
abbrev dktX6_parseCommand_8 : List UInt8 := dkwX6_parseCommand_8 ++ dktX6_parseCommand_9
def dkwX6_parseCommand_7 : List UInt8 := [3, 167, 0, 33, 4, 167, 0, 29, 5, 167, 0, 25, 6, 167, 0, 21, 7, 167, 0, 17, 8, 167, 0, 13]
abbrev dktX6_parseCommand_7 : List UInt8 := dkwX6_parseCommand_7 ++ dktX6_parseCommand_8
def dkwX6_parseCommand_6 : List UInt8 := [170, 0, 0, 0, 0, 0, 63, 0, 0, 0, 0, 0, 0, 0, 5, 0, 0, 0, 39, 0, 0, 0, 43, 0, 0, 0, 47, 0, 0, 0, 51, 0, 0, 0, 55, 0, 0, 0, 59]
abbrev dktX6_parseCommand_6 : List UInt8 := dkwX6_parseCommand_6 ++ dktX6_parseCommand_7
def dkwX6_parseCommand_5 : List UInt8 := [167, 0, 15, 45, 18, 241, 182, 0, 171, 153, 0, 6, 8, 54, 4, 21, 4]
abbrev dktX6_parseCommand_5 : List UInt8 := dkwX6_parseCommand_5 ++ dktX6_parseCommand_6
def dkwX6_parseCommand_4 : List UInt8 := [182, 0, 171, 153, 0, 36, 6, 54, 4, 167, 0, 30, 45, 18, 239, 182, 0, 171, 153, 0, 21, 7, 54, 4]
abbrev dktX6_parseCommand_4 : List UInt8 := dkwX6_parseCommand_4 ++ dktX6_parseCommand_5
def dkwX6_parseCommand_3 : List UInt8 := [4, 54, 4, 167, 0, 60, 45, 18, 235, 182, 0, 171, 153, 0, 51, 5, 54, 4, 167, 0, 45, 45, 18, 237]
abbrev dktX6_parseCommand_3 : List UInt8 := dkwX6_parseCommand_3 ++ dktX6_parseCommand_4
def dkwX6_parseCommand_2 : List UInt8 := [45, 18, 232, 182, 0, 171, 153, 0, 81, 3, 54, 4, 167, 0, 75, 45, 18, 234, 182, 0, 171, 153, 0, 66]
abbrev dktX6_parseCommand_2 : List UInt8 := dkwX6_parseCommand_2 ++ dktX6_parseCommand_3
def dkwX6_parseCommand_1 : List UInt8 := [171, 0, 0, 0, 0, 0, 146, 0, 0, 0, 6, 0, 1, 120, 161, 0, 0, 0, 74, 0, 1, 167, 196, 0, 0, 0, 134, 0, 1, 179, 15, 0, 0, 0, 59, 0, 1, 190, 75, 0, 0, 0, 104, 0, 46, 175, 117, 0, 0, 0, 89, 0, 54, 17, 147, 0, 0, 0, 119]
abbrev dktX6_parseCommand_1 : List UInt8 := dkwX6_parseCommand_1 ++ dktX6_parseCommand_2
def dkwX6_parseCommand_0 : List UInt8 := [42, 182, 0, 230, 60, 42, 180, 0, 51, 78, 2, 54, 4, 45, 182, 0, 167]
abbrev dktX6_parseCommand_0 : List UInt8 := dkwX6_parseCommand_0 ++ dktX6_parseCommand_1
theorem dksX6_parseCommand_0 : cX6_parseCommand.data.toList.drop 0 = dktX6_parseCommand_0 := by decide +kernel
theorem dksX6_parseCommand_1 : cX6_parseCommand.data.toList.drop 17 = dktX6_parseCommand_1 := dk_seg dksX6_parseCommand_0 17 rfl rfl
theorem dksX6_parseCommand_2 : cX6_parseCommand.data.toList.drop 76 = dktX6_parseCommand_2 := dk_seg dksX6_parseCommand_1 59 rfl rfl
theorem dksX6_parseCommand_3 : cX6_parseCommand.data.toList.drop 100 = dktX6_parseCommand_3 := dk_seg dksX6_parseCommand_2 24 rfl rfl
theorem dksX6_parseCommand_4 : cX6_parseCommand.data.toList.drop 124 = dktX6_parseCommand_4 := dk_seg dksX6_parseCommand_3 24 rfl rfl
theorem dksX6_parseCommand_5 : cX6_parseCommand.data.toList.drop 148 = dktX6_parseCommand_5 := dk_seg dksX6_parseCommand_4 24 rfl rfl
theorem dksX6_parseCommand_6 : cX6_parseCommand.data.toList.drop 165 = dktX6_parseCommand_6 := dk_seg dksX6_parseCommand_5 17 rfl rfl
theorem dksX6_parseCommand_7 : cX6_parseCommand.data.toList.drop 204 = dktX6_parseCommand_7 := dk_seg dksX6_parseCommand_6 39 rfl rfl
theorem dksX6_parseCommand_8 : cX6_parseCommand.data.toList.drop 228 = dktX6_parseCommand_8 := dk_seg dksX6_parseCommand_7 24 rfl rfl
theorem dksX6_parseCommand_9 : cX6_parseCommand.data.toList.drop 252 = dktX6_parseCommand_9 := dk_seg dksX6_parseCommand_8 24 rfl rfl
theorem dksX6_parseCommand_10 : cX6_parseCommand.data.toList.drop 275 = dktX6_parseCommand_10 := dk_seg dksX6_parseCommand_9 23 rfl rfl
theorem dX6_parseCommand_0 : decode cX6_parseCommand 0 = .ok (.aload_n 0, 1) := dk_42 (dk_at dksX6_parseCommand_0 0 rfl rfl)
theorem dX6_parseCommand_1 : decode cX6_parseCommand 1 = .ok (.invokevirtual 230, 3) := dk_182 0 230 (dk_at dksX6_parseCommand_0 1 rfl rfl)
theorem dX6_parseCommand_4 : decode cX6_parseCommand 4 = .ok (.istore_n 1, 1) := dk_60 (dk_at dksX6_parseCommand_0 4 rfl rfl)
theorem dX6_parseCommand_5 : decode cX6_parseCommand 5 = .ok (.aload_n 0, 1) := dk_42 (dk_at dksX6_parseCommand_0 5 rfl rfl)
theorem dX6_parseCommand_6 : decode cX6_parseCommand 6 = .ok (.getfield 51, 3) := dk_180 0 51 (dk_at dksX6_parseCommand_0 6 rfl rfl)
theorem dX6_parseCommand_9 : decode cX6_parseCommand 9 = .ok (.astore_n 3, 1) := dk_78 (dk_at dksX6_parseCommand_0 9 rfl rfl)
theorem dX6_parseCommand_10 : decode cX6_parseCommand 10 = .ok (.iconst (-1), 1) := dk_2 (dk_at dksX6_parseCommand_0 10 rfl rfl)
theorem dX6_parseCommand_11 : decode cX6_parseCommand 11 = .ok (.istore 4, 2) := dk_54 4 (dk_at dksX6_parseCommand_0 11 rfl rfl)
theorem dX6_parseCommand_13 : decode cX6_parseCommand 13 = .ok (.aload_n 3, 1) := dk_45 (dk_at dksX6_parseCommand_0 13 rfl rfl)
theorem dX6_parseCommand_14 : decode cX6_parseCommand 14 = .ok (.invokevirtual 167, 3) := dk_182 0 167 (dk_at dksX6_parseCommand_0 14 rfl rfl)
theorem dX6_parseCommand_17 : decode cX6_parseCommand 17 = .ok (.lookupswitch 146 #[(96417, 74), (108484, 134), (111375, 59), (114251, 104), (3059573, 89), (3543443, 119)], 59) := by decide +kernel
theorem dX6_parseCommand_76 : decode cX6_parseCommand 76 = .ok (.aload_n 3, 1) := dk_45 (dk_at dksX6_parseCommand_2 0 rfl rfl)
theorem dX6_parseCommand_77 : decode cX6_parseCommand 77 = .ok (.ldc 232, 2) := dk_18 232 (dk_at dksX6_parseCommand_2 1 rfl rfl)
theorem dX6_parseCommand_79 : decode cX6_parseCommand 79 = .ok (.invokevirtual 171, 3) := dk_182 0 171 (dk_at dksX6_parseCommand_2 3 rfl rfl)
theorem dX6_parseCommand_82 : decode cX6_parseCommand 82 = .ok (.ifCond .eq 81, 3) := dk_153 0 81 (dk_at dksX6_parseCommand_2 6 rfl rfl)
theorem dX6_parseCommand_85 : decode cX6_parseCommand 85 = .ok (.iconst 0, 1) := dk_3 (dk_at dksX6_parseCommand_2 9 rfl rfl)
theorem dX6_parseCommand_86 : decode cX6_parseCommand 86 = .ok (.istore 4, 2) := dk_54 4 (dk_at dksX6_parseCommand_2 10 rfl rfl)
theorem dX6_parseCommand_88 : decode cX6_parseCommand 88 = .ok (.goto 75, 3) := dk_167 0 75 (dk_at dksX6_parseCommand_2 12 rfl rfl)
theorem dX6_parseCommand_91 : decode cX6_parseCommand 91 = .ok (.aload_n 3, 1) := dk_45 (dk_at dksX6_parseCommand_2 15 rfl rfl)
theorem dX6_parseCommand_92 : decode cX6_parseCommand 92 = .ok (.ldc 234, 2) := dk_18 234 (dk_at dksX6_parseCommand_2 16 rfl rfl)
theorem dX6_parseCommand_94 : decode cX6_parseCommand 94 = .ok (.invokevirtual 171, 3) := dk_182 0 171 (dk_at dksX6_parseCommand_2 18 rfl rfl)
theorem dX6_parseCommand_97 : decode cX6_parseCommand 97 = .ok (.ifCond .eq 66, 3) := dk_153 0 66 (dk_at dksX6_parseCommand_2 21 rfl rfl)
theorem dX6_parseCommand_100 : decode cX6_parseCommand 100 = .ok (.iconst 1, 1) := dk_4 (dk_at dksX6_parseCommand_3 0 rfl rfl)
theorem dX6_parseCommand_101 : decode cX6_parseCommand 101 = .ok (.istore 4, 2) := dk_54 4 (dk_at dksX6_parseCommand_3 1 rfl rfl)
theorem dX6_parseCommand_103 : decode cX6_parseCommand 103 = .ok (.goto 60, 3) := dk_167 0 60 (dk_at dksX6_parseCommand_3 3 rfl rfl)
theorem dX6_parseCommand_106 : decode cX6_parseCommand 106 = .ok (.aload_n 3, 1) := dk_45 (dk_at dksX6_parseCommand_3 6 rfl rfl)
theorem dX6_parseCommand_107 : decode cX6_parseCommand 107 = .ok (.ldc 235, 2) := dk_18 235 (dk_at dksX6_parseCommand_3 7 rfl rfl)
theorem dX6_parseCommand_109 : decode cX6_parseCommand 109 = .ok (.invokevirtual 171, 3) := dk_182 0 171 (dk_at dksX6_parseCommand_3 9 rfl rfl)
theorem dX6_parseCommand_112 : decode cX6_parseCommand 112 = .ok (.ifCond .eq 51, 3) := dk_153 0 51 (dk_at dksX6_parseCommand_3 12 rfl rfl)
theorem dX6_parseCommand_115 : decode cX6_parseCommand 115 = .ok (.iconst 2, 1) := dk_5 (dk_at dksX6_parseCommand_3 15 rfl rfl)
theorem dX6_parseCommand_116 : decode cX6_parseCommand 116 = .ok (.istore 4, 2) := dk_54 4 (dk_at dksX6_parseCommand_3 16 rfl rfl)
theorem dX6_parseCommand_118 : decode cX6_parseCommand 118 = .ok (.goto 45, 3) := dk_167 0 45 (dk_at dksX6_parseCommand_3 18 rfl rfl)
theorem dX6_parseCommand_121 : decode cX6_parseCommand 121 = .ok (.aload_n 3, 1) := dk_45 (dk_at dksX6_parseCommand_3 21 rfl rfl)
theorem dX6_parseCommand_122 : decode cX6_parseCommand 122 = .ok (.ldc 237, 2) := dk_18 237 (dk_at dksX6_parseCommand_3 22 rfl rfl)
theorem dX6_parseCommand_124 : decode cX6_parseCommand 124 = .ok (.invokevirtual 171, 3) := dk_182 0 171 (dk_at dksX6_parseCommand_4 0 rfl rfl)
theorem dX6_parseCommand_127 : decode cX6_parseCommand 127 = .ok (.ifCond .eq 36, 3) := dk_153 0 36 (dk_at dksX6_parseCommand_4 3 rfl rfl)
theorem dX6_parseCommand_130 : decode cX6_parseCommand 130 = .ok (.iconst 3, 1) := dk_6 (dk_at dksX6_parseCommand_4 6 rfl rfl)
theorem dX6_parseCommand_131 : decode cX6_parseCommand 131 = .ok (.istore 4, 2) := dk_54 4 (dk_at dksX6_parseCommand_4 7 rfl rfl)
theorem dX6_parseCommand_133 : decode cX6_parseCommand 133 = .ok (.goto 30, 3) := dk_167 0 30 (dk_at dksX6_parseCommand_4 9 rfl rfl)
theorem dX6_parseCommand_136 : decode cX6_parseCommand 136 = .ok (.aload_n 3, 1) := dk_45 (dk_at dksX6_parseCommand_4 12 rfl rfl)
theorem dX6_parseCommand_137 : decode cX6_parseCommand 137 = .ok (.ldc 239, 2) := dk_18 239 (dk_at dksX6_parseCommand_4 13 rfl rfl)
theorem dX6_parseCommand_139 : decode cX6_parseCommand 139 = .ok (.invokevirtual 171, 3) := dk_182 0 171 (dk_at dksX6_parseCommand_4 15 rfl rfl)
theorem dX6_parseCommand_142 : decode cX6_parseCommand 142 = .ok (.ifCond .eq 21, 3) := dk_153 0 21 (dk_at dksX6_parseCommand_4 18 rfl rfl)
theorem dX6_parseCommand_145 : decode cX6_parseCommand 145 = .ok (.iconst 4, 1) := dk_7 (dk_at dksX6_parseCommand_4 21 rfl rfl)
theorem dX6_parseCommand_146 : decode cX6_parseCommand 146 = .ok (.istore 4, 2) := dk_54 4 (dk_at dksX6_parseCommand_4 22 rfl rfl)
theorem dX6_parseCommand_148 : decode cX6_parseCommand 148 = .ok (.goto 15, 3) := dk_167 0 15 (dk_at dksX6_parseCommand_5 0 rfl rfl)
theorem dX6_parseCommand_151 : decode cX6_parseCommand 151 = .ok (.aload_n 3, 1) := dk_45 (dk_at dksX6_parseCommand_5 3 rfl rfl)
theorem dX6_parseCommand_152 : decode cX6_parseCommand 152 = .ok (.ldc 241, 2) := dk_18 241 (dk_at dksX6_parseCommand_5 4 rfl rfl)
theorem dX6_parseCommand_154 : decode cX6_parseCommand 154 = .ok (.invokevirtual 171, 3) := dk_182 0 171 (dk_at dksX6_parseCommand_5 6 rfl rfl)
theorem dX6_parseCommand_157 : decode cX6_parseCommand 157 = .ok (.ifCond .eq 6, 3) := dk_153 0 6 (dk_at dksX6_parseCommand_5 9 rfl rfl)
theorem dX6_parseCommand_160 : decode cX6_parseCommand 160 = .ok (.iconst 5, 1) := dk_8 (dk_at dksX6_parseCommand_5 12 rfl rfl)
theorem dX6_parseCommand_161 : decode cX6_parseCommand 161 = .ok (.istore 4, 2) := dk_54 4 (dk_at dksX6_parseCommand_5 13 rfl rfl)
theorem dX6_parseCommand_163 : decode cX6_parseCommand 163 = .ok (.iload 4, 2) := dk_21 4 (dk_at dksX6_parseCommand_5 15 rfl rfl)
theorem dX6_parseCommand_165 : decode cX6_parseCommand 165 = .ok (.tableswitch 63 0 5 #[39, 43, 47, 51, 55, 59], 39) := by decide +kernel
theorem dX6_parseCommand_204 : decode cX6_parseCommand 204 = .ok (.iconst 0, 1) := dk_3 (dk_at dksX6_parseCommand_7 0 rfl rfl)
theorem dX6_parseCommand_205 : decode cX6_parseCommand 205 = .ok (.goto 33, 3) := dk_167 0 33 (dk_at dksX6_parseCommand_7 1 rfl rfl)
theorem dX6_parseCommand_208 : decode cX6_parseCommand 208 = .ok (.iconst 1, 1) := dk_4 (dk_at dksX6_parseCommand_7 4 rfl rfl)
theorem dX6_parseCommand_209 : decode cX6_parseCommand 209 = .ok (.goto 29, 3) := dk_167 0 29 (dk_at dksX6_parseCommand_7 5 rfl rfl)
theorem dX6_parseCommand_212 : decode cX6_parseCommand 212 = .ok (.iconst 2, 1) := dk_5 (dk_at dksX6_parseCommand_7 8 rfl rfl)
theorem dX6_parseCommand_213 : decode cX6_parseCommand 213 = .ok (.goto 25, 3) := dk_167 0 25 (dk_at dksX6_parseCommand_7 9 rfl rfl)
theorem dX6_parseCommand_216 : decode cX6_parseCommand 216 = .ok (.iconst 3, 1) := dk_6 (dk_at dksX6_parseCommand_7 12 rfl rfl)
theorem dX6_parseCommand_217 : decode cX6_parseCommand 217 = .ok (.goto 21, 3) := dk_167 0 21 (dk_at dksX6_parseCommand_7 13 rfl rfl)
theorem dX6_parseCommand_220 : decode cX6_parseCommand 220 = .ok (.iconst 4, 1) := dk_7 (dk_at dksX6_parseCommand_7 16 rfl rfl)
theorem dX6_parseCommand_221 : decode cX6_parseCommand 221 = .ok (.goto 17, 3) := dk_167 0 17 (dk_at dksX6_parseCommand_7 17 rfl rfl)
theorem dX6_parseCommand_224 : decode cX6_parseCommand 224 = .ok (.iconst 5, 1) := dk_8 (dk_at dksX6_parseCommand_7 20 rfl rfl)
theorem dX6_parseCommand_225 : decode cX6_parseCommand 225 = .ok (.goto 13, 3) := dk_167 0 13 (dk_at dksX6_parseCommand_7 21 rfl rfl)
theorem dX6_parseCommand_228 : decode cX6_parseCommand 228 = .ok (.new 118, 3) := dk_187 0 118 (dk_at dksX6_parseCommand_8 0 rfl rfl)
theorem dX6_parseCommand_231 : decode cX6_parseCommand 231 = .ok (.dup, 1) := dk_89 (dk_at dksX6_parseCommand_8 3 rfl rfl)
theorem dX6_parseCommand_232 : decode cX6_parseCommand 232 = .ok (.bipush (-11), 2) := dk_16 245 (dk_at dksX6_parseCommand_8 4 rfl rfl)
theorem dX6_parseCommand_234 : decode cX6_parseCommand 234 = .ok (.invokespecial 120, 3) := dk_183 0 120 (dk_at dksX6_parseCommand_8 6 rfl rfl)
theorem dX6_parseCommand_237 : decode cX6_parseCommand 237 = .ok (.athrow, 1) := dk_191 (dk_at dksX6_parseCommand_8 9 rfl rfl)
theorem dX6_parseCommand_238 : decode cX6_parseCommand 238 = .ok (.istore_n 2, 1) := dk_61 (dk_at dksX6_parseCommand_8 10 rfl rfl)
theorem dX6_parseCommand_239 : decode cX6_parseCommand 239 = .ok (.aload_n 0, 1) := dk_42 (dk_at dksX6_parseCommand_8 11 rfl rfl)
theorem dX6_parseCommand_240 : decode cX6_parseCommand 240 = .ok (.invokevirtual 127, 3) := dk_182 0 127 (dk_at dksX6_parseCommand_8 12 rfl rfl)
theorem dX6_parseCommand_243 : decode cX6_parseCommand 243 = .ok (.aload_n 0, 1) := dk_42 (dk_at dksX6_parseCommand_8 15 rfl rfl)
theorem dX6_parseCommand_244 : decode cX6_parseCommand 244 = .ok (.iconst 0, 1) := dk_3 (dk_at dksX6_parseCommand_8 16 rfl rfl)
theorem dX6_parseCommand_245 : decode cX6_parseCommand 245 = .ok (.bipush 15, 2) := dk_16 15 (dk_at dksX6_parseCommand_8 17 rfl rfl)
theorem dX6_parseCommand_247 : decode cX6_parseCommand 247 = .ok (.invokevirtual 192, 3) := dk_182 0 192 (dk_at dksX6_parseCommand_8 19 rfl rfl)
theorem dX6_parseCommand_250 : decode cX6_parseCommand 250 = .ok (.istore_n 3, 1) := dk_62 (dk_at dksX6_parseCommand_8 22 rfl rfl)
theorem dX6_parseCommand_251 : decode cX6_parseCommand 251 = .ok (.aload_n 0, 1) := dk_42 (dk_at dksX6_parseCommand_8 23 rfl rfl)
theorem dX6_parseCommand_252 : decode cX6_parseCommand 252 = .ok (.getfield 18, 3) := dk_180 0 18 (dk_at dksX6_parseCommand_9 0 rfl rfl)
theorem dX6_parseCommand_255 : decode cX6_parseCommand 255 = .ok (.iload_n 1, 1) := dk_27 (dk_at dksX6_parseCommand_9 3 rfl rfl)
theorem dX6_parseCommand_256 : decode cX6_parseCommand 256 = .ok (.iload_n 2, 1) := dk_28 (dk_at dksX6_parseCommand_9 4 rfl rfl)
theorem dX6_parseCommand_257 : decode cX6_parseCommand 257 = .ok (.iload_n 3, 1) := dk_29 (dk_at dksX6_parseCommand_9 5 rfl rfl)
theorem dX6_parseCommand_258 : decode cX6_parseCommand 258 = .ok (.aload_n 0, 1) := dk_42 (dk_at dksX6_parseCommand_9 6 rfl rfl)
theorem dX6_parseCommand_259 : decode cX6_parseCommand 259 = .ok (.iconst 0, 1) := dk_3 (dk_at dksX6_parseCommand_9 7 rfl rfl)
theorem dX6_parseCommand_260 : decode cX6_parseCommand 260 = .ok (.iload_n 2, 1) := dk_28 (dk_at dksX6_parseCommand_9 8 rfl rfl)
theorem dX6_parseCommand_261 : decode cX6_parseCommand 261 = .ok (.ifCond .eq 8, 3) := dk_153 0 8 (dk_at dksX6_parseCommand_9 9 rfl rfl)
theorem dX6_parseCommand_264 : decode cX6_parseCommand 264 = .ok (.iload_n 2, 1) := dk_28 (dk_at dksX6_parseCommand_9 12 rfl rfl)
theorem dX6_parseCommand_265 : decode cX6_parseCommand 265 = .ok (.iconst 1, 1) := dk_4 (dk_at dksX6_parseCommand_9 13 rfl rfl)
theorem dX6_parseCommand_266 : decode cX6_parseCommand 266 = .ok (.if_icmp .ne 9, 3) := dk_160 0 9 (dk_at dksX6_parseCommand_9 14 rfl rfl)
theorem dX6_parseCommand_269 : decode cX6_parseCommand 269 = .ok (.sipush 9999, 3) := dk_17 39 15 (dk_at dksX6_parseCommand_9 17 rfl rfl)
theorem dX6_parseCommand_272 : decode cX6_parseCommand 272 = .ok (.goto 5, 3) := dk_167 0 5 (dk_at dksX6_parseCommand_9 20 rfl rfl)
theorem dX6_parseCommand_275 : decode cX6_parseCommand 275 = .ok (.bipush 15, 2) := dk_16 15 (dk_at dksX6_parseCommand_10 0 rfl rfl)
theorem dX6_parseCommand_277 : decode cX6_parseCommand 277 = .ok (.invokevirtual 192, 3) := dk_182 0 192 (dk_at dksX6_parseCommand_10 2 rfl rfl)
theorem dX6_parseCommand_280 : decode cX6_parseCommand 280 = .ok (.invokevirtual 243, 3) := dk_182 0 243 (dk_at dksX6_parseCommand_10 5 rfl rfl)
theorem dX6_parseCommand_283 : decode cX6_parseCommand 283 = .ok (.istore 4, 2) := dk_54 4 (dk_at dksX6_parseCommand_10 8 rfl rfl)
theorem dX6_parseCommand_285 : decode cX6_parseCommand 285 = .ok (.return_, 1) := dk_177 (dk_at dksX6_parseCommand_10 10 rfl rfl)
def dkwX6_member_1 : List UInt8 := [182, 0, 123, 42, 182, 0, 127, 27, 172]
abbrev dktX6_member_1 : List UInt8 := dkwX6_member_1 ++ []
def dkwX6_member_0 : List UInt8 := [42, 42, 182, 0, 150, 182, 0, 153, 60, 42, 27, 2, 159, 0, 7, 4, 167, 0, 4, 3, 16, 243]
abbrev dktX6_member_0 : List UInt8 := dkwX6_member_0 ++ dktX6_member_1
theorem dksX6_member_0 : cX6_member.data.toList.drop 0 = dktX6_member_0 := by decide +kernel
theorem dksX6_member_1 : cX6_member.data.toList.drop 22 = dktX6_member_1 := dk_seg dksX6_member_0 22 rfl rfl
theorem dX6_member_0 : decode cX6_member 0 = .ok (.aload_n 0, 1) := dk_42 (dk_at dksX6_member_0 0 rfl rfl)
theorem dX6_member_1 : decode cX6_member 1 = .ok (.aload_n 0, 1) := dk_42 (dk_at dksX6_member_0 1 rfl rfl)
theorem dX6_member_2 : decode cX6_member 2 = .ok (.invokevirtual 150, 3) := dk_182 0 150 (dk_at dksX6_member_0 2 rfl rfl)
theorem dX6_member_5 : decode cX6_member 5 = .ok (.invokevirtual 153, 3) := dk_182 0 153 (dk_at dksX6_member_0 5 rfl rfl)
theorem dX6_member_8 : decode cX6_member 8 = .ok (.istore_n 1, 1) := dk_60 (dk_at dksX6_member_0 8 rfl rfl)
theorem dX6_member_9 : decode cX6_member 9 = .ok (.aload_n 0, 1) := dk_42 (dk_at dksX6_member_0 9 rfl rfl)
theorem dX6_member_10 : decode cX6_member 10 = .ok (.iload_n 1, 1) := dk_27 (dk_at dksX6_member_0 10 rfl rfl)
theorem dX6_member_11 : decode cX6_member 11 = .ok (.iconst (-1), 1) := dk_2 (dk_at dksX6_member_0 11 rfl rfl)
theorem dX6_member_12 : decode cX6_member 12 = .ok (.if_icmp .eq 7, 3) := dk_159 0 7 (dk_at dksX6_member_0 12 rfl rfl)
theorem dX6_member_15 : decode cX6_member 15 = .ok (.iconst 1, 1) := dk_4 (dk_at dksX6_member_0 15 rfl rfl)
theorem dX6_member_16 : decode cX6_member 16 = .ok (.goto 4, 3) := dk_167 0 4 (dk_at dksX6_member_0 16 rfl rfl)
theorem dX6_member_19 : decode cX6_member 19 = .ok (.iconst 0, 1) := dk_3 (dk_at dksX6_member_0 19 rfl rfl)
theorem dX6_member_20 : decode cX6_member 20 = .ok (.bipush (-13), 2) := dk_16 243 (dk_at dksX6_member_0 20 rfl rfl)
theorem dX6_member_22 : decode cX6_member 22 = .ok (.invokevirtual 123, 3) := dk_182 0 123 (dk_at dksX6_member_1 0 rfl rfl)
theorem dX6_member_25 : decode cX6_member 25 = .ok (.aload_n 0, 1) := dk_42 (dk_at dksX6_member_1 3 rfl rfl)
theorem dX6_member_26 : decode cX6_member 26 = .ok (.invokevirtual 127, 3) := dk_182 0 127 (dk_at dksX6_member_1 4 rfl rfl)
theorem dX6_member_29 : decode cX6_member 29 = .ok (.iload_n 1, 1) := dk_27 (dk_at dksX6_member_1 7 rfl rfl)
theorem dX6_member_30 : decode cX6_member 30 = .ok (.ireturn, 1) := dk_172 (dk_at dksX6_member_1 8 rfl rfl)
def dkwX6_parseFault_2 : List UInt8 := [182, 0, 199, 87, 177]
abbrev dktX6_parseFault_2 : List UInt8 := dkwX6_parseFault_2 ++ []
def dkwX6_parseFault_1 : List UInt8 := [180, 0, 18, 180, 0, 217, 187, 0, 247, 89, 27, 28, 29, 42, 4, 17, 39, 15, 182, 0, 192, 183, 0, 249]
abbrev dktX6_parseFault_1 : List UInt8 := dkwX6_parseFault_1 ++ dktX6_parseFault_2
def dkwX6_parseFault_0 : List UInt8 := [42, 182, 0, 230, 60, 42, 3, 16, 39, 182, 0, 192, 61, 42, 3, 16, 15, 182, 0, 192, 62, 42]
abbrev dktX6_parseFault_0 : List UInt8 := dkwX6_parseFault_0 ++ dktX6_parseFault_1
theorem dksX6_parseFault_0 : cX6_parseFault.data.toList.drop 0 = dktX6_parseFault_0 := by decide +kernel
theorem dksX6_parseFault_1 : cX6_parseFault.data.toList.drop 22 = dktX6_parseFault_1 := dk_seg dksX6_parseFault_0 22 rfl rfl
theorem dksX6_parseFault_2 : cX6_parseFault.data.toList.drop 46 = dktX6_parseFault_2 := dk_seg dksX6_parseFault_1 24 rfl rfl
theorem dX6_parseFault_0 : decode cX6_parseFault 0 = .ok (.aload_n 0, 1) := dk_42 (dk_at dksX6_parseFault_0 0 rfl rfl)
theorem dX6_parseFault_1 : decode cX6_parseFault 1 = .ok (.invokevirtual 230, 3) := dk_182 0 230 (dk_at dksX6_parseFault_0 1 rfl rfl)
theorem dX6_parseFault_4 : decode cX6_parseFault 4 = .ok (.istore_n 1, 1) := dk_60 (dk_at dksX6_parseFault_0 4 rfl rfl)
theorem dX6_parseFault_5 : decode cX6_parseFault 5 = .ok (.aload_n 0, 1) := dk_42 (dk_at dksX6_parseFault_0 5 rfl rfl)
theorem dX6_parseFault_6 : decode cX6_parseFault 6 = .ok (.iconst 0, 1) := dk_3 (dk_at dksX6_parseFault_0 6 rfl rfl)
theorem dX6_parseFault_7 : decode cX6_parseFault 7 = .ok (.bipush 39, 2) := dk_16 39 (dk_at dksX6_parseFault_0 7 rfl rfl)
theorem dX6_parseFault_9 : decode cX6_parseFault 9 = .ok (.invokevirtual 192, 3) := dk_182 0 192 (dk_at dksX6_parseFault_0 9 rfl rfl)
theorem dX6_parseFault_12 : decode cX6_parseFault 12 = .ok (.istore_n 2, 1) := dk_61 (dk_at dksX6_parseFault_0 12 rfl rfl)
theorem dX6_parseFault_13 : decode cX6_parseFault 13 = .ok (.aload_n 0, 1) := dk_42 (dk_at dksX6_parseFault_0 13 rfl rfl)
theorem dX6_parseFault_14 : decode cX6_parseFault 14 = .ok (.iconst 0, 1) := dk_3 (dk_at dksX6_parseFault_0 14 rfl rfl)
theorem dX6_parseFault_15 : decode cX6_parseFault 15 = .ok (.bipush 15, 2) := dk_16 15 (dk_at dksX6_parseFault_0 15 rfl rfl)
theorem dX6_parseFault_17 : decode cX6_parseFault 17 = .ok (.invokevirtual 192, 3) := dk_182 0 192 (dk_at dksX6_parseFault_0 17 rfl rfl)
theorem dX6_parseFault_20 : decode cX6_parseFault 20 = .ok (.istore_n 3, 1) := dk_62 (dk_at dksX6_parseFault_0 20 rfl rfl)
theorem dX6_parseFault_21 : decode cX6_parseFault 21 = .ok (.aload_n 0, 1) := dk_42 (dk_at dksX6_parseFault_0 21 rfl rfl)
theorem dX6_parseFault_22 : decode cX6_parseFault 22 = .ok (.getfield 18, 3) := dk_180 0 18 (dk_at dksX6_parseFault_1 0 rfl rfl)
theorem dX6_parseFault_25 : decode cX6_parseFault 25 = .ok (.getfield 217, 3) := dk_180 0 217 (dk_at dksX6_parseFault_1 3 rfl rfl)
theorem dX6_parseFault_28 : decode cX6_parseFault 28 = .ok (.new 247, 3) := dk_187 0 247 (dk_at dksX6_parseFault_1 6 rfl rfl)
theorem dX6_parseFault_31 : decode cX6_parseFault 31 = .ok (.dup, 1) := dk_89 (dk_at dksX6_parseFault_1 9 rfl rfl)
theorem dX6_parseFault_32 : decode cX6_parseFault 32 = .ok (.iload_n 1, 1) := dk_27 (dk_at dksX6_parseFault_1 10 rfl rfl)
theorem dX6_parseFault_33 : decode cX6_parseFault 33 = .ok (.iload_n 2, 1) := dk_28 (dk_at dksX6_parseFault_1 11 rfl rfl)
theorem dX6_parseFault_34 : decode cX6_parseFault 34 = .ok (.iload_n 3, 1) := dk_29 (dk_at dksX6_parseFault_1 12 rfl rfl)
theorem dX6_parseFault_35 : decode cX6_parseFault 35 = .ok (.aload_n 0, 1) := dk_42 (dk_at dksX6_parseFault_1 13 rfl rfl)
theorem dX6_parseFault_36 : decode cX6_parseFault 36 = .ok (.iconst 1, 1) := dk_4 (dk_at dksX6_parseFault_1 14 rfl rfl)
theorem dX6_parseFault_37 : decode cX6_parseFault 37 = .ok (.sipush 9999, 3) := dk_17 39 15 (dk_at dksX6_parseFault_1 15 rfl rfl)
theorem dX6_parseFault_40 : decode cX6_parseFault 40 = .ok (.invokevirtual 192, 3) := dk_182 0 192 (dk_at dksX6_parseFault_1 18 rfl rfl)
theorem dX6_parseFault_43 : decode cX6_parseFault 43 = .ok (.invokespecial 249, 3) := dk_183 0 249 (dk_at dksX6_parseFault_1 21 rfl rfl)
theorem dX6_parseFault_46 : decode cX6_parseFault 46 = .ok (.invokevirtual 199, 3) := dk_182 0 199 (dk_at dksX6_parseFault_2 0 rfl rfl)
theorem dX6_parseFault_49 : decode cX6_parseFault 49 = .ok (.pop, 1) := dk_87 (dk_at dksX6_parseFault_2 3 rfl rfl)
theorem dX6_parseFault_50 : decode cX6_parseFault 50 = .ok (.return_, 1) := dk_177 (dk_at dksX6_parseFault_2 4 rfl rfl)
def dkwX6_parseSetting_4 : List UInt8 := [178, 1, 3, 27, 46, 182, 0, 192, 79, 177]
abbrev dktX6_parseSetting_4 : List UInt8 := dkwX6_parseSetting_4 ++ []
def dkwX6_parseSetting_3 : List UInt8 := [182, 0, 123, 42, 180, 0, 36, 27, 4, 84, 42, 182, 0, 127, 42, 180, 0, 18, 180, 1, 0, 27, 42, 4]
abbrev dktX6_parseSetting_3 : List UInt8 := dkwX6_parseSetting_3 ++ dktX6_parseSetting_4
def dkwX6_parseSetting_2 : List UInt8 := [16, 245, 182, 0, 123, 42, 42, 180, 0, 36, 27, 51, 154, 0, 7, 4, 167, 0, 4, 3, 16, 242]
abbrev dktX6_parseSetting_2 : List UInt8 := dkwX6_parseSetting_2 ++ dktX6_parseSetting_3
def dkwX6_parseSetting_1 : List UInt8 := [182, 0, 171, 153, 0, 7, 4, 167, 0, 4, 2, 60, 42, 27, 2, 159, 0, 7, 4, 167, 0, 4, 3]
abbrev dktX6_parseSetting_1 : List UInt8 := dkwX6_parseSetting_1 ++ dktX6_parseSetting_2
def dkwX6_parseSetting_0 : List UInt8 := [42, 180, 0, 51, 18, 252, 182, 0, 171, 153, 0, 7, 3, 167, 0, 20, 42, 180, 0, 51, 18, 254]
abbrev dktX6_parseSetting_0 : List UInt8 := dkwX6_parseSetting_0 ++ dktX6_parseSetting_1
theorem dksX6_parseSetting_0 : cX6_parseSetting.data.toList.drop 0 = dktX6_parseSetting_0 := by decide +kernel
theorem dksX6_parseSetting_1 : cX6_parseSetting.data.toList.drop 22 = dktX6_parseSetting_1 := dk_seg dksX6_parseSetting_0 22 rfl rfl
theorem dksX6_parseSetting_2 : cX6_parseSetting.data.toList.drop 45 = dktX6_parseSetting_2 := dk_seg dksX6_parseSetting_1 23 rfl rfl
theorem dksX6_parseSetting_3 : cX6_parseSetting.data.toList.drop 67 = dktX6_parseSetting_3 := dk_seg dksX6_parseSetting_2 22 rfl rfl
theorem dksX6_parseSetting_4 : cX6_parseSetting.data.toList.drop 91 = dktX6_parseSetting_4 := dk_seg dksX6_parseSetting_3 24 rfl rfl
theorem dX6_parseSetting_0 : decode cX6_parseSetting 0 = .ok (.aload_n 0, 1) := dk_42 (dk_at dksX6_parseSetting_0 0 rfl rfl)
theorem dX6_parseSetting_1 : decode cX6_parseSetting 1 = .ok (.getfield 51, 3) := dk_180 0 51 (dk_at dksX6_parseSetting_0 1 rfl rfl)
theorem dX6_parseSetting_4 : decode cX6_parseSetting 4 = .ok (.ldc 252, 2) := dk_18 252 (dk_at dksX6_parseSetting_0 4 rfl rfl)
theorem dX6_parseSetting_6 : decode cX6_parseSetting 6 = .ok (.invokevirtual 171, 3) := dk_182 0 171 (dk_at dksX6_parseSetting_0 6 rfl rfl)
theorem dX6_parseSetting_9 : decode cX6_parseSetting 9 = .ok (.ifCond .eq 7, 3) := dk_153 0 7 (dk_at dksX6_parseSetting_0 9 rfl rfl)
theorem dX6_parseSetting_12 : decode cX6_parseSetting 12 = .ok (.iconst 0, 1) := dk_3 (dk_at dksX6_parseSetting_0 12 rfl rfl)
theorem dX6_parseSetting_13 : decode cX6_parseSetting 13 = .ok (.goto 20, 3) := dk_167 0 20 (dk_at dksX6_parseSetting_0 13 rfl rfl)
theorem dX6_parseSetting_16 : decode cX6_parseSetting 16 = .ok (.aload_n 0, 1) := dk_42 (dk_at dksX6_parseSetting_0 16 rfl rfl)
theorem dX6_parseSetting_17 : decode cX6_parseSetting 17 = .ok (.getfield 51, 3) := dk_180 0 51 (dk_at dksX6_parseSetting_0 17 rfl rfl)
theorem dX6_parseSetting_20 : decode cX6_parseSetting 20 = .ok (.ldc 254, 2) := dk_18 254 (dk_at dksX6_parseSetting_0 20 rfl rfl)
theorem dX6_parseSetting_22 : decode cX6_parseSetting 22 = .ok (.invokevirtual 171, 3) := dk_182 0 171 (dk_at dksX6_parseSetting_1 0 rfl rfl)
theorem dX6_parseSetting_25 : decode cX6_parseSetting 25 = .ok (.ifCond .eq 7, 3) := dk_153 0 7 (dk_at dksX6_parseSetting_1 3 rfl rfl)
theorem dX6_parseSetting_28 : decode cX6_parseSetting 28 = .ok (.iconst 1, 1) := dk_4 (dk_at dksX6_parseSetting_1 6 rfl rfl)
theorem dX6_parseSetting_29 : decode cX6_parseSetting 29 = .ok (.goto 4, 3) := dk_167 0 4 (dk_at dksX6_parseSetting_1 7 rfl rfl)
theorem dX6_parseSetting_32 : decode cX6_parseSetting 32 = .ok (.iconst (-1), 1) := dk_2 (dk_at dksX6_parseSetting_1 10 rfl rfl)
theorem dX6_parseSetting_33 : decode cX6_parseSetting 33 = .ok (.istore_n 1, 1) := dk_60 (dk_at dksX6_parseSetting_1 11 rfl rfl)
theorem dX6_parseSetting_34 : decode cX6_parseSetting 34 = .ok (.aload_n 0, 1) := dk_42 (dk_at dksX6_parseSetting_1 12 rfl rfl)
theorem dX6_parseSetting_35 : decode cX6_parseSetting 35 = .ok (.iload_n 1, 1) := dk_27 (dk_at dksX6_parseSetting_1 13 rfl rfl)
theorem dX6_parseSetting_36 : decode cX6_parseSetting 36 = .ok (.iconst (-1), 1) := dk_2 (dk_at dksX6_parseSetting_1 14 rfl rfl)
theorem dX6_parseSetting_37 : decode cX6_parseSetting 37 = .ok (.if_icmp .eq 7, 3) := dk_159 0 7 (dk_at dksX6_parseSetting_1 15 rfl rfl)
theorem dX6_parseSetting_40 : decode cX6_parseSetting 40 = .ok (.iconst 1, 1) := dk_4 (dk_at dksX6_parseSetting_1 18 rfl rfl)
theorem dX6_parseSetting_41 : decode cX6_parseSetting 41 = .ok (.goto 4, 3) := dk_167 0 4 (dk_at dksX6_parseSetting_1 19 rfl rfl)
theorem dX6_parseSetting_44 : decode cX6_parseSetting 44 = .ok (.iconst 0, 1) := dk_3 (dk_at dksX6_parseSetting_1 22 rfl rfl)
theorem dX6_parseSetting_45 : decode cX6_parseSetting 45 = .ok (.bipush (-11), 2) := dk_16 245 (dk_at dksX6_parseSetting_2 0 rfl rfl)
theorem dX6_parseSetting_47 : decode cX6_parseSetting 47 = .ok (.invokevirtual 123, 3) := dk_182 0 123 (dk_at dksX6_parseSetting_2 2 rfl rfl)
theorem dX6_parseSetting_50 : decode cX6_parseSetting 50 = .ok (.aload_n 0, 1) := dk_42 (dk_at dksX6_parseSetting_2 5 rfl rfl)
theorem dX6_parseSetting_51 : decode cX6_parseSetting 51 = .ok (.aload_n 0, 1) := dk_42 (dk_at dksX6_parseSetting_2 6 rfl rfl)
theorem dX6_parseSetting_52 : decode cX6_parseSetting 52 = .ok (.getfield 36, 3) := dk_180 0 36 (dk_at dksX6_parseSetting_2 7 rfl rfl)
theorem dX6_parseSetting_55 : decode cX6_parseSetting 55 = .ok (.iload_n 1, 1) := dk_27 (dk_at dksX6_parseSetting_2 10 rfl rfl)
theorem dX6_parseSetting_56 : decode cX6_parseSetting 56 = .ok (.baload, 1) := dk_51 (dk_at dksX6_parseSetting_2 11 rfl rfl)
theorem dX6_parseSetting_57 : decode cX6_parseSetting 57 = .ok (.ifCond .ne 7, 3) := dk_154 0 7 (dk_at dksX6_parseSetting_2 12 rfl rfl)
theorem dX6_parseSetting_60 : decode cX6_parseSetting 60 = .ok (.iconst 1, 1) := dk_4 (dk_at dksX6_parseSetting_2 15 rfl rfl)
theorem dX6_parseSetting_61 : decode cX6_parseSetting 61 = .ok (.goto 4, 3) := dk_167 0 4 (dk_at dksX6_parseSetting_2 16 rfl rfl)
theorem dX6_parseSetting_64 : decode cX6_parseSetting 64 = .ok (.iconst 0, 1) := dk_3 (dk_at dksX6_parseSetting_2 19 rfl rfl)
theorem dX6_parseSetting_65 : decode cX6_parseSetting 65 = .ok (.bipush (-14), 2) := dk_16 242 (dk_at dksX6_parseSetting_2 20 rfl rfl)
theorem dX6_parseSetting_67 : decode cX6_parseSetting 67 = .ok (.invokevirtual 123, 3) := dk_182 0 123 (dk_at dksX6_parseSetting_3 0 rfl rfl)
theorem dX6_parseSetting_70 : decode cX6_parseSetting 70 = .ok (.aload_n 0, 1) := dk_42 (dk_at dksX6_parseSetting_3 3 rfl rfl)
theorem dX6_parseSetting_71 : decode cX6_parseSetting 71 = .ok (.getfield 36, 3) := dk_180 0 36 (dk_at dksX6_parseSetting_3 4 rfl rfl)
theorem dX6_parseSetting_74 : decode cX6_parseSetting 74 = .ok (.iload_n 1, 1) := dk_27 (dk_at dksX6_parseSetting_3 7 rfl rfl)
theorem dX6_parseSetting_75 : decode cX6_parseSetting 75 = .ok (.iconst 1, 1) := dk_4 (dk_at dksX6_parseSetting_3 8 rfl rfl)
theorem dX6_parseSetting_76 : decode cX6_parseSetting 76 = .ok (.bastore, 1) := dk_84 (dk_at dksX6_parseSetting_3 9 rfl rfl)
theorem dX6_parseSetting_77 : decode cX6_parseSetting 77 = .ok (.aload_n 0, 1) := dk_42 (dk_at dksX6_parseSetting_3 10 rfl rfl)
theorem dX6_parseSetting_78 : decode cX6_parseSetting 78 = .ok (.invokevirtual 127, 3) := dk_182 0 127 (dk_at dksX6_parseSetting_3 11 rfl rfl)
theorem dX6_parseSetting_81 : decode cX6_parseSetting 81 = .ok (.aload_n 0, 1) := dk_42 (dk_at dksX6_parseSetting_3 14 rfl rfl)
theorem dX6_parseSetting_82 : decode cX6_parseSetting 82 = .ok (.getfield 18, 3) := dk_180 0 18 (dk_at dksX6_parseSetting_3 15 rfl rfl)
theorem dX6_parseSetting_85 : decode cX6_parseSetting 85 = .ok (.getfield 256, 3) := dk_180 1 0 (dk_at dksX6_parseSetting_3 18 rfl rfl)
theorem dX6_parseSetting_88 : decode cX6_parseSetting 88 = .ok (.iload_n 1, 1) := dk_27 (dk_at dksX6_parseSetting_3 21 rfl rfl)
theorem dX6_parseSetting_89 : decode cX6_parseSetting 89 = .ok (.aload_n 0, 1) := dk_42 (dk_at dksX6_parseSetting_3 22 rfl rfl)
theorem dX6_parseSetting_90 : decode cX6_parseSetting 90 = .ok (.iconst 1, 1) := dk_4 (dk_at dksX6_parseSetting_3 23 rfl rfl)
theorem dX6_parseSetting_91 : decode cX6_parseSetting 91 = .ok (.getstatic 259, 3) := dk_178 1 3 (dk_at dksX6_parseSetting_4 0 rfl rfl)
theorem dX6_parseSetting_94 : decode cX6_parseSetting 94 = .ok (.iload_n 1, 1) := dk_27 (dk_at dksX6_parseSetting_4 3 rfl rfl)
theorem dX6_parseSetting_95 : decode cX6_parseSetting 95 = .ok (.iaload, 1) := dk_46 (dk_at dksX6_parseSetting_4 4 rfl rfl)
theorem dX6_parseSetting_96 : decode cX6_parseSetting 96 = .ok (.invokevirtual 192, 3) := dk_182 0 192 (dk_at dksX6_parseSetting_4 5 rfl rfl)
theorem dX6_parseSetting_99 : decode cX6_parseSetting 99 = .ok (.iastore, 1) := dk_79 (dk_at dksX6_parseSetting_4 8 rfl rfl)
theorem dX6_parseSetting_100 : decode cX6_parseSetting 100 = .ok (.return_, 1) := dk_177 (dk_at dksX6_parseSetting_4 9 rfl rfl)
def dkwX1_load_3 : List UInt8 := [180, 0, 92, 172]
abbrev dktX1_load_3 : List UInt8 := dkwX1_load_3 ++ []
def dkwX1_load_2 : List UInt8 := [78, 42, 44, 180, 0, 83, 181, 0, 27, 45, 180, 0, 86, 172, 42, 180, 0, 19, 182, 0, 89, 44]
abbrev dktX1_load_2 : List UInt8 := dkwX1_load_2 ++ dktX1_load_3
def dkwX1_load_1 : List UInt8 := [181, 0, 27, 187, 0, 73, 89, 42, 27, 183, 0, 75, 77, 42, 44, 182, 0, 78, 181, 0, 10, 167, 0, 17]
abbrev dktX1_load_1 : List UInt8 := dkwX1_load_1 ++ dktX1_load_2
def dkwX1_load_0 : List UInt8 := [27, 133, 9, 42, 180, 0, 70, 133, 184, 0, 38, 154, 0, 6, 16, 254, 172, 42, 3, 181, 0, 70, 42, 2]
abbrev dktX1_load_0 : List UInt8 := dkwX1_load_0 ++ dktX1_load_1
theorem dksX1_load_0 : cX1_load.data.toList.drop 0 = dktX1_load_0 := by decide +kernel
theorem dksX1_load_1 : cX1_load.data.toList.drop 24 = dktX1_load_1 := dk_seg dksX1_load_0 24 rfl rfl
theorem dksX1_load_2 : cX1_load.data.toList.drop 48 = dktX1_load_2 := dk_seg dksX1_load_1 24 rfl rfl
theorem dksX1_load_3 : cX1_load.data.toList.drop 70 = dktX1_load_3 := dk_seg dksX1_load_2 22 rfl rfl
theorem dX1_load_0 : decode cX1_load 0 = .ok (.iload_n 1, 1) := dk_27 (dk_at dksX1_load_0 0 rfl rfl)
theorem dX1_load_1 : decode cX1_load 1 = .ok (.i2l, 1) := dk_133 (dk_at dksX1_load_0 1 rfl rfl)
theorem dX1_load_2 : decode cX1_load 2 = .ok (.lconst 0, 1) := dk_9 (dk_at dksX1_load_0 2 rfl rfl)
theorem dX1_load_3 : decode cX1_load 3 = .ok (.aload_n 0, 1) := dk_42 (dk_at dksX1_load_0 3 rfl rfl)
theorem dX1_load_4 : decode cX1_load 4 = .ok (.getfield 70, 3) := dk_180 0 70 (dk_at dksX1_load_0 4 rfl rfl)
theorem dX1_load_7 : decode cX1_load 7 = .ok (.i2l, 1) := dk_133 (dk_at dksX1_load_0 7 rfl rfl)
theorem dX1_load_8 : decode cX1_load 8 = .ok (.invokestatic 38, 3) := dk_184 0 38 (dk_at dksX1_load_0 8 rfl rfl)
theorem dX1_load_11 : decode cX1_load 11 = .ok (.ifCond .ne 6, 3) := dk_154 0 6 (dk_at dksX1_load_0 11 rfl rfl)
theorem dX1_load_14 : decode cX1_load 14 = .ok (.bipush (-2), 2) := dk_16 254 (dk_at dksX1_load_0 14 rfl rfl)
theorem dX1_load_16 : decode cX1_load 16 = .ok (.ireturn, 1) := dk_172 (dk_at dksX1_load_0 16 rfl rfl)
theorem dX1_load_17 : decode cX1_load 17 = .ok (.aload_n 0, 1) := dk_42 (dk_at dksX1_load_0 17 rfl rfl)
theorem dX1_load_18 : decode cX1_load 18 = .ok (.iconst 0, 1) := dk_3 (dk_at dksX1_load_0 18 rfl rfl)
theorem dX1_load_19 : decode cX1_load 19 = .ok (.putfield 70, 3) := dk_181 0 70 (dk_at dksX1_load_0 19 rfl rfl)
theorem dX1_load_22 : decode cX1_load 22 = .ok (.aload_n 0, 1) := dk_42 (dk_at dksX1_load_0 22 rfl rfl)
theorem dX1_load_23 : decode cX1_load 23 = .ok (.iconst (-1), 1) := dk_2 (dk_at dksX1_load_0 23 rfl rfl)
theorem dX1_load_24 : decode cX1_load 24 = .ok (.putfield 27, 3) := dk_181 0 27 (dk_at dksX1_load_1 0 rfl rfl)
theorem dX1_load_27 : decode cX1_load 27 = .ok (.new 73, 3) := dk_187 0 73 (dk_at dksX1_load_1 3 rfl rfl)
theorem dX1_load_30 : decode cX1_load 30 = .ok (.dup, 1) := dk_89 (dk_at dksX1_load_1 6 rfl rfl)
theorem dX1_load_31 : decode cX1_load 31 = .ok (.aload_n 0, 1) := dk_42 (dk_at dksX1_load_1 7 rfl rfl)
theorem dX1_load_32 : decode cX1_load 32 = .ok (.iload_n 1, 1) := dk_27 (dk_at dksX1_load_1 8 rfl rfl)
theorem dX1_load_33 : decode cX1_load 33 = .ok (.invokespecial 75, 3) := dk_183 0 75 (dk_at dksX1_load_1 9 rfl rfl)
theorem dX1_load_36 : decode cX1_load 36 = .ok (.astore_n 2, 1) := dk_77 (dk_at dksX1_load_1 12 rfl rfl)
theorem dX1_load_37 : decode cX1_load 37 = .ok (.aload_n 0, 1) := dk_42 (dk_at dksX1_load_1 13 rfl rfl)
theorem dX1_load_38 : decode cX1_load 38 = .ok (.aload_n 2, 1) := dk_44 (dk_at dksX1_load_1 14 rfl rfl)
theorem dX1_load_39 : decode cX1_load 39 = .ok (.invokevirtual 78, 3) := dk_182 0 78 (dk_at dksX1_load_1 15 rfl rfl)
theorem dX1_load_42 : decode cX1_load 42 = .ok (.putfield 10, 3) := dk_181 0 10 (dk_at dksX1_load_1 18 rfl rfl)
theorem dX1_load_45 : decode cX1_load 45 = .ok (.goto 17, 3) := dk_167 0 17 (dk_at dksX1_load_1 21 rfl rfl)
theorem dX1_load_48 : decode cX1_load 48 = .ok (.astore_n 3, 1) := dk_78 (dk_at dksX1_load_2 0 rfl rfl)
theorem dX1_load_49 : decode cX1_load 49 = .ok (.aload_n 0, 1) := dk_42 (dk_at dksX1_load_2 1 rfl rfl)
theorem dX1_load_50 : decode cX1_load 50 = .ok (.aload_n 2, 1) := dk_44 (dk_at dksX1_load_2 2 rfl rfl)
theorem dX1_load_51 : decode cX1_load 51 = .ok (.getfield 83, 3) := dk_180 0 83 (dk_at dksX1_load_2 3 rfl rfl)
theorem dX1_load_54 : decode cX1_load 54 = .ok (.putfield 27, 3) := dk_181 0 27 (dk_at dksX1_load_2 6 rfl rfl)
theorem dX1_load_57 : decode cX1_load 57 = .ok (.aload_n 3, 1) := dk_45 (dk_at dksX1_load_2 9 rfl rfl)
theorem dX1_load_58 : decode cX1_load 58 = .ok (.getfield 86, 3) := dk_180 0 86 (dk_at dksX1_load_2 10 rfl rfl)
theorem dX1_load_61 : decode cX1_load 61 = .ok (.ireturn, 1) := dk_172 (dk_at dksX1_load_2 13 rfl rfl)
theorem dX1_load_62 : decode cX1_load 62 = .ok (.aload_n 0, 1) := dk_42 (dk_at dksX1_load_2 14 rfl rfl)
theorem dX1_load_63 : decode cX1_load 63 = .ok (.getfield 19, 3) := dk_180 0 19 (dk_at dksX1_load_2 15 rfl rfl)
theorem dX1_load_66 : decode cX1_load 66 = .ok (.invokevirtual 89, 3) := dk_182 0 89 (dk_at dksX1_load_2 18 rfl rfl)
theorem dX1_load_69 : decode cX1_load 69 = .ok (.aload_n 2, 1) := dk_44 (dk_at dksX1_load_2 21 rfl rfl)
theorem dX1_load_70 : decode cX1_load 70 = .ok (.getfield 92, 3) := dk_180 0 92 (dk_at dksX1_load_3 0 rfl rfl)
theorem dX1_load_73 : decode cX1_load 73 = .ok (.ireturn, 1) := dk_172 (dk_at dksX1_load_3 3 rfl rfl)
