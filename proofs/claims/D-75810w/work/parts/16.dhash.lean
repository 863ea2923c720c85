set_option maxRecDepth 100000
def dkwJ30_init_0 : List UInt8 := [42, 27, 18, 92, 183, 0, 93, 177]
abbrev dktJ30_init_0 : List UInt8 := dkwJ30_init_0 ++ []
theorem dksJ30_init_0 : cJ30_init.data.toList.drop 0 = dktJ30_init_0 := by decide +kernel
theorem dJ30_init_0 : decode cJ30_init 0 = .ok (.aload_n 0, 1) := dk_42 (dk_at dksJ30_init_0 0 rfl rfl)
theorem dJ30_init_1 : decode cJ30_init 1 = .ok (.iload_n 1, 1) := dk_27 (dk_at dksJ30_init_0 1 rfl rfl)
theorem dJ30_init_2 : decode cJ30_init 2 = .ok (.ldc 92, 2) := dk_18 92 (dk_at dksJ30_init_0 2 rfl rfl)
theorem dJ30_init_4 : decode cJ30_init 4 = .ok (.invokespecial 93, 3) := dk_183 0 93 (dk_at dksJ30_init_0 4 rfl rfl)
theorem dJ30_init_7 : decode cJ30_init 7 = .ok (.return_, 1) := dk_177 (dk_at dksJ30_init_0 7 rfl rfl)
def dkwJ30_init_2_4 : List UInt8 := [181, 0, 88, 177]
abbrev dktJ30_init_2_4 : List UInt8 := dkwJ30_init_2_4 ++ []
def dkwJ30_init_2_3 : List UInt8 := [182, 0, 56, 36, 182, 0, 78, 182, 0, 63, 183, 0, 67, 191, 42, 36, 181, 0, 81, 42, 27, 184, 0, 85]
abbrev dktJ30_init_2_3 : List UInt8 := dkwJ30_init_2_3 ++ dktJ30_init_2_4
def dkwJ30_init_2_2 : List UInt8 := [158, 0, 10, 36, 184, 0, 70, 153, 0, 30, 187, 0, 49, 89, 187, 0, 51, 89, 183, 0, 53, 18, 76]
abbrev dktJ30_init_2_2 : List UInt8 := dkwJ30_init_2_2 ++ dktJ30_init_2_3
def dkwJ30_init_2_1 : List UInt8 := [27, 182, 0, 60, 182, 0, 63, 183, 0, 67, 191, 27, 18, 42, 164, 0, 6, 18, 42, 60, 36, 11, 150]
abbrev dktJ30_init_2_1 : List UInt8 := dkwJ30_init_2_1 ++ dktJ30_init_2_2
def dkwJ30_init_2_0 : List UInt8 := [42, 183, 0, 43, 27, 156, 0, 30, 187, 0, 49, 89, 187, 0, 51, 89, 183, 0, 53, 18, 54, 182, 0, 56]
abbrev dktJ30_init_2_0 : List UInt8 := dkwJ30_init_2_0 ++ dktJ30_init_2_1
theorem dksJ30_init_2_0 : cJ30_init_2.data.toList.drop 0 = dktJ30_init_2_0 := by decide +kernel
theorem dksJ30_init_2_1 : cJ30_init_2.data.toList.drop 24 = dktJ30_init_2_1 := dk_seg dksJ30_init_2_0 24 rfl rfl
theorem dksJ30_init_2_2 : cJ30_init_2.data.toList.drop 47 = dktJ30_init_2_2 := dk_seg dksJ30_init_2_1 23 rfl rfl
theorem dksJ30_init_2_3 : cJ30_init_2.data.toList.drop 70 = dktJ30_init_2_3 := dk_seg dksJ30_init_2_2 23 rfl rfl
theorem dksJ30_init_2_4 : cJ30_init_2.data.toList.drop 94 = dktJ30_init_2_4 := dk_seg dksJ30_init_2_3 24 rfl rfl
theorem dJ30_init_2_0 : decode cJ30_init_2 0 = .ok (.aload_n 0, 1) := dk_42 (dk_at dksJ30_init_2_0 0 rfl rfl)
theorem dJ30_init_2_1 : decode cJ30_init_2 1 = .ok (.invokespecial 43, 3) := dk_183 0 43 (dk_at dksJ30_init_2_0 1 rfl rfl)
theorem dJ30_init_2_4 : decode cJ30_init_2 4 = .ok (.iload_n 1, 1) := dk_27 (dk_at dksJ30_init_2_0 4 rfl rfl)
theorem dJ30_init_2_5 : decode cJ30_init_2 5 = .ok (.ifCond .ge 30, 3) := dk_156 0 30 (dk_at dksJ30_init_2_0 5 rfl rfl)
theorem dJ30_init_2_8 : decode cJ30_init_2 8 = .ok (.new 49, 3) := dk_187 0 49 (dk_at dksJ30_init_2_0 8 rfl rfl)
theorem dJ30_init_2_11 : decode cJ30_init_2 11 = .ok (.dup, 1) := dk_89 (dk_at dksJ30_init_2_0 11 rfl rfl)
theorem dJ30_init_2_12 : decode cJ30_init_2 12 = .ok (.new 51, 3) := dk_187 0 51 (dk_at dksJ30_init_2_0 12 rfl rfl)
theorem dJ30_init_2_15 : decode cJ30_init_2 15 = .ok (.dup, 1) := dk_89 (dk_at dksJ30_init_2_0 15 rfl rfl)
theorem dJ30_init_2_16 : decode cJ30_init_2 16 = .ok (.invokespecial 53, 3) := dk_183 0 53 (dk_at dksJ30_init_2_0 16 rfl rfl)
theorem dJ30_init_2_19 : decode cJ30_init_2 19 = .ok (.ldc 54, 2) := dk_18 54 (dk_at dksJ30_init_2_0 19 rfl rfl)
theorem dJ30_init_2_21 : decode cJ30_init_2 21 = .ok (.invokevirtual 56, 3) := dk_182 0 56 (dk_at dksJ30_init_2_0 21 rfl rfl)
theorem dJ30_init_2_24 : decode cJ30_init_2 24 = .ok (.iload_n 1, 1) := dk_27 (dk_at dksJ30_init_2_1 0 rfl rfl)
theorem dJ30_init_2_25 : decode cJ30_init_2 25 = .ok (.invokevirtual 60, 3) := dk_182 0 60 (dk_at dksJ30_init_2_1 1 rfl rfl)
theorem dJ30_init_2_28 : decode cJ30_init_2 28 = .ok (.invokevirtual 63, 3) := dk_182 0 63 (dk_at dksJ30_init_2_1 4 rfl rfl)
theorem dJ30_init_2_31 : decode cJ30_init_2 31 = .ok (.invokespecial 67, 3) := dk_183 0 67 (dk_at dksJ30_init_2_1 7 rfl rfl)
theorem dJ30_init_2_34 : decode cJ30_init_2 34 = .ok (.athrow, 1) := dk_191 (dk_at dksJ30_init_2_1 10 rfl rfl)
theorem dJ30_init_2_35 : decode cJ30_init_2 35 = .ok (.iload_n 1, 1) := dk_27 (dk_at dksJ30_init_2_1 11 rfl rfl)
theorem dJ30_init_2_36 : decode cJ30_init_2 36 = .ok (.ldc 42, 2) := dk_18 42 (dk_at dksJ30_init_2_1 12 rfl rfl)
theorem dJ30_init_2_38 : decode cJ30_init_2 38 = .ok (.if_icmp .le 6, 3) := dk_164 0 6 (dk_at dksJ30_init_2_1 14 rfl rfl)
theorem dJ30_init_2_41 : decode cJ30_init_2 41 = .ok (.ldc 42, 2) := dk_18 42 (dk_at dksJ30_init_2_1 17 rfl rfl)
theorem dJ30_init_2_43 : decode cJ30_init_2 43 = .ok (.istore_n 1, 1) := dk_60 (dk_at dksJ30_init_2_1 19 rfl rfl)
theorem dJ30_init_2_44 : decode cJ30_init_2 44 = .ok (.fload_n 2, 1) := dk_36 (dk_at dksJ30_init_2_1 20 rfl rfl)
theorem dJ30_init_2_45 : decode cJ30_init_2 45 = .ok (.fconst 0, 1) := dk_11 (dk_at dksJ30_init_2_1 21 rfl rfl)
theorem dJ30_init_2_46 : decode cJ30_init_2 46 = .ok (.fcmp .g, 1) := dk_150 (dk_at dksJ30_init_2_1 22 rfl rfl)
theorem dJ30_init_2_47 : decode cJ30_init_2 47 = .ok (.ifCond .le 10, 3) := dk_158 0 10 (dk_at dksJ30_init_2_2 0 rfl rfl)
theorem dJ30_init_2_50 : decode cJ30_init_2 50 = .ok (.fload_n 2, 1) := dk_36 (dk_at dksJ30_init_2_2 3 rfl rfl)
theorem dJ30_init_2_51 : decode cJ30_init_2 51 = .ok (.invokestatic 70, 3) := dk_184 0 70 (dk_at dksJ30_init_2_2 4 rfl rfl)
theorem dJ30_init_2_54 : decode cJ30_init_2 54 = .ok (.ifCond .eq 30, 3) := dk_153 0 30 (dk_at dksJ30_init_2_2 7 rfl rfl)
theorem dJ30_init_2_57 : decode cJ30_init_2 57 = .ok (.new 49, 3) := dk_187 0 49 (dk_at dksJ30_init_2_2 10 rfl rfl)
theorem dJ30_init_2_60 : decode cJ30_init_2 60 = .ok (.dup, 1) := dk_89 (dk_at dksJ30_init_2_2 13 rfl rfl)
theorem dJ30_init_2_61 : decode cJ30_init_2 61 = .ok (.new 51, 3) := dk_187 0 51 (dk_at dksJ30_init_2_2 14 rfl rfl)
theorem dJ30_init_2_64 : decode cJ30_init_2 64 = .ok (.dup, 1) := dk_89 (dk_at dksJ30_init_2_2 17 rfl rfl)
theorem dJ30_init_2_65 : decode cJ30_init_2 65 = .ok (.invokespecial 53, 3) := dk_183 0 53 (dk_at dksJ30_init_2_2 18 rfl rfl)
theorem dJ30_init_2_68 : decode cJ30_init_2 68 = .ok (.ldc 76, 2) := dk_18 76 (dk_at dksJ30_init_2_2 21 rfl rfl)
theorem dJ30_init_2_70 : decode cJ30_init_2 70 = .ok (.invokevirtual 56, 3) := dk_182 0 56 (dk_at dksJ30_init_2_3 0 rfl rfl)
theorem dJ30_init_2_73 : decode cJ30_init_2 73 = .ok (.fload_n 2, 1) := dk_36 (dk_at dksJ30_init_2_3 3 rfl rfl)
theorem dJ30_init_2_74 : decode cJ30_init_2 74 = .ok (.invokevirtual 78, 3) := dk_182 0 78 (dk_at dksJ30_init_2_3 4 rfl rfl)
theorem dJ30_init_2_77 : decode cJ30_init_2 77 = .ok (.invokevirtual 63, 3) := dk_182 0 63 (dk_at dksJ30_init_2_3 7 rfl rfl)
theorem dJ30_init_2_80 : decode cJ30_init_2 80 = .ok (.invokespecial 67, 3) := dk_183 0 67 (dk_at dksJ30_init_2_3 10 rfl rfl)
theorem dJ30_init_2_83 : decode cJ30_init_2 83 = .ok (.athrow, 1) := dk_191 (dk_at dksJ30_init_2_3 13 rfl rfl)
theorem dJ30_init_2_84 : decode cJ30_init_2 84 = .ok (.aload_n 0, 1) := dk_42 (dk_at dksJ30_init_2_3 14 rfl rfl)
theorem dJ30_init_2_85 : decode cJ30_init_2 85 = .ok (.fload_n 2, 1) := dk_36 (dk_at dksJ30_init_2_3 15 rfl rfl)
theorem dJ30_init_2_86 : decode cJ30_init_2 86 = .ok (.putfield 81, 3) := dk_181 0 81 (dk_at dksJ30_init_2_3 16 rfl rfl)
theorem dJ30_init_2_89 : decode cJ30_init_2 89 = .ok (.aload_n 0, 1) := dk_42 (dk_at dksJ30_init_2_3 19 rfl rfl)
theorem dJ30_init_2_90 : decode cJ30_init_2 90 = .ok (.iload_n 1, 1) := dk_27 (dk_at dksJ30_init_2_3 20 rfl rfl)
theorem dJ30_init_2_91 : decode cJ30_init_2 91 = .ok (.invokestatic 85, 3) := dk_184 0 85 (dk_at dksJ30_init_2_3 21 rfl rfl)
theorem dJ30_init_2_94 : decode cJ30_init_2 94 = .ok (.putfield 88, 3) := dk_181 0 88 (dk_at dksJ30_init_2_4 0 rfl rfl)
theorem dJ30_init_2_97 : decode cJ30_init_2 97 = .ok (.return_, 1) := dk_177 (dk_at dksJ30_init_2_4 3 rfl rfl)
def dkwJ30_tableSizeFor_1 : List UInt8 := [18, 42, 167, 0, 6, 27, 4, 96, 172]
abbrev dktJ30_tableSizeFor_1 : List UInt8 := dkwJ30_tableSizeFor_1 ++ []
def dkwJ30_tableSizeFor_0 : List UInt8 := [2, 26, 4, 100, 184, 0, 34, 124, 60, 27, 156, 0, 7, 4, 167, 0, 17, 27, 18, 42, 161, 0, 8]
abbrev dktJ30_tableSizeFor_0 : List UInt8 := dkwJ30_tableSizeFor_0 ++ dktJ30_tableSizeFor_1
theorem dksJ30_tableSizeFor_0 : cJ30_tableSizeFor.data.toList.drop 0 = dktJ30_tableSizeFor_0 := by decide +kernel
theorem dksJ30_tableSizeFor_1 : cJ30_tableSizeFor.data.toList.drop 23 = dktJ30_tableSizeFor_1 := dk_seg dksJ30_tableSizeFor_0 23 rfl rfl
theorem dJ30_tableSizeFor_0 : decode cJ30_tableSizeFor 0 = .ok (.iconst (-1), 1) := dk_2 (dk_at dksJ30_tableSizeFor_0 0 rfl rfl)
theorem dJ30_tableSizeFor_1 : decode cJ30_tableSizeFor 1 = .ok (.iload_n 0, 1) := dk_26 (dk_at dksJ30_tableSizeFor_0 1 rfl rfl)
theorem dJ30_tableSizeFor_2 : decode cJ30_tableSizeFor 2 = .ok (.iconst 1, 1) := dk_4 (dk_at dksJ30_tableSizeFor_0 2 rfl rfl)
theorem dJ30_tableSizeFor_3 : decode cJ30_tableSizeFor 3 = .ok (.isub, 1) := dk_100 (dk_at dksJ30_tableSizeFor_0 3 rfl rfl)
theorem dJ30_tableSizeFor_4 : decode cJ30_tableSizeFor 4 = .ok (.invokestatic 34, 3) := dk_184 0 34 (dk_at dksJ30_tableSizeFor_0 4 rfl rfl)
theorem dJ30_tableSizeFor_7 : decode cJ30_tableSizeFor 7 = .ok (.iushr, 1) := dk_124 (dk_at dksJ30_tableSizeFor_0 7 rfl rfl)
theorem dJ30_tableSizeFor_8 : decode cJ30_tableSizeFor 8 = .ok (.istore_n 1, 1) := dk_60 (dk_at dksJ30_tableSizeFor_0 8 rfl rfl)
theorem dJ30_tableSizeFor_9 : decode cJ30_tableSizeFor 9 = .ok (.iload_n 1, 1) := dk_27 (dk_at dksJ30_tableSizeFor_0 9 rfl rfl)
theorem dJ30_tableSizeFor_10 : decode cJ30_tableSizeFor 10 = .ok (.ifCond .ge 7, 3) := dk_156 0 7 (dk_at dksJ30_tableSizeFor_0 10 rfl rfl)
theorem dJ30_tableSizeFor_13 : decode cJ30_tableSizeFor 13 = .ok (.iconst 1, 1) := dk_4 (dk_at dksJ30_tableSizeFor_0 13 rfl rfl)
theorem dJ30_tableSizeFor_14 : decode cJ30_tableSizeFor 14 = .ok (.goto 17, 3) := dk_167 0 17 (dk_at dksJ30_tableSizeFor_0 14 rfl rfl)
theorem dJ30_tableSizeFor_17 : decode cJ30_tableSizeFor 17 = .ok (.iload_n 1, 1) := dk_27 (dk_at dksJ30_tableSizeFor_0 17 rfl rfl)
theorem dJ30_tableSizeFor_18 : decode cJ30_tableSizeFor 18 = .ok (.ldc 42, 2) := dk_18 42 (dk_at dksJ30_tableSizeFor_0 18 rfl rfl)
theorem dJ30_tableSizeFor_20 : decode cJ30_tableSizeFor 20 = .ok (.if_icmp .lt 8, 3) := dk_161 0 8 (dk_at dksJ30_tableSizeFor_0 20 rfl rfl)
theorem dJ30_tableSizeFor_23 : decode cJ30_tableSizeFor 23 = .ok (.ldc 42, 2) := dk_18 42 (dk_at dksJ30_tableSizeFor_1 0 rfl rfl)
theorem dJ30_tableSizeFor_25 : decode cJ30_tableSizeFor 25 = .ok (.goto 6, 3) := dk_167 0 6 (dk_at dksJ30_tableSizeFor_1 2 rfl rfl)
theorem dJ30_tableSizeFor_28 : decode cJ30_tableSizeFor 28 = .ok (.iload_n 1, 1) := dk_27 (dk_at dksJ30_tableSizeFor_1 5 rfl rfl)
theorem dJ30_tableSizeFor_29 : decode cJ30_tableSizeFor 29 = .ok (.iconst 1, 1) := dk_4 (dk_at dksJ30_tableSizeFor_1 6 rfl rfl)
theorem dJ30_tableSizeFor_30 : decode cJ30_tableSizeFor 30 = .ok (.iadd, 1) := dk_96 (dk_at dksJ30_tableSizeFor_1 7 rfl rfl)
theorem dJ30_tableSizeFor_31 : decode cJ30_tableSizeFor 31 = .ok (.ireturn, 1) := dk_172 (dk_at dksJ30_tableSizeFor_1 8 rfl rfl)
def dkwJ30_get_0 : List UInt8 := [42, 43, 182, 0, 158, 89, 77, 199, 0, 7, 1, 167, 0, 7, 44, 180, 0, 162, 176]
abbrev dktJ30_get_0 : List UInt8 := dkwJ30_get_0 ++ []
theorem dksJ30_get_0 : cJ30_get.data.toList.drop 0 = dktJ30_get_0 := by decide +kernel
theorem dJ30_get_0 : decode cJ30_get 0 = .ok (.aload_n 0, 1) := dk_42 (dk_at dksJ30_get_0 0 rfl rfl)
theorem dJ30_get_1 : decode cJ30_get 1 = .ok (.aload_n 1, 1) := dk_43 (dk_at dksJ30_get_0 1 rfl rfl)
theorem dJ30_get_2 : decode cJ30_get 2 = .ok (.invokevirtual 158, 3) := dk_182 0 158 (dk_at dksJ30_get_0 2 rfl rfl)
theorem dJ30_get_5 : decode cJ30_get 5 = .ok (.dup, 1) := dk_89 (dk_at dksJ30_get_0 5 rfl rfl)
theorem dJ30_get_6 : decode cJ30_get 6 = .ok (.astore_n 2, 1) := dk_77 (dk_at dksJ30_get_0 6 rfl rfl)
theorem dJ30_get_7 : decode cJ30_get 7 = .ok (.ifnonnull 7, 3) := dk_199 0 7 (dk_at dksJ30_get_0 7 rfl rfl)
theorem dJ30_get_10 : decode cJ30_get 10 = .ok (.aconst_null, 1) := dk_1 (dk_at dksJ30_get_0 10 rfl rfl)
theorem dJ30_get_11 : decode cJ30_get 11 = .ok (.goto 7, 3) := dk_167 0 7 (dk_at dksJ30_get_0 11 rfl rfl)
theorem dJ30_get_14 : decode cJ30_get 14 = .ok (.aload_n 2, 1) := dk_44 (dk_at dksJ30_get_0 14 rfl rfl)
theorem dJ30_get_15 : decode cJ30_get 15 = .ok (.getfield 162, 3) := dk_180 0 162 (dk_at dksJ30_get_0 15 rfl rfl)
theorem dJ30_get_18 : decode cJ30_get 18 = .ok (.areturn, 1) := dk_176 (dk_at dksJ30_get_0 18 rfl rfl)
def dkwJ30_getNode_6 : List UInt8 := [89, 58, 4, 199, 255, 210, 1, 176]
abbrev dktJ30_getNode_6 : List UInt8 := dkwJ30_getNode_6 ++ []
def dkwJ30_getNode_5 : List UInt8 := [165, 0, 16, 43, 198, 0, 15, 43, 25, 7, 182, 0, 173, 153, 0, 6, 25, 4, 176, 25, 4, 180, 0, 177]
abbrev dktJ30_getNode_5 : List UInt8 := dkwJ30_getNode_5 ++ dktJ30_getNode_6
def dkwJ30_getNode_4 : List UInt8 := [43, 182, 0, 182, 176, 25, 4, 180, 0, 168, 21, 6, 160, 0, 31, 25, 4, 180, 0, 170, 89, 58, 7, 43]
abbrev dktJ30_getNode_4 : List UInt8 := dkwJ30_getNode_4 ++ dktJ30_getNode_5
def dkwJ30_getNode_3 : List UInt8 := [176, 45, 180, 0, 177, 89, 58, 4, 198, 0, 70, 45, 193, 0, 180, 153, 0, 14, 45, 192, 0, 180, 21, 6]
abbrev dktJ30_getNode_3 : List UInt8 := dkwJ30_getNode_3 ++ dktJ30_getNode_4
def dkwJ30_getNode_2 : List UInt8 := [180, 0, 170, 89, 58, 7, 43, 165, 0, 16, 43, 198, 0, 14, 43, 25, 7, 182, 0, 173, 153, 0, 5, 45]
abbrev dktJ30_getNode_2 : List UInt8 := dkwJ30_getNode_2 ++ dktJ30_getNode_3
def dkwJ30_getNode_1 : List UInt8 := [184, 0, 149, 89, 54, 6, 126, 50, 89, 78, 198, 0, 115, 45, 180, 0, 168, 21, 6, 160, 0, 29, 45]
abbrev dktJ30_getNode_1 : List UInt8 := dkwJ30_getNode_1 ++ dktJ30_getNode_2
def dkwJ30_getNode_0 : List UInt8 := [42, 180, 0, 105, 89, 77, 198, 0, 142, 44, 190, 89, 54, 5, 158, 0, 134, 44, 21, 5, 4, 100, 43]
abbrev dktJ30_getNode_0 : List UInt8 := dkwJ30_getNode_0 ++ dktJ30_getNode_1
theorem dksJ30_getNode_0 : cJ30_getNode.data.toList.drop 0 = dktJ30_getNode_0 := by decide +kernel
theorem dksJ30_getNode_1 : cJ30_getNode.data.toList.drop 23 = dktJ30_getNode_1 := dk_seg dksJ30_getNode_0 23 rfl rfl
theorem dksJ30_getNode_2 : cJ30_getNode.data.toList.drop 46 = dktJ30_getNode_2 := dk_seg dksJ30_getNode_1 23 rfl rfl
theorem dksJ30_getNode_3 : cJ30_getNode.data.toList.drop 70 = dktJ30_getNode_3 := dk_seg dksJ30_getNode_2 24 rfl rfl
theorem dksJ30_getNode_4 : cJ30_getNode.data.toList.drop 94 = dktJ30_getNode_4 := dk_seg dksJ30_getNode_3 24 rfl rfl
theorem dksJ30_getNode_5 : cJ30_getNode.data.toList.drop 118 = dktJ30_getNode_5 := dk_seg dksJ30_getNode_4 24 rfl rfl
theorem dksJ30_getNode_6 : cJ30_getNode.data.toList.drop 142 = dktJ30_getNode_6 := dk_seg dksJ30_getNode_5 24 rfl rfl
theorem dJ30_getNode_0 : decode cJ30_getNode 0 = .ok (.aload_n 0, 1) := dk_42 (dk_at dksJ30_getNode_0 0 rfl rfl)
theorem dJ30_getNode_1 : decode cJ30_getNode 1 = .ok (.getfield 105, 3) := dk_180 0 105 (dk_at dksJ30_getNode_0 1 rfl rfl)
theorem dJ30_getNode_4 : decode cJ30_getNode 4 = .ok (.dup, 1) := dk_89 (dk_at dksJ30_getNode_0 4 rfl rfl)
theorem dJ30_getNode_5 : decode cJ30_getNode 5 = .ok (.astore_n 2, 1) := dk_77 (dk_at dksJ30_getNode_0 5 rfl rfl)
theorem dJ30_getNode_6 : decode cJ30_getNode 6 = .ok (.ifnull 142, 3) := dk_198 0 142 (dk_at dksJ30_getNode_0 6 rfl rfl)
theorem dJ30_getNode_9 : decode cJ30_getNode 9 = .ok (.aload_n 2, 1) := dk_44 (dk_at dksJ30_getNode_0 9 rfl rfl)
theorem dJ30_getNode_10 : decode cJ30_getNode 10 = .ok (.arraylength, 1) := dk_190 (dk_at dksJ30_getNode_0 10 rfl rfl)
theorem dJ30_getNode_11 : decode cJ30_getNode 11 = .ok (.dup, 1) := dk_89 (dk_at dksJ30_getNode_0 11 rfl rfl)
theorem dJ30_getNode_12 : decode cJ30_getNode 12 = .ok (.istore 5, 2) := dk_54 5 (dk_at dksJ30_getNode_0 12 rfl rfl)
theorem dJ30_getNode_14 : decode cJ30_getNode 14 = .ok (.ifCond .le 134, 3) := dk_158 0 134 (dk_at dksJ30_getNode_0 14 rfl rfl)
theorem dJ30_getNode_17 : decode cJ30_getNode 17 = .ok (.aload_n 2, 1) := dk_44 (dk_at dksJ30_getNode_0 17 rfl rfl)
theorem dJ30_getNode_18 : decode cJ30_getNode 18 = .ok (.iload 5, 2) := dk_21 5 (dk_at dksJ30_getNode_0 18 rfl rfl)
theorem dJ30_getNode_20 : decode cJ30_getNode 20 = .ok (.iconst 1, 1) := dk_4 (dk_at dksJ30_getNode_0 20 rfl rfl)
theorem dJ30_getNode_21 : decode cJ30_getNode 21 = .ok (.isub, 1) := dk_100 (dk_at dksJ30_getNode_0 21 rfl rfl)
theorem dJ30_getNode_22 : decode cJ30_getNode 22 = .ok (.aload_n 1, 1) := dk_43 (dk_at dksJ30_getNode_0 22 rfl rfl)
theorem dJ30_getNode_23 : decode cJ30_getNode 23 = .ok (.invokestatic 149, 3) := dk_184 0 149 (dk_at dksJ30_getNode_1 0 rfl rfl)
theorem dJ30_getNode_26 : decode cJ30_getNode 26 = .ok (.dup, 1) := dk_89 (dk_at dksJ30_getNode_1 3 rfl rfl)
theorem dJ30_getNode_27 : decode cJ30_getNode 27 = .ok (.istore 6, 2) := dk_54 6 (dk_at dksJ30_getNode_1 4 rfl rfl)
theorem dJ30_getNode_29 : decode cJ30_getNode 29 = .ok (.iand, 1) := dk_126 (dk_at dksJ30_getNode_1 6 rfl rfl)
theorem dJ30_getNode_30 : decode cJ30_getNode 30 = .ok (.aaload, 1) := dk_50 (dk_at dksJ30_getNode_1 7 rfl rfl)
theorem dJ30_getNode_31 : decode cJ30_getNode 31 = .ok (.dup, 1) := dk_89 (dk_at dksJ30_getNode_1 8 rfl rfl)
theorem dJ30_getNode_32 : decode cJ30_getNode 32 = .ok (.astore_n 3, 1) := dk_78 (dk_at dksJ30_getNode_1 9 rfl rfl)
theorem dJ30_getNode_33 : decode cJ30_getNode 33 = .ok (.ifnull 115, 3) := dk_198 0 115 (dk_at dksJ30_getNode_1 10 rfl rfl)
theorem dJ30_getNode_36 : decode cJ30_getNode 36 = .ok (.aload_n 3, 1) := dk_45 (dk_at dksJ30_getNode_1 13 rfl rfl)
theorem dJ30_getNode_37 : decode cJ30_getNode 37 = .ok (.getfield 168, 3) := dk_180 0 168 (dk_at dksJ30_getNode_1 14 rfl rfl)
theorem dJ30_getNode_40 : decode cJ30_getNode 40 = .ok (.iload 6, 2) := dk_21 6 (dk_at dksJ30_getNode_1 17 rfl rfl)
theorem dJ30_getNode_42 : decode cJ30_getNode 42 = .ok (.if_icmp .ne 29, 3) := dk_160 0 29 (dk_at dksJ30_getNode_1 19 rfl rfl)
theorem dJ30_getNode_45 : decode cJ30_getNode 45 = .ok (.aload_n 3, 1) := dk_45 (dk_at dksJ30_getNode_1 22 rfl rfl)
theorem dJ30_getNode_46 : decode cJ30_getNode 46 = .ok (.getfield 170, 3) := dk_180 0 170 (dk_at dksJ30_getNode_2 0 rfl rfl)
theorem dJ30_getNode_49 : decode cJ30_getNode 49 = .ok (.dup, 1) := dk_89 (dk_at dksJ30_getNode_2 3 rfl rfl)
theorem dJ30_getNode_50 : decode cJ30_getNode 50 = .ok (.astore 7, 2) := dk_58 7 (dk_at dksJ30_getNode_2 4 rfl rfl)
theorem dJ30_getNode_52 : decode cJ30_getNode 52 = .ok (.aload_n 1, 1) := dk_43 (dk_at dksJ30_getNode_2 6 rfl rfl)
theorem dJ30_getNode_53 : decode cJ30_getNode 53 = .ok (.if_acmp .eq 16, 3) := dk_165 0 16 (dk_at dksJ30_getNode_2 7 rfl rfl)
theorem dJ30_getNode_56 : decode cJ30_getNode 56 = .ok (.aload_n 1, 1) := dk_43 (dk_at dksJ30_getNode_2 10 rfl rfl)
theorem dJ30_getNode_57 : decode cJ30_getNode 57 = .ok (.ifnull 14, 3) := dk_198 0 14 (dk_at dksJ30_getNode_2 11 rfl rfl)
theorem dJ30_getNode_60 : decode cJ30_getNode 60 = .ok (.aload_n 1, 1) := dk_43 (dk_at dksJ30_getNode_2 14 rfl rfl)
theorem dJ30_getNode_61 : decode cJ30_getNode 61 = .ok (.aload 7, 2) := dk_25 7 (dk_at dksJ30_getNode_2 15 rfl rfl)
theorem dJ30_getNode_63 : decode cJ30_getNode 63 = .ok (.invokevirtual 173, 3) := dk_182 0 173 (dk_at dksJ30_getNode_2 17 rfl rfl)
theorem dJ30_getNode_66 : decode cJ30_getNode 66 = .ok (.ifCond .eq 5, 3) := dk_153 0 5 (dk_at dksJ30_getNode_2 20 rfl rfl)
theorem dJ30_getNode_69 : decode cJ30_getNode 69 = .ok (.aload_n 3, 1) := dk_45 (dk_at dksJ30_getNode_2 23 rfl rfl)
theorem dJ30_getNode_70 : decode cJ30_getNode 70 = .ok (.areturn, 1) := dk_176 (dk_at dksJ30_getNode_3 0 rfl rfl)
theorem dJ30_getNode_71 : decode cJ30_getNode 71 = .ok (.aload_n 3, 1) := dk_45 (dk_at dksJ30_getNode_3 1 rfl rfl)
theorem dJ30_getNode_72 : decode cJ30_getNode 72 = .ok (.getfield 177, 3) := dk_180 0 177 (dk_at dksJ30_getNode_3 2 rfl rfl)
theorem dJ30_getNode_75 : decode cJ30_getNode 75 = .ok (.dup, 1) := dk_89 (dk_at dksJ30_getNode_3 5 rfl rfl)
theorem dJ30_getNode_76 : decode cJ30_getNode 76 = .ok (.astore 4, 2) := dk_58 4 (dk_at dksJ30_getNode_3 6 rfl rfl)
theorem dJ30_getNode_78 : decode cJ30_getNode 78 = .ok (.ifnull 70, 3) := dk_198 0 70 (dk_at dksJ30_getNode_3 8 rfl rfl)
theorem dJ30_getNode_81 : decode cJ30_getNode 81 = .ok (.aload_n 3, 1) := dk_45 (dk_at dksJ30_getNode_3 11 rfl rfl)
theorem dJ30_getNode_82 : decode cJ30_getNode 82 = .ok (.instanceof 180, 3) := dk_193 0 180 (dk_at dksJ30_getNode_3 12 rfl rfl)
theorem dJ30_getNode_85 : decode cJ30_getNode 85 = .ok (.ifCond .eq 14, 3) := dk_153 0 14 (dk_at dksJ30_getNode_3 15 rfl rfl)
theorem dJ30_getNode_88 : decode cJ30_getNode 88 = .ok (.aload_n 3, 1) := dk_45 (dk_at dksJ30_getNode_3 18 rfl rfl)
theorem dJ30_getNode_89 : decode cJ30_getNode 89 = .ok (.checkcast 180, 3) := dk_192 0 180 (dk_at dksJ30_getNode_3 19 rfl rfl)
theorem dJ30_getNode_92 : decode cJ30_getNode 92 = .ok (.iload 6, 2) := dk_21 6 (dk_at dksJ30_getNode_3 22 rfl rfl)
theorem dJ30_getNode_94 : decode cJ30_getNode 94 = .ok (.aload_n 1, 1) := dk_43 (dk_at dksJ30_getNode_4 0 rfl rfl)
theorem dJ30_getNode_95 : decode cJ30_getNode 95 = .ok (.invokevirtual 182, 3) := dk_182 0 182 (dk_at dksJ30_getNode_4 1 rfl rfl)
theorem dJ30_getNode_98 : decode cJ30_getNode 98 = .ok (.areturn, 1) := dk_176 (dk_at dksJ30_getNode_4 4 rfl rfl)
theorem dJ30_getNode_99 : decode cJ30_getNode 99 = .ok (.aload 4, 2) := dk_25 4 (dk_at dksJ30_getNode_4 5 rfl rfl)
theorem dJ30_getNode_101 : decode cJ30_getNode 101 = .ok (.getfield 168, 3) := dk_180 0 168 (dk_at dksJ30_getNode_4 7 rfl rfl)
theorem dJ30_getNode_104 : decode cJ30_getNode 104 = .ok (.iload 6, 2) := dk_21 6 (dk_at dksJ30_getNode_4 10 rfl rfl)
theorem dJ30_getNode_106 : decode cJ30_getNode 106 = .ok (.if_icmp .ne 31, 3) := dk_160 0 31 (dk_at dksJ30_getNode_4 12 rfl rfl)
theorem dJ30_getNode_109 : decode cJ30_getNode 109 = .ok (.aload 4, 2) := dk_25 4 (dk_at dksJ30_getNode_4 15 rfl rfl)
theorem dJ30_getNode_111 : decode cJ30_getNode 111 = .ok (.getfield 170, 3) := dk_180 0 170 (dk_at dksJ30_getNode_4 17 rfl rfl)
theorem dJ30_getNode_114 : decode cJ30_getNode 114 = .ok (.dup, 1) := dk_89 (dk_at dksJ30_getNode_4 20 rfl rfl)
theorem dJ30_getNode_115 : decode cJ30_getNode 115 = .ok (.astore 7, 2) := dk_58 7 (dk_at dksJ30_getNode_4 21 rfl rfl)
theorem dJ30_getNode_117 : decode cJ30_getNode 117 = .ok (.aload_n 1, 1) := dk_43 (dk_at dksJ30_getNode_4 23 rfl rfl)
theorem dJ30_getNode_118 : decode cJ30_getNode 118 = .ok (.if_acmp .eq 16, 3) := dk_165 0 16 (dk_at dksJ30_getNode_5 0 rfl rfl)
theorem dJ30_getNode_121 : decode cJ30_getNode 121 = .ok (.aload_n 1, 1) := dk_43 (dk_at dksJ30_getNode_5 3 rfl rfl)
theorem dJ30_getNode_122 : decode cJ30_getNode 122 = .ok (.ifnull 15, 3) := dk_198 0 15 (dk_at dksJ30_getNode_5 4 rfl rfl)
theorem dJ30_getNode_125 : decode cJ30_getNode 125 = .ok (.aload_n 1, 1) := dk_43 (dk_at dksJ30_getNode_5 7 rfl rfl)
theorem dJ30_getNode_126 : decode cJ30_getNode 126 = .ok (.aload 7, 2) := dk_25 7 (dk_at dksJ30_getNode_5 8 rfl rfl)
theorem dJ30_getNode_128 : decode cJ30_getNode 128 = .ok (.invokevirtual 173, 3) := dk_182 0 173 (dk_at dksJ30_getNode_5 10 rfl rfl)
theorem dJ30_getNode_131 : decode cJ30_getNode 131 = .ok (.ifCond .eq 6, 3) := dk_153 0 6 (dk_at dksJ30_getNode_5 13 rfl rfl)
theorem dJ30_getNode_134 : decode cJ30_getNode 134 = .ok (.aload 4, 2) := dk_25 4 (dk_at dksJ30_getNode_5 16 rfl rfl)
theorem dJ30_getNode_136 : decode cJ30_getNode 136 = .ok (.areturn, 1) := dk_176 (dk_at dksJ30_getNode_5 18 rfl rfl)
theorem dJ30_getNode_137 : decode cJ30_getNode 137 = .ok (.aload 4, 2) := dk_25 4 (dk_at dksJ30_getNode_5 19 rfl rfl)
theorem dJ30_getNode_139 : decode cJ30_getNode 139 = .ok (.getfield 177, 3) := dk_180 0 177 (dk_at dksJ30_getNode_5 21 rfl rfl)
theorem dJ30_getNode_142 : decode cJ30_getNode 142 = .ok (.dup, 1) := dk_89 (dk_at dksJ30_getNode_6 0 rfl rfl)
theorem dJ30_getNode_143 : decode cJ30_getNode 143 = .ok (.astore 4, 2) := dk_58 4 (dk_at dksJ30_getNode_6 1 rfl rfl)
theorem dJ30_getNode_145 : decode cJ30_getNode 145 = .ok (.ifnonnull (-46), 3) := dk_199 255 210 (dk_at dksJ30_getNode_6 3 rfl rfl)
theorem dJ30_getNode_148 : decode cJ30_getNode 148 = .ok (.aconst_null, 1) := dk_1 (dk_at dksJ30_getNode_6 6 rfl rfl)
theorem dJ30_getNode_149 : decode cJ30_getNode 149 = .ok (.areturn, 1) := dk_176 (dk_at dksJ30_getNode_6 7 rfl rfl)
def dkwJ30_hash_0 : List UInt8 := [42, 199, 0, 7, 3, 167, 0, 14, 42, 182, 0, 1, 89, 60, 27, 16, 16, 124, 130, 172]
abbrev dktJ30_hash_0 : List UInt8 := dkwJ30_hash_0 ++ []
theorem dksJ30_hash_0 : cJ30_hash.data.toList.drop 0 = dktJ30_hash_0 := by decide +kernel
theorem dJ30_hash_0 : decode cJ30_hash 0 = .ok (.aload_n 0, 1) := dk_42 (dk_at dksJ30_hash_0 0 rfl rfl)
theorem dJ30_hash_1 : decode cJ30_hash 1 = .ok (.ifnonnull 7, 3) := dk_199 0 7 (dk_at dksJ30_hash_0 1 rfl rfl)
theorem dJ30_hash_4 : decode cJ30_hash 4 = .ok (.iconst 0, 1) := dk_3 (dk_at dksJ30_hash_0 4 rfl rfl)
theorem dJ30_hash_5 : decode cJ30_hash 5 = .ok (.goto 14, 3) := dk_167 0 14 (dk_at dksJ30_hash_0 5 rfl rfl)
theorem dJ30_hash_8 : decode cJ30_hash 8 = .ok (.aload_n 0, 1) := dk_42 (dk_at dksJ30_hash_0 8 rfl rfl)
theorem dJ30_hash_9 : decode cJ30_hash 9 = .ok (.invokevirtual 1, 3) := dk_182 0 1 (dk_at dksJ30_hash_0 9 rfl rfl)
theorem dJ30_hash_12 : decode cJ30_hash 12 = .ok (.dup, 1) := dk_89 (dk_at dksJ30_hash_0 12 rfl rfl)
theorem dJ30_hash_13 : decode cJ30_hash 13 = .ok (.istore_n 1, 1) := dk_60 (dk_at dksJ30_hash_0 13 rfl rfl)
theorem dJ30_hash_14 : decode cJ30_hash 14 = .ok (.iload_n 1, 1) := dk_27 (dk_at dksJ30_hash_0 14 rfl rfl)
theorem dJ30_hash_15 : decode cJ30_hash 15 = .ok (.bipush 16, 2) := dk_16 16 (dk_at dksJ30_hash_0 15 rfl rfl)
theorem dJ30_hash_17 : decode cJ30_hash 17 = .ok (.iushr, 1) := dk_124 (dk_at dksJ30_hash_0 17 rfl rfl)
theorem dJ30_hash_18 : decode cJ30_hash 18 = .ok (.ixor, 1) := dk_130 (dk_at dksJ30_hash_0 18 rfl rfl)
theorem dJ30_hash_19 : decode cJ30_hash 19 = .ok (.ireturn, 1) := dk_172 (dk_at dksJ30_hash_0 19 rfl rfl)
def dkwJ30_put_0 : List UInt8 := [42, 43, 184, 0, 149, 43, 44, 3, 4, 182, 0, 152, 176]
abbrev dktJ30_put_0 : List UInt8 := dkwJ30_put_0 ++ []
theorem dksJ30_put_0 : cJ30_put.data.toList.drop 0 = dktJ30_put_0 := by decide +kernel
theorem dJ30_put_0 : decode cJ30_put 0 = .ok (.aload_n 0, 1) := dk_42 (dk_at dksJ30_put_0 0 rfl rfl)
theorem dJ30_put_1 : decode cJ30_put 1 = .ok (.aload_n 1, 1) := dk_43 (dk_at dksJ30_put_0 1 rfl rfl)
theorem dJ30_put_2 : decode cJ30_put 2 = .ok (.invokestatic 149, 3) := dk_184 0 149 (dk_at dksJ30_put_0 2 rfl rfl)
theorem dJ30_put_5 : decode cJ30_put 5 = .ok (.aload_n 1, 1) := dk_43 (dk_at dksJ30_put_0 5 rfl rfl)
theorem dJ30_put_6 : decode cJ30_put 6 = .ok (.aload_n 2, 1) := dk_44 (dk_at dksJ30_put_0 6 rfl rfl)
theorem dJ30_put_7 : decode cJ30_put 7 = .ok (.iconst 0, 1) := dk_3 (dk_at dksJ30_put_0 7 rfl rfl)
theorem dJ30_put_8 : decode cJ30_put 8 = .ok (.iconst 1, 1) := dk_4 (dk_at dksJ30_put_0 8 rfl rfl)
theorem dJ30_put_9 : decode cJ30_put 9 = .ok (.invokevirtual 152, 3) := dk_182 0 152 (dk_at dksJ30_put_0 9 rfl rfl)
theorem dJ30_put_12 : decode cJ30_put 12 = .ok (.areturn, 1) := dk_176 (dk_at dksJ30_put_0 12 rfl rfl)
def dkwJ30_putVal_12 : List UInt8 := [181, 0, 156, 42, 180, 0, 88, 164, 0, 8, 42, 182, 0, 117, 87, 42, 21, 5, 182, 0, 205, 1, 176]
abbrev dktJ30_putVal_12 : List UInt8 := dkwJ30_putVal_12 ++ []
def dkwJ30_putVal_11 : List UInt8 := [182, 0, 198, 25, 12, 176, 42, 89, 180, 0, 202, 4, 96, 181, 0, 202, 42, 89, 180, 0, 156, 4, 96, 90]
abbrev dktJ30_putVal_11 : List UInt8 := dkwJ30_putVal_11 ++ dktJ30_putVal_12
def dkwJ30_putVal_10 : List UInt8 := [180, 0, 162, 58, 12, 21, 4, 153, 0, 8, 25, 12, 199, 0, 9, 25, 10, 45, 181, 0, 162, 42, 25, 10]
abbrev dktJ30_putVal_10 : List UInt8 := dkwJ30_putVal_10 ++ dktJ30_putVal_11
def dkwJ30_putVal_9 : List UInt8 := [153, 0, 6, 167, 0, 13, 25, 10, 58, 7, 132, 12, 1, 167, 255, 171, 25, 10, 198, 0, 35, 25, 10]
abbrev dktJ30_putVal_9 : List UInt8 := dkwJ30_putVal_9 ++ dktJ30_putVal_10
def dkwJ30_putVal_8 : List UInt8 := [25, 10, 180, 0, 170, 89, 58, 11, 44, 165, 0, 29, 44, 198, 0, 15, 44, 25, 11, 182, 0, 173]
abbrev dktJ30_putVal_8 : List UInt8 := dkwJ30_putVal_8 ++ dktJ30_putVal_9
def dkwJ30_putVal_7 : List UInt8 := [16, 7, 161, 0, 60, 42, 25, 6, 27, 182, 0, 194, 167, 0, 50, 25, 10, 180, 0, 168, 27, 160, 0, 31]
abbrev dktJ30_putVal_7 : List UInt8 := dkwJ30_putVal_7 ++ dktJ30_putVal_8
def dkwJ30_putVal_6 : List UInt8 := [180, 0, 177, 89, 58, 10, 199, 0, 33, 25, 7, 42, 27, 44, 45, 1, 182, 0, 186, 181, 0, 177, 21, 12]
abbrev dktJ30_putVal_6 : List UInt8 := dkwJ30_putVal_6 ++ dktJ30_putVal_7
def dkwJ30_putVal_5 : List UInt8 := [192, 0, 180, 42, 25, 6, 27, 44, 45, 182, 0, 190, 58, 10, 167, 0, 94, 3, 54, 12, 25, 7]
abbrev dktJ30_putVal_5 : List UInt8 := dkwJ30_putVal_5 ++ dktJ30_putVal_6
def dkwJ30_putVal_4 : List UInt8 := [182, 0, 173, 153, 0, 10, 25, 7, 58, 10, 167, 0, 121, 25, 7, 193, 0, 180, 153, 0, 22, 25, 7]
abbrev dktJ30_putVal_4 : List UInt8 := dkwJ30_putVal_4 ++ dktJ30_putVal_5
def dkwJ30_putVal_3 : List UInt8 := [160, 0, 35, 25, 7, 180, 0, 170, 89, 58, 11, 44, 165, 0, 16, 44, 198, 0, 19, 44, 25, 11]
abbrev dktJ30_putVal_3 : List UInt8 := dkwJ30_putVal_3 ++ dktJ30_putVal_4
def dkwJ30_putVal_2 : List UInt8 := [25, 6, 21, 9, 42, 27, 44, 45, 1, 182, 0, 186, 83, 167, 0, 199, 25, 7, 180, 0, 168, 27]
abbrev dktJ30_putVal_2 : List UInt8 := dkwJ30_putVal_2 ++ dktJ30_putVal_3
def dkwJ30_putVal_1 : List UInt8 := [58, 6, 190, 54, 8, 25, 6, 21, 8, 4, 100, 27, 126, 89, 54, 9, 50, 89, 58, 7, 199, 0, 19]
abbrev dktJ30_putVal_1 : List UInt8 := dkwJ30_putVal_1 ++ dktJ30_putVal_2
def dkwJ30_putVal_0 : List UInt8 := [42, 180, 0, 105, 89, 58, 6, 198, 0, 12, 25, 6, 190, 89, 54, 8, 154, 0, 13, 42, 182, 0, 117, 89]
abbrev dktJ30_putVal_0 : List UInt8 := dkwJ30_putVal_0 ++ dktJ30_putVal_1
theorem dksJ30_putVal_0 : cJ30_putVal.data.toList.drop 0 = dktJ30_putVal_0 := by decide +kernel
theorem dksJ30_putVal_1 : cJ30_putVal.data.toList.drop 24 = dktJ30_putVal_1 := dk_seg dksJ30_putVal_0 24 rfl rfl
theorem dksJ30_putVal_2 : cJ30_putVal.data.toList.drop 47 = dktJ30_putVal_2 := dk_seg dksJ30_putVal_1 23 rfl rfl
theorem dksJ30_putVal_3 : cJ30_putVal.data.toList.drop 69 = dktJ30_putVal_3 := dk_seg dksJ30_putVal_2 22 rfl rfl
theorem dksJ30_putVal_4 : cJ30_putVal.data.toList.drop 91 = dktJ30_putVal_4 := dk_seg dksJ30_putVal_3 22 rfl rfl
theorem dksJ30_putVal_5 : cJ30_putVal.data.toList.drop 114 = dktJ30_putVal_5 := dk_seg dksJ30_putVal_4 23 rfl rfl
theorem dksJ30_putVal_6 : cJ30_putVal.data.toList.drop 136 = dktJ30_putVal_6 := dk_seg dksJ30_putVal_5 22 rfl rfl
theorem dksJ30_putVal_7 : cJ30_putVal.data.toList.drop 160 = dktJ30_putVal_7 := dk_seg dksJ30_putVal_6 24 rfl rfl
theorem dksJ30_putVal_8 : cJ30_putVal.data.toList.drop 184 = dktJ30_putVal_8 := dk_seg dksJ30_putVal_7 24 rfl rfl
theorem dksJ30_putVal_9 : cJ30_putVal.data.toList.drop 206 = dktJ30_putVal_9 := dk_seg dksJ30_putVal_8 22 rfl rfl
theorem dksJ30_putVal_10 : cJ30_putVal.data.toList.drop 229 = dktJ30_putVal_10 := dk_seg dksJ30_putVal_9 23 rfl rfl
theorem dksJ30_putVal_11 : cJ30_putVal.data.toList.drop 253 = dktJ30_putVal_11 := dk_seg dksJ30_putVal_10 24 rfl rfl
theorem dksJ30_putVal_12 : cJ30_putVal.data.toList.drop 277 = dktJ30_putVal_12 := dk_seg dksJ30_putVal_11 24 rfl rfl
theorem dJ30_putVal_0 : decode cJ30_putVal 0 = .ok (.aload_n 0, 1) := dk_42 (dk_at dksJ30_putVal_0 0 rfl rfl)
theorem dJ30_putVal_1 : decode cJ30_putVal 1 = .ok (.getfield 105, 3) := dk_180 0 105 (dk_at dksJ30_putVal_0 1 rfl rfl)
theorem dJ30_putVal_4 : decode cJ30_putVal 4 = .ok (.dup, 1) := dk_89 (dk_at dksJ30_putVal_0 4 rfl rfl)
theorem dJ30_putVal_5 : decode cJ30_putVal 5 = .ok (.astore 6, 2) := dk_58 6 (dk_at dksJ30_putVal_0 5 rfl rfl)
theorem dJ30_putVal_7 : decode cJ30_putVal 7 = .ok (.ifnull 12, 3) := dk_198 0 12 (dk_at dksJ30_putVal_0 7 rfl rfl)
theorem dJ30_putVal_10 : decode cJ30_putVal 10 = .ok (.aload 6, 2) := dk_25 6 (dk_at dksJ30_putVal_0 10 rfl rfl)
theorem dJ30_putVal_12 : decode cJ30_putVal 12 = .ok (.arraylength, 1) := dk_190 (dk_at dksJ30_putVal_0 12 rfl rfl)
theorem dJ30_putVal_13 : decode cJ30_putVal 13 = .ok (.dup, 1) := dk_89 (dk_at dksJ30_putVal_0 13 rfl rfl)
theorem dJ30_putVal_14 : decode cJ30_putVal 14 = .ok (.istore 8, 2) := dk_54 8 (dk_at dksJ30_putVal_0 14 rfl rfl)
theorem dJ30_putVal_16 : decode cJ30_putVal 16 = .ok (.ifCond .ne 13, 3) := dk_154 0 13 (dk_at dksJ30_putVal_0 16 rfl rfl)
theorem dJ30_putVal_19 : decode cJ30_putVal 19 = .ok (.aload_n 0, 1) := dk_42 (dk_at dksJ30_putVal_0 19 rfl rfl)
theorem dJ30_putVal_20 : decode cJ30_putVal 20 = .ok (.invokevirtual 117, 3) := dk_182 0 117 (dk_at dksJ30_putVal_0 20 rfl rfl)
theorem dJ30_putVal_23 : decode cJ30_putVal 23 = .ok (.dup, 1) := dk_89 (dk_at dksJ30_putVal_0 23 rfl rfl)
theorem dJ30_putVal_24 : decode cJ30_putVal 24 = .ok (.astore 6, 2) := dk_58 6 (dk_at dksJ30_putVal_1 0 rfl rfl)
theorem dJ30_putVal_26 : decode cJ30_putVal 26 = .ok (.arraylength, 1) := dk_190 (dk_at dksJ30_putVal_1 2 rfl rfl)
theorem dJ30_putVal_27 : decode cJ30_putVal 27 = .ok (.istore 8, 2) := dk_54 8 (dk_at dksJ30_putVal_1 3 rfl rfl)
theorem dJ30_putVal_29 : decode cJ30_putVal 29 = .ok (.aload 6, 2) := dk_25 6 (dk_at dksJ30_putVal_1 5 rfl rfl)
theorem dJ30_putVal_31 : decode cJ30_putVal 31 = .ok (.iload 8, 2) := dk_21 8 (dk_at dksJ30_putVal_1 7 rfl rfl)
theorem dJ30_putVal_33 : decode cJ30_putVal 33 = .ok (.iconst 1, 1) := dk_4 (dk_at dksJ30_putVal_1 9 rfl rfl)
theorem dJ30_putVal_34 : decode cJ30_putVal 34 = .ok (.isub, 1) := dk_100 (dk_at dksJ30_putVal_1 10 rfl rfl)
theorem dJ30_putVal_35 : decode cJ30_putVal 35 = .ok (.iload_n 1, 1) := dk_27 (dk_at dksJ30_putVal_1 11 rfl rfl)
theorem dJ30_putVal_36 : decode cJ30_putVal 36 = .ok (.iand, 1) := dk_126 (dk_at dksJ30_putVal_1 12 rfl rfl)
theorem dJ30_putVal_37 : decode cJ30_putVal 37 = .ok (.dup, 1) := dk_89 (dk_at dksJ30_putVal_1 13 rfl rfl)
theorem dJ30_putVal_38 : decode cJ30_putVal 38 = .ok (.istore 9, 2) := dk_54 9 (dk_at dksJ30_putVal_1 14 rfl rfl)
theorem dJ30_putVal_40 : decode cJ30_putVal 40 = .ok (.aaload, 1) := dk_50 (dk_at dksJ30_putVal_1 16 rfl rfl)
theorem dJ30_putVal_41 : decode cJ30_putVal 41 = .ok (.dup, 1) := dk_89 (dk_at dksJ30_putVal_1 17 rfl rfl)
theorem dJ30_putVal_42 : decode cJ30_putVal 42 = .ok (.astore 7, 2) := dk_58 7 (dk_at dksJ30_putVal_1 18 rfl rfl)
theorem dJ30_putVal_44 : decode cJ30_putVal 44 = .ok (.ifnonnull 19, 3) := dk_199 0 19 (dk_at dksJ30_putVal_1 20 rfl rfl)
theorem dJ30_putVal_47 : decode cJ30_putVal 47 = .ok (.aload 6, 2) := dk_25 6 (dk_at dksJ30_putVal_2 0 rfl rfl)
theorem dJ30_putVal_49 : decode cJ30_putVal 49 = .ok (.iload 9, 2) := dk_21 9 (dk_at dksJ30_putVal_2 2 rfl rfl)
theorem dJ30_putVal_51 : decode cJ30_putVal 51 = .ok (.aload_n 0, 1) := dk_42 (dk_at dksJ30_putVal_2 4 rfl rfl)
theorem dJ30_putVal_52 : decode cJ30_putVal 52 = .ok (.iload_n 1, 1) := dk_27 (dk_at dksJ30_putVal_2 5 rfl rfl)
theorem dJ30_putVal_53 : decode cJ30_putVal 53 = .ok (.aload_n 2, 1) := dk_44 (dk_at dksJ30_putVal_2 6 rfl rfl)
theorem dJ30_putVal_54 : decode cJ30_putVal 54 = .ok (.aload_n 3, 1) := dk_45 (dk_at dksJ30_putVal_2 7 rfl rfl)
theorem dJ30_putVal_55 : decode cJ30_putVal 55 = .ok (.aconst_null, 1) := dk_1 (dk_at dksJ30_putVal_2 8 rfl rfl)
theorem dJ30_putVal_56 : decode cJ30_putVal 56 = .ok (.invokevirtual 186, 3) := dk_182 0 186 (dk_at dksJ30_putVal_2 9 rfl rfl)
theorem dJ30_putVal_59 : decode cJ30_putVal 59 = .ok (.aastore, 1) := dk_83 (dk_at dksJ30_putVal_2 12 rfl rfl)
theorem dJ30_putVal_60 : decode cJ30_putVal 60 = .ok (.goto 199, 3) := dk_167 0 199 (dk_at dksJ30_putVal_2 13 rfl rfl)
theorem dJ30_putVal_63 : decode cJ30_putVal 63 = .ok (.aload 7, 2) := dk_25 7 (dk_at dksJ30_putVal_2 16 rfl rfl)
theorem dJ30_putVal_65 : decode cJ30_putVal 65 = .ok (.getfield 168, 3) := dk_180 0 168 (dk_at dksJ30_putVal_2 18 rfl rfl)
theorem dJ30_putVal_68 : decode cJ30_putVal 68 = .ok (.iload_n 1, 1) := dk_27 (dk_at dksJ30_putVal_2 21 rfl rfl)
theorem dJ30_putVal_69 : decode cJ30_putVal 69 = .ok (.if_icmp .ne 35, 3) := dk_160 0 35 (dk_at dksJ30_putVal_3 0 rfl rfl)
theorem dJ30_putVal_72 : decode cJ30_putVal 72 = .ok (.aload 7, 2) := dk_25 7 (dk_at dksJ30_putVal_3 3 rfl rfl)
theorem dJ30_putVal_74 : decode cJ30_putVal 74 = .ok (.getfield 170, 3) := dk_180 0 170 (dk_at dksJ30_putVal_3 5 rfl rfl)
theorem dJ30_putVal_77 : decode cJ30_putVal 77 = .ok (.dup, 1) := dk_89 (dk_at dksJ30_putVal_3 8 rfl rfl)
theorem dJ30_putVal_78 : decode cJ30_putVal 78 = .ok (.astore 11, 2) := dk_58 11 (dk_at dksJ30_putVal_3 9 rfl rfl)
theorem dJ30_putVal_80 : decode cJ30_putVal 80 = .ok (.aload_n 2, 1) := dk_44 (dk_at dksJ30_putVal_3 11 rfl rfl)
theorem dJ30_putVal_81 : decode cJ30_putVal 81 = .ok (.if_acmp .eq 16, 3) := dk_165 0 16 (dk_at dksJ30_putVal_3 12 rfl rfl)
theorem dJ30_putVal_84 : decode cJ30_putVal 84 = .ok (.aload_n 2, 1) := dk_44 (dk_at dksJ30_putVal_3 15 rfl rfl)
theorem dJ30_putVal_85 : decode cJ30_putVal 85 = .ok (.ifnull 19, 3) := dk_198 0 19 (dk_at dksJ30_putVal_3 16 rfl rfl)
theorem dJ30_putVal_88 : decode cJ30_putVal 88 = .ok (.aload_n 2, 1) := dk_44 (dk_at dksJ30_putVal_3 19 rfl rfl)
theorem dJ30_putVal_89 : decode cJ30_putVal 89 = .ok (.aload 11, 2) := dk_25 11 (dk_at dksJ30_putVal_3 20 rfl rfl)
theorem dJ30_putVal_91 : decode cJ30_putVal 91 = .ok (.invokevirtual 173, 3) := dk_182 0 173 (dk_at dksJ30_putVal_4 0 rfl rfl)
theorem dJ30_putVal_94 : decode cJ30_putVal 94 = .ok (.ifCond .eq 10, 3) := dk_153 0 10 (dk_at dksJ30_putVal_4 3 rfl rfl)
theorem dJ30_putVal_97 : decode cJ30_putVal 97 = .ok (.aload 7, 2) := dk_25 7 (dk_at dksJ30_putVal_4 6 rfl rfl)
theorem dJ30_putVal_99 : decode cJ30_putVal 99 = .ok (.astore 10, 2) := dk_58 10 (dk_at dksJ30_putVal_4 8 rfl rfl)
theorem dJ30_putVal_101 : decode cJ30_putVal 101 = .ok (.goto 121, 3) := dk_167 0 121 (dk_at dksJ30_putVal_4 10 rfl rfl)
theorem dJ30_putVal_104 : decode cJ30_putVal 104 = .ok (.aload 7, 2) := dk_25 7 (dk_at dksJ30_putVal_4 13 rfl rfl)
theorem dJ30_putVal_106 : decode cJ30_putVal 106 = .ok (.instanceof 180, 3) := dk_193 0 180 (dk_at dksJ30_putVal_4 15 rfl rfl)
theorem dJ30_putVal_109 : decode cJ30_putVal 109 = .ok (.ifCond .eq 22, 3) := dk_153 0 22 (dk_at dksJ30_putVal_4 18 rfl rfl)
theorem dJ30_putVal_112 : decode cJ30_putVal 112 = .ok (.aload 7, 2) := dk_25 7 (dk_at dksJ30_putVal_4 21 rfl rfl)
theorem dJ30_putVal_114 : decode cJ30_putVal 114 = .ok (.checkcast 180, 3) := dk_192 0 180 (dk_at dksJ30_putVal_5 0 rfl rfl)
theorem dJ30_putVal_117 : decode cJ30_putVal 117 = .ok (.aload_n 0, 1) := dk_42 (dk_at dksJ30_putVal_5 3 rfl rfl)
theorem dJ30_putVal_118 : decode cJ30_putVal 118 = .ok (.aload 6, 2) := dk_25 6 (dk_at dksJ30_putVal_5 4 rfl rfl)
theorem dJ30_putVal_120 : decode cJ30_putVal 120 = .ok (.iload_n 1, 1) := dk_27 (dk_at dksJ30_putVal_5 6 rfl rfl)
theorem dJ30_putVal_121 : decode cJ30_putVal 121 = .ok (.aload_n 2, 1) := dk_44 (dk_at dksJ30_putVal_5 7 rfl rfl)
theorem dJ30_putVal_122 : decode cJ30_putVal 122 = .ok (.aload_n 3, 1) := dk_45 (dk_at dksJ30_putVal_5 8 rfl rfl)
theorem dJ30_putVal_123 : decode cJ30_putVal 123 = .ok (.invokevirtual 190, 3) := dk_182 0 190 (dk_at dksJ30_putVal_5 9 rfl rfl)
theorem dJ30_putVal_126 : decode cJ30_putVal 126 = .ok (.astore 10, 2) := dk_58 10 (dk_at dksJ30_putVal_5 12 rfl rfl)
theorem dJ30_putVal_128 : decode cJ30_putVal 128 = .ok (.goto 94, 3) := dk_167 0 94 (dk_at dksJ30_putVal_5 14 rfl rfl)
theorem dJ30_putVal_131 : decode cJ30_putVal 131 = .ok (.iconst 0, 1) := dk_3 (dk_at dksJ30_putVal_5 17 rfl rfl)
theorem dJ30_putVal_132 : decode cJ30_putVal 132 = .ok (.istore 12, 2) := dk_54 12 (dk_at dksJ30_putVal_5 18 rfl rfl)
theorem dJ30_putVal_134 : decode cJ30_putVal 134 = .ok (.aload 7, 2) := dk_25 7 (dk_at dksJ30_putVal_5 20 rfl rfl)
theorem dJ30_putVal_136 : decode cJ30_putVal 136 = .ok (.getfield 177, 3) := dk_180 0 177 (dk_at dksJ30_putVal_6 0 rfl rfl)
theorem dJ30_putVal_139 : decode cJ30_putVal 139 = .ok (.dup, 1) := dk_89 (dk_at dksJ30_putVal_6 3 rfl rfl)
theorem dJ30_putVal_140 : decode cJ30_putVal 140 = .ok (.astore 10, 2) := dk_58 10 (dk_at dksJ30_putVal_6 4 rfl rfl)
theorem dJ30_putVal_142 : decode cJ30_putVal 142 = .ok (.ifnonnull 33, 3) := dk_199 0 33 (dk_at dksJ30_putVal_6 6 rfl rfl)
theorem dJ30_putVal_145 : decode cJ30_putVal 145 = .ok (.aload 7, 2) := dk_25 7 (dk_at dksJ30_putVal_6 9 rfl rfl)
theorem dJ30_putVal_147 : decode cJ30_putVal 147 = .ok (.aload_n 0, 1) := dk_42 (dk_at dksJ30_putVal_6 11 rfl rfl)
theorem dJ30_putVal_148 : decode cJ30_putVal 148 = .ok (.iload_n 1, 1) := dk_27 (dk_at dksJ30_putVal_6 12 rfl rfl)
theorem dJ30_putVal_149 : decode cJ30_putVal 149 = .ok (.aload_n 2, 1) := dk_44 (dk_at dksJ30_putVal_6 13 rfl rfl)
theorem dJ30_putVal_150 : decode cJ30_putVal 150 = .ok (.aload_n 3, 1) := dk_45 (dk_at dksJ30_putVal_6 14 rfl rfl)
theorem dJ30_putVal_151 : decode cJ30_putVal 151 = .ok (.aconst_null, 1) := dk_1 (dk_at dksJ30_putVal_6 15 rfl rfl)
theorem dJ30_putVal_152 : decode cJ30_putVal 152 = .ok (.invokevirtual 186, 3) := dk_182 0 186 (dk_at dksJ30_putVal_6 16 rfl rfl)
theorem dJ30_putVal_155 : decode cJ30_putVal 155 = .ok (.putfield 177, 3) := dk_181 0 177 (dk_at dksJ30_putVal_6 19 rfl rfl)
theorem dJ30_putVal_158 : decode cJ30_putVal 158 = .ok (.iload 12, 2) := dk_21 12 (dk_at dksJ30_putVal_6 22 rfl rfl)
theorem dJ30_putVal_160 : decode cJ30_putVal 160 = .ok (.bipush 7, 2) := dk_16 7 (dk_at dksJ30_putVal_7 0 rfl rfl)
theorem dJ30_putVal_162 : decode cJ30_putVal 162 = .ok (.if_icmp .lt 60, 3) := dk_161 0 60 (dk_at dksJ30_putVal_7 2 rfl rfl)
theorem dJ30_putVal_165 : decode cJ30_putVal 165 = .ok (.aload_n 0, 1) := dk_42 (dk_at dksJ30_putVal_7 5 rfl rfl)
theorem dJ30_putVal_166 : decode cJ30_putVal 166 = .ok (.aload 6, 2) := dk_25 6 (dk_at dksJ30_putVal_7 6 rfl rfl)
theorem dJ30_putVal_168 : decode cJ30_putVal 168 = .ok (.iload_n 1, 1) := dk_27 (dk_at dksJ30_putVal_7 8 rfl rfl)
theorem dJ30_putVal_169 : decode cJ30_putVal 169 = .ok (.invokevirtual 194, 3) := dk_182 0 194 (dk_at dksJ30_putVal_7 9 rfl rfl)
theorem dJ30_putVal_172 : decode cJ30_putVal 172 = .ok (.goto 50, 3) := dk_167 0 50 (dk_at dksJ30_putVal_7 12 rfl rfl)
theorem dJ30_putVal_175 : decode cJ30_putVal 175 = .ok (.aload 10, 2) := dk_25 10 (dk_at dksJ30_putVal_7 15 rfl rfl)
theorem dJ30_putVal_177 : decode cJ30_putVal 177 = .ok (.getfield 168, 3) := dk_180 0 168 (dk_at dksJ30_putVal_7 17 rfl rfl)
theorem dJ30_putVal_180 : decode cJ30_putVal 180 = .ok (.iload_n 1, 1) := dk_27 (dk_at dksJ30_putVal_7 20 rfl rfl)
theorem dJ30_putVal_181 : decode cJ30_putVal 181 = .ok (.if_icmp .ne 31, 3) := dk_160 0 31 (dk_at dksJ30_putVal_7 21 rfl rfl)
theorem dJ30_putVal_184 : decode cJ30_putVal 184 = .ok (.aload 10, 2) := dk_25 10 (dk_at dksJ30_putVal_8 0 rfl rfl)
theorem dJ30_putVal_186 : decode cJ30_putVal 186 = .ok (.getfield 170, 3) := dk_180 0 170 (dk_at dksJ30_putVal_8 2 rfl rfl)
theorem dJ30_putVal_189 : decode cJ30_putVal 189 = .ok (.dup, 1) := dk_89 (dk_at dksJ30_putVal_8 5 rfl rfl)
theorem dJ30_putVal_190 : decode cJ30_putVal 190 = .ok (.astore 11, 2) := dk_58 11 (dk_at dksJ30_putVal_8 6 rfl rfl)
theorem dJ30_putVal_192 : decode cJ30_putVal 192 = .ok (.aload_n 2, 1) := dk_44 (dk_at dksJ30_putVal_8 8 rfl rfl)
theorem dJ30_putVal_193 : decode cJ30_putVal 193 = .ok (.if_acmp .eq 29, 3) := dk_165 0 29 (dk_at dksJ30_putVal_8 9 rfl rfl)
theorem dJ30_putVal_196 : decode cJ30_putVal 196 = .ok (.aload_n 2, 1) := dk_44 (dk_at dksJ30_putVal_8 12 rfl rfl)
theorem dJ30_putVal_197 : decode cJ30_putVal 197 = .ok (.ifnull 15, 3) := dk_198 0 15 (dk_at dksJ30_putVal_8 13 rfl rfl)
theorem dJ30_putVal_200 : decode cJ30_putVal 200 = .ok (.aload_n 2, 1) := dk_44 (dk_at dksJ30_putVal_8 16 rfl rfl)
theorem dJ30_putVal_201 : decode cJ30_putVal 201 = .ok (.aload 11, 2) := dk_25 11 (dk_at dksJ30_putVal_8 17 rfl rfl)
theorem dJ30_putVal_203 : decode cJ30_putVal 203 = .ok (.invokevirtual 173, 3) := dk_182 0 173 (dk_at dksJ30_putVal_8 19 rfl rfl)
theorem dJ30_putVal_206 : decode cJ30_putVal 206 = .ok (.ifCond .eq 6, 3) := dk_153 0 6 (dk_at dksJ30_putVal_9 0 rfl rfl)
theorem dJ30_putVal_209 : decode cJ30_putVal 209 = .ok (.goto 13, 3) := dk_167 0 13 (dk_at dksJ30_putVal_9 3 rfl rfl)
theorem dJ30_putVal_212 : decode cJ30_putVal 212 = .ok (.aload 10, 2) := dk_25 10 (dk_at dksJ30_putVal_9 6 rfl rfl)
theorem dJ30_putVal_214 : decode cJ30_putVal 214 = .ok (.astore 7, 2) := dk_58 7 (dk_at dksJ30_putVal_9 8 rfl rfl)
theorem dJ30_putVal_216 : decode cJ30_putVal 216 = .ok (.iinc 12 1, 3) := dk_132 12 1 (dk_at dksJ30_putVal_9 10 rfl rfl)
theorem dJ30_putVal_219 : decode cJ30_putVal 219 = .ok (.goto (-85), 3) := dk_167 255 171 (dk_at dksJ30_putVal_9 13 rfl rfl)
theorem dJ30_putVal_222 : decode cJ30_putVal 222 = .ok (.aload 10, 2) := dk_25 10 (dk_at dksJ30_putVal_9 16 rfl rfl)
theorem dJ30_putVal_224 : decode cJ30_putVal 224 = .ok (.ifnull 35, 3) := dk_198 0 35 (dk_at dksJ30_putVal_9 18 rfl rfl)
theorem dJ30_putVal_227 : decode cJ30_putVal 227 = .ok (.aload 10, 2) := dk_25 10 (dk_at dksJ30_putVal_9 21 rfl rfl)
theorem dJ30_putVal_229 : decode cJ30_putVal 229 = .ok (.getfield 162, 3) := dk_180 0 162 (dk_at dksJ30_putVal_10 0 rfl rfl)
theorem dJ30_putVal_232 : decode cJ30_putVal 232 = .ok (.astore 12, 2) := dk_58 12 (dk_at dksJ30_putVal_10 3 rfl rfl)
theorem dJ30_putVal_234 : decode cJ30_putVal 234 = .ok (.iload 4, 2) := dk_21 4 (dk_at dksJ30_putVal_10 5 rfl rfl)
theorem dJ30_putVal_236 : decode cJ30_putVal 236 = .ok (.ifCond .eq 8, 3) := dk_153 0 8 (dk_at dksJ30_putVal_10 7 rfl rfl)
theorem dJ30_putVal_239 : decode cJ30_putVal 239 = .ok (.aload 12, 2) := dk_25 12 (dk_at dksJ30_putVal_10 10 rfl rfl)
theorem dJ30_putVal_241 : decode cJ30_putVal 241 = .ok (.ifnonnull 9, 3) := dk_199 0 9 (dk_at dksJ30_putVal_10 12 rfl rfl)
theorem dJ30_putVal_244 : decode cJ30_putVal 244 = .ok (.aload 10, 2) := dk_25 10 (dk_at dksJ30_putVal_10 15 rfl rfl)
theorem dJ30_putVal_246 : decode cJ30_putVal 246 = .ok (.aload_n 3, 1) := dk_45 (dk_at dksJ30_putVal_10 17 rfl rfl)
theorem dJ30_putVal_247 : decode cJ30_putVal 247 = .ok (.putfield 162, 3) := dk_181 0 162 (dk_at dksJ30_putVal_10 18 rfl rfl)
theorem dJ30_putVal_250 : decode cJ30_putVal 250 = .ok (.aload_n 0, 1) := dk_42 (dk_at dksJ30_putVal_10 21 rfl rfl)
theorem dJ30_putVal_251 : decode cJ30_putVal 251 = .ok (.aload 10, 2) := dk_25 10 (dk_at dksJ30_putVal_10 22 rfl rfl)
theorem dJ30_putVal_253 : decode cJ30_putVal 253 = .ok (.invokevirtual 198, 3) := dk_182 0 198 (dk_at dksJ30_putVal_11 0 rfl rfl)
theorem dJ30_putVal_256 : decode cJ30_putVal 256 = .ok (.aload 12, 2) := dk_25 12 (dk_at dksJ30_putVal_11 3 rfl rfl)
theorem dJ30_putVal_258 : decode cJ30_putVal 258 = .ok (.areturn, 1) := dk_176 (dk_at dksJ30_putVal_11 5 rfl rfl)
theorem dJ30_putVal_259 : decode cJ30_putVal 259 = .ok (.aload_n 0, 1) := dk_42 (dk_at dksJ30_putVal_11 6 rfl rfl)
theorem dJ30_putVal_260 : decode cJ30_putVal 260 = .ok (.dup, 1) := dk_89 (dk_at dksJ30_putVal_11 7 rfl rfl)
theorem dJ30_putVal_261 : decode cJ30_putVal 261 = .ok (.getfield 202, 3) := dk_180 0 202 (dk_at dksJ30_putVal_11 8 rfl rfl)
theorem dJ30_putVal_264 : decode cJ30_putVal 264 = .ok (.iconst 1, 1) := dk_4 (dk_at dksJ30_putVal_11 11 rfl rfl)
theorem dJ30_putVal_265 : decode cJ30_putVal 265 = .ok (.iadd, 1) := dk_96 (dk_at dksJ30_putVal_11 12 rfl rfl)
theorem dJ30_putVal_266 : decode cJ30_putVal 266 = .ok (.putfield 202, 3) := dk_181 0 202 (dk_at dksJ30_putVal_11 13 rfl rfl)
theorem dJ30_putVal_269 : decode cJ30_putVal 269 = .ok (.aload_n 0, 1) := dk_42 (dk_at dksJ30_putVal_11 16 rfl rfl)
theorem dJ30_putVal_270 : decode cJ30_putVal 270 = .ok (.dup, 1) := dk_89 (dk_at dksJ30_putVal_11 17 rfl rfl)
theorem dJ30_putVal_271 : decode cJ30_putVal 271 = .ok (.getfield 156, 3) := dk_180 0 156 (dk_at dksJ30_putVal_11 18 rfl rfl)
theorem dJ30_putVal_274 : decode cJ30_putVal 274 = .ok (.iconst 1, 1) := dk_4 (dk_at dksJ30_putVal_11 21 rfl rfl)
theorem dJ30_putVal_275 : decode cJ30_putVal 275 = .ok (.iadd, 1) := dk_96 (dk_at dksJ30_putVal_11 22 rfl rfl)
theorem dJ30_putVal_276 : decode cJ30_putVal 276 = .ok (.dup_x1, 1) := dk_90 (dk_at dksJ30_putVal_11 23 rfl rfl)
theorem dJ30_putVal_277 : decode cJ30_putVal 277 = .ok (.putfield 156, 3) := dk_181 0 156 (dk_at dksJ30_putVal_12 0 rfl rfl)
theorem dJ30_putVal_280 : decode cJ30_putVal 280 = .ok (.aload_n 0, 1) := dk_42 (dk_at dksJ30_putVal_12 3 rfl rfl)
theorem dJ30_putVal_281 : decode cJ30_putVal 281 = .ok (.getfield 88, 3) := dk_180 0 88 (dk_at dksJ30_putVal_12 4 rfl rfl)
theorem dJ30_putVal_284 : decode cJ30_putVal 284 = .ok (.if_icmp .le 8, 3) := dk_164 0 8 (dk_at dksJ30_putVal_12 7 rfl rfl)
theorem dJ30_putVal_287 : decode cJ30_putVal 287 = .ok (.aload_n 0, 1) := dk_42 (dk_at dksJ30_putVal_12 10 rfl rfl)
theorem dJ30_putVal_288 : decode cJ30_putVal 288 = .ok (.invokevirtual 117, 3) := dk_182 0 117 (dk_at dksJ30_putVal_12 11 rfl rfl)
theorem dJ30_putVal_291 : decode cJ30_putVal 291 = .ok (.pop, 1) := dk_87 (dk_at dksJ30_putVal_12 14 rfl rfl)
theorem dJ30_putVal_292 : decode cJ30_putVal 292 = .ok (.aload_n 0, 1) := dk_42 (dk_at dksJ30_putVal_12 15 rfl rfl)
theorem dJ30_putVal_293 : decode cJ30_putVal 293 = .ok (.iload 5, 2) := dk_21 5 (dk_at dksJ30_putVal_12 16 rfl rfl)
theorem dJ30_putVal_295 : decode cJ30_putVal 295 = .ok (.invokevirtual 205, 3) := dk_182 0 205 (dk_at dksJ30_putVal_12 18 rfl rfl)
theorem dJ30_putVal_298 : decode cJ30_putVal 298 = .ok (.aconst_null, 1) := dk_1 (dk_at dksJ30_putVal_12 21 rfl rfl)
theorem dJ30_putVal_299 : decode cJ30_putVal 299 = .ok (.areturn, 1) := dk_176 (dk_at dksJ30_putVal_12 22 rfl rfl)
def dkwJ30_resize_15 : List UInt8 := [25, 6, 176]
abbrev dktJ30_resize_15 : List UInt8 := dkwJ30_resize_15 ++ []
def dkwJ30_resize_14 : List UInt8 := [198, 0, 18, 25, 12, 1, 181, 0, 177, 25, 6, 21, 7, 28, 96, 25, 11, 83, 132, 7, 1, 167, 255, 57]
abbrev dktJ30_resize_14 : List UInt8 := dkwJ30_resize_14 ++ dktJ30_resize_15
def dkwJ30_resize_13 : List UInt8 := [199, 255, 185, 25, 10, 198, 0, 16, 25, 10, 1, 181, 0, 177, 25, 6, 21, 7, 25, 9, 83, 25, 12]
abbrev dktJ30_resize_13 : List UInt8 := dkwJ30_resize_13 ++ dktJ30_resize_14
def dkwJ30_resize_12 : List UInt8 := [25, 8, 58, 11, 167, 0, 10, 25, 12, 25, 8, 181, 0, 177, 25, 8, 58, 12, 25, 13, 89, 58, 8]
abbrev dktJ30_resize_12 : List UInt8 := dkwJ30_resize_12 ++ dktJ30_resize_13
def dkwJ30_resize_11 : List UInt8 := [58, 9, 167, 0, 10, 25, 10, 25, 8, 181, 0, 177, 25, 8, 58, 10, 167, 0, 26, 25, 12, 199, 0, 10]
abbrev dktJ30_resize_11 : List UInt8 := dkwJ30_resize_11 ++ dktJ30_resize_12
def dkwJ30_resize_10 : List UInt8 := [25, 8, 180, 0, 177, 58, 13, 25, 8, 180, 0, 168, 28, 126, 154, 0, 29, 25, 10, 199, 0, 10, 25, 8]
abbrev dktJ30_resize_10 : List UInt8 := dkwJ30_resize_10 ++ dktJ30_resize_11
def dkwJ30_resize_9 : List UInt8 := [42, 25, 6, 21, 7, 28, 182, 0, 211, 167, 0, 127, 1, 58, 9, 1, 58, 10, 1, 58, 11, 1, 58, 12]
abbrev dktJ30_resize_9 : List UInt8 := dkwJ30_resize_9 ++ dktJ30_resize_10
def dkwJ30_resize_8 : List UInt8 := [21, 4, 4, 100, 126, 25, 8, 83, 167, 0, 152, 25, 8, 193, 0, 180, 153, 0, 20, 25, 8, 192, 0, 180]
abbrev dktJ30_resize_8 : List UInt8 := dkwJ30_resize_8 ++ dktJ30_resize_9
def dkwJ30_resize_7 : List UInt8 := [198, 0, 183, 43, 21, 7, 1, 83, 25, 8, 180, 0, 177, 199, 0, 21, 25, 6, 25, 8, 180, 0, 168]
abbrev dktJ30_resize_7 : List UInt8 := dkwJ30_resize_7 ++ dktJ30_resize_8
def dkwJ30_resize_6 : List UInt8 := [181, 0, 105, 43, 198, 0, 208, 3, 54, 7, 21, 7, 28, 162, 0, 199, 43, 21, 7, 50, 89, 58, 8]
abbrev dktJ30_resize_6 : List UInt8 := dkwJ30_resize_6 ++ dktJ30_resize_7
def dkwJ30_resize_5 : List UInt8 := [167, 0, 5, 18, 209, 54, 5, 42, 21, 5, 181, 0, 88, 21, 4, 189, 0, 163, 58, 6, 42, 25, 6]
abbrev dktJ30_resize_5 : List UInt8 := dkwJ30_resize_5 ++ dktJ30_resize_6
def dkwJ30_resize_4 : List UInt8 := [180, 0, 81, 106, 56, 6, 21, 4, 18, 42, 162, 0, 17, 23, 6, 18, 210, 150, 156, 0, 9, 23, 6, 139]
abbrev dktJ30_resize_4 : List UInt8 := dkwJ30_resize_4 ++ dktJ30_resize_5
def dkwJ30_resize_3 : List UInt8 := [54, 4, 167, 0, 11, 16, 16, 54, 4, 16, 12, 54, 5, 21, 5, 154, 0, 38, 21, 4, 134, 42]
abbrev dktJ30_resize_3 : List UInt8 := dkwJ30_resize_3 ++ dktJ30_resize_4
def dkwJ30_resize_2 : List UInt8 := [18, 42, 162, 0, 35, 28, 16, 16, 161, 0, 29, 29, 4, 120, 54, 5, 167, 0, 21, 29, 158, 0, 9, 29]
abbrev dktJ30_resize_2 : List UInt8 := dkwJ30_resize_2 ++ dktJ30_resize_3
def dkwJ30_resize_1 : List UInt8 := [28, 158, 0, 42, 28, 18, 42, 161, 0, 11, 42, 18, 209, 181, 0, 88, 43, 176, 28, 4, 120, 89, 54, 4]
abbrev dktJ30_resize_1 : List UInt8 := dkwJ30_resize_1 ++ dktJ30_resize_2
def dkwJ30_resize_0 : List UInt8 := [42, 180, 0, 105, 76, 43, 199, 0, 7, 3, 167, 0, 5, 43, 190, 61, 42, 180, 0, 88, 62, 3, 54, 5]
abbrev dktJ30_resize_0 : List UInt8 := dkwJ30_resize_0 ++ dktJ30_resize_1
theorem dksJ30_resize_0 : cJ30_resize.data.toList.drop 0 = dktJ30_resize_0 := by decide +kernel
theorem dksJ30_resize_1 : cJ30_resize.data.toList.drop 24 = dktJ30_resize_1 := dk_seg dksJ30_resize_0 24 rfl rfl
theorem dksJ30_resize_2 : cJ30_resize.data.toList.drop 48 = dktJ30_resize_2 := dk_seg dksJ30_resize_1 24 rfl rfl
theorem dksJ30_resize_3 : cJ30_resize.data.toList.drop 72 = dktJ30_resize_3 := dk_seg dksJ30_resize_2 24 rfl rfl
theorem dksJ30_resize_4 : cJ30_resize.data.toList.drop 94 = dktJ30_resize_4 := dk_seg dksJ30_resize_3 22 rfl rfl
theorem dksJ30_resize_5 : cJ30_resize.data.toList.drop 118 = dktJ30_resize_5 := dk_seg dksJ30_resize_4 24 rfl rfl
theorem dksJ30_resize_6 : cJ30_resize.data.toList.drop 141 = dktJ30_resize_6 := dk_seg dksJ30_resize_5 23 rfl rfl
theorem dksJ30_resize_7 : cJ30_resize.data.toList.drop 164 = dktJ30_resize_7 := dk_seg dksJ30_resize_6 23 rfl rfl
theorem dksJ30_resize_8 : cJ30_resize.data.toList.drop 187 = dktJ30_resize_8 := dk_seg dksJ30_resize_7 23 rfl rfl
theorem dksJ30_resize_9 : cJ30_resize.data.toList.drop 211 = dktJ30_resize_9 := dk_seg dksJ30_resize_8 24 rfl rfl
theorem dksJ30_resize_10 : cJ30_resize.data.toList.drop 235 = dktJ30_resize_10 := dk_seg dksJ30_resize_9 24 rfl rfl
theorem dksJ30_resize_11 : cJ30_resize.data.toList.drop 259 = dktJ30_resize_11 := dk_seg dksJ30_resize_10 24 rfl rfl
theorem dksJ30_resize_12 : cJ30_resize.data.toList.drop 283 = dktJ30_resize_12 := dk_seg dksJ30_resize_11 24 rfl rfl
theorem dksJ30_resize_13 : cJ30_resize.data.toList.drop 306 = dktJ30_resize_13 := dk_seg dksJ30_resize_12 23 rfl rfl
theorem dksJ30_resize_14 : cJ30_resize.data.toList.drop 329 = dktJ30_resize_14 := dk_seg dksJ30_resize_13 23 rfl rfl
theorem dksJ30_resize_15 : cJ30_resize.data.toList.drop 353 = dktJ30_resize_15 := dk_seg dksJ30_resize_14 24 rfl rfl
theorem dJ30_resize_0 : decode cJ30_resize 0 = .ok (.aload_n 0, 1) := dk_42 (dk_at dksJ30_resize_0 0 rfl rfl)
theorem dJ30_resize_1 : decode cJ30_resize 1 = .ok (.getfield 105, 3) := dk_180 0 105 (dk_at dksJ30_resize_0 1 rfl rfl)
theorem dJ30_resize_4 : decode cJ30_resize 4 = .ok (.astore_n 1, 1) := dk_76 (dk_at dksJ30_resize_0 4 rfl rfl)
theorem dJ30_resize_5 : decode cJ30_resize 5 = .ok (.aload_n 1, 1) := dk_43 (dk_at dksJ30_resize_0 5 rfl rfl)
theorem dJ30_resize_6 : decode cJ30_resize 6 = .ok (.ifnonnull 7, 3) := dk_199 0 7 (dk_at dksJ30_resize_0 6 rfl rfl)
theorem dJ30_resize_9 : decode cJ30_resize 9 = .ok (.iconst 0, 1) := dk_3 (dk_at dksJ30_resize_0 9 rfl rfl)
theorem dJ30_resize_10 : decode cJ30_resize 10 = .ok (.goto 5, 3) := dk_167 0 5 (dk_at dksJ30_resize_0 10 rfl rfl)
theorem dJ30_resize_13 : decode cJ30_resize 13 = .ok (.aload_n 1, 1) := dk_43 (dk_at dksJ30_resize_0 13 rfl rfl)
theorem dJ30_resize_14 : decode cJ30_resize 14 = .ok (.arraylength, 1) := dk_190 (dk_at dksJ30_resize_0 14 rfl rfl)
theorem dJ30_resize_15 : decode cJ30_resize 15 = .ok (.istore_n 2, 1) := dk_61 (dk_at dksJ30_resize_0 15 rfl rfl)
theorem dJ30_resize_16 : decode cJ30_resize 16 = .ok (.aload_n 0, 1) := dk_42 (dk_at dksJ30_resize_0 16 rfl rfl)
theorem dJ30_resize_17 : decode cJ30_resize 17 = .ok (.getfield 88, 3) := dk_180 0 88 (dk_at dksJ30_resize_0 17 rfl rfl)
theorem dJ30_resize_20 : decode cJ30_resize 20 = .ok (.istore_n 3, 1) := dk_62 (dk_at dksJ30_resize_0 20 rfl rfl)
theorem dJ30_resize_21 : decode cJ30_resize 21 = .ok (.iconst 0, 1) := dk_3 (dk_at dksJ30_resize_0 21 rfl rfl)
theorem dJ30_resize_22 : decode cJ30_resize 22 = .ok (.istore 5, 2) := dk_54 5 (dk_at dksJ30_resize_0 22 rfl rfl)
theorem dJ30_resize_24 : decode cJ30_resize 24 = .ok (.iload_n 2, 1) := dk_28 (dk_at dksJ30_resize_1 0 rfl rfl)
theorem dJ30_resize_25 : decode cJ30_resize 25 = .ok (.ifCond .le 42, 3) := dk_158 0 42 (dk_at dksJ30_resize_1 1 rfl rfl)
theorem dJ30_resize_28 : decode cJ30_resize 28 = .ok (.iload_n 2, 1) := dk_28 (dk_at dksJ30_resize_1 4 rfl rfl)
theorem dJ30_resize_29 : decode cJ30_resize 29 = .ok (.ldc 42, 2) := dk_18 42 (dk_at dksJ30_resize_1 5 rfl rfl)
theorem dJ30_resize_31 : decode cJ30_resize 31 = .ok (.if_icmp .lt 11, 3) := dk_161 0 11 (dk_at dksJ30_resize_1 7 rfl rfl)
theorem dJ30_resize_34 : decode cJ30_resize 34 = .ok (.aload_n 0, 1) := dk_42 (dk_at dksJ30_resize_1 10 rfl rfl)
theorem dJ30_resize_35 : decode cJ30_resize 35 = .ok (.ldc 209, 2) := dk_18 209 (dk_at dksJ30_resize_1 11 rfl rfl)
theorem dJ30_resize_37 : decode cJ30_resize 37 = .ok (.putfield 88, 3) := dk_181 0 88 (dk_at dksJ30_resize_1 13 rfl rfl)
theorem dJ30_resize_40 : decode cJ30_resize 40 = .ok (.aload_n 1, 1) := dk_43 (dk_at dksJ30_resize_1 16 rfl rfl)
theorem dJ30_resize_41 : decode cJ30_resize 41 = .ok (.areturn, 1) := dk_176 (dk_at dksJ30_resize_1 17 rfl rfl)
theorem dJ30_resize_42 : decode cJ30_resize 42 = .ok (.iload_n 2, 1) := dk_28 (dk_at dksJ30_resize_1 18 rfl rfl)
theorem dJ30_resize_43 : decode cJ30_resize 43 = .ok (.iconst 1, 1) := dk_4 (dk_at dksJ30_resize_1 19 rfl rfl)
theorem dJ30_resize_44 : decode cJ30_resize 44 = .ok (.ishl, 1) := dk_120 (dk_at dksJ30_resize_1 20 rfl rfl)
theorem dJ30_resize_45 : decode cJ30_resize 45 = .ok (.dup, 1) := dk_89 (dk_at dksJ30_resize_1 21 rfl rfl)
theorem dJ30_resize_46 : decode cJ30_resize 46 = .ok (.istore 4, 2) := dk_54 4 (dk_at dksJ30_resize_1 22 rfl rfl)
theorem dJ30_resize_48 : decode cJ30_resize 48 = .ok (.ldc 42, 2) := dk_18 42 (dk_at dksJ30_resize_2 0 rfl rfl)
theorem dJ30_resize_50 : decode cJ30_resize 50 = .ok (.if_icmp .ge 35, 3) := dk_162 0 35 (dk_at dksJ30_resize_2 2 rfl rfl)
theorem dJ30_resize_53 : decode cJ30_resize 53 = .ok (.iload_n 2, 1) := dk_28 (dk_at dksJ30_resize_2 5 rfl rfl)
theorem dJ30_resize_54 : decode cJ30_resize 54 = .ok (.bipush 16, 2) := dk_16 16 (dk_at dksJ30_resize_2 6 rfl rfl)
theorem dJ30_resize_56 : decode cJ30_resize 56 = .ok (.if_icmp .lt 29, 3) := dk_161 0 29 (dk_at dksJ30_resize_2 8 rfl rfl)
theorem dJ30_resize_59 : decode cJ30_resize 59 = .ok (.iload_n 3, 1) := dk_29 (dk_at dksJ30_resize_2 11 rfl rfl)
theorem dJ30_resize_60 : decode cJ30_resize 60 = .ok (.iconst 1, 1) := dk_4 (dk_at dksJ30_resize_2 12 rfl rfl)
theorem dJ30_resize_61 : decode cJ30_resize 61 = .ok (.ishl, 1) := dk_120 (dk_at dksJ30_resize_2 13 rfl rfl)
theorem dJ30_resize_62 : decode cJ30_resize 62 = .ok (.istore 5, 2) := dk_54 5 (dk_at dksJ30_resize_2 14 rfl rfl)
theorem dJ30_resize_64 : decode cJ30_resize 64 = .ok (.goto 21, 3) := dk_167 0 21 (dk_at dksJ30_resize_2 16 rfl rfl)
theorem dJ30_resize_67 : decode cJ30_resize 67 = .ok (.iload_n 3, 1) := dk_29 (dk_at dksJ30_resize_2 19 rfl rfl)
theorem dJ30_resize_68 : decode cJ30_resize 68 = .ok (.ifCond .le 9, 3) := dk_158 0 9 (dk_at dksJ30_resize_2 20 rfl rfl)
theorem dJ30_resize_71 : decode cJ30_resize 71 = .ok (.iload_n 3, 1) := dk_29 (dk_at dksJ30_resize_2 23 rfl rfl)
theorem dJ30_resize_72 : decode cJ30_resize 72 = .ok (.istore 4, 2) := dk_54 4 (dk_at dksJ30_resize_3 0 rfl rfl)
theorem dJ30_resize_74 : decode cJ30_resize 74 = .ok (.goto 11, 3) := dk_167 0 11 (dk_at dksJ30_resize_3 2 rfl rfl)
theorem dJ30_resize_77 : decode cJ30_resize 77 = .ok (.bipush 16, 2) := dk_16 16 (dk_at dksJ30_resize_3 5 rfl rfl)
theorem dJ30_resize_79 : decode cJ30_resize 79 = .ok (.istore 4, 2) := dk_54 4 (dk_at dksJ30_resize_3 7 rfl rfl)
theorem dJ30_resize_81 : decode cJ30_resize 81 = .ok (.bipush 12, 2) := dk_16 12 (dk_at dksJ30_resize_3 9 rfl rfl)
theorem dJ30_resize_83 : decode cJ30_resize 83 = .ok (.istore 5, 2) := dk_54 5 (dk_at dksJ30_resize_3 11 rfl rfl)
theorem dJ30_resize_85 : decode cJ30_resize 85 = .ok (.iload 5, 2) := dk_21 5 (dk_at dksJ30_resize_3 13 rfl rfl)
theorem dJ30_resize_87 : decode cJ30_resize 87 = .ok (.ifCond .ne 38, 3) := dk_154 0 38 (dk_at dksJ30_resize_3 15 rfl rfl)
theorem dJ30_resize_90 : decode cJ30_resize 90 = .ok (.iload 4, 2) := dk_21 4 (dk_at dksJ30_resize_3 18 rfl rfl)
theorem dJ30_resize_92 : decode cJ30_resize 92 = .ok (.i2f, 1) := dk_134 (dk_at dksJ30_resize_3 20 rfl rfl)
theorem dJ30_resize_93 : decode cJ30_resize 93 = .ok (.aload_n 0, 1) := dk_42 (dk_at dksJ30_resize_3 21 rfl rfl)
theorem dJ30_resize_94 : decode cJ30_resize 94 = .ok (.getfield 81, 3) := dk_180 0 81 (dk_at dksJ30_resize_4 0 rfl rfl)
theorem dJ30_resize_97 : decode cJ30_resize 97 = .ok (.fmul, 1) := dk_106 (dk_at dksJ30_resize_4 3 rfl rfl)
theorem dJ30_resize_98 : decode cJ30_resize 98 = .ok (.fstore 6, 2) := dk_56 6 (dk_at dksJ30_resize_4 4 rfl rfl)
theorem dJ30_resize_100 : decode cJ30_resize 100 = .ok (.iload 4, 2) := dk_21 4 (dk_at dksJ30_resize_4 6 rfl rfl)
theorem dJ30_resize_102 : decode cJ30_resize 102 = .ok (.ldc 42, 2) := dk_18 42 (dk_at dksJ30_resize_4 8 rfl rfl)
theorem dJ30_resize_104 : decode cJ30_resize 104 = .ok (.if_icmp .ge 17, 3) := dk_162 0 17 (dk_at dksJ30_resize_4 10 rfl rfl)
theorem dJ30_resize_107 : decode cJ30_resize 107 = .ok (.fload 6, 2) := dk_23 6 (dk_at dksJ30_resize_4 13 rfl rfl)
theorem dJ30_resize_109 : decode cJ30_resize 109 = .ok (.ldc 210, 2) := dk_18 210 (dk_at dksJ30_resize_4 15 rfl rfl)
theorem dJ30_resize_111 : decode cJ30_resize 111 = .ok (.fcmp .g, 1) := dk_150 (dk_at dksJ30_resize_4 17 rfl rfl)
theorem dJ30_resize_112 : decode cJ30_resize 112 = .ok (.ifCond .ge 9, 3) := dk_156 0 9 (dk_at dksJ30_resize_4 18 rfl rfl)
theorem dJ30_resize_115 : decode cJ30_resize 115 = .ok (.fload 6, 2) := dk_23 6 (dk_at dksJ30_resize_4 21 rfl rfl)
theorem dJ30_resize_117 : decode cJ30_resize 117 = .ok (.f2i, 1) := dk_139 (dk_at dksJ30_resize_4 23 rfl rfl)
theorem dJ30_resize_118 : decode cJ30_resize 118 = .ok (.goto 5, 3) := dk_167 0 5 (dk_at dksJ30_resize_5 0 rfl rfl)
theorem dJ30_resize_121 : decode cJ30_resize 121 = .ok (.ldc 209, 2) := dk_18 209 (dk_at dksJ30_resize_5 3 rfl rfl)
theorem dJ30_resize_123 : decode cJ30_resize 123 = .ok (.istore 5, 2) := dk_54 5 (dk_at dksJ30_resize_5 5 rfl rfl)
theorem dJ30_resize_125 : decode cJ30_resize 125 = .ok (.aload_n 0, 1) := dk_42 (dk_at dksJ30_resize_5 7 rfl rfl)
theorem dJ30_resize_126 : decode cJ30_resize 126 = .ok (.iload 5, 2) := dk_21 5 (dk_at dksJ30_resize_5 8 rfl rfl)
theorem dJ30_resize_128 : decode cJ30_resize 128 = .ok (.putfield 88, 3) := dk_181 0 88 (dk_at dksJ30_resize_5 10 rfl rfl)
theorem dJ30_resize_131 : decode cJ30_resize 131 = .ok (.iload 4, 2) := dk_21 4 (dk_at dksJ30_resize_5 13 rfl rfl)
theorem dJ30_resize_133 : decode cJ30_resize 133 = .ok (.anewarray 163, 3) := dk_189 0 163 (dk_at dksJ30_resize_5 15 rfl rfl)
theorem dJ30_resize_136 : decode cJ30_resize 136 = .ok (.astore 6, 2) := dk_58 6 (dk_at dksJ30_resize_5 18 rfl rfl)
theorem dJ30_resize_138 : decode cJ30_resize 138 = .ok (.aload_n 0, 1) := dk_42 (dk_at dksJ30_resize_5 20 rfl rfl)
theorem dJ30_resize_139 : decode cJ30_resize 139 = .ok (.aload 6, 2) := dk_25 6 (dk_at dksJ30_resize_5 21 rfl rfl)
theorem dJ30_resize_141 : decode cJ30_resize 141 = .ok (.putfield 105, 3) := dk_181 0 105 (dk_at dksJ30_resize_6 0 rfl rfl)
theorem dJ30_resize_144 : decode cJ30_resize 144 = .ok (.aload_n 1, 1) := dk_43 (dk_at dksJ30_resize_6 3 rfl rfl)
theorem dJ30_resize_145 : decode cJ30_resize 145 = .ok (.ifnull 208, 3) := dk_198 0 208 (dk_at dksJ30_resize_6 4 rfl rfl)
theorem dJ30_resize_148 : decode cJ30_resize 148 = .ok (.iconst 0, 1) := dk_3 (dk_at dksJ30_resize_6 7 rfl rfl)
theorem dJ30_resize_149 : decode cJ30_resize 149 = .ok (.istore 7, 2) := dk_54 7 (dk_at dksJ30_resize_6 8 rfl rfl)
theorem dJ30_resize_151 : decode cJ30_resize 151 = .ok (.iload 7, 2) := dk_21 7 (dk_at dksJ30_resize_6 10 rfl rfl)
theorem dJ30_resize_153 : decode cJ30_resize 153 = .ok (.iload_n 2, 1) := dk_28 (dk_at dksJ30_resize_6 12 rfl rfl)
theorem dJ30_resize_154 : decode cJ30_resize 154 = .ok (.if_icmp .ge 199, 3) := dk_162 0 199 (dk_at dksJ30_resize_6 13 rfl rfl)
theorem dJ30_resize_157 : decode cJ30_resize 157 = .ok (.aload_n 1, 1) := dk_43 (dk_at dksJ30_resize_6 16 rfl rfl)
theorem dJ30_resize_158 : decode cJ30_resize 158 = .ok (.iload 7, 2) := dk_21 7 (dk_at dksJ30_resize_6 17 rfl rfl)
theorem dJ30_resize_160 : decode cJ30_resize 160 = .ok (.aaload, 1) := dk_50 (dk_at dksJ30_resize_6 19 rfl rfl)
theorem dJ30_resize_161 : decode cJ30_resize 161 = .ok (.dup, 1) := dk_89 (dk_at dksJ30_resize_6 20 rfl rfl)
theorem dJ30_resize_162 : decode cJ30_resize 162 = .ok (.astore 8, 2) := dk_58 8 (dk_at dksJ30_resize_6 21 rfl rfl)
theorem dJ30_resize_164 : decode cJ30_resize 164 = .ok (.ifnull 183, 3) := dk_198 0 183 (dk_at dksJ30_resize_7 0 rfl rfl)
theorem dJ30_resize_167 : decode cJ30_resize 167 = .ok (.aload_n 1, 1) := dk_43 (dk_at dksJ30_resize_7 3 rfl rfl)
theorem dJ30_resize_168 : decode cJ30_resize 168 = .ok (.iload 7, 2) := dk_21 7 (dk_at dksJ30_resize_7 4 rfl rfl)
theorem dJ30_resize_170 : decode cJ30_resize 170 = .ok (.aconst_null, 1) := dk_1 (dk_at dksJ30_resize_7 6 rfl rfl)
theorem dJ30_resize_171 : decode cJ30_resize 171 = .ok (.aastore, 1) := dk_83 (dk_at dksJ30_resize_7 7 rfl rfl)
theorem dJ30_resize_172 : decode cJ30_resize 172 = .ok (.aload 8, 2) := dk_25 8 (dk_at dksJ30_resize_7 8 rfl rfl)
theorem dJ30_resize_174 : decode cJ30_resize 174 = .ok (.getfield 177, 3) := dk_180 0 177 (dk_at dksJ30_resize_7 10 rfl rfl)
theorem dJ30_resize_177 : decode cJ30_resize 177 = .ok (.ifnonnull 21, 3) := dk_199 0 21 (dk_at dksJ30_resize_7 13 rfl rfl)
theorem dJ30_resize_180 : decode cJ30_resize 180 = .ok (.aload 6, 2) := dk_25 6 (dk_at dksJ30_resize_7 16 rfl rfl)
theorem dJ30_resize_182 : decode cJ30_resize 182 = .ok (.aload 8, 2) := dk_25 8 (dk_at dksJ30_resize_7 18 rfl rfl)
theorem dJ30_resize_184 : decode cJ30_resize 184 = .ok (.getfield 168, 3) := dk_180 0 168 (dk_at dksJ30_resize_7 20 rfl rfl)
theorem dJ30_resize_187 : decode cJ30_resize 187 = .ok (.iload 4, 2) := dk_21 4 (dk_at dksJ30_resize_8 0 rfl rfl)
theorem dJ30_resize_189 : decode cJ30_resize 189 = .ok (.iconst 1, 1) := dk_4 (dk_at dksJ30_resize_8 2 rfl rfl)
theorem dJ30_resize_190 : decode cJ30_resize 190 = .ok (.isub, 1) := dk_100 (dk_at dksJ30_resize_8 3 rfl rfl)
theorem dJ30_resize_191 : decode cJ30_resize 191 = .ok (.iand, 1) := dk_126 (dk_at dksJ30_resize_8 4 rfl rfl)
theorem dJ30_resize_192 : decode cJ30_resize 192 = .ok (.aload 8, 2) := dk_25 8 (dk_at dksJ30_resize_8 5 rfl rfl)
theorem dJ30_resize_194 : decode cJ30_resize 194 = .ok (.aastore, 1) := dk_83 (dk_at dksJ30_resize_8 7 rfl rfl)
theorem dJ30_resize_195 : decode cJ30_resize 195 = .ok (.goto 152, 3) := dk_167 0 152 (dk_at dksJ30_resize_8 8 rfl rfl)
theorem dJ30_resize_198 : decode cJ30_resize 198 = .ok (.aload 8, 2) := dk_25 8 (dk_at dksJ30_resize_8 11 rfl rfl)
theorem dJ30_resize_200 : decode cJ30_resize 200 = .ok (.instanceof 180, 3) := dk_193 0 180 (dk_at dksJ30_resize_8 13 rfl rfl)
theorem dJ30_resize_203 : decode cJ30_resize 203 = .ok (.ifCond .eq 20, 3) := dk_153 0 20 (dk_at dksJ30_resize_8 16 rfl rfl)
theorem dJ30_resize_206 : decode cJ30_resize 206 = .ok (.aload 8, 2) := dk_25 8 (dk_at dksJ30_resize_8 19 rfl rfl)
theorem dJ30_resize_208 : decode cJ30_resize 208 = .ok (.checkcast 180, 3) := dk_192 0 180 (dk_at dksJ30_resize_8 21 rfl rfl)
theorem dJ30_resize_211 : decode cJ30_resize 211 = .ok (.aload_n 0, 1) := dk_42 (dk_at dksJ30_resize_9 0 rfl rfl)
theorem dJ30_resize_212 : decode cJ30_resize 212 = .ok (.aload 6, 2) := dk_25 6 (dk_at dksJ30_resize_9 1 rfl rfl)
theorem dJ30_resize_214 : decode cJ30_resize 214 = .ok (.iload 7, 2) := dk_21 7 (dk_at dksJ30_resize_9 3 rfl rfl)
theorem dJ30_resize_216 : decode cJ30_resize 216 = .ok (.iload_n 2, 1) := dk_28 (dk_at dksJ30_resize_9 5 rfl rfl)
theorem dJ30_resize_217 : decode cJ30_resize 217 = .ok (.invokevirtual 211, 3) := dk_182 0 211 (dk_at dksJ30_resize_9 6 rfl rfl)
theorem dJ30_resize_220 : decode cJ30_resize 220 = .ok (.goto 127, 3) := dk_167 0 127 (dk_at dksJ30_resize_9 9 rfl rfl)
theorem dJ30_resize_223 : decode cJ30_resize 223 = .ok (.aconst_null, 1) := dk_1 (dk_at dksJ30_resize_9 12 rfl rfl)
theorem dJ30_resize_224 : decode cJ30_resize 224 = .ok (.astore 9, 2) := dk_58 9 (dk_at dksJ30_resize_9 13 rfl rfl)
theorem dJ30_resize_226 : decode cJ30_resize 226 = .ok (.aconst_null, 1) := dk_1 (dk_at dksJ30_resize_9 15 rfl rfl)
theorem dJ30_resize_227 : decode cJ30_resize 227 = .ok (.astore 10, 2) := dk_58 10 (dk_at dksJ30_resize_9 16 rfl rfl)
theorem dJ30_resize_229 : decode cJ30_resize 229 = .ok (.aconst_null, 1) := dk_1 (dk_at dksJ30_resize_9 18 rfl rfl)
theorem dJ30_resize_230 : decode cJ30_resize 230 = .ok (.astore 11, 2) := dk_58 11 (dk_at dksJ30_resize_9 19 rfl rfl)
theorem dJ30_resize_232 : decode cJ30_resize 232 = .ok (.aconst_null, 1) := dk_1 (dk_at dksJ30_resize_9 21 rfl rfl)
theorem dJ30_resize_233 : decode cJ30_resize 233 = .ok (.astore 12, 2) := dk_58 12 (dk_at dksJ30_resize_9 22 rfl rfl)
theorem dJ30_resize_235 : decode cJ30_resize 235 = .ok (.aload 8, 2) := dk_25 8 (dk_at dksJ30_resize_10 0 rfl rfl)
theorem dJ30_resize_237 : decode cJ30_resize 237 = .ok (.getfield 177, 3) := dk_180 0 177 (dk_at dksJ30_resize_10 2 rfl rfl)
theorem dJ30_resize_240 : decode cJ30_resize 240 = .ok (.astore 13, 2) := dk_58 13 (dk_at dksJ30_resize_10 5 rfl rfl)
theorem dJ30_resize_242 : decode cJ30_resize 242 = .ok (.aload 8, 2) := dk_25 8 (dk_at dksJ30_resize_10 7 rfl rfl)
theorem dJ30_resize_244 : decode cJ30_resize 244 = .ok (.getfield 168, 3) := dk_180 0 168 (dk_at dksJ30_resize_10 9 rfl rfl)
theorem dJ30_resize_247 : decode cJ30_resize 247 = .ok (.iload_n 2, 1) := dk_28 (dk_at dksJ30_resize_10 12 rfl rfl)
theorem dJ30_resize_248 : decode cJ30_resize 248 = .ok (.iand, 1) := dk_126 (dk_at dksJ30_resize_10 13 rfl rfl)
theorem dJ30_resize_249 : decode cJ30_resize 249 = .ok (.ifCond .ne 29, 3) := dk_154 0 29 (dk_at dksJ30_resize_10 14 rfl rfl)
theorem dJ30_resize_252 : decode cJ30_resize 252 = .ok (.aload 10, 2) := dk_25 10 (dk_at dksJ30_resize_10 17 rfl rfl)
theorem dJ30_resize_254 : decode cJ30_resize 254 = .ok (.ifnonnull 10, 3) := dk_199 0 10 (dk_at dksJ30_resize_10 19 rfl rfl)
theorem dJ30_resize_257 : decode cJ30_resize 257 = .ok (.aload 8, 2) := dk_25 8 (dk_at dksJ30_resize_10 22 rfl rfl)
theorem dJ30_resize_259 : decode cJ30_resize 259 = .ok (.astore 9, 2) := dk_58 9 (dk_at dksJ30_resize_11 0 rfl rfl)
theorem dJ30_resize_261 : decode cJ30_resize 261 = .ok (.goto 10, 3) := dk_167 0 10 (dk_at dksJ30_resize_11 2 rfl rfl)
theorem dJ30_resize_264 : decode cJ30_resize 264 = .ok (.aload 10, 2) := dk_25 10 (dk_at dksJ30_resize_11 5 rfl rfl)
theorem dJ30_resize_266 : decode cJ30_resize 266 = .ok (.aload 8, 2) := dk_25 8 (dk_at dksJ30_resize_11 7 rfl rfl)
theorem dJ30_resize_268 : decode cJ30_resize 268 = .ok (.putfield 177, 3) := dk_181 0 177 (dk_at dksJ30_resize_11 9 rfl rfl)
theorem dJ30_resize_271 : decode cJ30_resize 271 = .ok (.aload 8, 2) := dk_25 8 (dk_at dksJ30_resize_11 12 rfl rfl)
theorem dJ30_resize_273 : decode cJ30_resize 273 = .ok (.astore 10, 2) := dk_58 10 (dk_at dksJ30_resize_11 14 rfl rfl)
theorem dJ30_resize_275 : decode cJ30_resize 275 = .ok (.goto 26, 3) := dk_167 0 26 (dk_at dksJ30_resize_11 16 rfl rfl)
theorem dJ30_resize_278 : decode cJ30_resize 278 = .ok (.aload 12, 2) := dk_25 12 (dk_at dksJ30_resize_11 19 rfl rfl)
theorem dJ30_resize_280 : decode cJ30_resize 280 = .ok (.ifnonnull 10, 3) := dk_199 0 10 (dk_at dksJ30_resize_11 21 rfl rfl)
theorem dJ30_resize_283 : decode cJ30_resize 283 = .ok (.aload 8, 2) := dk_25 8 (dk_at dksJ30_resize_12 0 rfl rfl)
theorem dJ30_resize_285 : decode cJ30_resize 285 = .ok (.astore 11, 2) := dk_58 11 (dk_at dksJ30_resize_12 2 rfl rfl)
theorem dJ30_resize_287 : decode cJ30_resize 287 = .ok (.goto 10, 3) := dk_167 0 10 (dk_at dksJ30_resize_12 4 rfl rfl)
theorem dJ30_resize_290 : decode cJ30_resize 290 = .ok (.aload 12, 2) := dk_25 12 (dk_at dksJ30_resize_12 7 rfl rfl)
theorem dJ30_resize_292 : decode cJ30_resize 292 = .ok (.aload 8, 2) := dk_25 8 (dk_at dksJ30_resize_12 9 rfl rfl)
theorem dJ30_resize_294 : decode cJ30_resize 294 = .ok (.putfield 177, 3) := dk_181 0 177 (dk_at dksJ30_resize_12 11 rfl rfl)
theorem dJ30_resize_297 : decode cJ30_resize 297 = .ok (.aload 8, 2) := dk_25 8 (dk_at dksJ30_resize_12 14 rfl rfl)
theorem dJ30_resize_299 : decode cJ30_resize 299 = .ok (.astore 12, 2) := dk_58 12 (dk_at dksJ30_resize_12 16 rfl rfl)
theorem dJ30_resize_301 : decode cJ30_resize 301 = .ok (.aload 13, 2) := dk_25 13 (dk_at dksJ30_resize_12 18 rfl rfl)
theorem dJ30_resize_303 : decode cJ30_resize 303 = .ok (.dup, 1) := dk_89 (dk_at dksJ30_resize_12 20 rfl rfl)
theorem dJ30_resize_304 : decode cJ30_resize 304 = .ok (.astore 8, 2) := dk_58 8 (dk_at dksJ30_resize_12 21 rfl rfl)
theorem dJ30_resize_306 : decode cJ30_resize 306 = .ok (.ifnonnull (-71), 3) := dk_199 255 185 (dk_at dksJ30_resize_13 0 rfl rfl)
theorem dJ30_resize_309 : decode cJ30_resize 309 = .ok (.aload 10, 2) := dk_25 10 (dk_at dksJ30_resize_13 3 rfl rfl)
theorem dJ30_resize_311 : decode cJ30_resize 311 = .ok (.ifnull 16, 3) := dk_198 0 16 (dk_at dksJ30_resize_13 5 rfl rfl)
theorem dJ30_resize_314 : decode cJ30_resize 314 = .ok (.aload 10, 2) := dk_25 10 (dk_at dksJ30_resize_13 8 rfl rfl)
theorem dJ30_resize_316 : decode cJ30_resize 316 = .ok (.aconst_null, 1) := dk_1 (dk_at dksJ30_resize_13 10 rfl rfl)
theorem dJ30_resize_317 : decode cJ30_resize 317 = .ok (.putfield 177, 3) := dk_181 0 177 (dk_at dksJ30_resize_13 11 rfl rfl)
theorem dJ30_resize_320 : decode cJ30_resize 320 = .ok (.aload 6, 2) := dk_25 6 (dk_at dksJ30_resize_13 14 rfl rfl)
theorem dJ30_resize_322 : decode cJ30_resize 322 = .ok (.iload 7, 2) := dk_21 7 (dk_at dksJ30_resize_13 16 rfl rfl)
theorem dJ30_resize_324 : decode cJ30_resize 324 = .ok (.aload 9, 2) := dk_25 9 (dk_at dksJ30_resize_13 18 rfl rfl)
theorem dJ30_resize_326 : decode cJ30_resize 326 = .ok (.aastore, 1) := dk_83 (dk_at dksJ30_resize_13 20 rfl rfl)
theorem dJ30_resize_327 : decode cJ30_resize 327 = .ok (.aload 12, 2) := dk_25 12 (dk_at dksJ30_resize_13 21 rfl rfl)
theorem dJ30_resize_329 : decode cJ30_resize 329 = .ok (.ifnull 18, 3) := dk_198 0 18 (dk_at dksJ30_resize_14 0 rfl rfl)
theorem dJ30_resize_332 : decode cJ30_resize 332 = .ok (.aload 12, 2) := dk_25 12 (dk_at dksJ30_resize_14 3 rfl rfl)
theorem dJ30_resize_334 : decode cJ30_resize 334 = .ok (.aconst_null, 1) := dk_1 (dk_at dksJ30_resize_14 5 rfl rfl)
theorem dJ30_resize_335 : decode cJ30_resize 335 = .ok (.putfield 177, 3) := dk_181 0 177 (dk_at dksJ30_resize_14 6 rfl rfl)
theorem dJ30_resize_338 : decode cJ30_resize 338 = .ok (.aload 6, 2) := dk_25 6 (dk_at dksJ30_resize_14 9 rfl rfl)
theorem dJ30_resize_340 : decode cJ30_resize 340 = .ok (.iload 7, 2) := dk_21 7 (dk_at dksJ30_resize_14 11 rfl rfl)
theorem dJ30_resize_342 : decode cJ30_resize 342 = .ok (.iload_n 2, 1) := dk_28 (dk_at dksJ30_resize_14 13 rfl rfl)
theorem dJ30_resize_343 : decode cJ30_resize 343 = .ok (.iadd, 1) := dk_96 (dk_at dksJ30_resize_14 14 rfl rfl)
theorem dJ30_resize_344 : decode cJ30_resize 344 = .ok (.aload 11, 2) := dk_25 11 (dk_at dksJ30_resize_14 15 rfl rfl)
theorem dJ30_resize_346 : decode cJ30_resize 346 = .ok (.aastore, 1) := dk_83 (dk_at dksJ30_resize_14 17 rfl rfl)
theorem dJ30_resize_347 : decode cJ30_resize 347 = .ok (.iinc 7 1, 3) := dk_132 7 1 (dk_at dksJ30_resize_14 18 rfl rfl)
theorem dJ30_resize_350 : decode cJ30_resize 350 = .ok (.goto (-199), 3) := dk_167 255 57 (dk_at dksJ30_resize_14 21 rfl rfl)
theorem dJ30_resize_353 : decode cJ30_resize 353 = .ok (.aload 6, 2) := dk_25 6 (dk_at dksJ30_resize_15 0 rfl rfl)
theorem dJ30_resize_355 : decode cJ30_resize 355 = .ok (.areturn, 1) := dk_176 (dk_at dksJ30_resize_15 2 rfl rfl)
def dkwJ30_newNode_0 : List UInt8 := [187, 0, 163, 89, 27, 44, 45, 25, 4, 183, 1, 119, 176]
abbrev dktJ30_newNode_0 : List UInt8 := dkwJ30_newNode_0 ++ []
theorem dksJ30_newNode_0 : cJ30_newNode.data.toList.drop 0 = dktJ30_newNode_0 := by decide +kernel
theorem dJ30_newNode_0 : decode cJ30_newNode 0 = .ok (.new 163, 3) := dk_187 0 163 (dk_at dksJ30_newNode_0 0 rfl rfl)
theorem dJ30_newNode_3 : decode cJ30_newNode 3 = .ok (.dup, 1) := dk_89 (dk_at dksJ30_newNode_0 3 rfl rfl)
theorem dJ30_newNode_4 : decode cJ30_newNode 4 = .ok (.iload_n 1, 1) := dk_27 (dk_at dksJ30_newNode_0 4 rfl rfl)
theorem dJ30_newNode_5 : decode cJ30_newNode 5 = .ok (.aload_n 2, 1) := dk_44 (dk_at dksJ30_newNode_0 5 rfl rfl)
theorem dJ30_newNode_6 : decode cJ30_newNode 6 = .ok (.aload_n 3, 1) := dk_45 (dk_at dksJ30_newNode_0 6 rfl rfl)
theorem dJ30_newNode_7 : decode cJ30_newNode 7 = .ok (.aload 4, 2) := dk_25 4 (dk_at dksJ30_newNode_0 7 rfl rfl)
theorem dJ30_newNode_9 : decode cJ30_newNode 9 = .ok (.invokespecial 375, 3) := dk_183 1 119 (dk_at dksJ30_newNode_0 9 rfl rfl)
theorem dJ30_newNode_12 : decode cJ30_newNode 12 = .ok (.areturn, 1) := dk_176 (dk_at dksJ30_newNode_0 12 rfl rfl)
theorem dJ30_afterNodeAccess_0 : decode cJ30_afterNodeAccess 0 = .ok (.return_, 1) := by decide +kernel
theorem dJ30_afterNodeInsertion_0 : decode cJ30_afterNodeInsertion 0 = .ok (.return_, 1) := by decide +kernel
def dkwJ32_init_1 : List UInt8 := [181, 0, 20, 177]
abbrev dktJ32_init_1 : List UInt8 := dkwJ32_init_1 ++ []
def dkwJ32_init_0 : List UInt8 := [42, 183, 0, 1, 42, 27, 181, 0, 7, 42, 44, 181, 0, 13, 42, 45, 181, 0, 17, 42, 25, 4]
abbrev dktJ32_init_0 : List UInt8 := dkwJ32_init_0 ++ dktJ32_init_1
theorem dksJ32_init_0 : cJ32_init.data.toList.drop 0 = dktJ32_init_0 := by decide +kernel
theorem dksJ32_init_1 : cJ32_init.data.toList.drop 22 = dktJ32_init_1 := dk_seg dksJ32_init_0 22 rfl rfl
theorem dJ32_init_0 : decode cJ32_init 0 = .ok (.aload_n 0, 1) := dk_42 (dk_at dksJ32_init_0 0 rfl rfl)
theorem dJ32_init_1 : decode cJ32_init 1 = .ok (.invokespecial 1, 3) := dk_183 0 1 (dk_at dksJ32_init_0 1 rfl rfl)
theorem dJ32_init_4 : decode cJ32_init 4 = .ok (.aload_n 0, 1) := dk_42 (dk_at dksJ32_init_0 4 rfl rfl)
theorem dJ32_init_5 : decode cJ32_init 5 = .ok (.iload_n 1, 1) := dk_27 (dk_at dksJ32_init_0 5 rfl rfl)
theorem dJ32_init_6 : decode cJ32_init 6 = .ok (.putfield 7, 3) := dk_181 0 7 (dk_at dksJ32_init_0 6 rfl rfl)
theorem dJ32_init_9 : decode cJ32_init 9 = .ok (.aload_n 0, 1) := dk_42 (dk_at dksJ32_init_0 9 rfl rfl)
theorem dJ32_init_10 : decode cJ32_init 10 = .ok (.aload_n 2, 1) := dk_44 (dk_at dksJ32_init_0 10 rfl rfl)
theorem dJ32_init_11 : decode cJ32_init 11 = .ok (.putfield 13, 3) := dk_181 0 13 (dk_at dksJ32_init_0 11 rfl rfl)
theorem dJ32_init_14 : decode cJ32_init 14 = .ok (.aload_n 0, 1) := dk_42 (dk_at dksJ32_init_0 14 rfl rfl)
theorem dJ32_init_15 : decode cJ32_init 15 = .ok (.aload_n 3, 1) := dk_45 (dk_at dksJ32_init_0 15 rfl rfl)
theorem dJ32_init_16 : decode cJ32_init 16 = .ok (.putfield 17, 3) := dk_181 0 17 (dk_at dksJ32_init_0 16 rfl rfl)
theorem dJ32_init_19 : decode cJ32_init 19 = .ok (.aload_n 0, 1) := dk_42 (dk_at dksJ32_init_0 19 rfl rfl)
theorem dJ32_init_20 : decode cJ32_init 20 = .ok (.aload 4, 2) := dk_25 4 (dk_at dksJ32_init_0 20 rfl rfl)
theorem dJ32_init_22 : decode cJ32_init 22 = .ok (.putfield 20, 3) := dk_181 0 20 (dk_at dksJ32_init_1 0 rfl rfl)
theorem dJ32_init_25 : decode cJ32_init 25 = .ok (.return_, 1) := dk_177 (dk_at dksJ32_init_1 3 rfl rfl)
def dkwJ31_isNaN_0 : List UInt8 := [34, 34, 149, 153, 0, 7, 4, 167, 0, 4, 3, 172]
abbrev dktJ31_isNaN_0 : List UInt8 := dkwJ31_isNaN_0 ++ []
theorem dksJ31_isNaN_0 : cJ31_isNaN.data.toList.drop 0 = dktJ31_isNaN_0 := by decide +kernel
theorem dJ31_isNaN_0 : decode cJ31_isNaN 0 = .ok (.fload_n 0, 1) := dk_34 (dk_at dksJ31_isNaN_0 0 rfl rfl)
theorem dJ31_isNaN_1 : decode cJ31_isNaN 1 = .ok (.fload_n 0, 1) := dk_34 (dk_at dksJ31_isNaN_0 1 rfl rfl)
theorem dJ31_isNaN_2 : decode cJ31_isNaN 2 = .ok (.fcmp .l, 1) := dk_149 (dk_at dksJ31_isNaN_0 2 rfl rfl)
theorem dJ31_isNaN_3 : decode cJ31_isNaN 3 = .ok (.ifCond .eq 7, 3) := dk_153 0 7 (dk_at dksJ31_isNaN_0 3 rfl rfl)
theorem dJ31_isNaN_6 : decode cJ31_isNaN 6 = .ok (.iconst 1, 1) := dk_4 (dk_at dksJ31_isNaN_0 6 rfl rfl)
theorem dJ31_isNaN_7 : decode cJ31_isNaN 7 = .ok (.goto 4, 3) := dk_167 0 4 (dk_at dksJ31_isNaN_0 7 rfl rfl)
theorem dJ31_isNaN_10 : decode cJ31_isNaN 10 = .ok (.iconst 0, 1) := dk_3 (dk_at dksJ31_isNaN_0 10 rfl rfl)
theorem dJ31_isNaN_11 : decode cJ31_isNaN 11 = .ok (.ireturn, 1) := dk_172 (dk_at dksJ31_isNaN_0 11 rfl rfl)
