set_option maxRecDepth 100000
def dkwJ24_init_0 : List UInt8 := [42, 183, 0, 1, 42, 3, 181, 0, 7, 42, 3, 181, 0, 13, 42, 1, 181, 0, 16, 177]
abbrev dktJ24_init_0 : List UInt8 := dkwJ24_init_0 ++ []
theorem dksJ24_init_0 : cJ24_init.data.toList.drop 0 = dktJ24_init_0 := by decide +kernel
theorem dJ24_init_0 : decode cJ24_init 0 = .ok (.aload_n 0, 1) := dk_42 (dk_at dksJ24_init_0 0 rfl rfl)
theorem dJ24_init_1 : decode cJ24_init 1 = .ok (.invokespecial 1, 3) := dk_183 0 1 (dk_at dksJ24_init_0 1 rfl rfl)
theorem dJ24_init_4 : decode cJ24_init 4 = .ok (.aload_n 0, 1) := dk_42 (dk_at dksJ24_init_0 4 rfl rfl)
theorem dJ24_init_5 : decode cJ24_init 5 = .ok (.iconst 0, 1) := dk_3 (dk_at dksJ24_init_0 5 rfl rfl)
theorem dJ24_init_6 : decode cJ24_init 6 = .ok (.putfield 7, 3) := dk_181 0 7 (dk_at dksJ24_init_0 6 rfl rfl)
theorem dJ24_init_9 : decode cJ24_init 9 = .ok (.aload_n 0, 1) := dk_42 (dk_at dksJ24_init_0 9 rfl rfl)
theorem dJ24_init_10 : decode cJ24_init 10 = .ok (.iconst 0, 1) := dk_3 (dk_at dksJ24_init_0 10 rfl rfl)
theorem dJ24_init_11 : decode cJ24_init 11 = .ok (.putfield 13, 3) := dk_181 0 13 (dk_at dksJ24_init_0 11 rfl rfl)
theorem dJ24_init_14 : decode cJ24_init 14 = .ok (.aload_n 0, 1) := dk_42 (dk_at dksJ24_init_0 14 rfl rfl)
theorem dJ24_init_15 : decode cJ24_init 15 = .ok (.aconst_null, 1) := dk_1 (dk_at dksJ24_init_0 15 rfl rfl)
theorem dJ24_init_16 : decode cJ24_init 16 = .ok (.putfield 16, 3) := dk_181 0 16 (dk_at dksJ24_init_0 16 rfl rfl)
theorem dJ24_init_19 : decode cJ24_init 19 = .ok (.return_, 1) := dk_177 (dk_at dksJ24_init_0 19 rfl rfl)
def dkwJ24_put_0 : List UInt8 := [42, 43, 44, 4, 182, 0, 127, 176]
abbrev dktJ24_put_0 : List UInt8 := dkwJ24_put_0 ++ []
theorem dksJ24_put_0 : cJ24_put.data.toList.drop 0 = dktJ24_put_0 := by decide +kernel
theorem dJ24_put_0 : decode cJ24_put 0 = .ok (.aload_n 0, 1) := dk_42 (dk_at dksJ24_put_0 0 rfl rfl)
theorem dJ24_put_1 : decode cJ24_put 1 = .ok (.aload_n 1, 1) := dk_43 (dk_at dksJ24_put_0 1 rfl rfl)
theorem dJ24_put_2 : decode cJ24_put 2 = .ok (.aload_n 2, 1) := dk_44 (dk_at dksJ24_put_0 2 rfl rfl)
theorem dJ24_put_3 : decode cJ24_put 3 = .ok (.iconst 1, 1) := dk_4 (dk_at dksJ24_put_0 3 rfl rfl)
theorem dJ24_put_4 : decode cJ24_put 4 = .ok (.invokevirtual 127, 3) := dk_182 0 127 (dk_at dksJ24_put_0 4 rfl rfl)
theorem dJ24_put_7 : decode cJ24_put 7 = .ok (.areturn, 1) := dk_176 (dk_at dksJ24_put_0 7 rfl rfl)
def dkwJ24_put_2_9 : List UInt8 := [4, 167, 0, 4, 3, 182, 0, 139, 1, 176]
abbrev dktJ24_put_2_9 : List UInt8 := dkwJ24_put_2_9 ++ []
def dkwJ24_put_2_8 : List UInt8 := [25, 4, 44, 181, 0, 58, 25, 9, 176, 25, 4, 199, 255, 181, 42, 43, 44, 25, 6, 21, 5, 156, 0, 7]
abbrev dktJ24_put_2_8 : List UInt8 := dkwJ24_put_2_8 ++ dktJ24_put_2_9
def dkwJ24_put_2_7 : List UInt8 := [180, 0, 114, 58, 4, 167, 0, 28, 25, 4, 180, 0, 58, 58, 9, 29, 154, 0, 8, 25, 9, 199, 0, 9]
abbrev dktJ24_put_2_7 : List UInt8 := dkwJ24_put_2_7 ++ dktJ24_put_2_8
def dkwJ24_put_2_6 : List UInt8 := [21, 5, 156, 0, 13, 25, 4, 180, 0, 111, 58, 4, 167, 0, 43, 21, 5, 158, 0, 13, 25, 4]
abbrev dktJ24_put_2_6 : List UInt8 := dkwJ24_put_2_6 ++ dktJ24_put_2_7
def dkwJ24_put_2_5 : List UInt8 := [192, 0, 99, 58, 8, 25, 4, 58, 6, 25, 8, 25, 4, 180, 0, 105, 185, 0, 107, 2, 0, 54, 5]
abbrev dktJ24_put_2_5 : List UInt8 := dkwJ24_put_2_5 ++ dktJ24_put_2_6
def dkwJ24_put_2_4 : List UInt8 := [25, 4, 44, 181, 0, 58, 25, 8, 176, 25, 4, 199, 255, 180, 167, 0, 92, 43, 184, 0, 95, 87, 43]
abbrev dktJ24_put_2_4 : List UInt8 := dkwJ24_put_2_4 ++ dktJ24_put_2_5
def dkwJ24_put_2_3 : List UInt8 := [180, 0, 114, 58, 4, 167, 0, 28, 25, 4, 180, 0, 58, 58, 8, 29, 154, 0, 8, 25, 8, 199, 0, 9]
abbrev dktJ24_put_2_3 : List UInt8 := dkwJ24_put_2_3 ++ dktJ24_put_2_4
def dkwJ24_put_2_2 : List UInt8 := [54, 5, 21, 5, 156, 0, 13, 25, 4, 180, 0, 111, 58, 4, 167, 0, 43, 21, 5, 158, 0, 13, 25, 4]
abbrev dktJ24_put_2_2 : List UInt8 := dkwJ24_put_2_2 ++ dktJ24_put_2_3
def dkwJ24_put_2_1 : List UInt8 := [58, 7, 25, 7, 198, 0, 85, 25, 4, 58, 6, 25, 7, 43, 25, 4, 180, 0, 105, 185, 0, 117, 3, 0]
abbrev dktJ24_put_2_1 : List UInt8 := dkwJ24_put_2_1 ++ dktJ24_put_2_2
def dkwJ24_put_2_0 : List UInt8 := [42, 180, 0, 101, 58, 4, 25, 4, 199, 0, 11, 42, 43, 44, 182, 0, 135, 1, 176, 42, 180, 0, 16]
abbrev dktJ24_put_2_0 : List UInt8 := dkwJ24_put_2_0 ++ dktJ24_put_2_1
theorem dksJ24_put_2_0 : cJ24_put_2.data.toList.drop 0 = dktJ24_put_2_0 := by decide +kernel
theorem dksJ24_put_2_1 : cJ24_put_2.data.toList.drop 23 = dktJ24_put_2_1 := dk_seg dksJ24_put_2_0 23 rfl rfl
theorem dksJ24_put_2_2 : cJ24_put_2.data.toList.drop 47 = dktJ24_put_2_2 := dk_seg dksJ24_put_2_1 24 rfl rfl
theorem dksJ24_put_2_3 : cJ24_put_2.data.toList.drop 71 = dktJ24_put_2_3 := dk_seg dksJ24_put_2_2 24 rfl rfl
theorem dksJ24_put_2_4 : cJ24_put_2.data.toList.drop 95 = dktJ24_put_2_4 := dk_seg dksJ24_put_2_3 24 rfl rfl
theorem dksJ24_put_2_5 : cJ24_put_2.data.toList.drop 118 = dktJ24_put_2_5 := dk_seg dksJ24_put_2_4 23 rfl rfl
theorem dksJ24_put_2_6 : cJ24_put_2.data.toList.drop 141 = dktJ24_put_2_6 := dk_seg dksJ24_put_2_5 23 rfl rfl
theorem dksJ24_put_2_7 : cJ24_put_2.data.toList.drop 163 = dktJ24_put_2_7 := dk_seg dksJ24_put_2_6 22 rfl rfl
theorem dksJ24_put_2_8 : cJ24_put_2.data.toList.drop 187 = dktJ24_put_2_8 := dk_seg dksJ24_put_2_7 24 rfl rfl
theorem dksJ24_put_2_9 : cJ24_put_2.data.toList.drop 211 = dktJ24_put_2_9 := dk_seg dksJ24_put_2_8 24 rfl rfl
theorem dJ24_put_2_0 : decode cJ24_put_2 0 = .ok (.aload_n 0, 1) := dk_42 (dk_at dksJ24_put_2_0 0 rfl rfl)
theorem dJ24_put_2_1 : decode cJ24_put_2 1 = .ok (.getfield 101, 3) := dk_180 0 101 (dk_at dksJ24_put_2_0 1 rfl rfl)
theorem dJ24_put_2_4 : decode cJ24_put_2 4 = .ok (.astore 4, 2) := dk_58 4 (dk_at dksJ24_put_2_0 4 rfl rfl)
theorem dJ24_put_2_6 : decode cJ24_put_2 6 = .ok (.aload 4, 2) := dk_25 4 (dk_at dksJ24_put_2_0 6 rfl rfl)
theorem dJ24_put_2_8 : decode cJ24_put_2 8 = .ok (.ifnonnull 11, 3) := dk_199 0 11 (dk_at dksJ24_put_2_0 8 rfl rfl)
theorem dJ24_put_2_11 : decode cJ24_put_2 11 = .ok (.aload_n 0, 1) := dk_42 (dk_at dksJ24_put_2_0 11 rfl rfl)
theorem dJ24_put_2_12 : decode cJ24_put_2 12 = .ok (.aload_n 1, 1) := dk_43 (dk_at dksJ24_put_2_0 12 rfl rfl)
theorem dJ24_put_2_13 : decode cJ24_put_2 13 = .ok (.aload_n 2, 1) := dk_44 (dk_at dksJ24_put_2_0 13 rfl rfl)
theorem dJ24_put_2_14 : decode cJ24_put_2 14 = .ok (.invokevirtual 135, 3) := dk_182 0 135 (dk_at dksJ24_put_2_0 14 rfl rfl)
theorem dJ24_put_2_17 : decode cJ24_put_2 17 = .ok (.aconst_null, 1) := dk_1 (dk_at dksJ24_put_2_0 17 rfl rfl)
theorem dJ24_put_2_18 : decode cJ24_put_2 18 = .ok (.areturn, 1) := dk_176 (dk_at dksJ24_put_2_0 18 rfl rfl)
theorem dJ24_put_2_19 : decode cJ24_put_2 19 = .ok (.aload_n 0, 1) := dk_42 (dk_at dksJ24_put_2_0 19 rfl rfl)
theorem dJ24_put_2_20 : decode cJ24_put_2 20 = .ok (.getfield 16, 3) := dk_180 0 16 (dk_at dksJ24_put_2_0 20 rfl rfl)
theorem dJ24_put_2_23 : decode cJ24_put_2 23 = .ok (.astore 7, 2) := dk_58 7 (dk_at dksJ24_put_2_1 0 rfl rfl)
theorem dJ24_put_2_25 : decode cJ24_put_2 25 = .ok (.aload 7, 2) := dk_25 7 (dk_at dksJ24_put_2_1 2 rfl rfl)
theorem dJ24_put_2_27 : decode cJ24_put_2 27 = .ok (.ifnull 85, 3) := dk_198 0 85 (dk_at dksJ24_put_2_1 4 rfl rfl)
theorem dJ24_put_2_30 : decode cJ24_put_2 30 = .ok (.aload 4, 2) := dk_25 4 (dk_at dksJ24_put_2_1 7 rfl rfl)
theorem dJ24_put_2_32 : decode cJ24_put_2 32 = .ok (.astore 6, 2) := dk_58 6 (dk_at dksJ24_put_2_1 9 rfl rfl)
theorem dJ24_put_2_34 : decode cJ24_put_2 34 = .ok (.aload 7, 2) := dk_25 7 (dk_at dksJ24_put_2_1 11 rfl rfl)
theorem dJ24_put_2_36 : decode cJ24_put_2 36 = .ok (.aload_n 1, 1) := dk_43 (dk_at dksJ24_put_2_1 13 rfl rfl)
theorem dJ24_put_2_37 : decode cJ24_put_2 37 = .ok (.aload 4, 2) := dk_25 4 (dk_at dksJ24_put_2_1 14 rfl rfl)
theorem dJ24_put_2_39 : decode cJ24_put_2 39 = .ok (.getfield 105, 3) := dk_180 0 105 (dk_at dksJ24_put_2_1 16 rfl rfl)
theorem dJ24_put_2_42 : decode cJ24_put_2 42 = .ok (.invokeinterface 117 3, 5) := by decide +kernel
theorem dJ24_put_2_47 : decode cJ24_put_2 47 = .ok (.istore 5, 2) := dk_54 5 (dk_at dksJ24_put_2_2 0 rfl rfl)
theorem dJ24_put_2_49 : decode cJ24_put_2 49 = .ok (.iload 5, 2) := dk_21 5 (dk_at dksJ24_put_2_2 2 rfl rfl)
theorem dJ24_put_2_51 : decode cJ24_put_2 51 = .ok (.ifCond .ge 13, 3) := dk_156 0 13 (dk_at dksJ24_put_2_2 4 rfl rfl)
theorem dJ24_put_2_54 : decode cJ24_put_2 54 = .ok (.aload 4, 2) := dk_25 4 (dk_at dksJ24_put_2_2 7 rfl rfl)
theorem dJ24_put_2_56 : decode cJ24_put_2 56 = .ok (.getfield 111, 3) := dk_180 0 111 (dk_at dksJ24_put_2_2 9 rfl rfl)
theorem dJ24_put_2_59 : decode cJ24_put_2 59 = .ok (.astore 4, 2) := dk_58 4 (dk_at dksJ24_put_2_2 12 rfl rfl)
theorem dJ24_put_2_61 : decode cJ24_put_2 61 = .ok (.goto 43, 3) := dk_167 0 43 (dk_at dksJ24_put_2_2 14 rfl rfl)
theorem dJ24_put_2_64 : decode cJ24_put_2 64 = .ok (.iload 5, 2) := dk_21 5 (dk_at dksJ24_put_2_2 17 rfl rfl)
theorem dJ24_put_2_66 : decode cJ24_put_2 66 = .ok (.ifCond .le 13, 3) := dk_158 0 13 (dk_at dksJ24_put_2_2 19 rfl rfl)
theorem dJ24_put_2_69 : decode cJ24_put_2 69 = .ok (.aload 4, 2) := dk_25 4 (dk_at dksJ24_put_2_2 22 rfl rfl)
theorem dJ24_put_2_71 : decode cJ24_put_2 71 = .ok (.getfield 114, 3) := dk_180 0 114 (dk_at dksJ24_put_2_3 0 rfl rfl)
theorem dJ24_put_2_74 : decode cJ24_put_2 74 = .ok (.astore 4, 2) := dk_58 4 (dk_at dksJ24_put_2_3 3 rfl rfl)
theorem dJ24_put_2_76 : decode cJ24_put_2 76 = .ok (.goto 28, 3) := dk_167 0 28 (dk_at dksJ24_put_2_3 5 rfl rfl)
theorem dJ24_put_2_79 : decode cJ24_put_2 79 = .ok (.aload 4, 2) := dk_25 4 (dk_at dksJ24_put_2_3 8 rfl rfl)
theorem dJ24_put_2_81 : decode cJ24_put_2 81 = .ok (.getfield 58, 3) := dk_180 0 58 (dk_at dksJ24_put_2_3 10 rfl rfl)
theorem dJ24_put_2_84 : decode cJ24_put_2 84 = .ok (.astore 8, 2) := dk_58 8 (dk_at dksJ24_put_2_3 13 rfl rfl)
theorem dJ24_put_2_86 : decode cJ24_put_2 86 = .ok (.iload_n 3, 1) := dk_29 (dk_at dksJ24_put_2_3 15 rfl rfl)
theorem dJ24_put_2_87 : decode cJ24_put_2 87 = .ok (.ifCond .ne 8, 3) := dk_154 0 8 (dk_at dksJ24_put_2_3 16 rfl rfl)
theorem dJ24_put_2_90 : decode cJ24_put_2 90 = .ok (.aload 8, 2) := dk_25 8 (dk_at dksJ24_put_2_3 19 rfl rfl)
theorem dJ24_put_2_92 : decode cJ24_put_2 92 = .ok (.ifnonnull 9, 3) := dk_199 0 9 (dk_at dksJ24_put_2_3 21 rfl rfl)
theorem dJ24_put_2_95 : decode cJ24_put_2 95 = .ok (.aload 4, 2) := dk_25 4 (dk_at dksJ24_put_2_4 0 rfl rfl)
theorem dJ24_put_2_97 : decode cJ24_put_2 97 = .ok (.aload_n 2, 1) := dk_44 (dk_at dksJ24_put_2_4 2 rfl rfl)
theorem dJ24_put_2_98 : decode cJ24_put_2 98 = .ok (.putfield 58, 3) := dk_181 0 58 (dk_at dksJ24_put_2_4 3 rfl rfl)
theorem dJ24_put_2_101 : decode cJ24_put_2 101 = .ok (.aload 8, 2) := dk_25 8 (dk_at dksJ24_put_2_4 6 rfl rfl)
theorem dJ24_put_2_103 : decode cJ24_put_2 103 = .ok (.areturn, 1) := dk_176 (dk_at dksJ24_put_2_4 8 rfl rfl)
theorem dJ24_put_2_104 : decode cJ24_put_2 104 = .ok (.aload 4, 2) := dk_25 4 (dk_at dksJ24_put_2_4 9 rfl rfl)
theorem dJ24_put_2_106 : decode cJ24_put_2 106 = .ok (.ifnonnull (-76), 3) := dk_199 255 180 (dk_at dksJ24_put_2_4 11 rfl rfl)
theorem dJ24_put_2_109 : decode cJ24_put_2 109 = .ok (.goto 92, 3) := dk_167 0 92 (dk_at dksJ24_put_2_4 14 rfl rfl)
theorem dJ24_put_2_112 : decode cJ24_put_2 112 = .ok (.aload_n 1, 1) := dk_43 (dk_at dksJ24_put_2_4 17 rfl rfl)
theorem dJ24_put_2_113 : decode cJ24_put_2 113 = .ok (.invokestatic 95, 3) := dk_184 0 95 (dk_at dksJ24_put_2_4 18 rfl rfl)
theorem dJ24_put_2_116 : decode cJ24_put_2 116 = .ok (.pop, 1) := dk_87 (dk_at dksJ24_put_2_4 21 rfl rfl)
theorem dJ24_put_2_117 : decode cJ24_put_2 117 = .ok (.aload_n 1, 1) := dk_43 (dk_at dksJ24_put_2_4 22 rfl rfl)
theorem dJ24_put_2_118 : decode cJ24_put_2 118 = .ok (.checkcast 99, 3) := dk_192 0 99 (dk_at dksJ24_put_2_5 0 rfl rfl)
theorem dJ24_put_2_121 : decode cJ24_put_2 121 = .ok (.astore 8, 2) := dk_58 8 (dk_at dksJ24_put_2_5 3 rfl rfl)
theorem dJ24_put_2_123 : decode cJ24_put_2 123 = .ok (.aload 4, 2) := dk_25 4 (dk_at dksJ24_put_2_5 5 rfl rfl)
theorem dJ24_put_2_125 : decode cJ24_put_2 125 = .ok (.astore 6, 2) := dk_58 6 (dk_at dksJ24_put_2_5 7 rfl rfl)
theorem dJ24_put_2_127 : decode cJ24_put_2 127 = .ok (.aload 8, 2) := dk_25 8 (dk_at dksJ24_put_2_5 9 rfl rfl)
theorem dJ24_put_2_129 : decode cJ24_put_2 129 = .ok (.aload 4, 2) := dk_25 4 (dk_at dksJ24_put_2_5 11 rfl rfl)
theorem dJ24_put_2_131 : decode cJ24_put_2 131 = .ok (.getfield 105, 3) := dk_180 0 105 (dk_at dksJ24_put_2_5 13 rfl rfl)
theorem dJ24_put_2_134 : decode cJ24_put_2 134 = .ok (.invokeinterface 107 2, 5) := by decide +kernel
theorem dJ24_put_2_139 : decode cJ24_put_2 139 = .ok (.istore 5, 2) := dk_54 5 (dk_at dksJ24_put_2_5 21 rfl rfl)
theorem dJ24_put_2_141 : decode cJ24_put_2 141 = .ok (.iload 5, 2) := dk_21 5 (dk_at dksJ24_put_2_6 0 rfl rfl)
theorem dJ24_put_2_143 : decode cJ24_put_2 143 = .ok (.ifCond .ge 13, 3) := dk_156 0 13 (dk_at dksJ24_put_2_6 2 rfl rfl)
theorem dJ24_put_2_146 : decode cJ24_put_2 146 = .ok (.aload 4, 2) := dk_25 4 (dk_at dksJ24_put_2_6 5 rfl rfl)
theorem dJ24_put_2_148 : decode cJ24_put_2 148 = .ok (.getfield 111, 3) := dk_180 0 111 (dk_at dksJ24_put_2_6 7 rfl rfl)
theorem dJ24_put_2_151 : decode cJ24_put_2 151 = .ok (.astore 4, 2) := dk_58 4 (dk_at dksJ24_put_2_6 10 rfl rfl)
theorem dJ24_put_2_153 : decode cJ24_put_2 153 = .ok (.goto 43, 3) := dk_167 0 43 (dk_at dksJ24_put_2_6 12 rfl rfl)
theorem dJ24_put_2_156 : decode cJ24_put_2 156 = .ok (.iload 5, 2) := dk_21 5 (dk_at dksJ24_put_2_6 15 rfl rfl)
theorem dJ24_put_2_158 : decode cJ24_put_2 158 = .ok (.ifCond .le 13, 3) := dk_158 0 13 (dk_at dksJ24_put_2_6 17 rfl rfl)
theorem dJ24_put_2_161 : decode cJ24_put_2 161 = .ok (.aload 4, 2) := dk_25 4 (dk_at dksJ24_put_2_6 20 rfl rfl)
theorem dJ24_put_2_163 : decode cJ24_put_2 163 = .ok (.getfield 114, 3) := dk_180 0 114 (dk_at dksJ24_put_2_7 0 rfl rfl)
theorem dJ24_put_2_166 : decode cJ24_put_2 166 = .ok (.astore 4, 2) := dk_58 4 (dk_at dksJ24_put_2_7 3 rfl rfl)
theorem dJ24_put_2_168 : decode cJ24_put_2 168 = .ok (.goto 28, 3) := dk_167 0 28 (dk_at dksJ24_put_2_7 5 rfl rfl)
theorem dJ24_put_2_171 : decode cJ24_put_2 171 = .ok (.aload 4, 2) := dk_25 4 (dk_at dksJ24_put_2_7 8 rfl rfl)
theorem dJ24_put_2_173 : decode cJ24_put_2 173 = .ok (.getfield 58, 3) := dk_180 0 58 (dk_at dksJ24_put_2_7 10 rfl rfl)
theorem dJ24_put_2_176 : decode cJ24_put_2 176 = .ok (.astore 9, 2) := dk_58 9 (dk_at dksJ24_put_2_7 13 rfl rfl)
theorem dJ24_put_2_178 : decode cJ24_put_2 178 = .ok (.iload_n 3, 1) := dk_29 (dk_at dksJ24_put_2_7 15 rfl rfl)
theorem dJ24_put_2_179 : decode cJ24_put_2 179 = .ok (.ifCond .ne 8, 3) := dk_154 0 8 (dk_at dksJ24_put_2_7 16 rfl rfl)
theorem dJ24_put_2_182 : decode cJ24_put_2 182 = .ok (.aload 9, 2) := dk_25 9 (dk_at dksJ24_put_2_7 19 rfl rfl)
theorem dJ24_put_2_184 : decode cJ24_put_2 184 = .ok (.ifnonnull 9, 3) := dk_199 0 9 (dk_at dksJ24_put_2_7 21 rfl rfl)
theorem dJ24_put_2_187 : decode cJ24_put_2 187 = .ok (.aload 4, 2) := dk_25 4 (dk_at dksJ24_put_2_8 0 rfl rfl)
theorem dJ24_put_2_189 : decode cJ24_put_2 189 = .ok (.aload_n 2, 1) := dk_44 (dk_at dksJ24_put_2_8 2 rfl rfl)
theorem dJ24_put_2_190 : decode cJ24_put_2 190 = .ok (.putfield 58, 3) := dk_181 0 58 (dk_at dksJ24_put_2_8 3 rfl rfl)
theorem dJ24_put_2_193 : decode cJ24_put_2 193 = .ok (.aload 9, 2) := dk_25 9 (dk_at dksJ24_put_2_8 6 rfl rfl)
theorem dJ24_put_2_195 : decode cJ24_put_2 195 = .ok (.areturn, 1) := dk_176 (dk_at dksJ24_put_2_8 8 rfl rfl)
theorem dJ24_put_2_196 : decode cJ24_put_2 196 = .ok (.aload 4, 2) := dk_25 4 (dk_at dksJ24_put_2_8 9 rfl rfl)
theorem dJ24_put_2_198 : decode cJ24_put_2 198 = .ok (.ifnonnull (-75), 3) := dk_199 255 181 (dk_at dksJ24_put_2_8 11 rfl rfl)
theorem dJ24_put_2_201 : decode cJ24_put_2 201 = .ok (.aload_n 0, 1) := dk_42 (dk_at dksJ24_put_2_8 14 rfl rfl)
theorem dJ24_put_2_202 : decode cJ24_put_2 202 = .ok (.aload_n 1, 1) := dk_43 (dk_at dksJ24_put_2_8 15 rfl rfl)
theorem dJ24_put_2_203 : decode cJ24_put_2 203 = .ok (.aload_n 2, 1) := dk_44 (dk_at dksJ24_put_2_8 16 rfl rfl)
theorem dJ24_put_2_204 : decode cJ24_put_2 204 = .ok (.aload 6, 2) := dk_25 6 (dk_at dksJ24_put_2_8 17 rfl rfl)
theorem dJ24_put_2_206 : decode cJ24_put_2 206 = .ok (.iload 5, 2) := dk_21 5 (dk_at dksJ24_put_2_8 19 rfl rfl)
theorem dJ24_put_2_208 : decode cJ24_put_2 208 = .ok (.ifCond .ge 7, 3) := dk_156 0 7 (dk_at dksJ24_put_2_8 21 rfl rfl)
theorem dJ24_put_2_211 : decode cJ24_put_2 211 = .ok (.iconst 1, 1) := dk_4 (dk_at dksJ24_put_2_9 0 rfl rfl)
theorem dJ24_put_2_212 : decode cJ24_put_2 212 = .ok (.goto 4, 3) := dk_167 0 4 (dk_at dksJ24_put_2_9 1 rfl rfl)
theorem dJ24_put_2_215 : decode cJ24_put_2 215 = .ok (.iconst 0, 1) := dk_3 (dk_at dksJ24_put_2_9 4 rfl rfl)
theorem dJ24_put_2_216 : decode cJ24_put_2 216 = .ok (.invokevirtual 139, 3) := dk_182 0 139 (dk_at dksJ24_put_2_9 5 rfl rfl)
theorem dJ24_put_2_219 : decode cJ24_put_2 219 = .ok (.aconst_null, 1) := dk_1 (dk_at dksJ24_put_2_9 8 rfl rfl)
theorem dJ24_put_2_220 : decode cJ24_put_2 220 = .ok (.areturn, 1) := dk_176 (dk_at dksJ24_put_2_9 9 rfl rfl)
def dkwJ24_addEntryToEmptyMap_1 : List UInt8 := [181, 0, 7, 42, 89, 180, 0, 13, 4, 96, 181, 0, 13, 177]
abbrev dktJ24_addEntryToEmptyMap_1 : List UInt8 := dkwJ24_addEntryToEmptyMap_1 ++ []
def dkwJ24_addEntryToEmptyMap_0 : List UInt8 := [42, 43, 43, 182, 0, 123, 87, 42, 187, 0, 59, 89, 43, 44, 1, 183, 0, 167, 181, 0, 101, 42, 4]
abbrev dktJ24_addEntryToEmptyMap_0 : List UInt8 := dkwJ24_addEntryToEmptyMap_0 ++ dktJ24_addEntryToEmptyMap_1
theorem dksJ24_addEntryToEmptyMap_0 : cJ24_addEntryToEmptyMap.data.toList.drop 0 = dktJ24_addEntryToEmptyMap_0 := by decide +kernel
theorem dksJ24_addEntryToEmptyMap_1 : cJ24_addEntryToEmptyMap.data.toList.drop 23 = dktJ24_addEntryToEmptyMap_1 := dk_seg dksJ24_addEntryToEmptyMap_0 23 rfl rfl
theorem dJ24_addEntryToEmptyMap_0 : decode cJ24_addEntryToEmptyMap 0 = .ok (.aload_n 0, 1) := dk_42 (dk_at dksJ24_addEntryToEmptyMap_0 0 rfl rfl)
theorem dJ24_addEntryToEmptyMap_1 : decode cJ24_addEntryToEmptyMap 1 = .ok (.aload_n 1, 1) := dk_43 (dk_at dksJ24_addEntryToEmptyMap_0 1 rfl rfl)
theorem dJ24_addEntryToEmptyMap_2 : decode cJ24_addEntryToEmptyMap 2 = .ok (.aload_n 1, 1) := dk_43 (dk_at dksJ24_addEntryToEmptyMap_0 2 rfl rfl)
theorem dJ24_addEntryToEmptyMap_3 : decode cJ24_addEntryToEmptyMap 3 = .ok (.invokevirtual 123, 3) := dk_182 0 123 (dk_at dksJ24_addEntryToEmptyMap_0 3 rfl rfl)
theorem dJ24_addEntryToEmptyMap_6 : decode cJ24_addEntryToEmptyMap 6 = .ok (.pop, 1) := dk_87 (dk_at dksJ24_addEntryToEmptyMap_0 6 rfl rfl)
theorem dJ24_addEntryToEmptyMap_7 : decode cJ24_addEntryToEmptyMap 7 = .ok (.aload_n 0, 1) := dk_42 (dk_at dksJ24_addEntryToEmptyMap_0 7 rfl rfl)
theorem dJ24_addEntryToEmptyMap_8 : decode cJ24_addEntryToEmptyMap 8 = .ok (.new 59, 3) := dk_187 0 59 (dk_at dksJ24_addEntryToEmptyMap_0 8 rfl rfl)
theorem dJ24_addEntryToEmptyMap_11 : decode cJ24_addEntryToEmptyMap 11 = .ok (.dup, 1) := dk_89 (dk_at dksJ24_addEntryToEmptyMap_0 11 rfl rfl)
theorem dJ24_addEntryToEmptyMap_12 : decode cJ24_addEntryToEmptyMap 12 = .ok (.aload_n 1, 1) := dk_43 (dk_at dksJ24_addEntryToEmptyMap_0 12 rfl rfl)
theorem dJ24_addEntryToEmptyMap_13 : decode cJ24_addEntryToEmptyMap 13 = .ok (.aload_n 2, 1) := dk_44 (dk_at dksJ24_addEntryToEmptyMap_0 13 rfl rfl)
theorem dJ24_addEntryToEmptyMap_14 : decode cJ24_addEntryToEmptyMap 14 = .ok (.aconst_null, 1) := dk_1 (dk_at dksJ24_addEntryToEmptyMap_0 14 rfl rfl)
theorem dJ24_addEntryToEmptyMap_15 : decode cJ24_addEntryToEmptyMap 15 = .ok (.invokespecial 167, 3) := dk_183 0 167 (dk_at dksJ24_addEntryToEmptyMap_0 15 rfl rfl)
theorem dJ24_addEntryToEmptyMap_18 : decode cJ24_addEntryToEmptyMap 18 = .ok (.putfield 101, 3) := dk_181 0 101 (dk_at dksJ24_addEntryToEmptyMap_0 18 rfl rfl)
theorem dJ24_addEntryToEmptyMap_21 : decode cJ24_addEntryToEmptyMap 21 = .ok (.aload_n 0, 1) := dk_42 (dk_at dksJ24_addEntryToEmptyMap_0 21 rfl rfl)
theorem dJ24_addEntryToEmptyMap_22 : decode cJ24_addEntryToEmptyMap 22 = .ok (.iconst 1, 1) := dk_4 (dk_at dksJ24_addEntryToEmptyMap_0 22 rfl rfl)
theorem dJ24_addEntryToEmptyMap_23 : decode cJ24_addEntryToEmptyMap 23 = .ok (.putfield 7, 3) := dk_181 0 7 (dk_at dksJ24_addEntryToEmptyMap_1 0 rfl rfl)
theorem dJ24_addEntryToEmptyMap_26 : decode cJ24_addEntryToEmptyMap 26 = .ok (.aload_n 0, 1) := dk_42 (dk_at dksJ24_addEntryToEmptyMap_1 3 rfl rfl)
theorem dJ24_addEntryToEmptyMap_27 : decode cJ24_addEntryToEmptyMap 27 = .ok (.dup, 1) := dk_89 (dk_at dksJ24_addEntryToEmptyMap_1 4 rfl rfl)
theorem dJ24_addEntryToEmptyMap_28 : decode cJ24_addEntryToEmptyMap 28 = .ok (.getfield 13, 3) := dk_180 0 13 (dk_at dksJ24_addEntryToEmptyMap_1 5 rfl rfl)
theorem dJ24_addEntryToEmptyMap_31 : decode cJ24_addEntryToEmptyMap 31 = .ok (.iconst 1, 1) := dk_4 (dk_at dksJ24_addEntryToEmptyMap_1 8 rfl rfl)
theorem dJ24_addEntryToEmptyMap_32 : decode cJ24_addEntryToEmptyMap 32 = .ok (.iadd, 1) := dk_96 (dk_at dksJ24_addEntryToEmptyMap_1 9 rfl rfl)
theorem dJ24_addEntryToEmptyMap_33 : decode cJ24_addEntryToEmptyMap 33 = .ok (.putfield 13, 3) := dk_181 0 13 (dk_at dksJ24_addEntryToEmptyMap_1 10 rfl rfl)
theorem dJ24_addEntryToEmptyMap_36 : decode cJ24_addEntryToEmptyMap 36 = .ok (.return_, 1) := dk_177 (dk_at dksJ24_addEntryToEmptyMap_1 13 rfl rfl)
def dkwJ24_compare_1 : List UInt8 := [43, 44, 185, 0, 117, 3, 0, 172]
abbrev dktJ24_compare_1 : List UInt8 := dkwJ24_compare_1 ++ []
def dkwJ24_compare_0 : List UInt8 := [42, 180, 0, 16, 199, 0, 16, 43, 192, 0, 99, 44, 185, 0, 107, 2, 0, 167, 0, 14, 42, 180, 0, 16]
abbrev dktJ24_compare_0 : List UInt8 := dkwJ24_compare_0 ++ dktJ24_compare_1
theorem dksJ24_compare_0 : cJ24_compare.data.toList.drop 0 = dktJ24_compare_0 := by decide +kernel
theorem dksJ24_compare_1 : cJ24_compare.data.toList.drop 24 = dktJ24_compare_1 := dk_seg dksJ24_compare_0 24 rfl rfl
theorem dJ24_compare_0 : decode cJ24_compare 0 = .ok (.aload_n 0, 1) := dk_42 (dk_at dksJ24_compare_0 0 rfl rfl)
theorem dJ24_compare_1 : decode cJ24_compare 1 = .ok (.getfield 16, 3) := dk_180 0 16 (dk_at dksJ24_compare_0 1 rfl rfl)
theorem dJ24_compare_4 : decode cJ24_compare 4 = .ok (.ifnonnull 16, 3) := dk_199 0 16 (dk_at dksJ24_compare_0 4 rfl rfl)
theorem dJ24_compare_7 : decode cJ24_compare 7 = .ok (.aload_n 1, 1) := dk_43 (dk_at dksJ24_compare_0 7 rfl rfl)
theorem dJ24_compare_8 : decode cJ24_compare 8 = .ok (.checkcast 99, 3) := dk_192 0 99 (dk_at dksJ24_compare_0 8 rfl rfl)
theorem dJ24_compare_11 : decode cJ24_compare 11 = .ok (.aload_n 2, 1) := dk_44 (dk_at dksJ24_compare_0 11 rfl rfl)
theorem dJ24_compare_12 : decode cJ24_compare 12 = .ok (.invokeinterface 107 2, 5) := by decide +kernel
theorem dJ24_compare_17 : decode cJ24_compare 17 = .ok (.goto 14, 3) := dk_167 0 14 (dk_at dksJ24_compare_0 17 rfl rfl)
theorem dJ24_compare_20 : decode cJ24_compare 20 = .ok (.aload_n 0, 1) := dk_42 (dk_at dksJ24_compare_0 20 rfl rfl)
theorem dJ24_compare_21 : decode cJ24_compare 21 = .ok (.getfield 16, 3) := dk_180 0 16 (dk_at dksJ24_compare_0 21 rfl rfl)
theorem dJ24_compare_24 : decode cJ24_compare 24 = .ok (.aload_n 1, 1) := dk_43 (dk_at dksJ24_compare_1 0 rfl rfl)
theorem dJ24_compare_25 : decode cJ24_compare 25 = .ok (.aload_n 2, 1) := dk_44 (dk_at dksJ24_compare_1 1 rfl rfl)
theorem dJ24_compare_26 : decode cJ24_compare 26 = .ok (.invokeinterface 117 3, 5) := by decide +kernel
theorem dJ24_compare_31 : decode cJ24_compare 31 = .ok (.ireturn, 1) := dk_172 (dk_at dksJ24_compare_1 7 rfl rfl)
def dkwJ24_addEntry_2 : List UInt8 := [181, 0, 7, 42, 89, 180, 0, 13, 4, 96, 181, 0, 13, 177]
abbrev dktJ24_addEntry_2 : List UInt8 := dkwJ24_addEntry_2 ++ []
def dkwJ24_addEntry_1 : List UInt8 := [167, 0, 9, 45, 25, 5, 181, 0, 114, 42, 25, 5, 182, 0, 170, 42, 89, 180, 0, 7, 4, 96]
abbrev dktJ24_addEntry_1 : List UInt8 := dkwJ24_addEntry_1 ++ dktJ24_addEntry_2
def dkwJ24_addEntry_0 : List UInt8 := [187, 0, 59, 89, 43, 44, 45, 183, 0, 167, 58, 5, 21, 4, 153, 0, 12, 45, 25, 5, 181, 0, 111]
abbrev dktJ24_addEntry_0 : List UInt8 := dkwJ24_addEntry_0 ++ dktJ24_addEntry_1
theorem dksJ24_addEntry_0 : cJ24_addEntry.data.toList.drop 0 = dktJ24_addEntry_0 := by decide +kernel
theorem dksJ24_addEntry_1 : cJ24_addEntry.data.toList.drop 23 = dktJ24_addEntry_1 := dk_seg dksJ24_addEntry_0 23 rfl rfl
theorem dksJ24_addEntry_2 : cJ24_addEntry.data.toList.drop 45 = dktJ24_addEntry_2 := dk_seg dksJ24_addEntry_1 22 rfl rfl
theorem dJ24_addEntry_0 : decode cJ24_addEntry 0 = .ok (.new 59, 3) := dk_187 0 59 (dk_at dksJ24_addEntry_0 0 rfl rfl)
theorem dJ24_addEntry_3 : decode cJ24_addEntry 3 = .ok (.dup, 1) := dk_89 (dk_at dksJ24_addEntry_0 3 rfl rfl)
theorem dJ24_addEntry_4 : decode cJ24_addEntry 4 = .ok (.aload_n 1, 1) := dk_43 (dk_at dksJ24_addEntry_0 4 rfl rfl)
theorem dJ24_addEntry_5 : decode cJ24_addEntry 5 = .ok (.aload_n 2, 1) := dk_44 (dk_at dksJ24_addEntry_0 5 rfl rfl)
theorem dJ24_addEntry_6 : decode cJ24_addEntry 6 = .ok (.aload_n 3, 1) := dk_45 (dk_at dksJ24_addEntry_0 6 rfl rfl)
theorem dJ24_addEntry_7 : decode cJ24_addEntry 7 = .ok (.invokespecial 167, 3) := dk_183 0 167 (dk_at dksJ24_addEntry_0 7 rfl rfl)
theorem dJ24_addEntry_10 : decode cJ24_addEntry 10 = .ok (.astore 5, 2) := dk_58 5 (dk_at dksJ24_addEntry_0 10 rfl rfl)
theorem dJ24_addEntry_12 : decode cJ24_addEntry 12 = .ok (.iload 4, 2) := dk_21 4 (dk_at dksJ24_addEntry_0 12 rfl rfl)
theorem dJ24_addEntry_14 : decode cJ24_addEntry 14 = .ok (.ifCond .eq 12, 3) := dk_153 0 12 (dk_at dksJ24_addEntry_0 14 rfl rfl)
theorem dJ24_addEntry_17 : decode cJ24_addEntry 17 = .ok (.aload_n 3, 1) := dk_45 (dk_at dksJ24_addEntry_0 17 rfl rfl)
theorem dJ24_addEntry_18 : decode cJ24_addEntry 18 = .ok (.aload 5, 2) := dk_25 5 (dk_at dksJ24_addEntry_0 18 rfl rfl)
theorem dJ24_addEntry_20 : decode cJ24_addEntry 20 = .ok (.putfield 111, 3) := dk_181 0 111 (dk_at dksJ24_addEntry_0 20 rfl rfl)
theorem dJ24_addEntry_23 : decode cJ24_addEntry 23 = .ok (.goto 9, 3) := dk_167 0 9 (dk_at dksJ24_addEntry_1 0 rfl rfl)
theorem dJ24_addEntry_26 : decode cJ24_addEntry 26 = .ok (.aload_n 3, 1) := dk_45 (dk_at dksJ24_addEntry_1 3 rfl rfl)
theorem dJ24_addEntry_27 : decode cJ24_addEntry 27 = .ok (.aload 5, 2) := dk_25 5 (dk_at dksJ24_addEntry_1 4 rfl rfl)
theorem dJ24_addEntry_29 : decode cJ24_addEntry 29 = .ok (.putfield 114, 3) := dk_181 0 114 (dk_at dksJ24_addEntry_1 6 rfl rfl)
theorem dJ24_addEntry_32 : decode cJ24_addEntry 32 = .ok (.aload_n 0, 1) := dk_42 (dk_at dksJ24_addEntry_1 9 rfl rfl)
theorem dJ24_addEntry_33 : decode cJ24_addEntry 33 = .ok (.aload 5, 2) := dk_25 5 (dk_at dksJ24_addEntry_1 10 rfl rfl)
theorem dJ24_addEntry_35 : decode cJ24_addEntry 35 = .ok (.invokevirtual 170, 3) := dk_182 0 170 (dk_at dksJ24_addEntry_1 12 rfl rfl)
theorem dJ24_addEntry_38 : decode cJ24_addEntry 38 = .ok (.aload_n 0, 1) := dk_42 (dk_at dksJ24_addEntry_1 15 rfl rfl)
theorem dJ24_addEntry_39 : decode cJ24_addEntry 39 = .ok (.dup, 1) := dk_89 (dk_at dksJ24_addEntry_1 16 rfl rfl)
theorem dJ24_addEntry_40 : decode cJ24_addEntry 40 = .ok (.getfield 7, 3) := dk_180 0 7 (dk_at dksJ24_addEntry_1 17 rfl rfl)
theorem dJ24_addEntry_43 : decode cJ24_addEntry 43 = .ok (.iconst 1, 1) := dk_4 (dk_at dksJ24_addEntry_1 20 rfl rfl)
theorem dJ24_addEntry_44 : decode cJ24_addEntry 44 = .ok (.iadd, 1) := dk_96 (dk_at dksJ24_addEntry_1 21 rfl rfl)
theorem dJ24_addEntry_45 : decode cJ24_addEntry 45 = .ok (.putfield 7, 3) := dk_181 0 7 (dk_at dksJ24_addEntry_2 0 rfl rfl)
theorem dJ24_addEntry_48 : decode cJ24_addEntry 48 = .ok (.aload_n 0, 1) := dk_42 (dk_at dksJ24_addEntry_2 3 rfl rfl)
theorem dJ24_addEntry_49 : decode cJ24_addEntry 49 = .ok (.dup, 1) := dk_89 (dk_at dksJ24_addEntry_2 4 rfl rfl)
theorem dJ24_addEntry_50 : decode cJ24_addEntry 50 = .ok (.getfield 13, 3) := dk_180 0 13 (dk_at dksJ24_addEntry_2 5 rfl rfl)
theorem dJ24_addEntry_53 : decode cJ24_addEntry 53 = .ok (.iconst 1, 1) := dk_4 (dk_at dksJ24_addEntry_2 8 rfl rfl)
theorem dJ24_addEntry_54 : decode cJ24_addEntry 54 = .ok (.iadd, 1) := dk_96 (dk_at dksJ24_addEntry_2 9 rfl rfl)
theorem dJ24_addEntry_55 : decode cJ24_addEntry 55 = .ok (.putfield 13, 3) := dk_181 0 13 (dk_at dksJ24_addEntry_2 10 rfl rfl)
theorem dJ24_addEntry_58 : decode cJ24_addEntry 58 = .ok (.return_, 1) := dk_177 (dk_at dksJ24_addEntry_2 13 rfl rfl)
def dkwJ24_fixAfterInsertion_11 : List UInt8 := [42, 180, 0, 101, 4, 181, 1, 34, 177]
abbrev dktJ24_fixAfterInsertion_11 : List UInt8 := dkwJ24_fixAfterInsertion_11 ++ []
def dkwJ24_fixAfterInsertion_10 : List UInt8 := [184, 1, 38, 184, 1, 38, 3, 184, 1, 51, 42, 43, 184, 1, 38, 184, 1, 38, 182, 1, 55, 167, 255, 6]
abbrev dktJ24_fixAfterInsertion_10 : List UInt8 := dkwJ24_fixAfterInsertion_10 ++ dktJ24_fixAfterInsertion_11
def dkwJ24_fixAfterInsertion_9 : List UInt8 := [166, 0, 13, 43, 184, 1, 38, 76, 42, 43, 182, 1, 58, 43, 184, 1, 38, 4, 184, 1, 51, 43]
abbrev dktJ24_fixAfterInsertion_9 : List UInt8 := dkwJ24_fixAfterInsertion_9 ++ dktJ24_fixAfterInsertion_10
def dkwJ24_fixAfterInsertion_8 : List UInt8 := [184, 1, 51, 43, 184, 1, 38, 184, 1, 38, 76, 167, 0, 54, 43, 43, 184, 1, 38, 184, 1, 41]
abbrev dktJ24_fixAfterInsertion_8 : List UInt8 := dkwJ24_fixAfterInsertion_8 ++ dktJ24_fixAfterInsertion_9
def dkwJ24_fixAfterInsertion_7 : List UInt8 := [154, 0, 38, 43, 184, 1, 38, 4, 184, 1, 51, 44, 4, 184, 1, 51, 43, 184, 1, 38, 184, 1, 38, 3]
abbrev dktJ24_fixAfterInsertion_7 : List UInt8 := dkwJ24_fixAfterInsertion_7 ++ dktJ24_fixAfterInsertion_8
def dkwJ24_fixAfterInsertion_6 : List UInt8 := [184, 1, 38, 182, 1, 58, 167, 255, 113, 43, 184, 1, 38, 184, 1, 38, 184, 1, 41, 77, 44, 184, 1, 47]
abbrev dktJ24_fixAfterInsertion_6 : List UInt8 := dkwJ24_fixAfterInsertion_6 ++ dktJ24_fixAfterInsertion_7
def dkwJ24_fixAfterInsertion_5 : List UInt8 := [43, 184, 1, 38, 4, 184, 1, 51, 43, 184, 1, 38, 184, 1, 38, 3, 184, 1, 51, 42, 43, 184, 1, 38]
abbrev dktJ24_fixAfterInsertion_5 : List UInt8 := dkwJ24_fixAfterInsertion_5 ++ dktJ24_fixAfterInsertion_6
def dkwJ24_fixAfterInsertion_4 : List UInt8 := [167, 0, 54, 43, 43, 184, 1, 38, 184, 1, 44, 166, 0, 13, 43, 184, 1, 38, 76, 42, 43, 182, 1, 55]
abbrev dktJ24_fixAfterInsertion_4 : List UInt8 := dkwJ24_fixAfterInsertion_4 ++ dktJ24_fixAfterInsertion_5
def dkwJ24_fixAfterInsertion_3 : List UInt8 := [184, 1, 51, 43, 184, 1, 38, 184, 1, 38, 3, 184, 1, 51, 43, 184, 1, 38, 184, 1, 38, 76]
abbrev dktJ24_fixAfterInsertion_3 : List UInt8 := dkwJ24_fixAfterInsertion_3 ++ dktJ24_fixAfterInsertion_4
def dkwJ24_fixAfterInsertion_2 : List UInt8 := [184, 1, 38, 184, 1, 44, 77, 44, 184, 1, 47, 154, 0, 38, 43, 184, 1, 38, 4, 184, 1, 51, 44, 4]
abbrev dktJ24_fixAfterInsertion_2 : List UInt8 := dkwJ24_fixAfterInsertion_2 ++ dktJ24_fixAfterInsertion_3
def dkwJ24_fixAfterInsertion_1 : List UInt8 := [154, 0, 234, 43, 184, 1, 38, 43, 184, 1, 38, 184, 1, 38, 184, 1, 41, 166, 0, 110, 43, 184, 1, 38]
abbrev dktJ24_fixAfterInsertion_1 : List UInt8 := dkwJ24_fixAfterInsertion_1 ++ dktJ24_fixAfterInsertion_2
def dkwJ24_fixAfterInsertion_0 : List UInt8 := [43, 3, 181, 1, 34, 43, 198, 0, 252, 43, 42, 180, 0, 101, 165, 0, 244, 43, 180, 0, 124, 180, 1, 34]
abbrev dktJ24_fixAfterInsertion_0 : List UInt8 := dkwJ24_fixAfterInsertion_0 ++ dktJ24_fixAfterInsertion_1
theorem dksJ24_fixAfterInsertion_0 : cJ24_fixAfterInsertion.data.toList.drop 0 = dktJ24_fixAfterInsertion_0 := by decide +kernel
theorem dksJ24_fixAfterInsertion_1 : cJ24_fixAfterInsertion.data.toList.drop 24 = dktJ24_fixAfterInsertion_1 := dk_seg dksJ24_fixAfterInsertion_0 24 rfl rfl
theorem dksJ24_fixAfterInsertion_2 : cJ24_fixAfterInsertion.data.toList.drop 48 = dktJ24_fixAfterInsertion_2 := dk_seg dksJ24_fixAfterInsertion_1 24 rfl rfl
theorem dksJ24_fixAfterInsertion_3 : cJ24_fixAfterInsertion.data.toList.drop 72 = dktJ24_fixAfterInsertion_3 := dk_seg dksJ24_fixAfterInsertion_2 24 rfl rfl
theorem dksJ24_fixAfterInsertion_4 : cJ24_fixAfterInsertion.data.toList.drop 94 = dktJ24_fixAfterInsertion_4 := dk_seg dksJ24_fixAfterInsertion_3 22 rfl rfl
theorem dksJ24_fixAfterInsertion_5 : cJ24_fixAfterInsertion.data.toList.drop 118 = dktJ24_fixAfterInsertion_5 := dk_seg dksJ24_fixAfterInsertion_4 24 rfl rfl
theorem dksJ24_fixAfterInsertion_6 : cJ24_fixAfterInsertion.data.toList.drop 142 = dktJ24_fixAfterInsertion_6 := dk_seg dksJ24_fixAfterInsertion_5 24 rfl rfl
theorem dksJ24_fixAfterInsertion_7 : cJ24_fixAfterInsertion.data.toList.drop 166 = dktJ24_fixAfterInsertion_7 := dk_seg dksJ24_fixAfterInsertion_6 24 rfl rfl
theorem dksJ24_fixAfterInsertion_8 : cJ24_fixAfterInsertion.data.toList.drop 190 = dktJ24_fixAfterInsertion_8 := dk_seg dksJ24_fixAfterInsertion_7 24 rfl rfl
theorem dksJ24_fixAfterInsertion_9 : cJ24_fixAfterInsertion.data.toList.drop 212 = dktJ24_fixAfterInsertion_9 := dk_seg dksJ24_fixAfterInsertion_8 22 rfl rfl
theorem dksJ24_fixAfterInsertion_10 : cJ24_fixAfterInsertion.data.toList.drop 234 = dktJ24_fixAfterInsertion_10 := dk_seg dksJ24_fixAfterInsertion_9 22 rfl rfl
theorem dksJ24_fixAfterInsertion_11 : cJ24_fixAfterInsertion.data.toList.drop 258 = dktJ24_fixAfterInsertion_11 := dk_seg dksJ24_fixAfterInsertion_10 24 rfl rfl
theorem dJ24_fixAfterInsertion_0 : decode cJ24_fixAfterInsertion 0 = .ok (.aload_n 1, 1) := dk_43 (dk_at dksJ24_fixAfterInsertion_0 0 rfl rfl)
theorem dJ24_fixAfterInsertion_1 : decode cJ24_fixAfterInsertion 1 = .ok (.iconst 0, 1) := dk_3 (dk_at dksJ24_fixAfterInsertion_0 1 rfl rfl)
theorem dJ24_fixAfterInsertion_2 : decode cJ24_fixAfterInsertion 2 = .ok (.putfield 290, 3) := dk_181 1 34 (dk_at dksJ24_fixAfterInsertion_0 2 rfl rfl)
theorem dJ24_fixAfterInsertion_5 : decode cJ24_fixAfterInsertion 5 = .ok (.aload_n 1, 1) := dk_43 (dk_at dksJ24_fixAfterInsertion_0 5 rfl rfl)
theorem dJ24_fixAfterInsertion_6 : decode cJ24_fixAfterInsertion 6 = .ok (.ifnull 252, 3) := dk_198 0 252 (dk_at dksJ24_fixAfterInsertion_0 6 rfl rfl)
theorem dJ24_fixAfterInsertion_9 : decode cJ24_fixAfterInsertion 9 = .ok (.aload_n 1, 1) := dk_43 (dk_at dksJ24_fixAfterInsertion_0 9 rfl rfl)
theorem dJ24_fixAfterInsertion_10 : decode cJ24_fixAfterInsertion 10 = .ok (.aload_n 0, 1) := dk_42 (dk_at dksJ24_fixAfterInsertion_0 10 rfl rfl)
theorem dJ24_fixAfterInsertion_11 : decode cJ24_fixAfterInsertion 11 = .ok (.getfield 101, 3) := dk_180 0 101 (dk_at dksJ24_fixAfterInsertion_0 11 rfl rfl)
theorem dJ24_fixAfterInsertion_14 : decode cJ24_fixAfterInsertion 14 = .ok (.if_acmp .eq 244, 3) := dk_165 0 244 (dk_at dksJ24_fixAfterInsertion_0 14 rfl rfl)
theorem dJ24_fixAfterInsertion_17 : decode cJ24_fixAfterInsertion 17 = .ok (.aload_n 1, 1) := dk_43 (dk_at dksJ24_fixAfterInsertion_0 17 rfl rfl)
theorem dJ24_fixAfterInsertion_18 : decode cJ24_fixAfterInsertion 18 = .ok (.getfield 124, 3) := dk_180 0 124 (dk_at dksJ24_fixAfterInsertion_0 18 rfl rfl)
theorem dJ24_fixAfterInsertion_21 : decode cJ24_fixAfterInsertion 21 = .ok (.getfield 290, 3) := dk_180 1 34 (dk_at dksJ24_fixAfterInsertion_0 21 rfl rfl)
theorem dJ24_fixAfterInsertion_24 : decode cJ24_fixAfterInsertion 24 = .ok (.ifCond .ne 234, 3) := dk_154 0 234 (dk_at dksJ24_fixAfterInsertion_1 0 rfl rfl)
theorem dJ24_fixAfterInsertion_27 : decode cJ24_fixAfterInsertion 27 = .ok (.aload_n 1, 1) := dk_43 (dk_at dksJ24_fixAfterInsertion_1 3 rfl rfl)
theorem dJ24_fixAfterInsertion_28 : decode cJ24_fixAfterInsertion 28 = .ok (.invokestatic 294, 3) := dk_184 1 38 (dk_at dksJ24_fixAfterInsertion_1 4 rfl rfl)
theorem dJ24_fixAfterInsertion_31 : decode cJ24_fixAfterInsertion 31 = .ok (.aload_n 1, 1) := dk_43 (dk_at dksJ24_fixAfterInsertion_1 7 rfl rfl)
theorem dJ24_fixAfterInsertion_32 : decode cJ24_fixAfterInsertion 32 = .ok (.invokestatic 294, 3) := dk_184 1 38 (dk_at dksJ24_fixAfterInsertion_1 8 rfl rfl)
theorem dJ24_fixAfterInsertion_35 : decode cJ24_fixAfterInsertion 35 = .ok (.invokestatic 294, 3) := dk_184 1 38 (dk_at dksJ24_fixAfterInsertion_1 11 rfl rfl)
theorem dJ24_fixAfterInsertion_38 : decode cJ24_fixAfterInsertion 38 = .ok (.invokestatic 297, 3) := dk_184 1 41 (dk_at dksJ24_fixAfterInsertion_1 14 rfl rfl)
theorem dJ24_fixAfterInsertion_41 : decode cJ24_fixAfterInsertion 41 = .ok (.if_acmp .ne 110, 3) := dk_166 0 110 (dk_at dksJ24_fixAfterInsertion_1 17 rfl rfl)
theorem dJ24_fixAfterInsertion_44 : decode cJ24_fixAfterInsertion 44 = .ok (.aload_n 1, 1) := dk_43 (dk_at dksJ24_fixAfterInsertion_1 20 rfl rfl)
theorem dJ24_fixAfterInsertion_45 : decode cJ24_fixAfterInsertion 45 = .ok (.invokestatic 294, 3) := dk_184 1 38 (dk_at dksJ24_fixAfterInsertion_1 21 rfl rfl)
theorem dJ24_fixAfterInsertion_48 : decode cJ24_fixAfterInsertion 48 = .ok (.invokestatic 294, 3) := dk_184 1 38 (dk_at dksJ24_fixAfterInsertion_2 0 rfl rfl)
theorem dJ24_fixAfterInsertion_51 : decode cJ24_fixAfterInsertion 51 = .ok (.invokestatic 300, 3) := dk_184 1 44 (dk_at dksJ24_fixAfterInsertion_2 3 rfl rfl)
theorem dJ24_fixAfterInsertion_54 : decode cJ24_fixAfterInsertion 54 = .ok (.astore_n 2, 1) := dk_77 (dk_at dksJ24_fixAfterInsertion_2 6 rfl rfl)
theorem dJ24_fixAfterInsertion_55 : decode cJ24_fixAfterInsertion 55 = .ok (.aload_n 2, 1) := dk_44 (dk_at dksJ24_fixAfterInsertion_2 7 rfl rfl)
theorem dJ24_fixAfterInsertion_56 : decode cJ24_fixAfterInsertion 56 = .ok (.invokestatic 303, 3) := dk_184 1 47 (dk_at dksJ24_fixAfterInsertion_2 8 rfl rfl)
theorem dJ24_fixAfterInsertion_59 : decode cJ24_fixAfterInsertion 59 = .ok (.ifCond .ne 38, 3) := dk_154 0 38 (dk_at dksJ24_fixAfterInsertion_2 11 rfl rfl)
theorem dJ24_fixAfterInsertion_62 : decode cJ24_fixAfterInsertion 62 = .ok (.aload_n 1, 1) := dk_43 (dk_at dksJ24_fixAfterInsertion_2 14 rfl rfl)
theorem dJ24_fixAfterInsertion_63 : decode cJ24_fixAfterInsertion 63 = .ok (.invokestatic 294, 3) := dk_184 1 38 (dk_at dksJ24_fixAfterInsertion_2 15 rfl rfl)
theorem dJ24_fixAfterInsertion_66 : decode cJ24_fixAfterInsertion 66 = .ok (.iconst 1, 1) := dk_4 (dk_at dksJ24_fixAfterInsertion_2 18 rfl rfl)
theorem dJ24_fixAfterInsertion_67 : decode cJ24_fixAfterInsertion 67 = .ok (.invokestatic 307, 3) := dk_184 1 51 (dk_at dksJ24_fixAfterInsertion_2 19 rfl rfl)
theorem dJ24_fixAfterInsertion_70 : decode cJ24_fixAfterInsertion 70 = .ok (.aload_n 2, 1) := dk_44 (dk_at dksJ24_fixAfterInsertion_2 22 rfl rfl)
theorem dJ24_fixAfterInsertion_71 : decode cJ24_fixAfterInsertion 71 = .ok (.iconst 1, 1) := dk_4 (dk_at dksJ24_fixAfterInsertion_2 23 rfl rfl)
theorem dJ24_fixAfterInsertion_72 : decode cJ24_fixAfterInsertion 72 = .ok (.invokestatic 307, 3) := dk_184 1 51 (dk_at dksJ24_fixAfterInsertion_3 0 rfl rfl)
theorem dJ24_fixAfterInsertion_75 : decode cJ24_fixAfterInsertion 75 = .ok (.aload_n 1, 1) := dk_43 (dk_at dksJ24_fixAfterInsertion_3 3 rfl rfl)
theorem dJ24_fixAfterInsertion_76 : decode cJ24_fixAfterInsertion 76 = .ok (.invokestatic 294, 3) := dk_184 1 38 (dk_at dksJ24_fixAfterInsertion_3 4 rfl rfl)
theorem dJ24_fixAfterInsertion_79 : decode cJ24_fixAfterInsertion 79 = .ok (.invokestatic 294, 3) := dk_184 1 38 (dk_at dksJ24_fixAfterInsertion_3 7 rfl rfl)
theorem dJ24_fixAfterInsertion_82 : decode cJ24_fixAfterInsertion 82 = .ok (.iconst 0, 1) := dk_3 (dk_at dksJ24_fixAfterInsertion_3 10 rfl rfl)
theorem dJ24_fixAfterInsertion_83 : decode cJ24_fixAfterInsertion 83 = .ok (.invokestatic 307, 3) := dk_184 1 51 (dk_at dksJ24_fixAfterInsertion_3 11 rfl rfl)
theorem dJ24_fixAfterInsertion_86 : decode cJ24_fixAfterInsertion 86 = .ok (.aload_n 1, 1) := dk_43 (dk_at dksJ24_fixAfterInsertion_3 14 rfl rfl)
theorem dJ24_fixAfterInsertion_87 : decode cJ24_fixAfterInsertion 87 = .ok (.invokestatic 294, 3) := dk_184 1 38 (dk_at dksJ24_fixAfterInsertion_3 15 rfl rfl)
theorem dJ24_fixAfterInsertion_90 : decode cJ24_fixAfterInsertion 90 = .ok (.invokestatic 294, 3) := dk_184 1 38 (dk_at dksJ24_fixAfterInsertion_3 18 rfl rfl)
theorem dJ24_fixAfterInsertion_93 : decode cJ24_fixAfterInsertion 93 = .ok (.astore_n 1, 1) := dk_76 (dk_at dksJ24_fixAfterInsertion_3 21 rfl rfl)
theorem dJ24_fixAfterInsertion_94 : decode cJ24_fixAfterInsertion 94 = .ok (.goto 54, 3) := dk_167 0 54 (dk_at dksJ24_fixAfterInsertion_4 0 rfl rfl)
theorem dJ24_fixAfterInsertion_97 : decode cJ24_fixAfterInsertion 97 = .ok (.aload_n 1, 1) := dk_43 (dk_at dksJ24_fixAfterInsertion_4 3 rfl rfl)
theorem dJ24_fixAfterInsertion_98 : decode cJ24_fixAfterInsertion 98 = .ok (.aload_n 1, 1) := dk_43 (dk_at dksJ24_fixAfterInsertion_4 4 rfl rfl)
theorem dJ24_fixAfterInsertion_99 : decode cJ24_fixAfterInsertion 99 = .ok (.invokestatic 294, 3) := dk_184 1 38 (dk_at dksJ24_fixAfterInsertion_4 5 rfl rfl)
theorem dJ24_fixAfterInsertion_102 : decode cJ24_fixAfterInsertion 102 = .ok (.invokestatic 300, 3) := dk_184 1 44 (dk_at dksJ24_fixAfterInsertion_4 8 rfl rfl)
theorem dJ24_fixAfterInsertion_105 : decode cJ24_fixAfterInsertion 105 = .ok (.if_acmp .ne 13, 3) := dk_166 0 13 (dk_at dksJ24_fixAfterInsertion_4 11 rfl rfl)
theorem dJ24_fixAfterInsertion_108 : decode cJ24_fixAfterInsertion 108 = .ok (.aload_n 1, 1) := dk_43 (dk_at dksJ24_fixAfterInsertion_4 14 rfl rfl)
theorem dJ24_fixAfterInsertion_109 : decode cJ24_fixAfterInsertion 109 = .ok (.invokestatic 294, 3) := dk_184 1 38 (dk_at dksJ24_fixAfterInsertion_4 15 rfl rfl)
theorem dJ24_fixAfterInsertion_112 : decode cJ24_fixAfterInsertion 112 = .ok (.astore_n 1, 1) := dk_76 (dk_at dksJ24_fixAfterInsertion_4 18 rfl rfl)
theorem dJ24_fixAfterInsertion_113 : decode cJ24_fixAfterInsertion 113 = .ok (.aload_n 0, 1) := dk_42 (dk_at dksJ24_fixAfterInsertion_4 19 rfl rfl)
theorem dJ24_fixAfterInsertion_114 : decode cJ24_fixAfterInsertion 114 = .ok (.aload_n 1, 1) := dk_43 (dk_at dksJ24_fixAfterInsertion_4 20 rfl rfl)
theorem dJ24_fixAfterInsertion_115 : decode cJ24_fixAfterInsertion 115 = .ok (.invokevirtual 311, 3) := dk_182 1 55 (dk_at dksJ24_fixAfterInsertion_4 21 rfl rfl)
theorem dJ24_fixAfterInsertion_118 : decode cJ24_fixAfterInsertion 118 = .ok (.aload_n 1, 1) := dk_43 (dk_at dksJ24_fixAfterInsertion_5 0 rfl rfl)
theorem dJ24_fixAfterInsertion_119 : decode cJ24_fixAfterInsertion 119 = .ok (.invokestatic 294, 3) := dk_184 1 38 (dk_at dksJ24_fixAfterInsertion_5 1 rfl rfl)
theorem dJ24_fixAfterInsertion_122 : decode cJ24_fixAfterInsertion 122 = .ok (.iconst 1, 1) := dk_4 (dk_at dksJ24_fixAfterInsertion_5 4 rfl rfl)
theorem dJ24_fixAfterInsertion_123 : decode cJ24_fixAfterInsertion 123 = .ok (.invokestatic 307, 3) := dk_184 1 51 (dk_at dksJ24_fixAfterInsertion_5 5 rfl rfl)
theorem dJ24_fixAfterInsertion_126 : decode cJ24_fixAfterInsertion 126 = .ok (.aload_n 1, 1) := dk_43 (dk_at dksJ24_fixAfterInsertion_5 8 rfl rfl)
theorem dJ24_fixAfterInsertion_127 : decode cJ24_fixAfterInsertion 127 = .ok (.invokestatic 294, 3) := dk_184 1 38 (dk_at dksJ24_fixAfterInsertion_5 9 rfl rfl)
theorem dJ24_fixAfterInsertion_130 : decode cJ24_fixAfterInsertion 130 = .ok (.invokestatic 294, 3) := dk_184 1 38 (dk_at dksJ24_fixAfterInsertion_5 12 rfl rfl)
theorem dJ24_fixAfterInsertion_133 : decode cJ24_fixAfterInsertion 133 = .ok (.iconst 0, 1) := dk_3 (dk_at dksJ24_fixAfterInsertion_5 15 rfl rfl)
theorem dJ24_fixAfterInsertion_134 : decode cJ24_fixAfterInsertion 134 = .ok (.invokestatic 307, 3) := dk_184 1 51 (dk_at dksJ24_fixAfterInsertion_5 16 rfl rfl)
theorem dJ24_fixAfterInsertion_137 : decode cJ24_fixAfterInsertion 137 = .ok (.aload_n 0, 1) := dk_42 (dk_at dksJ24_fixAfterInsertion_5 19 rfl rfl)
theorem dJ24_fixAfterInsertion_138 : decode cJ24_fixAfterInsertion 138 = .ok (.aload_n 1, 1) := dk_43 (dk_at dksJ24_fixAfterInsertion_5 20 rfl rfl)
theorem dJ24_fixAfterInsertion_139 : decode cJ24_fixAfterInsertion 139 = .ok (.invokestatic 294, 3) := dk_184 1 38 (dk_at dksJ24_fixAfterInsertion_5 21 rfl rfl)
theorem dJ24_fixAfterInsertion_142 : decode cJ24_fixAfterInsertion 142 = .ok (.invokestatic 294, 3) := dk_184 1 38 (dk_at dksJ24_fixAfterInsertion_6 0 rfl rfl)
theorem dJ24_fixAfterInsertion_145 : decode cJ24_fixAfterInsertion 145 = .ok (.invokevirtual 314, 3) := dk_182 1 58 (dk_at dksJ24_fixAfterInsertion_6 3 rfl rfl)
theorem dJ24_fixAfterInsertion_148 : decode cJ24_fixAfterInsertion 148 = .ok (.goto (-143), 3) := dk_167 255 113 (dk_at dksJ24_fixAfterInsertion_6 6 rfl rfl)
theorem dJ24_fixAfterInsertion_151 : decode cJ24_fixAfterInsertion 151 = .ok (.aload_n 1, 1) := dk_43 (dk_at dksJ24_fixAfterInsertion_6 9 rfl rfl)
theorem dJ24_fixAfterInsertion_152 : decode cJ24_fixAfterInsertion 152 = .ok (.invokestatic 294, 3) := dk_184 1 38 (dk_at dksJ24_fixAfterInsertion_6 10 rfl rfl)
theorem dJ24_fixAfterInsertion_155 : decode cJ24_fixAfterInsertion 155 = .ok (.invokestatic 294, 3) := dk_184 1 38 (dk_at dksJ24_fixAfterInsertion_6 13 rfl rfl)
theorem dJ24_fixAfterInsertion_158 : decode cJ24_fixAfterInsertion 158 = .ok (.invokestatic 297, 3) := dk_184 1 41 (dk_at dksJ24_fixAfterInsertion_6 16 rfl rfl)
theorem dJ24_fixAfterInsertion_161 : decode cJ24_fixAfterInsertion 161 = .ok (.astore_n 2, 1) := dk_77 (dk_at dksJ24_fixAfterInsertion_6 19 rfl rfl)
theorem dJ24_fixAfterInsertion_162 : decode cJ24_fixAfterInsertion 162 = .ok (.aload_n 2, 1) := dk_44 (dk_at dksJ24_fixAfterInsertion_6 20 rfl rfl)
theorem dJ24_fixAfterInsertion_163 : decode cJ24_fixAfterInsertion 163 = .ok (.invokestatic 303, 3) := dk_184 1 47 (dk_at dksJ24_fixAfterInsertion_6 21 rfl rfl)
theorem dJ24_fixAfterInsertion_166 : decode cJ24_fixAfterInsertion 166 = .ok (.ifCond .ne 38, 3) := dk_154 0 38 (dk_at dksJ24_fixAfterInsertion_7 0 rfl rfl)
theorem dJ24_fixAfterInsertion_169 : decode cJ24_fixAfterInsertion 169 = .ok (.aload_n 1, 1) := dk_43 (dk_at dksJ24_fixAfterInsertion_7 3 rfl rfl)
theorem dJ24_fixAfterInsertion_170 : decode cJ24_fixAfterInsertion 170 = .ok (.invokestatic 294, 3) := dk_184 1 38 (dk_at dksJ24_fixAfterInsertion_7 4 rfl rfl)
theorem dJ24_fixAfterInsertion_173 : decode cJ24_fixAfterInsertion 173 = .ok (.iconst 1, 1) := dk_4 (dk_at dksJ24_fixAfterInsertion_7 7 rfl rfl)
theorem dJ24_fixAfterInsertion_174 : decode cJ24_fixAfterInsertion 174 = .ok (.invokestatic 307, 3) := dk_184 1 51 (dk_at dksJ24_fixAfterInsertion_7 8 rfl rfl)
theorem dJ24_fixAfterInsertion_177 : decode cJ24_fixAfterInsertion 177 = .ok (.aload_n 2, 1) := dk_44 (dk_at dksJ24_fixAfterInsertion_7 11 rfl rfl)
theorem dJ24_fixAfterInsertion_178 : decode cJ24_fixAfterInsertion 178 = .ok (.iconst 1, 1) := dk_4 (dk_at dksJ24_fixAfterInsertion_7 12 rfl rfl)
theorem dJ24_fixAfterInsertion_179 : decode cJ24_fixAfterInsertion 179 = .ok (.invokestatic 307, 3) := dk_184 1 51 (dk_at dksJ24_fixAfterInsertion_7 13 rfl rfl)
theorem dJ24_fixAfterInsertion_182 : decode cJ24_fixAfterInsertion 182 = .ok (.aload_n 1, 1) := dk_43 (dk_at dksJ24_fixAfterInsertion_7 16 rfl rfl)
theorem dJ24_fixAfterInsertion_183 : decode cJ24_fixAfterInsertion 183 = .ok (.invokestatic 294, 3) := dk_184 1 38 (dk_at dksJ24_fixAfterInsertion_7 17 rfl rfl)
theorem dJ24_fixAfterInsertion_186 : decode cJ24_fixAfterInsertion 186 = .ok (.invokestatic 294, 3) := dk_184 1 38 (dk_at dksJ24_fixAfterInsertion_7 20 rfl rfl)
theorem dJ24_fixAfterInsertion_189 : decode cJ24_fixAfterInsertion 189 = .ok (.iconst 0, 1) := dk_3 (dk_at dksJ24_fixAfterInsertion_7 23 rfl rfl)
theorem dJ24_fixAfterInsertion_190 : decode cJ24_fixAfterInsertion 190 = .ok (.invokestatic 307, 3) := dk_184 1 51 (dk_at dksJ24_fixAfterInsertion_8 0 rfl rfl)
theorem dJ24_fixAfterInsertion_193 : decode cJ24_fixAfterInsertion 193 = .ok (.aload_n 1, 1) := dk_43 (dk_at dksJ24_fixAfterInsertion_8 3 rfl rfl)
theorem dJ24_fixAfterInsertion_194 : decode cJ24_fixAfterInsertion 194 = .ok (.invokestatic 294, 3) := dk_184 1 38 (dk_at dksJ24_fixAfterInsertion_8 4 rfl rfl)
theorem dJ24_fixAfterInsertion_197 : decode cJ24_fixAfterInsertion 197 = .ok (.invokestatic 294, 3) := dk_184 1 38 (dk_at dksJ24_fixAfterInsertion_8 7 rfl rfl)
theorem dJ24_fixAfterInsertion_200 : decode cJ24_fixAfterInsertion 200 = .ok (.astore_n 1, 1) := dk_76 (dk_at dksJ24_fixAfterInsertion_8 10 rfl rfl)
theorem dJ24_fixAfterInsertion_201 : decode cJ24_fixAfterInsertion 201 = .ok (.goto 54, 3) := dk_167 0 54 (dk_at dksJ24_fixAfterInsertion_8 11 rfl rfl)
theorem dJ24_fixAfterInsertion_204 : decode cJ24_fixAfterInsertion 204 = .ok (.aload_n 1, 1) := dk_43 (dk_at dksJ24_fixAfterInsertion_8 14 rfl rfl)
theorem dJ24_fixAfterInsertion_205 : decode cJ24_fixAfterInsertion 205 = .ok (.aload_n 1, 1) := dk_43 (dk_at dksJ24_fixAfterInsertion_8 15 rfl rfl)
theorem dJ24_fixAfterInsertion_206 : decode cJ24_fixAfterInsertion 206 = .ok (.invokestatic 294, 3) := dk_184 1 38 (dk_at dksJ24_fixAfterInsertion_8 16 rfl rfl)
theorem dJ24_fixAfterInsertion_209 : decode cJ24_fixAfterInsertion 209 = .ok (.invokestatic 297, 3) := dk_184 1 41 (dk_at dksJ24_fixAfterInsertion_8 19 rfl rfl)
theorem dJ24_fixAfterInsertion_212 : decode cJ24_fixAfterInsertion 212 = .ok (.if_acmp .ne 13, 3) := dk_166 0 13 (dk_at dksJ24_fixAfterInsertion_9 0 rfl rfl)
theorem dJ24_fixAfterInsertion_215 : decode cJ24_fixAfterInsertion 215 = .ok (.aload_n 1, 1) := dk_43 (dk_at dksJ24_fixAfterInsertion_9 3 rfl rfl)
theorem dJ24_fixAfterInsertion_216 : decode cJ24_fixAfterInsertion 216 = .ok (.invokestatic 294, 3) := dk_184 1 38 (dk_at dksJ24_fixAfterInsertion_9 4 rfl rfl)
theorem dJ24_fixAfterInsertion_219 : decode cJ24_fixAfterInsertion 219 = .ok (.astore_n 1, 1) := dk_76 (dk_at dksJ24_fixAfterInsertion_9 7 rfl rfl)
theorem dJ24_fixAfterInsertion_220 : decode cJ24_fixAfterInsertion 220 = .ok (.aload_n 0, 1) := dk_42 (dk_at dksJ24_fixAfterInsertion_9 8 rfl rfl)
theorem dJ24_fixAfterInsertion_221 : decode cJ24_fixAfterInsertion 221 = .ok (.aload_n 1, 1) := dk_43 (dk_at dksJ24_fixAfterInsertion_9 9 rfl rfl)
theorem dJ24_fixAfterInsertion_222 : decode cJ24_fixAfterInsertion 222 = .ok (.invokevirtual 314, 3) := dk_182 1 58 (dk_at dksJ24_fixAfterInsertion_9 10 rfl rfl)
theorem dJ24_fixAfterInsertion_225 : decode cJ24_fixAfterInsertion 225 = .ok (.aload_n 1, 1) := dk_43 (dk_at dksJ24_fixAfterInsertion_9 13 rfl rfl)
theorem dJ24_fixAfterInsertion_226 : decode cJ24_fixAfterInsertion 226 = .ok (.invokestatic 294, 3) := dk_184 1 38 (dk_at dksJ24_fixAfterInsertion_9 14 rfl rfl)
theorem dJ24_fixAfterInsertion_229 : decode cJ24_fixAfterInsertion 229 = .ok (.iconst 1, 1) := dk_4 (dk_at dksJ24_fixAfterInsertion_9 17 rfl rfl)
theorem dJ24_fixAfterInsertion_230 : decode cJ24_fixAfterInsertion 230 = .ok (.invokestatic 307, 3) := dk_184 1 51 (dk_at dksJ24_fixAfterInsertion_9 18 rfl rfl)
theorem dJ24_fixAfterInsertion_233 : decode cJ24_fixAfterInsertion 233 = .ok (.aload_n 1, 1) := dk_43 (dk_at dksJ24_fixAfterInsertion_9 21 rfl rfl)
theorem dJ24_fixAfterInsertion_234 : decode cJ24_fixAfterInsertion 234 = .ok (.invokestatic 294, 3) := dk_184 1 38 (dk_at dksJ24_fixAfterInsertion_10 0 rfl rfl)
theorem dJ24_fixAfterInsertion_237 : decode cJ24_fixAfterInsertion 237 = .ok (.invokestatic 294, 3) := dk_184 1 38 (dk_at dksJ24_fixAfterInsertion_10 3 rfl rfl)
theorem dJ24_fixAfterInsertion_240 : decode cJ24_fixAfterInsertion 240 = .ok (.iconst 0, 1) := dk_3 (dk_at dksJ24_fixAfterInsertion_10 6 rfl rfl)
theorem dJ24_fixAfterInsertion_241 : decode cJ24_fixAfterInsertion 241 = .ok (.invokestatic 307, 3) := dk_184 1 51 (dk_at dksJ24_fixAfterInsertion_10 7 rfl rfl)
theorem dJ24_fixAfterInsertion_244 : decode cJ24_fixAfterInsertion 244 = .ok (.aload_n 0, 1) := dk_42 (dk_at dksJ24_fixAfterInsertion_10 10 rfl rfl)
theorem dJ24_fixAfterInsertion_245 : decode cJ24_fixAfterInsertion 245 = .ok (.aload_n 1, 1) := dk_43 (dk_at dksJ24_fixAfterInsertion_10 11 rfl rfl)
theorem dJ24_fixAfterInsertion_246 : decode cJ24_fixAfterInsertion 246 = .ok (.invokestatic 294, 3) := dk_184 1 38 (dk_at dksJ24_fixAfterInsertion_10 12 rfl rfl)
theorem dJ24_fixAfterInsertion_249 : decode cJ24_fixAfterInsertion 249 = .ok (.invokestatic 294, 3) := dk_184 1 38 (dk_at dksJ24_fixAfterInsertion_10 15 rfl rfl)
theorem dJ24_fixAfterInsertion_252 : decode cJ24_fixAfterInsertion 252 = .ok (.invokevirtual 311, 3) := dk_182 1 55 (dk_at dksJ24_fixAfterInsertion_10 18 rfl rfl)
theorem dJ24_fixAfterInsertion_255 : decode cJ24_fixAfterInsertion 255 = .ok (.goto (-250), 3) := dk_167 255 6 (dk_at dksJ24_fixAfterInsertion_10 21 rfl rfl)
theorem dJ24_fixAfterInsertion_258 : decode cJ24_fixAfterInsertion 258 = .ok (.aload_n 0, 1) := dk_42 (dk_at dksJ24_fixAfterInsertion_11 0 rfl rfl)
theorem dJ24_fixAfterInsertion_259 : decode cJ24_fixAfterInsertion 259 = .ok (.getfield 101, 3) := dk_180 0 101 (dk_at dksJ24_fixAfterInsertion_11 1 rfl rfl)
theorem dJ24_fixAfterInsertion_262 : decode cJ24_fixAfterInsertion 262 = .ok (.iconst 1, 1) := dk_4 (dk_at dksJ24_fixAfterInsertion_11 4 rfl rfl)
theorem dJ24_fixAfterInsertion_263 : decode cJ24_fixAfterInsertion 263 = .ok (.putfield 290, 3) := dk_181 1 34 (dk_at dksJ24_fixAfterInsertion_11 5 rfl rfl)
theorem dJ24_fixAfterInsertion_266 : decode cJ24_fixAfterInsertion 266 = .ok (.return_, 1) := dk_177 (dk_at dksJ24_fixAfterInsertion_11 8 rfl rfl)
def dkwJ24_parentOf_0 : List UInt8 := [42, 199, 0, 7, 1, 167, 0, 7, 42, 180, 0, 124, 176]
abbrev dktJ24_parentOf_0 : List UInt8 := dkwJ24_parentOf_0 ++ []
theorem dksJ24_parentOf_0 : cJ24_parentOf.data.toList.drop 0 = dktJ24_parentOf_0 := by decide +kernel
theorem dJ24_parentOf_0 : decode cJ24_parentOf 0 = .ok (.aload_n 0, 1) := dk_42 (dk_at dksJ24_parentOf_0 0 rfl rfl)
theorem dJ24_parentOf_1 : decode cJ24_parentOf 1 = .ok (.ifnonnull 7, 3) := dk_199 0 7 (dk_at dksJ24_parentOf_0 1 rfl rfl)
theorem dJ24_parentOf_4 : decode cJ24_parentOf 4 = .ok (.aconst_null, 1) := dk_1 (dk_at dksJ24_parentOf_0 4 rfl rfl)
theorem dJ24_parentOf_5 : decode cJ24_parentOf 5 = .ok (.goto 7, 3) := dk_167 0 7 (dk_at dksJ24_parentOf_0 5 rfl rfl)
theorem dJ24_parentOf_8 : decode cJ24_parentOf 8 = .ok (.aload_n 0, 1) := dk_42 (dk_at dksJ24_parentOf_0 8 rfl rfl)
theorem dJ24_parentOf_9 : decode cJ24_parentOf 9 = .ok (.getfield 124, 3) := dk_180 0 124 (dk_at dksJ24_parentOf_0 9 rfl rfl)
theorem dJ24_parentOf_12 : decode cJ24_parentOf 12 = .ok (.areturn, 1) := dk_176 (dk_at dksJ24_parentOf_0 12 rfl rfl)
def dkwJ24_leftOf_0 : List UInt8 := [42, 199, 0, 7, 1, 167, 0, 7, 42, 180, 0, 111, 176]
abbrev dktJ24_leftOf_0 : List UInt8 := dkwJ24_leftOf_0 ++ []
theorem dksJ24_leftOf_0 : cJ24_leftOf.data.toList.drop 0 = dktJ24_leftOf_0 := by decide +kernel
theorem dJ24_leftOf_0 : decode cJ24_leftOf 0 = .ok (.aload_n 0, 1) := dk_42 (dk_at dksJ24_leftOf_0 0 rfl rfl)
theorem dJ24_leftOf_1 : decode cJ24_leftOf 1 = .ok (.ifnonnull 7, 3) := dk_199 0 7 (dk_at dksJ24_leftOf_0 1 rfl rfl)
theorem dJ24_leftOf_4 : decode cJ24_leftOf 4 = .ok (.aconst_null, 1) := dk_1 (dk_at dksJ24_leftOf_0 4 rfl rfl)
theorem dJ24_leftOf_5 : decode cJ24_leftOf 5 = .ok (.goto 7, 3) := dk_167 0 7 (dk_at dksJ24_leftOf_0 5 rfl rfl)
theorem dJ24_leftOf_8 : decode cJ24_leftOf 8 = .ok (.aload_n 0, 1) := dk_42 (dk_at dksJ24_leftOf_0 8 rfl rfl)
theorem dJ24_leftOf_9 : decode cJ24_leftOf 9 = .ok (.getfield 111, 3) := dk_180 0 111 (dk_at dksJ24_leftOf_0 9 rfl rfl)
theorem dJ24_leftOf_12 : decode cJ24_leftOf 12 = .ok (.areturn, 1) := dk_176 (dk_at dksJ24_leftOf_0 12 rfl rfl)
def dkwJ24_rightOf_0 : List UInt8 := [42, 199, 0, 7, 1, 167, 0, 7, 42, 180, 0, 114, 176]
abbrev dktJ24_rightOf_0 : List UInt8 := dkwJ24_rightOf_0 ++ []
theorem dksJ24_rightOf_0 : cJ24_rightOf.data.toList.drop 0 = dktJ24_rightOf_0 := by decide +kernel
theorem dJ24_rightOf_0 : decode cJ24_rightOf 0 = .ok (.aload_n 0, 1) := dk_42 (dk_at dksJ24_rightOf_0 0 rfl rfl)
theorem dJ24_rightOf_1 : decode cJ24_rightOf 1 = .ok (.ifnonnull 7, 3) := dk_199 0 7 (dk_at dksJ24_rightOf_0 1 rfl rfl)
theorem dJ24_rightOf_4 : decode cJ24_rightOf 4 = .ok (.aconst_null, 1) := dk_1 (dk_at dksJ24_rightOf_0 4 rfl rfl)
theorem dJ24_rightOf_5 : decode cJ24_rightOf 5 = .ok (.goto 7, 3) := dk_167 0 7 (dk_at dksJ24_rightOf_0 5 rfl rfl)
theorem dJ24_rightOf_8 : decode cJ24_rightOf 8 = .ok (.aload_n 0, 1) := dk_42 (dk_at dksJ24_rightOf_0 8 rfl rfl)
theorem dJ24_rightOf_9 : decode cJ24_rightOf 9 = .ok (.getfield 114, 3) := dk_180 0 114 (dk_at dksJ24_rightOf_0 9 rfl rfl)
theorem dJ24_rightOf_12 : decode cJ24_rightOf 12 = .ok (.areturn, 1) := dk_176 (dk_at dksJ24_rightOf_0 12 rfl rfl)
def dkwJ24_colorOf_0 : List UInt8 := [42, 199, 0, 7, 4, 167, 0, 7, 42, 180, 1, 34, 172]
abbrev dktJ24_colorOf_0 : List UInt8 := dkwJ24_colorOf_0 ++ []
theorem dksJ24_colorOf_0 : cJ24_colorOf.data.toList.drop 0 = dktJ24_colorOf_0 := by decide +kernel
theorem dJ24_colorOf_0 : decode cJ24_colorOf 0 = .ok (.aload_n 0, 1) := dk_42 (dk_at dksJ24_colorOf_0 0 rfl rfl)
theorem dJ24_colorOf_1 : decode cJ24_colorOf 1 = .ok (.ifnonnull 7, 3) := dk_199 0 7 (dk_at dksJ24_colorOf_0 1 rfl rfl)
theorem dJ24_colorOf_4 : decode cJ24_colorOf 4 = .ok (.iconst 1, 1) := dk_4 (dk_at dksJ24_colorOf_0 4 rfl rfl)
theorem dJ24_colorOf_5 : decode cJ24_colorOf 5 = .ok (.goto 7, 3) := dk_167 0 7 (dk_at dksJ24_colorOf_0 5 rfl rfl)
theorem dJ24_colorOf_8 : decode cJ24_colorOf 8 = .ok (.aload_n 0, 1) := dk_42 (dk_at dksJ24_colorOf_0 8 rfl rfl)
theorem dJ24_colorOf_9 : decode cJ24_colorOf 9 = .ok (.getfield 290, 3) := dk_180 1 34 (dk_at dksJ24_colorOf_0 9 rfl rfl)
theorem dJ24_colorOf_12 : decode cJ24_colorOf 12 = .ok (.ireturn, 1) := dk_172 (dk_at dksJ24_colorOf_0 12 rfl rfl)
def dkwJ24_setColor_0 : List UInt8 := [42, 198, 0, 8, 42, 27, 181, 1, 34, 177]
abbrev dktJ24_setColor_0 : List UInt8 := dkwJ24_setColor_0 ++ []
theorem dksJ24_setColor_0 : cJ24_setColor.data.toList.drop 0 = dktJ24_setColor_0 := by decide +kernel
theorem dJ24_setColor_0 : decode cJ24_setColor 0 = .ok (.aload_n 0, 1) := dk_42 (dk_at dksJ24_setColor_0 0 rfl rfl)
theorem dJ24_setColor_1 : decode cJ24_setColor 1 = .ok (.ifnull 8, 3) := dk_198 0 8 (dk_at dksJ24_setColor_0 1 rfl rfl)
theorem dJ24_setColor_4 : decode cJ24_setColor 4 = .ok (.aload_n 0, 1) := dk_42 (dk_at dksJ24_setColor_0 4 rfl rfl)
theorem dJ24_setColor_5 : decode cJ24_setColor 5 = .ok (.iload_n 1, 1) := dk_27 (dk_at dksJ24_setColor_0 5 rfl rfl)
theorem dJ24_setColor_6 : decode cJ24_setColor 6 = .ok (.putfield 290, 3) := dk_181 1 34 (dk_at dksJ24_setColor_0 6 rfl rfl)
theorem dJ24_setColor_9 : decode cJ24_setColor 9 = .ok (.return_, 1) := dk_177 (dk_at dksJ24_setColor_0 9 rfl rfl)
def dkwJ24_rotateLeft_4 : List UInt8 := [177]
abbrev dktJ24_rotateLeft_4 : List UInt8 := dkwJ24_rotateLeft_4 ++ []
def dkwJ24_rotateLeft_3 : List UInt8 := [181, 0, 111, 167, 0, 11, 43, 180, 0, 124, 44, 181, 0, 114, 44, 43, 181, 0, 111, 43, 44, 181, 0, 124]
abbrev dktJ24_rotateLeft_3 : List UInt8 := dkwJ24_rotateLeft_3 ++ dktJ24_rotateLeft_4
def dkwJ24_rotateLeft_2 : List UInt8 := [44, 181, 0, 101, 167, 0, 33, 43, 180, 0, 124, 180, 0, 111, 43, 166, 0, 14, 43, 180, 0, 124, 44]
abbrev dktJ24_rotateLeft_2 : List UInt8 := dkwJ24_rotateLeft_2 ++ dktJ24_rotateLeft_3
def dkwJ24_rotateLeft_1 : List UInt8 := [44, 180, 0, 111, 43, 181, 0, 124, 44, 43, 180, 0, 124, 181, 0, 124, 43, 180, 0, 124, 199, 0, 11, 42]
abbrev dktJ24_rotateLeft_1 : List UInt8 := dkwJ24_rotateLeft_1 ++ dktJ24_rotateLeft_2
def dkwJ24_rotateLeft_0 : List UInt8 := [43, 198, 0, 94, 43, 180, 0, 114, 77, 43, 44, 180, 0, 111, 181, 0, 114, 44, 180, 0, 111, 198, 0, 11]
abbrev dktJ24_rotateLeft_0 : List UInt8 := dkwJ24_rotateLeft_0 ++ dktJ24_rotateLeft_1
theorem dksJ24_rotateLeft_0 : cJ24_rotateLeft.data.toList.drop 0 = dktJ24_rotateLeft_0 := by decide +kernel
theorem dksJ24_rotateLeft_1 : cJ24_rotateLeft.data.toList.drop 24 = dktJ24_rotateLeft_1 := dk_seg dksJ24_rotateLeft_0 24 rfl rfl
theorem dksJ24_rotateLeft_2 : cJ24_rotateLeft.data.toList.drop 48 = dktJ24_rotateLeft_2 := dk_seg dksJ24_rotateLeft_1 24 rfl rfl
theorem dksJ24_rotateLeft_3 : cJ24_rotateLeft.data.toList.drop 71 = dktJ24_rotateLeft_3 := dk_seg dksJ24_rotateLeft_2 23 rfl rfl
theorem dksJ24_rotateLeft_4 : cJ24_rotateLeft.data.toList.drop 95 = dktJ24_rotateLeft_4 := dk_seg dksJ24_rotateLeft_3 24 rfl rfl
theorem dJ24_rotateLeft_0 : decode cJ24_rotateLeft 0 = .ok (.aload_n 1, 1) := dk_43 (dk_at dksJ24_rotateLeft_0 0 rfl rfl)
theorem dJ24_rotateLeft_1 : decode cJ24_rotateLeft 1 = .ok (.ifnull 94, 3) := dk_198 0 94 (dk_at dksJ24_rotateLeft_0 1 rfl rfl)
theorem dJ24_rotateLeft_4 : decode cJ24_rotateLeft 4 = .ok (.aload_n 1, 1) := dk_43 (dk_at dksJ24_rotateLeft_0 4 rfl rfl)
theorem dJ24_rotateLeft_5 : decode cJ24_rotateLeft 5 = .ok (.getfield 114, 3) := dk_180 0 114 (dk_at dksJ24_rotateLeft_0 5 rfl rfl)
theorem dJ24_rotateLeft_8 : decode cJ24_rotateLeft 8 = .ok (.astore_n 2, 1) := dk_77 (dk_at dksJ24_rotateLeft_0 8 rfl rfl)
theorem dJ24_rotateLeft_9 : decode cJ24_rotateLeft 9 = .ok (.aload_n 1, 1) := dk_43 (dk_at dksJ24_rotateLeft_0 9 rfl rfl)
theorem dJ24_rotateLeft_10 : decode cJ24_rotateLeft 10 = .ok (.aload_n 2, 1) := dk_44 (dk_at dksJ24_rotateLeft_0 10 rfl rfl)
theorem dJ24_rotateLeft_11 : decode cJ24_rotateLeft 11 = .ok (.getfield 111, 3) := dk_180 0 111 (dk_at dksJ24_rotateLeft_0 11 rfl rfl)
theorem dJ24_rotateLeft_14 : decode cJ24_rotateLeft 14 = .ok (.putfield 114, 3) := dk_181 0 114 (dk_at dksJ24_rotateLeft_0 14 rfl rfl)
theorem dJ24_rotateLeft_17 : decode cJ24_rotateLeft 17 = .ok (.aload_n 2, 1) := dk_44 (dk_at dksJ24_rotateLeft_0 17 rfl rfl)
theorem dJ24_rotateLeft_18 : decode cJ24_rotateLeft 18 = .ok (.getfield 111, 3) := dk_180 0 111 (dk_at dksJ24_rotateLeft_0 18 rfl rfl)
theorem dJ24_rotateLeft_21 : decode cJ24_rotateLeft 21 = .ok (.ifnull 11, 3) := dk_198 0 11 (dk_at dksJ24_rotateLeft_0 21 rfl rfl)
theorem dJ24_rotateLeft_24 : decode cJ24_rotateLeft 24 = .ok (.aload_n 2, 1) := dk_44 (dk_at dksJ24_rotateLeft_1 0 rfl rfl)
theorem dJ24_rotateLeft_25 : decode cJ24_rotateLeft 25 = .ok (.getfield 111, 3) := dk_180 0 111 (dk_at dksJ24_rotateLeft_1 1 rfl rfl)
theorem dJ24_rotateLeft_28 : decode cJ24_rotateLeft 28 = .ok (.aload_n 1, 1) := dk_43 (dk_at dksJ24_rotateLeft_1 4 rfl rfl)
theorem dJ24_rotateLeft_29 : decode cJ24_rotateLeft 29 = .ok (.putfield 124, 3) := dk_181 0 124 (dk_at dksJ24_rotateLeft_1 5 rfl rfl)
theorem dJ24_rotateLeft_32 : decode cJ24_rotateLeft 32 = .ok (.aload_n 2, 1) := dk_44 (dk_at dksJ24_rotateLeft_1 8 rfl rfl)
theorem dJ24_rotateLeft_33 : decode cJ24_rotateLeft 33 = .ok (.aload_n 1, 1) := dk_43 (dk_at dksJ24_rotateLeft_1 9 rfl rfl)
theorem dJ24_rotateLeft_34 : decode cJ24_rotateLeft 34 = .ok (.getfield 124, 3) := dk_180 0 124 (dk_at dksJ24_rotateLeft_1 10 rfl rfl)
theorem dJ24_rotateLeft_37 : decode cJ24_rotateLeft 37 = .ok (.putfield 124, 3) := dk_181 0 124 (dk_at dksJ24_rotateLeft_1 13 rfl rfl)
theorem dJ24_rotateLeft_40 : decode cJ24_rotateLeft 40 = .ok (.aload_n 1, 1) := dk_43 (dk_at dksJ24_rotateLeft_1 16 rfl rfl)
theorem dJ24_rotateLeft_41 : decode cJ24_rotateLeft 41 = .ok (.getfield 124, 3) := dk_180 0 124 (dk_at dksJ24_rotateLeft_1 17 rfl rfl)
theorem dJ24_rotateLeft_44 : decode cJ24_rotateLeft 44 = .ok (.ifnonnull 11, 3) := dk_199 0 11 (dk_at dksJ24_rotateLeft_1 20 rfl rfl)
theorem dJ24_rotateLeft_47 : decode cJ24_rotateLeft 47 = .ok (.aload_n 0, 1) := dk_42 (dk_at dksJ24_rotateLeft_1 23 rfl rfl)
theorem dJ24_rotateLeft_48 : decode cJ24_rotateLeft 48 = .ok (.aload_n 2, 1) := dk_44 (dk_at dksJ24_rotateLeft_2 0 rfl rfl)
theorem dJ24_rotateLeft_49 : decode cJ24_rotateLeft 49 = .ok (.putfield 101, 3) := dk_181 0 101 (dk_at dksJ24_rotateLeft_2 1 rfl rfl)
theorem dJ24_rotateLeft_52 : decode cJ24_rotateLeft 52 = .ok (.goto 33, 3) := dk_167 0 33 (dk_at dksJ24_rotateLeft_2 4 rfl rfl)
theorem dJ24_rotateLeft_55 : decode cJ24_rotateLeft 55 = .ok (.aload_n 1, 1) := dk_43 (dk_at dksJ24_rotateLeft_2 7 rfl rfl)
theorem dJ24_rotateLeft_56 : decode cJ24_rotateLeft 56 = .ok (.getfield 124, 3) := dk_180 0 124 (dk_at dksJ24_rotateLeft_2 8 rfl rfl)
theorem dJ24_rotateLeft_59 : decode cJ24_rotateLeft 59 = .ok (.getfield 111, 3) := dk_180 0 111 (dk_at dksJ24_rotateLeft_2 11 rfl rfl)
theorem dJ24_rotateLeft_62 : decode cJ24_rotateLeft 62 = .ok (.aload_n 1, 1) := dk_43 (dk_at dksJ24_rotateLeft_2 14 rfl rfl)
theorem dJ24_rotateLeft_63 : decode cJ24_rotateLeft 63 = .ok (.if_acmp .ne 14, 3) := dk_166 0 14 (dk_at dksJ24_rotateLeft_2 15 rfl rfl)
theorem dJ24_rotateLeft_66 : decode cJ24_rotateLeft 66 = .ok (.aload_n 1, 1) := dk_43 (dk_at dksJ24_rotateLeft_2 18 rfl rfl)
theorem dJ24_rotateLeft_67 : decode cJ24_rotateLeft 67 = .ok (.getfield 124, 3) := dk_180 0 124 (dk_at dksJ24_rotateLeft_2 19 rfl rfl)
theorem dJ24_rotateLeft_70 : decode cJ24_rotateLeft 70 = .ok (.aload_n 2, 1) := dk_44 (dk_at dksJ24_rotateLeft_2 22 rfl rfl)
theorem dJ24_rotateLeft_71 : decode cJ24_rotateLeft 71 = .ok (.putfield 111, 3) := dk_181 0 111 (dk_at dksJ24_rotateLeft_3 0 rfl rfl)
theorem dJ24_rotateLeft_74 : decode cJ24_rotateLeft 74 = .ok (.goto 11, 3) := dk_167 0 11 (dk_at dksJ24_rotateLeft_3 3 rfl rfl)
theorem dJ24_rotateLeft_77 : decode cJ24_rotateLeft 77 = .ok (.aload_n 1, 1) := dk_43 (dk_at dksJ24_rotateLeft_3 6 rfl rfl)
theorem dJ24_rotateLeft_78 : decode cJ24_rotateLeft 78 = .ok (.getfield 124, 3) := dk_180 0 124 (dk_at dksJ24_rotateLeft_3 7 rfl rfl)
theorem dJ24_rotateLeft_81 : decode cJ24_rotateLeft 81 = .ok (.aload_n 2, 1) := dk_44 (dk_at dksJ24_rotateLeft_3 10 rfl rfl)
theorem dJ24_rotateLeft_82 : decode cJ24_rotateLeft 82 = .ok (.putfield 114, 3) := dk_181 0 114 (dk_at dksJ24_rotateLeft_3 11 rfl rfl)
theorem dJ24_rotateLeft_85 : decode cJ24_rotateLeft 85 = .ok (.aload_n 2, 1) := dk_44 (dk_at dksJ24_rotateLeft_3 14 rfl rfl)
theorem dJ24_rotateLeft_86 : decode cJ24_rotateLeft 86 = .ok (.aload_n 1, 1) := dk_43 (dk_at dksJ24_rotateLeft_3 15 rfl rfl)
theorem dJ24_rotateLeft_87 : decode cJ24_rotateLeft 87 = .ok (.putfield 111, 3) := dk_181 0 111 (dk_at dksJ24_rotateLeft_3 16 rfl rfl)
theorem dJ24_rotateLeft_90 : decode cJ24_rotateLeft 90 = .ok (.aload_n 1, 1) := dk_43 (dk_at dksJ24_rotateLeft_3 19 rfl rfl)
theorem dJ24_rotateLeft_91 : decode cJ24_rotateLeft 91 = .ok (.aload_n 2, 1) := dk_44 (dk_at dksJ24_rotateLeft_3 20 rfl rfl)
theorem dJ24_rotateLeft_92 : decode cJ24_rotateLeft 92 = .ok (.putfield 124, 3) := dk_181 0 124 (dk_at dksJ24_rotateLeft_3 21 rfl rfl)
theorem dJ24_rotateLeft_95 : decode cJ24_rotateLeft 95 = .ok (.return_, 1) := dk_177 (dk_at dksJ24_rotateLeft_4 0 rfl rfl)
def dkwJ24_rotateRight_4 : List UInt8 := [177]
abbrev dktJ24_rotateRight_4 : List UInt8 := dkwJ24_rotateRight_4 ++ []
def dkwJ24_rotateRight_3 : List UInt8 := [181, 0, 114, 167, 0, 11, 43, 180, 0, 124, 44, 181, 0, 111, 44, 43, 181, 0, 114, 43, 44, 181, 0, 124]
abbrev dktJ24_rotateRight_3 : List UInt8 := dkwJ24_rotateRight_3 ++ dktJ24_rotateRight_4
def dkwJ24_rotateRight_2 : List UInt8 := [44, 181, 0, 101, 167, 0, 33, 43, 180, 0, 124, 180, 0, 114, 43, 166, 0, 14, 43, 180, 0, 124, 44]
abbrev dktJ24_rotateRight_2 : List UInt8 := dkwJ24_rotateRight_2 ++ dktJ24_rotateRight_3
def dkwJ24_rotateRight_1 : List UInt8 := [44, 180, 0, 114, 43, 181, 0, 124, 44, 43, 180, 0, 124, 181, 0, 124, 43, 180, 0, 124, 199, 0, 11, 42]
abbrev dktJ24_rotateRight_1 : List UInt8 := dkwJ24_rotateRight_1 ++ dktJ24_rotateRight_2
def dkwJ24_rotateRight_0 : List UInt8 := [43, 198, 0, 94, 43, 180, 0, 111, 77, 43, 44, 180, 0, 114, 181, 0, 111, 44, 180, 0, 114, 198, 0, 11]
abbrev dktJ24_rotateRight_0 : List UInt8 := dkwJ24_rotateRight_0 ++ dktJ24_rotateRight_1
theorem dksJ24_rotateRight_0 : cJ24_rotateRight.data.toList.drop 0 = dktJ24_rotateRight_0 := by decide +kernel
theorem dksJ24_rotateRight_1 : cJ24_rotateRight.data.toList.drop 24 = dktJ24_rotateRight_1 := dk_seg dksJ24_rotateRight_0 24 rfl rfl
theorem dksJ24_rotateRight_2 : cJ24_rotateRight.data.toList.drop 48 = dktJ24_rotateRight_2 := dk_seg dksJ24_rotateRight_1 24 rfl rfl
theorem dksJ24_rotateRight_3 : cJ24_rotateRight.data.toList.drop 71 = dktJ24_rotateRight_3 := dk_seg dksJ24_rotateRight_2 23 rfl rfl
theorem dksJ24_rotateRight_4 : cJ24_rotateRight.data.toList.drop 95 = dktJ24_rotateRight_4 := dk_seg dksJ24_rotateRight_3 24 rfl rfl
theorem dJ24_rotateRight_0 : decode cJ24_rotateRight 0 = .ok (.aload_n 1, 1) := dk_43 (dk_at dksJ24_rotateRight_0 0 rfl rfl)
theorem dJ24_rotateRight_1 : decode cJ24_rotateRight 1 = .ok (.ifnull 94, 3) := dk_198 0 94 (dk_at dksJ24_rotateRight_0 1 rfl rfl)
theorem dJ24_rotateRight_4 : decode cJ24_rotateRight 4 = .ok (.aload_n 1, 1) := dk_43 (dk_at dksJ24_rotateRight_0 4 rfl rfl)
theorem dJ24_rotateRight_5 : decode cJ24_rotateRight 5 = .ok (.getfield 111, 3) := dk_180 0 111 (dk_at dksJ24_rotateRight_0 5 rfl rfl)
theorem dJ24_rotateRight_8 : decode cJ24_rotateRight 8 = .ok (.astore_n 2, 1) := dk_77 (dk_at dksJ24_rotateRight_0 8 rfl rfl)
theorem dJ24_rotateRight_9 : decode cJ24_rotateRight 9 = .ok (.aload_n 1, 1) := dk_43 (dk_at dksJ24_rotateRight_0 9 rfl rfl)
theorem dJ24_rotateRight_10 : decode cJ24_rotateRight 10 = .ok (.aload_n 2, 1) := dk_44 (dk_at dksJ24_rotateRight_0 10 rfl rfl)
theorem dJ24_rotateRight_11 : decode cJ24_rotateRight 11 = .ok (.getfield 114, 3) := dk_180 0 114 (dk_at dksJ24_rotateRight_0 11 rfl rfl)
theorem dJ24_rotateRight_14 : decode cJ24_rotateRight 14 = .ok (.putfield 111, 3) := dk_181 0 111 (dk_at dksJ24_rotateRight_0 14 rfl rfl)
theorem dJ24_rotateRight_17 : decode cJ24_rotateRight 17 = .ok (.aload_n 2, 1) := dk_44 (dk_at dksJ24_rotateRight_0 17 rfl rfl)
theorem dJ24_rotateRight_18 : decode cJ24_rotateRight 18 = .ok (.getfield 114, 3) := dk_180 0 114 (dk_at dksJ24_rotateRight_0 18 rfl rfl)
theorem dJ24_rotateRight_21 : decode cJ24_rotateRight 21 = .ok (.ifnull 11, 3) := dk_198 0 11 (dk_at dksJ24_rotateRight_0 21 rfl rfl)
theorem dJ24_rotateRight_24 : decode cJ24_rotateRight 24 = .ok (.aload_n 2, 1) := dk_44 (dk_at dksJ24_rotateRight_1 0 rfl rfl)
theorem dJ24_rotateRight_25 : decode cJ24_rotateRight 25 = .ok (.getfield 114, 3) := dk_180 0 114 (dk_at dksJ24_rotateRight_1 1 rfl rfl)
theorem dJ24_rotateRight_28 : decode cJ24_rotateRight 28 = .ok (.aload_n 1, 1) := dk_43 (dk_at dksJ24_rotateRight_1 4 rfl rfl)
theorem dJ24_rotateRight_29 : decode cJ24_rotateRight 29 = .ok (.putfield 124, 3) := dk_181 0 124 (dk_at dksJ24_rotateRight_1 5 rfl rfl)
theorem dJ24_rotateRight_32 : decode cJ24_rotateRight 32 = .ok (.aload_n 2, 1) := dk_44 (dk_at dksJ24_rotateRight_1 8 rfl rfl)
theorem dJ24_rotateRight_33 : decode cJ24_rotateRight 33 = .ok (.aload_n 1, 1) := dk_43 (dk_at dksJ24_rotateRight_1 9 rfl rfl)
theorem dJ24_rotateRight_34 : decode cJ24_rotateRight 34 = .ok (.getfield 124, 3) := dk_180 0 124 (dk_at dksJ24_rotateRight_1 10 rfl rfl)
theorem dJ24_rotateRight_37 : decode cJ24_rotateRight 37 = .ok (.putfield 124, 3) := dk_181 0 124 (dk_at dksJ24_rotateRight_1 13 rfl rfl)
theorem dJ24_rotateRight_40 : decode cJ24_rotateRight 40 = .ok (.aload_n 1, 1) := dk_43 (dk_at dksJ24_rotateRight_1 16 rfl rfl)
theorem dJ24_rotateRight_41 : decode cJ24_rotateRight 41 = .ok (.getfield 124, 3) := dk_180 0 124 (dk_at dksJ24_rotateRight_1 17 rfl rfl)
theorem dJ24_rotateRight_44 : decode cJ24_rotateRight 44 = .ok (.ifnonnull 11, 3) := dk_199 0 11 (dk_at dksJ24_rotateRight_1 20 rfl rfl)
theorem dJ24_rotateRight_47 : decode cJ24_rotateRight 47 = .ok (.aload_n 0, 1) := dk_42 (dk_at dksJ24_rotateRight_1 23 rfl rfl)
theorem dJ24_rotateRight_48 : decode cJ24_rotateRight 48 = .ok (.aload_n 2, 1) := dk_44 (dk_at dksJ24_rotateRight_2 0 rfl rfl)
theorem dJ24_rotateRight_49 : decode cJ24_rotateRight 49 = .ok (.putfield 101, 3) := dk_181 0 101 (dk_at dksJ24_rotateRight_2 1 rfl rfl)
theorem dJ24_rotateRight_52 : decode cJ24_rotateRight 52 = .ok (.goto 33, 3) := dk_167 0 33 (dk_at dksJ24_rotateRight_2 4 rfl rfl)
theorem dJ24_rotateRight_55 : decode cJ24_rotateRight 55 = .ok (.aload_n 1, 1) := dk_43 (dk_at dksJ24_rotateRight_2 7 rfl rfl)
theorem dJ24_rotateRight_56 : decode cJ24_rotateRight 56 = .ok (.getfield 124, 3) := dk_180 0 124 (dk_at dksJ24_rotateRight_2 8 rfl rfl)
theorem dJ24_rotateRight_59 : decode cJ24_rotateRight 59 = .ok (.getfield 114, 3) := dk_180 0 114 (dk_at dksJ24_rotateRight_2 11 rfl rfl)
theorem dJ24_rotateRight_62 : decode cJ24_rotateRight 62 = .ok (.aload_n 1, 1) := dk_43 (dk_at dksJ24_rotateRight_2 14 rfl rfl)
theorem dJ24_rotateRight_63 : decode cJ24_rotateRight 63 = .ok (.if_acmp .ne 14, 3) := dk_166 0 14 (dk_at dksJ24_rotateRight_2 15 rfl rfl)
theorem dJ24_rotateRight_66 : decode cJ24_rotateRight 66 = .ok (.aload_n 1, 1) := dk_43 (dk_at dksJ24_rotateRight_2 18 rfl rfl)
theorem dJ24_rotateRight_67 : decode cJ24_rotateRight 67 = .ok (.getfield 124, 3) := dk_180 0 124 (dk_at dksJ24_rotateRight_2 19 rfl rfl)
theorem dJ24_rotateRight_70 : decode cJ24_rotateRight 70 = .ok (.aload_n 2, 1) := dk_44 (dk_at dksJ24_rotateRight_2 22 rfl rfl)
theorem dJ24_rotateRight_71 : decode cJ24_rotateRight 71 = .ok (.putfield 114, 3) := dk_181 0 114 (dk_at dksJ24_rotateRight_3 0 rfl rfl)
theorem dJ24_rotateRight_74 : decode cJ24_rotateRight 74 = .ok (.goto 11, 3) := dk_167 0 11 (dk_at dksJ24_rotateRight_3 3 rfl rfl)
theorem dJ24_rotateRight_77 : decode cJ24_rotateRight 77 = .ok (.aload_n 1, 1) := dk_43 (dk_at dksJ24_rotateRight_3 6 rfl rfl)
theorem dJ24_rotateRight_78 : decode cJ24_rotateRight 78 = .ok (.getfield 124, 3) := dk_180 0 124 (dk_at dksJ24_rotateRight_3 7 rfl rfl)
theorem dJ24_rotateRight_81 : decode cJ24_rotateRight 81 = .ok (.aload_n 2, 1) := dk_44 (dk_at dksJ24_rotateRight_3 10 rfl rfl)
theorem dJ24_rotateRight_82 : decode cJ24_rotateRight 82 = .ok (.putfield 111, 3) := dk_181 0 111 (dk_at dksJ24_rotateRight_3 11 rfl rfl)
theorem dJ24_rotateRight_85 : decode cJ24_rotateRight 85 = .ok (.aload_n 2, 1) := dk_44 (dk_at dksJ24_rotateRight_3 14 rfl rfl)
theorem dJ24_rotateRight_86 : decode cJ24_rotateRight 86 = .ok (.aload_n 1, 1) := dk_43 (dk_at dksJ24_rotateRight_3 15 rfl rfl)
theorem dJ24_rotateRight_87 : decode cJ24_rotateRight 87 = .ok (.putfield 114, 3) := dk_181 0 114 (dk_at dksJ24_rotateRight_3 16 rfl rfl)
theorem dJ24_rotateRight_90 : decode cJ24_rotateRight 90 = .ok (.aload_n 1, 1) := dk_43 (dk_at dksJ24_rotateRight_3 19 rfl rfl)
theorem dJ24_rotateRight_91 : decode cJ24_rotateRight 91 = .ok (.aload_n 2, 1) := dk_44 (dk_at dksJ24_rotateRight_3 20 rfl rfl)
theorem dJ24_rotateRight_92 : decode cJ24_rotateRight 92 = .ok (.putfield 124, 3) := dk_181 0 124 (dk_at dksJ24_rotateRight_3 21 rfl rfl)
theorem dJ24_rotateRight_95 : decode cJ24_rotateRight 95 = .ok (.return_, 1) := dk_177 (dk_at dksJ24_rotateRight_4 0 rfl rfl)
def dkwJ24_get_0 : List UInt8 := [42, 43, 182, 0, 50, 77, 44, 199, 0, 7, 1, 167, 0, 7, 44, 180, 0, 58, 176]
abbrev dktJ24_get_0 : List UInt8 := dkwJ24_get_0 ++ []
theorem dksJ24_get_0 : cJ24_get.data.toList.drop 0 = dktJ24_get_0 := by decide +kernel
theorem dJ24_get_0 : decode cJ24_get 0 = .ok (.aload_n 0, 1) := dk_42 (dk_at dksJ24_get_0 0 rfl rfl)
theorem dJ24_get_1 : decode cJ24_get 1 = .ok (.aload_n 1, 1) := dk_43 (dk_at dksJ24_get_0 1 rfl rfl)
theorem dJ24_get_2 : decode cJ24_get 2 = .ok (.invokevirtual 50, 3) := dk_182 0 50 (dk_at dksJ24_get_0 2 rfl rfl)
theorem dJ24_get_5 : decode cJ24_get 5 = .ok (.astore_n 2, 1) := dk_77 (dk_at dksJ24_get_0 5 rfl rfl)
theorem dJ24_get_6 : decode cJ24_get 6 = .ok (.aload_n 2, 1) := dk_44 (dk_at dksJ24_get_0 6 rfl rfl)
theorem dJ24_get_7 : decode cJ24_get 7 = .ok (.ifnonnull 7, 3) := dk_199 0 7 (dk_at dksJ24_get_0 7 rfl rfl)
theorem dJ24_get_10 : decode cJ24_get 10 = .ok (.aconst_null, 1) := dk_1 (dk_at dksJ24_get_0 10 rfl rfl)
theorem dJ24_get_11 : decode cJ24_get 11 = .ok (.goto 7, 3) := dk_167 0 7 (dk_at dksJ24_get_0 11 rfl rfl)
theorem dJ24_get_14 : decode cJ24_get 14 = .ok (.aload_n 2, 1) := dk_44 (dk_at dksJ24_get_0 14 rfl rfl)
theorem dJ24_get_15 : decode cJ24_get 15 = .ok (.getfield 58, 3) := dk_180 0 58 (dk_at dksJ24_get_0 15 rfl rfl)
theorem dJ24_get_18 : decode cJ24_get 18 = .ok (.areturn, 1) := dk_176 (dk_at dksJ24_get_0 18 rfl rfl)
def dkwJ24_getEntry_3 : List UInt8 := [45, 176, 167, 255, 212, 1, 176]
abbrev dktJ24_getEntry_3 : List UInt8 := dkwJ24_getEntry_3 ++ []
def dkwJ24_getEntry_2 : List UInt8 := [156, 0, 11, 45, 180, 0, 111, 78, 167, 0, 18, 21, 4, 158, 0, 11, 45, 180, 0, 114, 78, 167, 0, 5]
abbrev dktJ24_getEntry_2 : List UInt8 := dkwJ24_getEntry_2 ++ dktJ24_getEntry_3
def dkwJ24_getEntry_1 : List UInt8 := [180, 0, 101, 78, 45, 198, 0, 46, 44, 45, 180, 0, 105, 185, 0, 107, 2, 0, 54, 4, 21, 4]
abbrev dktJ24_getEntry_1 : List UInt8 := dkwJ24_getEntry_1 ++ dktJ24_getEntry_2
def dkwJ24_getEntry_0 : List UInt8 := [42, 180, 0, 16, 198, 0, 9, 42, 43, 182, 0, 92, 176, 43, 184, 0, 95, 87, 43, 192, 0, 99, 77, 42]
abbrev dktJ24_getEntry_0 : List UInt8 := dkwJ24_getEntry_0 ++ dktJ24_getEntry_1
theorem dksJ24_getEntry_0 : cJ24_getEntry.data.toList.drop 0 = dktJ24_getEntry_0 := by decide +kernel
theorem dksJ24_getEntry_1 : cJ24_getEntry.data.toList.drop 24 = dktJ24_getEntry_1 := dk_seg dksJ24_getEntry_0 24 rfl rfl
theorem dksJ24_getEntry_2 : cJ24_getEntry.data.toList.drop 46 = dktJ24_getEntry_2 := dk_seg dksJ24_getEntry_1 22 rfl rfl
theorem dksJ24_getEntry_3 : cJ24_getEntry.data.toList.drop 70 = dktJ24_getEntry_3 := dk_seg dksJ24_getEntry_2 24 rfl rfl
theorem dJ24_getEntry_0 : decode cJ24_getEntry 0 = .ok (.aload_n 0, 1) := dk_42 (dk_at dksJ24_getEntry_0 0 rfl rfl)
theorem dJ24_getEntry_1 : decode cJ24_getEntry 1 = .ok (.getfield 16, 3) := dk_180 0 16 (dk_at dksJ24_getEntry_0 1 rfl rfl)
theorem dJ24_getEntry_4 : decode cJ24_getEntry 4 = .ok (.ifnull 9, 3) := dk_198 0 9 (dk_at dksJ24_getEntry_0 4 rfl rfl)
theorem dJ24_getEntry_7 : decode cJ24_getEntry 7 = .ok (.aload_n 0, 1) := dk_42 (dk_at dksJ24_getEntry_0 7 rfl rfl)
theorem dJ24_getEntry_8 : decode cJ24_getEntry 8 = .ok (.aload_n 1, 1) := dk_43 (dk_at dksJ24_getEntry_0 8 rfl rfl)
theorem dJ24_getEntry_9 : decode cJ24_getEntry 9 = .ok (.invokevirtual 92, 3) := dk_182 0 92 (dk_at dksJ24_getEntry_0 9 rfl rfl)
theorem dJ24_getEntry_12 : decode cJ24_getEntry 12 = .ok (.areturn, 1) := dk_176 (dk_at dksJ24_getEntry_0 12 rfl rfl)
theorem dJ24_getEntry_13 : decode cJ24_getEntry 13 = .ok (.aload_n 1, 1) := dk_43 (dk_at dksJ24_getEntry_0 13 rfl rfl)
theorem dJ24_getEntry_14 : decode cJ24_getEntry 14 = .ok (.invokestatic 95, 3) := dk_184 0 95 (dk_at dksJ24_getEntry_0 14 rfl rfl)
theorem dJ24_getEntry_17 : decode cJ24_getEntry 17 = .ok (.pop, 1) := dk_87 (dk_at dksJ24_getEntry_0 17 rfl rfl)
theorem dJ24_getEntry_18 : decode cJ24_getEntry 18 = .ok (.aload_n 1, 1) := dk_43 (dk_at dksJ24_getEntry_0 18 rfl rfl)
theorem dJ24_getEntry_19 : decode cJ24_getEntry 19 = .ok (.checkcast 99, 3) := dk_192 0 99 (dk_at dksJ24_getEntry_0 19 rfl rfl)
theorem dJ24_getEntry_22 : decode cJ24_getEntry 22 = .ok (.astore_n 2, 1) := dk_77 (dk_at dksJ24_getEntry_0 22 rfl rfl)
theorem dJ24_getEntry_23 : decode cJ24_getEntry 23 = .ok (.aload_n 0, 1) := dk_42 (dk_at dksJ24_getEntry_0 23 rfl rfl)
theorem dJ24_getEntry_24 : decode cJ24_getEntry 24 = .ok (.getfield 101, 3) := dk_180 0 101 (dk_at dksJ24_getEntry_1 0 rfl rfl)
theorem dJ24_getEntry_27 : decode cJ24_getEntry 27 = .ok (.astore_n 3, 1) := dk_78 (dk_at dksJ24_getEntry_1 3 rfl rfl)
theorem dJ24_getEntry_28 : decode cJ24_getEntry 28 = .ok (.aload_n 3, 1) := dk_45 (dk_at dksJ24_getEntry_1 4 rfl rfl)
theorem dJ24_getEntry_29 : decode cJ24_getEntry 29 = .ok (.ifnull 46, 3) := dk_198 0 46 (dk_at dksJ24_getEntry_1 5 rfl rfl)
theorem dJ24_getEntry_32 : decode cJ24_getEntry 32 = .ok (.aload_n 2, 1) := dk_44 (dk_at dksJ24_getEntry_1 8 rfl rfl)
theorem dJ24_getEntry_33 : decode cJ24_getEntry 33 = .ok (.aload_n 3, 1) := dk_45 (dk_at dksJ24_getEntry_1 9 rfl rfl)
theorem dJ24_getEntry_34 : decode cJ24_getEntry 34 = .ok (.getfield 105, 3) := dk_180 0 105 (dk_at dksJ24_getEntry_1 10 rfl rfl)
theorem dJ24_getEntry_37 : decode cJ24_getEntry 37 = .ok (.invokeinterface 107 2, 5) := by decide +kernel
theorem dJ24_getEntry_42 : decode cJ24_getEntry 42 = .ok (.istore 4, 2) := dk_54 4 (dk_at dksJ24_getEntry_1 18 rfl rfl)
theorem dJ24_getEntry_44 : decode cJ24_getEntry 44 = .ok (.iload 4, 2) := dk_21 4 (dk_at dksJ24_getEntry_1 20 rfl rfl)
theorem dJ24_getEntry_46 : decode cJ24_getEntry 46 = .ok (.ifCond .ge 11, 3) := dk_156 0 11 (dk_at dksJ24_getEntry_2 0 rfl rfl)
theorem dJ24_getEntry_49 : decode cJ24_getEntry 49 = .ok (.aload_n 3, 1) := dk_45 (dk_at dksJ24_getEntry_2 3 rfl rfl)
theorem dJ24_getEntry_50 : decode cJ24_getEntry 50 = .ok (.getfield 111, 3) := dk_180 0 111 (dk_at dksJ24_getEntry_2 4 rfl rfl)
theorem dJ24_getEntry_53 : decode cJ24_getEntry 53 = .ok (.astore_n 3, 1) := dk_78 (dk_at dksJ24_getEntry_2 7 rfl rfl)
theorem dJ24_getEntry_54 : decode cJ24_getEntry 54 = .ok (.goto 18, 3) := dk_167 0 18 (dk_at dksJ24_getEntry_2 8 rfl rfl)
theorem dJ24_getEntry_57 : decode cJ24_getEntry 57 = .ok (.iload 4, 2) := dk_21 4 (dk_at dksJ24_getEntry_2 11 rfl rfl)
theorem dJ24_getEntry_59 : decode cJ24_getEntry 59 = .ok (.ifCond .le 11, 3) := dk_158 0 11 (dk_at dksJ24_getEntry_2 13 rfl rfl)
theorem dJ24_getEntry_62 : decode cJ24_getEntry 62 = .ok (.aload_n 3, 1) := dk_45 (dk_at dksJ24_getEntry_2 16 rfl rfl)
theorem dJ24_getEntry_63 : decode cJ24_getEntry 63 = .ok (.getfield 114, 3) := dk_180 0 114 (dk_at dksJ24_getEntry_2 17 rfl rfl)
theorem dJ24_getEntry_66 : decode cJ24_getEntry 66 = .ok (.astore_n 3, 1) := dk_78 (dk_at dksJ24_getEntry_2 20 rfl rfl)
theorem dJ24_getEntry_67 : decode cJ24_getEntry 67 = .ok (.goto 5, 3) := dk_167 0 5 (dk_at dksJ24_getEntry_2 21 rfl rfl)
theorem dJ24_getEntry_70 : decode cJ24_getEntry 70 = .ok (.aload_n 3, 1) := dk_45 (dk_at dksJ24_getEntry_3 0 rfl rfl)
theorem dJ24_getEntry_71 : decode cJ24_getEntry 71 = .ok (.areturn, 1) := dk_176 (dk_at dksJ24_getEntry_3 1 rfl rfl)
theorem dJ24_getEntry_72 : decode cJ24_getEntry 72 = .ok (.goto (-44), 3) := dk_167 255 212 (dk_at dksJ24_getEntry_3 2 rfl rfl)
theorem dJ24_getEntry_75 : decode cJ24_getEntry 75 = .ok (.aconst_null, 1) := dk_1 (dk_at dksJ24_getEntry_3 5 rfl rfl)
theorem dJ24_getEntry_76 : decode cJ24_getEntry 76 = .ok (.areturn, 1) := dk_176 (dk_at dksJ24_getEntry_3 6 rfl rfl)
def dkwJ24_putAll_3 : List UInt8 := [182, 0, 42, 167, 0, 4, 78, 177, 42, 43, 183, 0, 91, 177]
abbrev dktJ24_putAll_3 : List UInt8 := dkwJ24_putAll_3 ++ []
def dkwJ24_putAll_2 : List UInt8 := [180, 0, 13, 4, 96, 181, 0, 13, 42, 28, 43, 185, 0, 90, 1, 0, 185, 0, 36, 1, 0, 1, 1]
abbrev dktJ24_putAll_2 : List UInt8 := dkwJ24_putAll_2 ++ dktJ24_putAll_3
def dkwJ24_putAll_1 : List UInt8 := [153, 0, 55, 42, 180, 0, 16, 43, 192, 0, 25, 185, 0, 24, 1, 0, 184, 0, 85, 153, 0, 36, 42, 89]
abbrev dktJ24_putAll_1 : List UInt8 := dkwJ24_putAll_1 ++ dktJ24_putAll_2
def dkwJ24_putAll_0 : List UInt8 := [43, 185, 0, 82, 1, 0, 61, 42, 180, 0, 7, 154, 0, 66, 28, 153, 0, 62, 43, 193, 0, 25]
abbrev dktJ24_putAll_0 : List UInt8 := dkwJ24_putAll_0 ++ dktJ24_putAll_1
theorem dksJ24_putAll_0 : cJ24_putAll.data.toList.drop 0 = dktJ24_putAll_0 := by decide +kernel
theorem dksJ24_putAll_1 : cJ24_putAll.data.toList.drop 22 = dktJ24_putAll_1 := dk_seg dksJ24_putAll_0 22 rfl rfl
theorem dksJ24_putAll_2 : cJ24_putAll.data.toList.drop 46 = dktJ24_putAll_2 := dk_seg dksJ24_putAll_1 24 rfl rfl
theorem dksJ24_putAll_3 : cJ24_putAll.data.toList.drop 69 = dktJ24_putAll_3 := dk_seg dksJ24_putAll_2 23 rfl rfl
theorem dJ24_putAll_0 : decode cJ24_putAll 0 = .ok (.aload_n 1, 1) := dk_43 (dk_at dksJ24_putAll_0 0 rfl rfl)
theorem dJ24_putAll_1 : decode cJ24_putAll 1 = .ok (.invokeinterface 82 1, 5) := by decide +kernel
theorem dJ24_putAll_6 : decode cJ24_putAll 6 = .ok (.istore_n 2, 1) := dk_61 (dk_at dksJ24_putAll_0 6 rfl rfl)
theorem dJ24_putAll_7 : decode cJ24_putAll 7 = .ok (.aload_n 0, 1) := dk_42 (dk_at dksJ24_putAll_0 7 rfl rfl)
theorem dJ24_putAll_8 : decode cJ24_putAll 8 = .ok (.getfield 7, 3) := dk_180 0 7 (dk_at dksJ24_putAll_0 8 rfl rfl)
theorem dJ24_putAll_11 : decode cJ24_putAll 11 = .ok (.ifCond .ne 66, 3) := dk_154 0 66 (dk_at dksJ24_putAll_0 11 rfl rfl)
theorem dJ24_putAll_14 : decode cJ24_putAll 14 = .ok (.iload_n 2, 1) := dk_28 (dk_at dksJ24_putAll_0 14 rfl rfl)
theorem dJ24_putAll_15 : decode cJ24_putAll 15 = .ok (.ifCond .eq 62, 3) := dk_153 0 62 (dk_at dksJ24_putAll_0 15 rfl rfl)
theorem dJ24_putAll_18 : decode cJ24_putAll 18 = .ok (.aload_n 1, 1) := dk_43 (dk_at dksJ24_putAll_0 18 rfl rfl)
theorem dJ24_putAll_19 : decode cJ24_putAll 19 = .ok (.instanceof 25, 3) := dk_193 0 25 (dk_at dksJ24_putAll_0 19 rfl rfl)
theorem dJ24_putAll_22 : decode cJ24_putAll 22 = .ok (.ifCond .eq 55, 3) := dk_153 0 55 (dk_at dksJ24_putAll_1 0 rfl rfl)
theorem dJ24_putAll_25 : decode cJ24_putAll 25 = .ok (.aload_n 0, 1) := dk_42 (dk_at dksJ24_putAll_1 3 rfl rfl)
theorem dJ24_putAll_26 : decode cJ24_putAll 26 = .ok (.getfield 16, 3) := dk_180 0 16 (dk_at dksJ24_putAll_1 4 rfl rfl)
theorem dJ24_putAll_29 : decode cJ24_putAll 29 = .ok (.aload_n 1, 1) := dk_43 (dk_at dksJ24_putAll_1 7 rfl rfl)
theorem dJ24_putAll_30 : decode cJ24_putAll 30 = .ok (.checkcast 25, 3) := dk_192 0 25 (dk_at dksJ24_putAll_1 8 rfl rfl)
theorem dJ24_putAll_33 : decode cJ24_putAll 33 = .ok (.invokeinterface 24 1, 5) := by decide +kernel
theorem dJ24_putAll_38 : decode cJ24_putAll 38 = .ok (.invokestatic 85, 3) := dk_184 0 85 (dk_at dksJ24_putAll_1 16 rfl rfl)
theorem dJ24_putAll_41 : decode cJ24_putAll 41 = .ok (.ifCond .eq 36, 3) := dk_153 0 36 (dk_at dksJ24_putAll_1 19 rfl rfl)
theorem dJ24_putAll_44 : decode cJ24_putAll 44 = .ok (.aload_n 0, 1) := dk_42 (dk_at dksJ24_putAll_1 22 rfl rfl)
theorem dJ24_putAll_45 : decode cJ24_putAll 45 = .ok (.dup, 1) := dk_89 (dk_at dksJ24_putAll_1 23 rfl rfl)
theorem dJ24_putAll_46 : decode cJ24_putAll 46 = .ok (.getfield 13, 3) := dk_180 0 13 (dk_at dksJ24_putAll_2 0 rfl rfl)
theorem dJ24_putAll_49 : decode cJ24_putAll 49 = .ok (.iconst 1, 1) := dk_4 (dk_at dksJ24_putAll_2 3 rfl rfl)
theorem dJ24_putAll_50 : decode cJ24_putAll 50 = .ok (.iadd, 1) := dk_96 (dk_at dksJ24_putAll_2 4 rfl rfl)
theorem dJ24_putAll_51 : decode cJ24_putAll 51 = .ok (.putfield 13, 3) := dk_181 0 13 (dk_at dksJ24_putAll_2 5 rfl rfl)
theorem dJ24_putAll_54 : decode cJ24_putAll 54 = .ok (.aload_n 0, 1) := dk_42 (dk_at dksJ24_putAll_2 8 rfl rfl)
theorem dJ24_putAll_55 : decode cJ24_putAll 55 = .ok (.iload_n 2, 1) := dk_28 (dk_at dksJ24_putAll_2 9 rfl rfl)
theorem dJ24_putAll_56 : decode cJ24_putAll 56 = .ok (.aload_n 1, 1) := dk_43 (dk_at dksJ24_putAll_2 10 rfl rfl)
theorem dJ24_putAll_57 : decode cJ24_putAll 57 = .ok (.invokeinterface 90 1, 5) := by decide +kernel
theorem dJ24_putAll_62 : decode cJ24_putAll 62 = .ok (.invokeinterface 36 1, 5) := by decide +kernel
theorem dJ24_putAll_67 : decode cJ24_putAll 67 = .ok (.aconst_null, 1) := dk_1 (dk_at dksJ24_putAll_2 21 rfl rfl)
theorem dJ24_putAll_68 : decode cJ24_putAll 68 = .ok (.aconst_null, 1) := dk_1 (dk_at dksJ24_putAll_2 22 rfl rfl)
theorem dJ24_putAll_69 : decode cJ24_putAll 69 = .ok (.invokevirtual 42, 3) := dk_182 0 42 (dk_at dksJ24_putAll_3 0 rfl rfl)
theorem dJ24_putAll_72 : decode cJ24_putAll 72 = .ok (.goto 4, 3) := dk_167 0 4 (dk_at dksJ24_putAll_3 3 rfl rfl)
theorem dJ24_putAll_75 : decode cJ24_putAll 75 = .ok (.astore_n 3, 1) := dk_78 (dk_at dksJ24_putAll_3 6 rfl rfl)
theorem dJ24_putAll_76 : decode cJ24_putAll 76 = .ok (.return_, 1) := dk_177 (dk_at dksJ24_putAll_3 7 rfl rfl)
theorem dJ24_putAll_77 : decode cJ24_putAll 77 = .ok (.aload_n 0, 1) := dk_42 (dk_at dksJ24_putAll_3 8 rfl rfl)
theorem dJ24_putAll_78 : decode cJ24_putAll 78 = .ok (.aload_n 1, 1) := dk_43 (dk_at dksJ24_putAll_3 9 rfl rfl)
theorem dJ24_putAll_79 : decode cJ24_putAll 79 = .ok (.invokespecial 91, 3) := dk_183 0 91 (dk_at dksJ24_putAll_3 10 rfl rfl)
theorem dJ24_putAll_82 : decode cJ24_putAll 82 = .ok (.return_, 1) := dk_177 (dk_at dksJ24_putAll_3 13 rfl rfl)
theorem dJ24_size_0 : decode cJ24_size 0 = .ok (.aload_n 0, 1) := by decide +kernel
theorem dJ24_size_1 : decode cJ24_size 1 = .ok (.getfield 7, 3) := by decide +kernel
theorem dJ24_size_4 : decode cJ24_size 4 = .ok (.ireturn, 1) := by decide +kernel
theorem dJ24_comparator_0 : decode cJ24_comparator 0 = .ok (.aload_n 0, 1) := by decide +kernel
theorem dJ24_comparator_1 : decode cJ24_comparator 1 = .ok (.getfield 16, 3) := by decide +kernel
theorem dJ24_comparator_4 : decode cJ24_comparator 4 = .ok (.areturn, 1) := by decide +kernel
def dkwJ24_entrySet_1 : List UInt8 := [181, 0, 188, 176]
abbrev dktJ24_entrySet_1 : List UInt8 := dkwJ24_entrySet_1 ++ []
def dkwJ24_entrySet_0 : List UInt8 := [42, 180, 0, 188, 76, 43, 198, 0, 7, 43, 167, 0, 16, 42, 187, 0, 242, 89, 42, 183, 0, 244, 90]
abbrev dktJ24_entrySet_0 : List UInt8 := dkwJ24_entrySet_0 ++ dktJ24_entrySet_1
theorem dksJ24_entrySet_0 : cJ24_entrySet.data.toList.drop 0 = dktJ24_entrySet_0 := by decide +kernel
theorem dksJ24_entrySet_1 : cJ24_entrySet.data.toList.drop 23 = dktJ24_entrySet_1 := dk_seg dksJ24_entrySet_0 23 rfl rfl
theorem dJ24_entrySet_0 : decode cJ24_entrySet 0 = .ok (.aload_n 0, 1) := dk_42 (dk_at dksJ24_entrySet_0 0 rfl rfl)
theorem dJ24_entrySet_1 : decode cJ24_entrySet 1 = .ok (.getfield 188, 3) := dk_180 0 188 (dk_at dksJ24_entrySet_0 1 rfl rfl)
theorem dJ24_entrySet_4 : decode cJ24_entrySet 4 = .ok (.astore_n 1, 1) := dk_76 (dk_at dksJ24_entrySet_0 4 rfl rfl)
theorem dJ24_entrySet_5 : decode cJ24_entrySet 5 = .ok (.aload_n 1, 1) := dk_43 (dk_at dksJ24_entrySet_0 5 rfl rfl)
theorem dJ24_entrySet_6 : decode cJ24_entrySet 6 = .ok (.ifnull 7, 3) := dk_198 0 7 (dk_at dksJ24_entrySet_0 6 rfl rfl)
theorem dJ24_entrySet_9 : decode cJ24_entrySet 9 = .ok (.aload_n 1, 1) := dk_43 (dk_at dksJ24_entrySet_0 9 rfl rfl)
theorem dJ24_entrySet_10 : decode cJ24_entrySet 10 = .ok (.goto 16, 3) := dk_167 0 16 (dk_at dksJ24_entrySet_0 10 rfl rfl)
theorem dJ24_entrySet_13 : decode cJ24_entrySet 13 = .ok (.aload_n 0, 1) := dk_42 (dk_at dksJ24_entrySet_0 13 rfl rfl)
theorem dJ24_entrySet_14 : decode cJ24_entrySet 14 = .ok (.new 242, 3) := dk_187 0 242 (dk_at dksJ24_entrySet_0 14 rfl rfl)
theorem dJ24_entrySet_17 : decode cJ24_entrySet 17 = .ok (.dup, 1) := dk_89 (dk_at dksJ24_entrySet_0 17 rfl rfl)
theorem dJ24_entrySet_18 : decode cJ24_entrySet 18 = .ok (.aload_n 0, 1) := dk_42 (dk_at dksJ24_entrySet_0 18 rfl rfl)
theorem dJ24_entrySet_19 : decode cJ24_entrySet 19 = .ok (.invokespecial 244, 3) := dk_183 0 244 (dk_at dksJ24_entrySet_0 19 rfl rfl)
theorem dJ24_entrySet_22 : decode cJ24_entrySet 22 = .ok (.dup_x1, 1) := dk_90 (dk_at dksJ24_entrySet_0 22 rfl rfl)
theorem dJ24_entrySet_23 : decode cJ24_entrySet 23 = .ok (.putfield 188, 3) := dk_181 0 188 (dk_at dksJ24_entrySet_1 0 rfl rfl)
theorem dJ24_entrySet_26 : decode cJ24_entrySet 26 = .ok (.areturn, 1) := dk_176 (dk_at dksJ24_entrySet_1 3 rfl rfl)
def dkwJ24_getFirstEntry_1 : List UInt8 := [43, 176]
abbrev dktJ24_getFirstEntry_1 : List UInt8 := dkwJ24_getFirstEntry_1 ++ []
def dkwJ24_getFirstEntry_0 : List UInt8 := [42, 180, 0, 101, 76, 43, 198, 0, 18, 43, 180, 0, 111, 198, 0, 11, 43, 180, 0, 111, 76, 167, 255, 244]
abbrev dktJ24_getFirstEntry_0 : List UInt8 := dkwJ24_getFirstEntry_0 ++ dktJ24_getFirstEntry_1
theorem dksJ24_getFirstEntry_0 : cJ24_getFirstEntry.data.toList.drop 0 = dktJ24_getFirstEntry_0 := by decide +kernel
theorem dksJ24_getFirstEntry_1 : cJ24_getFirstEntry.data.toList.drop 24 = dktJ24_getFirstEntry_1 := dk_seg dksJ24_getFirstEntry_0 24 rfl rfl
theorem dJ24_getFirstEntry_0 : decode cJ24_getFirstEntry 0 = .ok (.aload_n 0, 1) := dk_42 (dk_at dksJ24_getFirstEntry_0 0 rfl rfl)
theorem dJ24_getFirstEntry_1 : decode cJ24_getFirstEntry 1 = .ok (.getfield 101, 3) := dk_180 0 101 (dk_at dksJ24_getFirstEntry_0 1 rfl rfl)
theorem dJ24_getFirstEntry_4 : decode cJ24_getFirstEntry 4 = .ok (.astore_n 1, 1) := dk_76 (dk_at dksJ24_getFirstEntry_0 4 rfl rfl)
theorem dJ24_getFirstEntry_5 : decode cJ24_getFirstEntry 5 = .ok (.aload_n 1, 1) := dk_43 (dk_at dksJ24_getFirstEntry_0 5 rfl rfl)
theorem dJ24_getFirstEntry_6 : decode cJ24_getFirstEntry 6 = .ok (.ifnull 18, 3) := dk_198 0 18 (dk_at dksJ24_getFirstEntry_0 6 rfl rfl)
theorem dJ24_getFirstEntry_9 : decode cJ24_getFirstEntry 9 = .ok (.aload_n 1, 1) := dk_43 (dk_at dksJ24_getFirstEntry_0 9 rfl rfl)
theorem dJ24_getFirstEntry_10 : decode cJ24_getFirstEntry 10 = .ok (.getfield 111, 3) := dk_180 0 111 (dk_at dksJ24_getFirstEntry_0 10 rfl rfl)
theorem dJ24_getFirstEntry_13 : decode cJ24_getFirstEntry 13 = .ok (.ifnull 11, 3) := dk_198 0 11 (dk_at dksJ24_getFirstEntry_0 13 rfl rfl)
theorem dJ24_getFirstEntry_16 : decode cJ24_getFirstEntry 16 = .ok (.aload_n 1, 1) := dk_43 (dk_at dksJ24_getFirstEntry_0 16 rfl rfl)
theorem dJ24_getFirstEntry_17 : decode cJ24_getFirstEntry 17 = .ok (.getfield 111, 3) := dk_180 0 111 (dk_at dksJ24_getFirstEntry_0 17 rfl rfl)
theorem dJ24_getFirstEntry_20 : decode cJ24_getFirstEntry 20 = .ok (.astore_n 1, 1) := dk_76 (dk_at dksJ24_getFirstEntry_0 20 rfl rfl)
theorem dJ24_getFirstEntry_21 : decode cJ24_getFirstEntry 21 = .ok (.goto (-12), 3) := dk_167 255 244 (dk_at dksJ24_getFirstEntry_0 21 rfl rfl)
theorem dJ24_getFirstEntry_24 : decode cJ24_getFirstEntry 24 = .ok (.aload_n 1, 1) := dk_43 (dk_at dksJ24_getFirstEntry_1 0 rfl rfl)
theorem dJ24_getFirstEntry_25 : decode cJ24_getFirstEntry 25 = .ok (.areturn, 1) := dk_176 (dk_at dksJ24_getFirstEntry_1 1 rfl rfl)
def dkwJ24_buildFromSorted_1 : List UInt8 := [181, 0, 101, 177]
abbrev dktJ24_buildFromSorted_1 : List UInt8 := dkwJ24_buildFromSorted_1 ++ []
def dkwJ24_buildFromSorted_0 : List UInt8 := [42, 27, 181, 0, 7, 42, 42, 3, 3, 27, 4, 100, 27, 184, 1, 106, 44, 45, 25, 4, 182, 1, 110]
abbrev dktJ24_buildFromSorted_0 : List UInt8 := dkwJ24_buildFromSorted_0 ++ dktJ24_buildFromSorted_1
theorem dksJ24_buildFromSorted_0 : cJ24_buildFromSorted.data.toList.drop 0 = dktJ24_buildFromSorted_0 := by decide +kernel
theorem dksJ24_buildFromSorted_1 : cJ24_buildFromSorted.data.toList.drop 23 = dktJ24_buildFromSorted_1 := dk_seg dksJ24_buildFromSorted_0 23 rfl rfl
theorem dJ24_buildFromSorted_0 : decode cJ24_buildFromSorted 0 = .ok (.aload_n 0, 1) := dk_42 (dk_at dksJ24_buildFromSorted_0 0 rfl rfl)
theorem dJ24_buildFromSorted_1 : decode cJ24_buildFromSorted 1 = .ok (.iload_n 1, 1) := dk_27 (dk_at dksJ24_buildFromSorted_0 1 rfl rfl)
theorem dJ24_buildFromSorted_2 : decode cJ24_buildFromSorted 2 = .ok (.putfield 7, 3) := dk_181 0 7 (dk_at dksJ24_buildFromSorted_0 2 rfl rfl)
theorem dJ24_buildFromSorted_5 : decode cJ24_buildFromSorted 5 = .ok (.aload_n 0, 1) := dk_42 (dk_at dksJ24_buildFromSorted_0 5 rfl rfl)
theorem dJ24_buildFromSorted_6 : decode cJ24_buildFromSorted 6 = .ok (.aload_n 0, 1) := dk_42 (dk_at dksJ24_buildFromSorted_0 6 rfl rfl)
theorem dJ24_buildFromSorted_7 : decode cJ24_buildFromSorted 7 = .ok (.iconst 0, 1) := dk_3 (dk_at dksJ24_buildFromSorted_0 7 rfl rfl)
theorem dJ24_buildFromSorted_8 : decode cJ24_buildFromSorted 8 = .ok (.iconst 0, 1) := dk_3 (dk_at dksJ24_buildFromSorted_0 8 rfl rfl)
theorem dJ24_buildFromSorted_9 : decode cJ24_buildFromSorted 9 = .ok (.iload_n 1, 1) := dk_27 (dk_at dksJ24_buildFromSorted_0 9 rfl rfl)
theorem dJ24_buildFromSorted_10 : decode cJ24_buildFromSorted 10 = .ok (.iconst 1, 1) := dk_4 (dk_at dksJ24_buildFromSorted_0 10 rfl rfl)
theorem dJ24_buildFromSorted_11 : decode cJ24_buildFromSorted 11 = .ok (.isub, 1) := dk_100 (dk_at dksJ24_buildFromSorted_0 11 rfl rfl)
theorem dJ24_buildFromSorted_12 : decode cJ24_buildFromSorted 12 = .ok (.iload_n 1, 1) := dk_27 (dk_at dksJ24_buildFromSorted_0 12 rfl rfl)
theorem dJ24_buildFromSorted_13 : decode cJ24_buildFromSorted 13 = .ok (.invokestatic 362, 3) := dk_184 1 106 (dk_at dksJ24_buildFromSorted_0 13 rfl rfl)
theorem dJ24_buildFromSorted_16 : decode cJ24_buildFromSorted 16 = .ok (.aload_n 2, 1) := dk_44 (dk_at dksJ24_buildFromSorted_0 16 rfl rfl)
theorem dJ24_buildFromSorted_17 : decode cJ24_buildFromSorted 17 = .ok (.aload_n 3, 1) := dk_45 (dk_at dksJ24_buildFromSorted_0 17 rfl rfl)
theorem dJ24_buildFromSorted_18 : decode cJ24_buildFromSorted 18 = .ok (.aload 4, 2) := dk_25 4 (dk_at dksJ24_buildFromSorted_0 18 rfl rfl)
theorem dJ24_buildFromSorted_20 : decode cJ24_buildFromSorted 20 = .ok (.invokevirtual 366, 3) := dk_182 1 110 (dk_at dksJ24_buildFromSorted_0 20 rfl rfl)
theorem dJ24_buildFromSorted_23 : decode cJ24_buildFromSorted 23 = .ok (.putfield 101, 3) := dk_181 0 101 (dk_at dksJ24_buildFromSorted_1 0 rfl rfl)
theorem dJ24_buildFromSorted_26 : decode cJ24_buildFromSorted 26 = .ok (.return_, 1) := dk_177 (dk_at dksJ24_buildFromSorted_1 3 rfl rfl)
def dkwJ24_computeRedLevel_0 : List UInt8 := [16, 31, 26, 4, 96, 184, 1, 116, 100, 172]
abbrev dktJ24_computeRedLevel_0 : List UInt8 := dkwJ24_computeRedLevel_0 ++ []
theorem dksJ24_computeRedLevel_0 : cJ24_computeRedLevel.data.toList.drop 0 = dktJ24_computeRedLevel_0 := by decide +kernel
theorem dJ24_computeRedLevel_0 : decode cJ24_computeRedLevel 0 = .ok (.bipush 31, 2) := dk_16 31 (dk_at dksJ24_computeRedLevel_0 0 rfl rfl)
theorem dJ24_computeRedLevel_2 : decode cJ24_computeRedLevel 2 = .ok (.iload_n 0, 1) := dk_26 (dk_at dksJ24_computeRedLevel_0 2 rfl rfl)
theorem dJ24_computeRedLevel_3 : decode cJ24_computeRedLevel 3 = .ok (.iconst 1, 1) := dk_4 (dk_at dksJ24_computeRedLevel_0 3 rfl rfl)
theorem dJ24_computeRedLevel_4 : decode cJ24_computeRedLevel 4 = .ok (.iadd, 1) := dk_96 (dk_at dksJ24_computeRedLevel_0 4 rfl rfl)
theorem dJ24_computeRedLevel_5 : decode cJ24_computeRedLevel 5 = .ok (.invokestatic 372, 3) := dk_184 1 116 (dk_at dksJ24_computeRedLevel_0 5 rfl rfl)
theorem dJ24_computeRedLevel_8 : decode cJ24_computeRedLevel 8 = .ok (.isub, 1) := dk_100 (dk_at dksJ24_computeRedLevel_0 8 rfl rfl)
theorem dJ24_computeRedLevel_9 : decode cJ24_computeRedLevel 9 = .ok (.ireturn, 1) := dk_172 (dk_at dksJ24_computeRedLevel_0 9 rfl rfl)
def dkwJ24_buildFromSorted_2_9 : List UInt8 := [25, 13, 25, 12, 181, 0, 124, 25, 12, 176]
abbrev dktJ24_buildFromSorted_2_9 : List UInt8 := dkwJ24_buildFromSorted_2_9 ++ []
def dkwJ24_buildFromSorted_2_8 : List UInt8 := [4, 96, 29, 21, 4, 25, 5, 25, 6, 25, 7, 182, 1, 110, 58, 13, 25, 12, 25, 13, 181, 0, 114]
abbrev dktJ24_buildFromSorted_2_8 : List UInt8 := dkwJ24_buildFromSorted_2_8 ++ dktJ24_buildFromSorted_2_9
def dkwJ24_buildFromSorted_2_7 : List UInt8 := [25, 9, 181, 0, 111, 25, 9, 25, 12, 181, 0, 124, 21, 8, 29, 162, 0, 39, 42, 27, 4, 96, 21, 8]
abbrev dktJ24_buildFromSorted_2_7 : List UInt8 := dkwJ24_buildFromSorted_2_7 ++ dktJ24_buildFromSorted_2_8
def dkwJ24_buildFromSorted_2_6 : List UInt8 := [183, 0, 167, 58, 12, 27, 21, 4, 160, 0, 9, 25, 12, 3, 181, 1, 34, 25, 9, 198, 0, 17, 25, 12]
abbrev dktJ24_buildFromSorted_2_6 : List UInt8 := dkwJ24_buildFromSorted_2_6 ++ dktJ24_buildFromSorted_2_7
def dkwJ24_buildFromSorted_2_5 : List UInt8 := [198, 0, 8, 25, 7, 167, 0, 8, 25, 6, 182, 1, 113, 58, 11, 187, 0, 59, 89, 25, 10, 25, 11, 1]
abbrev dktJ24_buildFromSorted_2_5 : List UInt8 := dkwJ24_buildFromSorted_2_5 ++ dktJ24_buildFromSorted_2_6
def dkwJ24_buildFromSorted_2_4 : List UInt8 := [185, 1, 79, 1, 0, 58, 10, 25, 7, 58, 11, 167, 0, 27, 25, 6, 182, 1, 113, 58, 10, 25, 7]
abbrev dktJ24_buildFromSorted_2_4 : List UInt8 := dkwJ24_buildFromSorted_2_4 ++ dktJ24_buildFromSorted_2_5
def dkwJ24_buildFromSorted_2_3 : List UInt8 := [185, 1, 84, 1, 0, 58, 10, 25, 12, 185, 1, 91, 1, 0, 58, 11, 167, 0, 43, 25, 5]
abbrev dktJ24_buildFromSorted_2_3 : List UInt8 := dkwJ24_buildFromSorted_2_3 ++ dktJ24_buildFromSorted_2_4
def dkwJ24_buildFromSorted_2_2 : List UInt8 := [198, 0, 57, 25, 7, 199, 0, 36, 25, 5, 185, 1, 79, 1, 0, 192, 1, 82, 58, 12, 25, 12]
abbrev dktJ24_buildFromSorted_2_2 : List UInt8 := dkwJ24_buildFromSorted_2_2 ++ dktJ24_buildFromSorted_2_3
def dkwJ24_buildFromSorted_2_1 : List UInt8 := [27, 4, 96, 28, 21, 8, 4, 100, 21, 4, 25, 5, 25, 6, 25, 7, 182, 1, 110, 58, 9, 25, 5]
abbrev dktJ24_buildFromSorted_2_1 : List UInt8 := dkwJ24_buildFromSorted_2_1 ++ dktJ24_buildFromSorted_2_2
def dkwJ24_buildFromSorted_2_0 : List UInt8 := [29, 28, 162, 0, 5, 1, 176, 28, 29, 96, 4, 124, 54, 8, 1, 58, 9, 28, 21, 8, 162, 0, 25, 42]
abbrev dktJ24_buildFromSorted_2_0 : List UInt8 := dkwJ24_buildFromSorted_2_0 ++ dktJ24_buildFromSorted_2_1
theorem dksJ24_buildFromSorted_2_0 : cJ24_buildFromSorted_2.data.toList.drop 0 = dktJ24_buildFromSorted_2_0 := by decide +kernel
theorem dksJ24_buildFromSorted_2_1 : cJ24_buildFromSorted_2.data.toList.drop 24 = dktJ24_buildFromSorted_2_1 := dk_seg dksJ24_buildFromSorted_2_0 24 rfl rfl
theorem dksJ24_buildFromSorted_2_2 : cJ24_buildFromSorted_2.data.toList.drop 47 = dktJ24_buildFromSorted_2_2 := dk_seg dksJ24_buildFromSorted_2_1 23 rfl rfl
theorem dksJ24_buildFromSorted_2_3 : cJ24_buildFromSorted_2.data.toList.drop 69 = dktJ24_buildFromSorted_2_3 := dk_seg dksJ24_buildFromSorted_2_2 22 rfl rfl
theorem dksJ24_buildFromSorted_2_4 : cJ24_buildFromSorted_2.data.toList.drop 90 = dktJ24_buildFromSorted_2_4 := dk_seg dksJ24_buildFromSorted_2_3 21 rfl rfl
theorem dksJ24_buildFromSorted_2_5 : cJ24_buildFromSorted_2.data.toList.drop 113 = dktJ24_buildFromSorted_2_5 := dk_seg dksJ24_buildFromSorted_2_4 23 rfl rfl
theorem dksJ24_buildFromSorted_2_6 : cJ24_buildFromSorted_2.data.toList.drop 137 = dktJ24_buildFromSorted_2_6 := dk_seg dksJ24_buildFromSorted_2_5 24 rfl rfl
theorem dksJ24_buildFromSorted_2_7 : cJ24_buildFromSorted_2.data.toList.drop 161 = dktJ24_buildFromSorted_2_7 := dk_seg dksJ24_buildFromSorted_2_6 24 rfl rfl
theorem dksJ24_buildFromSorted_2_8 : cJ24_buildFromSorted_2.data.toList.drop 185 = dktJ24_buildFromSorted_2_8 := dk_seg dksJ24_buildFromSorted_2_7 24 rfl rfl
theorem dksJ24_buildFromSorted_2_9 : cJ24_buildFromSorted_2.data.toList.drop 208 = dktJ24_buildFromSorted_2_9 := dk_seg dksJ24_buildFromSorted_2_8 23 rfl rfl
theorem dJ24_buildFromSorted_2_0 : decode cJ24_buildFromSorted_2 0 = .ok (.iload_n 3, 1) := dk_29 (dk_at dksJ24_buildFromSorted_2_0 0 rfl rfl)
theorem dJ24_buildFromSorted_2_1 : decode cJ24_buildFromSorted_2 1 = .ok (.iload_n 2, 1) := dk_28 (dk_at dksJ24_buildFromSorted_2_0 1 rfl rfl)
theorem dJ24_buildFromSorted_2_2 : decode cJ24_buildFromSorted_2 2 = .ok (.if_icmp .ge 5, 3) := dk_162 0 5 (dk_at dksJ24_buildFromSorted_2_0 2 rfl rfl)
theorem dJ24_buildFromSorted_2_5 : decode cJ24_buildFromSorted_2 5 = .ok (.aconst_null, 1) := dk_1 (dk_at dksJ24_buildFromSorted_2_0 5 rfl rfl)
theorem dJ24_buildFromSorted_2_6 : decode cJ24_buildFromSorted_2 6 = .ok (.areturn, 1) := dk_176 (dk_at dksJ24_buildFromSorted_2_0 6 rfl rfl)
theorem dJ24_buildFromSorted_2_7 : decode cJ24_buildFromSorted_2 7 = .ok (.iload_n 2, 1) := dk_28 (dk_at dksJ24_buildFromSorted_2_0 7 rfl rfl)
theorem dJ24_buildFromSorted_2_8 : decode cJ24_buildFromSorted_2 8 = .ok (.iload_n 3, 1) := dk_29 (dk_at dksJ24_buildFromSorted_2_0 8 rfl rfl)
theorem dJ24_buildFromSorted_2_9 : decode cJ24_buildFromSorted_2 9 = .ok (.iadd, 1) := dk_96 (dk_at dksJ24_buildFromSorted_2_0 9 rfl rfl)
theorem dJ24_buildFromSorted_2_10 : decode cJ24_buildFromSorted_2 10 = .ok (.iconst 1, 1) := dk_4 (dk_at dksJ24_buildFromSorted_2_0 10 rfl rfl)
theorem dJ24_buildFromSorted_2_11 : decode cJ24_buildFromSorted_2 11 = .ok (.iushr, 1) := dk_124 (dk_at dksJ24_buildFromSorted_2_0 11 rfl rfl)
theorem dJ24_buildFromSorted_2_12 : decode cJ24_buildFromSorted_2 12 = .ok (.istore 8, 2) := dk_54 8 (dk_at dksJ24_buildFromSorted_2_0 12 rfl rfl)
theorem dJ24_buildFromSorted_2_14 : decode cJ24_buildFromSorted_2 14 = .ok (.aconst_null, 1) := dk_1 (dk_at dksJ24_buildFromSorted_2_0 14 rfl rfl)
theorem dJ24_buildFromSorted_2_15 : decode cJ24_buildFromSorted_2 15 = .ok (.astore 9, 2) := dk_58 9 (dk_at dksJ24_buildFromSorted_2_0 15 rfl rfl)
theorem dJ24_buildFromSorted_2_17 : decode cJ24_buildFromSorted_2 17 = .ok (.iload_n 2, 1) := dk_28 (dk_at dksJ24_buildFromSorted_2_0 17 rfl rfl)
theorem dJ24_buildFromSorted_2_18 : decode cJ24_buildFromSorted_2 18 = .ok (.iload 8, 2) := dk_21 8 (dk_at dksJ24_buildFromSorted_2_0 18 rfl rfl)
theorem dJ24_buildFromSorted_2_20 : decode cJ24_buildFromSorted_2 20 = .ok (.if_icmp .ge 25, 3) := dk_162 0 25 (dk_at dksJ24_buildFromSorted_2_0 20 rfl rfl)
theorem dJ24_buildFromSorted_2_23 : decode cJ24_buildFromSorted_2 23 = .ok (.aload_n 0, 1) := dk_42 (dk_at dksJ24_buildFromSorted_2_0 23 rfl rfl)
theorem dJ24_buildFromSorted_2_24 : decode cJ24_buildFromSorted_2 24 = .ok (.iload_n 1, 1) := dk_27 (dk_at dksJ24_buildFromSorted_2_1 0 rfl rfl)
theorem dJ24_buildFromSorted_2_25 : decode cJ24_buildFromSorted_2 25 = .ok (.iconst 1, 1) := dk_4 (dk_at dksJ24_buildFromSorted_2_1 1 rfl rfl)
theorem dJ24_buildFromSorted_2_26 : decode cJ24_buildFromSorted_2 26 = .ok (.iadd, 1) := dk_96 (dk_at dksJ24_buildFromSorted_2_1 2 rfl rfl)
theorem dJ24_buildFromSorted_2_27 : decode cJ24_buildFromSorted_2 27 = .ok (.iload_n 2, 1) := dk_28 (dk_at dksJ24_buildFromSorted_2_1 3 rfl rfl)
theorem dJ24_buildFromSorted_2_28 : decode cJ24_buildFromSorted_2 28 = .ok (.iload 8, 2) := dk_21 8 (dk_at dksJ24_buildFromSorted_2_1 4 rfl rfl)
theorem dJ24_buildFromSorted_2_30 : decode cJ24_buildFromSorted_2 30 = .ok (.iconst 1, 1) := dk_4 (dk_at dksJ24_buildFromSorted_2_1 6 rfl rfl)
theorem dJ24_buildFromSorted_2_31 : decode cJ24_buildFromSorted_2 31 = .ok (.isub, 1) := dk_100 (dk_at dksJ24_buildFromSorted_2_1 7 rfl rfl)
theorem dJ24_buildFromSorted_2_32 : decode cJ24_buildFromSorted_2 32 = .ok (.iload 4, 2) := dk_21 4 (dk_at dksJ24_buildFromSorted_2_1 8 rfl rfl)
theorem dJ24_buildFromSorted_2_34 : decode cJ24_buildFromSorted_2 34 = .ok (.aload 5, 2) := dk_25 5 (dk_at dksJ24_buildFromSorted_2_1 10 rfl rfl)
theorem dJ24_buildFromSorted_2_36 : decode cJ24_buildFromSorted_2 36 = .ok (.aload 6, 2) := dk_25 6 (dk_at dksJ24_buildFromSorted_2_1 12 rfl rfl)
theorem dJ24_buildFromSorted_2_38 : decode cJ24_buildFromSorted_2 38 = .ok (.aload 7, 2) := dk_25 7 (dk_at dksJ24_buildFromSorted_2_1 14 rfl rfl)
theorem dJ24_buildFromSorted_2_40 : decode cJ24_buildFromSorted_2 40 = .ok (.invokevirtual 366, 3) := dk_182 1 110 (dk_at dksJ24_buildFromSorted_2_1 16 rfl rfl)
theorem dJ24_buildFromSorted_2_43 : decode cJ24_buildFromSorted_2 43 = .ok (.astore 9, 2) := dk_58 9 (dk_at dksJ24_buildFromSorted_2_1 19 rfl rfl)
theorem dJ24_buildFromSorted_2_45 : decode cJ24_buildFromSorted_2 45 = .ok (.aload 5, 2) := dk_25 5 (dk_at dksJ24_buildFromSorted_2_1 21 rfl rfl)
theorem dJ24_buildFromSorted_2_47 : decode cJ24_buildFromSorted_2 47 = .ok (.ifnull 57, 3) := dk_198 0 57 (dk_at dksJ24_buildFromSorted_2_2 0 rfl rfl)
theorem dJ24_buildFromSorted_2_50 : decode cJ24_buildFromSorted_2 50 = .ok (.aload 7, 2) := dk_25 7 (dk_at dksJ24_buildFromSorted_2_2 3 rfl rfl)
theorem dJ24_buildFromSorted_2_52 : decode cJ24_buildFromSorted_2 52 = .ok (.ifnonnull 36, 3) := dk_199 0 36 (dk_at dksJ24_buildFromSorted_2_2 5 rfl rfl)
theorem dJ24_buildFromSorted_2_55 : decode cJ24_buildFromSorted_2 55 = .ok (.aload 5, 2) := dk_25 5 (dk_at dksJ24_buildFromSorted_2_2 8 rfl rfl)
theorem dJ24_buildFromSorted_2_57 : decode cJ24_buildFromSorted_2 57 = .ok (.invokeinterface 335 1, 5) := by decide +kernel
theorem dJ24_buildFromSorted_2_62 : decode cJ24_buildFromSorted_2 62 = .ok (.checkcast 338, 3) := dk_192 1 82 (dk_at dksJ24_buildFromSorted_2_2 15 rfl rfl)
theorem dJ24_buildFromSorted_2_65 : decode cJ24_buildFromSorted_2 65 = .ok (.astore 12, 2) := dk_58 12 (dk_at dksJ24_buildFromSorted_2_2 18 rfl rfl)
theorem dJ24_buildFromSorted_2_67 : decode cJ24_buildFromSorted_2 67 = .ok (.aload 12, 2) := dk_25 12 (dk_at dksJ24_buildFromSorted_2_2 20 rfl rfl)
theorem dJ24_buildFromSorted_2_69 : decode cJ24_buildFromSorted_2 69 = .ok (.invokeinterface 340 1, 5) := by decide +kernel
theorem dJ24_buildFromSorted_2_74 : decode cJ24_buildFromSorted_2 74 = .ok (.astore 10, 2) := dk_58 10 (dk_at dksJ24_buildFromSorted_2_3 5 rfl rfl)
theorem dJ24_buildFromSorted_2_76 : decode cJ24_buildFromSorted_2 76 = .ok (.aload 12, 2) := dk_25 12 (dk_at dksJ24_buildFromSorted_2_3 7 rfl rfl)
theorem dJ24_buildFromSorted_2_78 : decode cJ24_buildFromSorted_2 78 = .ok (.invokeinterface 347 1, 5) := by decide +kernel
theorem dJ24_buildFromSorted_2_83 : decode cJ24_buildFromSorted_2 83 = .ok (.astore 11, 2) := dk_58 11 (dk_at dksJ24_buildFromSorted_2_3 14 rfl rfl)
theorem dJ24_buildFromSorted_2_85 : decode cJ24_buildFromSorted_2 85 = .ok (.goto 43, 3) := dk_167 0 43 (dk_at dksJ24_buildFromSorted_2_3 16 rfl rfl)
theorem dJ24_buildFromSorted_2_88 : decode cJ24_buildFromSorted_2 88 = .ok (.aload 5, 2) := dk_25 5 (dk_at dksJ24_buildFromSorted_2_3 19 rfl rfl)
theorem dJ24_buildFromSorted_2_90 : decode cJ24_buildFromSorted_2 90 = .ok (.invokeinterface 335 1, 5) := by decide +kernel
theorem dJ24_buildFromSorted_2_95 : decode cJ24_buildFromSorted_2 95 = .ok (.astore 10, 2) := dk_58 10 (dk_at dksJ24_buildFromSorted_2_4 5 rfl rfl)
theorem dJ24_buildFromSorted_2_97 : decode cJ24_buildFromSorted_2 97 = .ok (.aload 7, 2) := dk_25 7 (dk_at dksJ24_buildFromSorted_2_4 7 rfl rfl)
theorem dJ24_buildFromSorted_2_99 : decode cJ24_buildFromSorted_2 99 = .ok (.astore 11, 2) := dk_58 11 (dk_at dksJ24_buildFromSorted_2_4 9 rfl rfl)
theorem dJ24_buildFromSorted_2_101 : decode cJ24_buildFromSorted_2 101 = .ok (.goto 27, 3) := dk_167 0 27 (dk_at dksJ24_buildFromSorted_2_4 11 rfl rfl)
theorem dJ24_buildFromSorted_2_104 : decode cJ24_buildFromSorted_2 104 = .ok (.aload 6, 2) := dk_25 6 (dk_at dksJ24_buildFromSorted_2_4 14 rfl rfl)
theorem dJ24_buildFromSorted_2_106 : decode cJ24_buildFromSorted_2 106 = .ok (.invokevirtual 369, 3) := dk_182 1 113 (dk_at dksJ24_buildFromSorted_2_4 16 rfl rfl)
theorem dJ24_buildFromSorted_2_109 : decode cJ24_buildFromSorted_2 109 = .ok (.astore 10, 2) := dk_58 10 (dk_at dksJ24_buildFromSorted_2_4 19 rfl rfl)
theorem dJ24_buildFromSorted_2_111 : decode cJ24_buildFromSorted_2 111 = .ok (.aload 7, 2) := dk_25 7 (dk_at dksJ24_buildFromSorted_2_4 21 rfl rfl)
theorem dJ24_buildFromSorted_2_113 : decode cJ24_buildFromSorted_2 113 = .ok (.ifnull 8, 3) := dk_198 0 8 (dk_at dksJ24_buildFromSorted_2_5 0 rfl rfl)
theorem dJ24_buildFromSorted_2_116 : decode cJ24_buildFromSorted_2 116 = .ok (.aload 7, 2) := dk_25 7 (dk_at dksJ24_buildFromSorted_2_5 3 rfl rfl)
theorem dJ24_buildFromSorted_2_118 : decode cJ24_buildFromSorted_2 118 = .ok (.goto 8, 3) := dk_167 0 8 (dk_at dksJ24_buildFromSorted_2_5 5 rfl rfl)
theorem dJ24_buildFromSorted_2_121 : decode cJ24_buildFromSorted_2 121 = .ok (.aload 6, 2) := dk_25 6 (dk_at dksJ24_buildFromSorted_2_5 8 rfl rfl)
theorem dJ24_buildFromSorted_2_123 : decode cJ24_buildFromSorted_2 123 = .ok (.invokevirtual 369, 3) := dk_182 1 113 (dk_at dksJ24_buildFromSorted_2_5 10 rfl rfl)
theorem dJ24_buildFromSorted_2_126 : decode cJ24_buildFromSorted_2 126 = .ok (.astore 11, 2) := dk_58 11 (dk_at dksJ24_buildFromSorted_2_5 13 rfl rfl)
theorem dJ24_buildFromSorted_2_128 : decode cJ24_buildFromSorted_2 128 = .ok (.new 59, 3) := dk_187 0 59 (dk_at dksJ24_buildFromSorted_2_5 15 rfl rfl)
theorem dJ24_buildFromSorted_2_131 : decode cJ24_buildFromSorted_2 131 = .ok (.dup, 1) := dk_89 (dk_at dksJ24_buildFromSorted_2_5 18 rfl rfl)
theorem dJ24_buildFromSorted_2_132 : decode cJ24_buildFromSorted_2 132 = .ok (.aload 10, 2) := dk_25 10 (dk_at dksJ24_buildFromSorted_2_5 19 rfl rfl)
theorem dJ24_buildFromSorted_2_134 : decode cJ24_buildFromSorted_2 134 = .ok (.aload 11, 2) := dk_25 11 (dk_at dksJ24_buildFromSorted_2_5 21 rfl rfl)
theorem dJ24_buildFromSorted_2_136 : decode cJ24_buildFromSorted_2 136 = .ok (.aconst_null, 1) := dk_1 (dk_at dksJ24_buildFromSorted_2_5 23 rfl rfl)
theorem dJ24_buildFromSorted_2_137 : decode cJ24_buildFromSorted_2 137 = .ok (.invokespecial 167, 3) := dk_183 0 167 (dk_at dksJ24_buildFromSorted_2_6 0 rfl rfl)
theorem dJ24_buildFromSorted_2_140 : decode cJ24_buildFromSorted_2 140 = .ok (.astore 12, 2) := dk_58 12 (dk_at dksJ24_buildFromSorted_2_6 3 rfl rfl)
theorem dJ24_buildFromSorted_2_142 : decode cJ24_buildFromSorted_2 142 = .ok (.iload_n 1, 1) := dk_27 (dk_at dksJ24_buildFromSorted_2_6 5 rfl rfl)
theorem dJ24_buildFromSorted_2_143 : decode cJ24_buildFromSorted_2 143 = .ok (.iload 4, 2) := dk_21 4 (dk_at dksJ24_buildFromSorted_2_6 6 rfl rfl)
theorem dJ24_buildFromSorted_2_145 : decode cJ24_buildFromSorted_2 145 = .ok (.if_icmp .ne 9, 3) := dk_160 0 9 (dk_at dksJ24_buildFromSorted_2_6 8 rfl rfl)
theorem dJ24_buildFromSorted_2_148 : decode cJ24_buildFromSorted_2 148 = .ok (.aload 12, 2) := dk_25 12 (dk_at dksJ24_buildFromSorted_2_6 11 rfl rfl)
theorem dJ24_buildFromSorted_2_150 : decode cJ24_buildFromSorted_2 150 = .ok (.iconst 0, 1) := dk_3 (dk_at dksJ24_buildFromSorted_2_6 13 rfl rfl)
theorem dJ24_buildFromSorted_2_151 : decode cJ24_buildFromSorted_2 151 = .ok (.putfield 290, 3) := dk_181 1 34 (dk_at dksJ24_buildFromSorted_2_6 14 rfl rfl)
theorem dJ24_buildFromSorted_2_154 : decode cJ24_buildFromSorted_2 154 = .ok (.aload 9, 2) := dk_25 9 (dk_at dksJ24_buildFromSorted_2_6 17 rfl rfl)
theorem dJ24_buildFromSorted_2_156 : decode cJ24_buildFromSorted_2 156 = .ok (.ifnull 17, 3) := dk_198 0 17 (dk_at dksJ24_buildFromSorted_2_6 19 rfl rfl)
theorem dJ24_buildFromSorted_2_159 : decode cJ24_buildFromSorted_2 159 = .ok (.aload 12, 2) := dk_25 12 (dk_at dksJ24_buildFromSorted_2_6 22 rfl rfl)
theorem dJ24_buildFromSorted_2_161 : decode cJ24_buildFromSorted_2 161 = .ok (.aload 9, 2) := dk_25 9 (dk_at dksJ24_buildFromSorted_2_7 0 rfl rfl)
theorem dJ24_buildFromSorted_2_163 : decode cJ24_buildFromSorted_2 163 = .ok (.putfield 111, 3) := dk_181 0 111 (dk_at dksJ24_buildFromSorted_2_7 2 rfl rfl)
theorem dJ24_buildFromSorted_2_166 : decode cJ24_buildFromSorted_2 166 = .ok (.aload 9, 2) := dk_25 9 (dk_at dksJ24_buildFromSorted_2_7 5 rfl rfl)
theorem dJ24_buildFromSorted_2_168 : decode cJ24_buildFromSorted_2 168 = .ok (.aload 12, 2) := dk_25 12 (dk_at dksJ24_buildFromSorted_2_7 7 rfl rfl)
theorem dJ24_buildFromSorted_2_170 : decode cJ24_buildFromSorted_2 170 = .ok (.putfield 124, 3) := dk_181 0 124 (dk_at dksJ24_buildFromSorted_2_7 9 rfl rfl)
theorem dJ24_buildFromSorted_2_173 : decode cJ24_buildFromSorted_2 173 = .ok (.iload 8, 2) := dk_21 8 (dk_at dksJ24_buildFromSorted_2_7 12 rfl rfl)
theorem dJ24_buildFromSorted_2_175 : decode cJ24_buildFromSorted_2 175 = .ok (.iload_n 3, 1) := dk_29 (dk_at dksJ24_buildFromSorted_2_7 14 rfl rfl)
theorem dJ24_buildFromSorted_2_176 : decode cJ24_buildFromSorted_2 176 = .ok (.if_icmp .ge 39, 3) := dk_162 0 39 (dk_at dksJ24_buildFromSorted_2_7 15 rfl rfl)
theorem dJ24_buildFromSorted_2_179 : decode cJ24_buildFromSorted_2 179 = .ok (.aload_n 0, 1) := dk_42 (dk_at dksJ24_buildFromSorted_2_7 18 rfl rfl)
theorem dJ24_buildFromSorted_2_180 : decode cJ24_buildFromSorted_2 180 = .ok (.iload_n 1, 1) := dk_27 (dk_at dksJ24_buildFromSorted_2_7 19 rfl rfl)
theorem dJ24_buildFromSorted_2_181 : decode cJ24_buildFromSorted_2 181 = .ok (.iconst 1, 1) := dk_4 (dk_at dksJ24_buildFromSorted_2_7 20 rfl rfl)
theorem dJ24_buildFromSorted_2_182 : decode cJ24_buildFromSorted_2 182 = .ok (.iadd, 1) := dk_96 (dk_at dksJ24_buildFromSorted_2_7 21 rfl rfl)
theorem dJ24_buildFromSorted_2_183 : decode cJ24_buildFromSorted_2 183 = .ok (.iload 8, 2) := dk_21 8 (dk_at dksJ24_buildFromSorted_2_7 22 rfl rfl)
theorem dJ24_buildFromSorted_2_185 : decode cJ24_buildFromSorted_2 185 = .ok (.iconst 1, 1) := dk_4 (dk_at dksJ24_buildFromSorted_2_8 0 rfl rfl)
theorem dJ24_buildFromSorted_2_186 : decode cJ24_buildFromSorted_2 186 = .ok (.iadd, 1) := dk_96 (dk_at dksJ24_buildFromSorted_2_8 1 rfl rfl)
theorem dJ24_buildFromSorted_2_187 : decode cJ24_buildFromSorted_2 187 = .ok (.iload_n 3, 1) := dk_29 (dk_at dksJ24_buildFromSorted_2_8 2 rfl rfl)
theorem dJ24_buildFromSorted_2_188 : decode cJ24_buildFromSorted_2 188 = .ok (.iload 4, 2) := dk_21 4 (dk_at dksJ24_buildFromSorted_2_8 3 rfl rfl)
theorem dJ24_buildFromSorted_2_190 : decode cJ24_buildFromSorted_2 190 = .ok (.aload 5, 2) := dk_25 5 (dk_at dksJ24_buildFromSorted_2_8 5 rfl rfl)
theorem dJ24_buildFromSorted_2_192 : decode cJ24_buildFromSorted_2 192 = .ok (.aload 6, 2) := dk_25 6 (dk_at dksJ24_buildFromSorted_2_8 7 rfl rfl)
theorem dJ24_buildFromSorted_2_194 : decode cJ24_buildFromSorted_2 194 = .ok (.aload 7, 2) := dk_25 7 (dk_at dksJ24_buildFromSorted_2_8 9 rfl rfl)
theorem dJ24_buildFromSorted_2_196 : decode cJ24_buildFromSorted_2 196 = .ok (.invokevirtual 366, 3) := dk_182 1 110 (dk_at dksJ24_buildFromSorted_2_8 11 rfl rfl)
theorem dJ24_buildFromSorted_2_199 : decode cJ24_buildFromSorted_2 199 = .ok (.astore 13, 2) := dk_58 13 (dk_at dksJ24_buildFromSorted_2_8 14 rfl rfl)
theorem dJ24_buildFromSorted_2_201 : decode cJ24_buildFromSorted_2 201 = .ok (.aload 12, 2) := dk_25 12 (dk_at dksJ24_buildFromSorted_2_8 16 rfl rfl)
theorem dJ24_buildFromSorted_2_203 : decode cJ24_buildFromSorted_2 203 = .ok (.aload 13, 2) := dk_25 13 (dk_at dksJ24_buildFromSorted_2_8 18 rfl rfl)
theorem dJ24_buildFromSorted_2_205 : decode cJ24_buildFromSorted_2 205 = .ok (.putfield 114, 3) := dk_181 0 114 (dk_at dksJ24_buildFromSorted_2_8 20 rfl rfl)
theorem dJ24_buildFromSorted_2_208 : decode cJ24_buildFromSorted_2 208 = .ok (.aload 13, 2) := dk_25 13 (dk_at dksJ24_buildFromSorted_2_9 0 rfl rfl)
theorem dJ24_buildFromSorted_2_210 : decode cJ24_buildFromSorted_2 210 = .ok (.aload 12, 2) := dk_25 12 (dk_at dksJ24_buildFromSorted_2_9 2 rfl rfl)
theorem dJ24_buildFromSorted_2_212 : decode cJ24_buildFromSorted_2 212 = .ok (.putfield 124, 3) := dk_181 0 124 (dk_at dksJ24_buildFromSorted_2_9 4 rfl rfl)
theorem dJ24_buildFromSorted_2_215 : decode cJ24_buildFromSorted_2 215 = .ok (.aload 12, 2) := dk_25 12 (dk_at dksJ24_buildFromSorted_2_9 7 rfl rfl)
theorem dJ24_buildFromSorted_2_217 : decode cJ24_buildFromSorted_2 217 = .ok (.areturn, 1) := dk_176 (dk_at dksJ24_buildFromSorted_2_9 9 rfl rfl)
def dkwJ24_successor_2 : List UInt8 := [44, 43, 180, 0, 114, 166, 0, 13, 43, 77, 43, 180, 0, 124, 76, 167, 255, 237, 43, 176]
abbrev dktJ24_successor_2 : List UInt8 := dkwJ24_successor_2 ++ []
def dkwJ24_successor_1 : List UInt8 := [198, 0, 11, 43, 180, 0, 111, 76, 167, 255, 244, 43, 176, 42, 180, 0, 124, 76, 42, 77, 43, 198, 0, 21]
abbrev dktJ24_successor_1 : List UInt8 := dkwJ24_successor_1 ++ dktJ24_successor_2
def dkwJ24_successor_0 : List UInt8 := [42, 199, 0, 5, 1, 176, 42, 180, 0, 114, 198, 0, 25, 42, 180, 0, 114, 76, 43, 180, 0, 111]
abbrev dktJ24_successor_0 : List UInt8 := dkwJ24_successor_0 ++ dktJ24_successor_1
theorem dksJ24_successor_0 : cJ24_successor.data.toList.drop 0 = dktJ24_successor_0 := by decide +kernel
theorem dksJ24_successor_1 : cJ24_successor.data.toList.drop 22 = dktJ24_successor_1 := dk_seg dksJ24_successor_0 22 rfl rfl
theorem dksJ24_successor_2 : cJ24_successor.data.toList.drop 46 = dktJ24_successor_2 := dk_seg dksJ24_successor_1 24 rfl rfl
theorem dJ24_successor_0 : decode cJ24_successor 0 = .ok (.aload_n 0, 1) := dk_42 (dk_at dksJ24_successor_0 0 rfl rfl)
theorem dJ24_successor_1 : decode cJ24_successor 1 = .ok (.ifnonnull 5, 3) := dk_199 0 5 (dk_at dksJ24_successor_0 1 rfl rfl)
theorem dJ24_successor_4 : decode cJ24_successor 4 = .ok (.aconst_null, 1) := dk_1 (dk_at dksJ24_successor_0 4 rfl rfl)
theorem dJ24_successor_5 : decode cJ24_successor 5 = .ok (.areturn, 1) := dk_176 (dk_at dksJ24_successor_0 5 rfl rfl)
theorem dJ24_successor_6 : decode cJ24_successor 6 = .ok (.aload_n 0, 1) := dk_42 (dk_at dksJ24_successor_0 6 rfl rfl)
theorem dJ24_successor_7 : decode cJ24_successor 7 = .ok (.getfield 114, 3) := dk_180 0 114 (dk_at dksJ24_successor_0 7 rfl rfl)
theorem dJ24_successor_10 : decode cJ24_successor 10 = .ok (.ifnull 25, 3) := dk_198 0 25 (dk_at dksJ24_successor_0 10 rfl rfl)
theorem dJ24_successor_13 : decode cJ24_successor 13 = .ok (.aload_n 0, 1) := dk_42 (dk_at dksJ24_successor_0 13 rfl rfl)
theorem dJ24_successor_14 : decode cJ24_successor 14 = .ok (.getfield 114, 3) := dk_180 0 114 (dk_at dksJ24_successor_0 14 rfl rfl)
theorem dJ24_successor_17 : decode cJ24_successor 17 = .ok (.astore_n 1, 1) := dk_76 (dk_at dksJ24_successor_0 17 rfl rfl)
theorem dJ24_successor_18 : decode cJ24_successor 18 = .ok (.aload_n 1, 1) := dk_43 (dk_at dksJ24_successor_0 18 rfl rfl)
theorem dJ24_successor_19 : decode cJ24_successor 19 = .ok (.getfield 111, 3) := dk_180 0 111 (dk_at dksJ24_successor_0 19 rfl rfl)
theorem dJ24_successor_22 : decode cJ24_successor 22 = .ok (.ifnull 11, 3) := dk_198 0 11 (dk_at dksJ24_successor_1 0 rfl rfl)
theorem dJ24_successor_25 : decode cJ24_successor 25 = .ok (.aload_n 1, 1) := dk_43 (dk_at dksJ24_successor_1 3 rfl rfl)
theorem dJ24_successor_26 : decode cJ24_successor 26 = .ok (.getfield 111, 3) := dk_180 0 111 (dk_at dksJ24_successor_1 4 rfl rfl)
theorem dJ24_successor_29 : decode cJ24_successor 29 = .ok (.astore_n 1, 1) := dk_76 (dk_at dksJ24_successor_1 7 rfl rfl)
theorem dJ24_successor_30 : decode cJ24_successor 30 = .ok (.goto (-12), 3) := dk_167 255 244 (dk_at dksJ24_successor_1 8 rfl rfl)
theorem dJ24_successor_33 : decode cJ24_successor 33 = .ok (.aload_n 1, 1) := dk_43 (dk_at dksJ24_successor_1 11 rfl rfl)
theorem dJ24_successor_34 : decode cJ24_successor 34 = .ok (.areturn, 1) := dk_176 (dk_at dksJ24_successor_1 12 rfl rfl)
theorem dJ24_successor_35 : decode cJ24_successor 35 = .ok (.aload_n 0, 1) := dk_42 (dk_at dksJ24_successor_1 13 rfl rfl)
theorem dJ24_successor_36 : decode cJ24_successor 36 = .ok (.getfield 124, 3) := dk_180 0 124 (dk_at dksJ24_successor_1 14 rfl rfl)
theorem dJ24_successor_39 : decode cJ24_successor 39 = .ok (.astore_n 1, 1) := dk_76 (dk_at dksJ24_successor_1 17 rfl rfl)
theorem dJ24_successor_40 : decode cJ24_successor 40 = .ok (.aload_n 0, 1) := dk_42 (dk_at dksJ24_successor_1 18 rfl rfl)
theorem dJ24_successor_41 : decode cJ24_successor 41 = .ok (.astore_n 2, 1) := dk_77 (dk_at dksJ24_successor_1 19 rfl rfl)
theorem dJ24_successor_42 : decode cJ24_successor 42 = .ok (.aload_n 1, 1) := dk_43 (dk_at dksJ24_successor_1 20 rfl rfl)
theorem dJ24_successor_43 : decode cJ24_successor 43 = .ok (.ifnull 21, 3) := dk_198 0 21 (dk_at dksJ24_successor_1 21 rfl rfl)
theorem dJ24_successor_46 : decode cJ24_successor 46 = .ok (.aload_n 2, 1) := dk_44 (dk_at dksJ24_successor_2 0 rfl rfl)
theorem dJ24_successor_47 : decode cJ24_successor 47 = .ok (.aload_n 1, 1) := dk_43 (dk_at dksJ24_successor_2 1 rfl rfl)
theorem dJ24_successor_48 : decode cJ24_successor 48 = .ok (.getfield 114, 3) := dk_180 0 114 (dk_at dksJ24_successor_2 2 rfl rfl)
theorem dJ24_successor_51 : decode cJ24_successor 51 = .ok (.if_acmp .ne 13, 3) := dk_166 0 13 (dk_at dksJ24_successor_2 5 rfl rfl)
theorem dJ24_successor_54 : decode cJ24_successor 54 = .ok (.aload_n 1, 1) := dk_43 (dk_at dksJ24_successor_2 8 rfl rfl)
theorem dJ24_successor_55 : decode cJ24_successor 55 = .ok (.astore_n 2, 1) := dk_77 (dk_at dksJ24_successor_2 9 rfl rfl)
theorem dJ24_successor_56 : decode cJ24_successor 56 = .ok (.aload_n 1, 1) := dk_43 (dk_at dksJ24_successor_2 10 rfl rfl)
theorem dJ24_successor_57 : decode cJ24_successor 57 = .ok (.getfield 124, 3) := dk_180 0 124 (dk_at dksJ24_successor_2 11 rfl rfl)
theorem dJ24_successor_60 : decode cJ24_successor 60 = .ok (.astore_n 1, 1) := dk_76 (dk_at dksJ24_successor_2 14 rfl rfl)
theorem dJ24_successor_61 : decode cJ24_successor 61 = .ok (.goto (-19), 3) := dk_167 255 237 (dk_at dksJ24_successor_2 15 rfl rfl)
theorem dJ24_successor_64 : decode cJ24_successor 64 = .ok (.aload_n 1, 1) := dk_43 (dk_at dksJ24_successor_2 18 rfl rfl)
theorem dJ24_successor_65 : decode cJ24_successor 65 = .ok (.areturn, 1) := dk_176 (dk_at dksJ24_successor_2 19 rfl rfl)
def dkwJ24_firstKey_0 : List UInt8 := [42, 182, 0, 54, 184, 0, 72, 176]
abbrev dktJ24_firstKey_0 : List UInt8 := dkwJ24_firstKey_0 ++ []
theorem dksJ24_firstKey_0 : cJ24_firstKey.data.toList.drop 0 = dktJ24_firstKey_0 := by decide +kernel
theorem dJ24_firstKey_0 : decode cJ24_firstKey 0 = .ok (.aload_n 0, 1) := dk_42 (dk_at dksJ24_firstKey_0 0 rfl rfl)
theorem dJ24_firstKey_1 : decode cJ24_firstKey 1 = .ok (.invokevirtual 54, 3) := dk_182 0 54 (dk_at dksJ24_firstKey_0 1 rfl rfl)
theorem dJ24_firstKey_4 : decode cJ24_firstKey 4 = .ok (.invokestatic 72, 3) := dk_184 0 72 (dk_at dksJ24_firstKey_0 4 rfl rfl)
theorem dJ24_firstKey_7 : decode cJ24_firstKey 7 = .ok (.areturn, 1) := dk_176 (dk_at dksJ24_firstKey_0 7 rfl rfl)
def dkwJ24_key_0 : List UInt8 := [42, 199, 0, 11, 187, 1, 31, 89, 183, 1, 33, 191, 42, 180, 0, 105, 176]
abbrev dktJ24_key_0 : List UInt8 := dkwJ24_key_0 ++ []
theorem dksJ24_key_0 : cJ24_key.data.toList.drop 0 = dktJ24_key_0 := by decide +kernel
theorem dJ24_key_0 : decode cJ24_key 0 = .ok (.aload_n 0, 1) := dk_42 (dk_at dksJ24_key_0 0 rfl rfl)
theorem dJ24_key_1 : decode cJ24_key 1 = .ok (.ifnonnull 11, 3) := dk_199 0 11 (dk_at dksJ24_key_0 1 rfl rfl)
theorem dJ24_key_4 : decode cJ24_key 4 = .ok (.new 287, 3) := dk_187 1 31 (dk_at dksJ24_key_0 4 rfl rfl)
theorem dJ24_key_7 : decode cJ24_key 7 = .ok (.dup, 1) := dk_89 (dk_at dksJ24_key_0 7 rfl rfl)
theorem dJ24_key_8 : decode cJ24_key 8 = .ok (.invokespecial 289, 3) := dk_183 1 33 (dk_at dksJ24_key_0 8 rfl rfl)
theorem dJ24_key_11 : decode cJ24_key 11 = .ok (.athrow, 1) := dk_191 (dk_at dksJ24_key_0 11 rfl rfl)
theorem dJ24_key_12 : decode cJ24_key 12 = .ok (.aload_n 0, 1) := dk_42 (dk_at dksJ24_key_0 12 rfl rfl)
theorem dJ24_key_13 : decode cJ24_key 13 = .ok (.getfield 105, 3) := dk_180 0 105 (dk_at dksJ24_key_0 13 rfl rfl)
theorem dJ24_key_16 : decode cJ24_key 16 = .ok (.areturn, 1) := dk_176 (dk_at dksJ24_key_0 16 rfl rfl)
def dkwJ25_init_1 : List UInt8 := [177]
abbrev dktJ25_init_1 : List UInt8 := dkwJ25_init_1 ++ []
def dkwJ25_init_0 : List UInt8 := [42, 183, 0, 3, 42, 4, 181, 0, 9, 42, 43, 181, 0, 15, 42, 44, 181, 0, 19, 42, 45, 181, 0, 22]
abbrev dktJ25_init_0 : List UInt8 := dkwJ25_init_0 ++ dktJ25_init_1
theorem dksJ25_init_0 : cJ25_init.data.toList.drop 0 = dktJ25_init_0 := by decide +kernel
theorem dksJ25_init_1 : cJ25_init.data.toList.drop 24 = dktJ25_init_1 := dk_seg dksJ25_init_0 24 rfl rfl
theorem dJ25_init_0 : decode cJ25_init 0 = .ok (.aload_n 0, 1) := dk_42 (dk_at dksJ25_init_0 0 rfl rfl)
theorem dJ25_init_1 : decode cJ25_init 1 = .ok (.invokespecial 3, 3) := dk_183 0 3 (dk_at dksJ25_init_0 1 rfl rfl)
theorem dJ25_init_4 : decode cJ25_init 4 = .ok (.aload_n 0, 1) := dk_42 (dk_at dksJ25_init_0 4 rfl rfl)
theorem dJ25_init_5 : decode cJ25_init 5 = .ok (.iconst 1, 1) := dk_4 (dk_at dksJ25_init_0 5 rfl rfl)
theorem dJ25_init_6 : decode cJ25_init 6 = .ok (.putfield 9, 3) := dk_181 0 9 (dk_at dksJ25_init_0 6 rfl rfl)
theorem dJ25_init_9 : decode cJ25_init 9 = .ok (.aload_n 0, 1) := dk_42 (dk_at dksJ25_init_0 9 rfl rfl)
theorem dJ25_init_10 : decode cJ25_init 10 = .ok (.aload_n 1, 1) := dk_43 (dk_at dksJ25_init_0 10 rfl rfl)
theorem dJ25_init_11 : decode cJ25_init 11 = .ok (.putfield 15, 3) := dk_181 0 15 (dk_at dksJ25_init_0 11 rfl rfl)
theorem dJ25_init_14 : decode cJ25_init 14 = .ok (.aload_n 0, 1) := dk_42 (dk_at dksJ25_init_0 14 rfl rfl)
theorem dJ25_init_15 : decode cJ25_init 15 = .ok (.aload_n 2, 1) := dk_44 (dk_at dksJ25_init_0 15 rfl rfl)
theorem dJ25_init_16 : decode cJ25_init 16 = .ok (.putfield 19, 3) := dk_181 0 19 (dk_at dksJ25_init_0 16 rfl rfl)
theorem dJ25_init_19 : decode cJ25_init 19 = .ok (.aload_n 0, 1) := dk_42 (dk_at dksJ25_init_0 19 rfl rfl)
theorem dJ25_init_20 : decode cJ25_init 20 = .ok (.aload_n 3, 1) := dk_45 (dk_at dksJ25_init_0 20 rfl rfl)
theorem dJ25_init_21 : decode cJ25_init 21 = .ok (.putfield 22, 3) := dk_181 0 22 (dk_at dksJ25_init_0 21 rfl rfl)
theorem dJ25_init_24 : decode cJ25_init 24 = .ok (.return_, 1) := dk_177 (dk_at dksJ25_init_1 0 rfl rfl)
theorem dJ25_getKey_0 : decode cJ25_getKey 0 = .ok (.aload_n 0, 1) := by decide +kernel
theorem dJ25_getKey_1 : decode cJ25_getKey 1 = .ok (.getfield 15, 3) := by decide +kernel
theorem dJ25_getKey_4 : decode cJ25_getKey 4 = .ok (.areturn, 1) := by decide +kernel
theorem dJ25_getValue_0 : decode cJ25_getValue 0 = .ok (.aload_n 0, 1) := by decide +kernel
theorem dJ25_getValue_1 : decode cJ25_getValue 1 = .ok (.getfield 19, 3) := by decide +kernel
theorem dJ25_getValue_4 : decode cJ25_getValue 4 = .ok (.areturn, 1) := by decide +kernel
def dkwJ41_init_0 : List UInt8 := [42, 43, 44, 183, 0, 1, 177]
abbrev dktJ41_init_0 : List UInt8 := dkwJ41_init_0 ++ []
theorem dksJ41_init_0 : cJ41_init.data.toList.drop 0 = dktJ41_init_0 := by decide +kernel
theorem dJ41_init_0 : decode cJ41_init 0 = .ok (.aload_n 0, 1) := dk_42 (dk_at dksJ41_init_0 0 rfl rfl)
theorem dJ41_init_1 : decode cJ41_init 1 = .ok (.aload_n 1, 1) := dk_43 (dk_at dksJ41_init_0 1 rfl rfl)
theorem dJ41_init_2 : decode cJ41_init 2 = .ok (.aload_n 2, 1) := dk_44 (dk_at dksJ41_init_0 2 rfl rfl)
theorem dJ41_init_3 : decode cJ41_init 3 = .ok (.invokespecial 1, 3) := dk_183 0 1 (dk_at dksJ41_init_0 3 rfl rfl)
theorem dJ41_init_6 : decode cJ41_init 6 = .ok (.return_, 1) := dk_177 (dk_at dksJ41_init_0 6 rfl rfl)
theorem dJ41_next_0 : decode cJ41_next 0 = .ok (.aload_n 0, 1) := by decide +kernel
theorem dJ41_next_1 : decode cJ41_next 1 = .ok (.invokevirtual 13, 3) := by decide +kernel
theorem dJ41_next_4 : decode cJ41_next 4 = .ok (.areturn, 1) := by decide +kernel
theorem dJ41_next_2_0 : decode cJ41_next_2 0 = .ok (.aload_n 0, 1) := by decide +kernel
theorem dJ41_next_2_1 : decode cJ41_next_2 1 = .ok (.invokevirtual 7, 3) := by decide +kernel
theorem dJ41_next_2_4 : decode cJ41_next_2 4 = .ok (.areturn, 1) := by decide +kernel
def dkwJ40_init_1 : List UInt8 := [181, 0, 26, 177]
abbrev dktJ40_init_1 : List UInt8 := dkwJ40_init_1 ++ []
def dkwJ40_init_0 : List UInt8 := [42, 43, 181, 0, 1, 42, 183, 0, 7, 42, 43, 180, 0, 13, 181, 0, 19, 42, 1, 181, 0, 22, 42, 44]
abbrev dktJ40_init_0 : List UInt8 := dkwJ40_init_0 ++ dktJ40_init_1
theorem dksJ40_init_0 : cJ40_init.data.toList.drop 0 = dktJ40_init_0 := by decide +kernel
theorem dksJ40_init_1 : cJ40_init.data.toList.drop 24 = dktJ40_init_1 := dk_seg dksJ40_init_0 24 rfl rfl
theorem dJ40_init_0 : decode cJ40_init 0 = .ok (.aload_n 0, 1) := dk_42 (dk_at dksJ40_init_0 0 rfl rfl)
theorem dJ40_init_1 : decode cJ40_init 1 = .ok (.aload_n 1, 1) := dk_43 (dk_at dksJ40_init_0 1 rfl rfl)
theorem dJ40_init_2 : decode cJ40_init 2 = .ok (.putfield 1, 3) := dk_181 0 1 (dk_at dksJ40_init_0 2 rfl rfl)
theorem dJ40_init_5 : decode cJ40_init 5 = .ok (.aload_n 0, 1) := dk_42 (dk_at dksJ40_init_0 5 rfl rfl)
theorem dJ40_init_6 : decode cJ40_init 6 = .ok (.invokespecial 7, 3) := dk_183 0 7 (dk_at dksJ40_init_0 6 rfl rfl)
theorem dJ40_init_9 : decode cJ40_init 9 = .ok (.aload_n 0, 1) := dk_42 (dk_at dksJ40_init_0 9 rfl rfl)
theorem dJ40_init_10 : decode cJ40_init 10 = .ok (.aload_n 1, 1) := dk_43 (dk_at dksJ40_init_0 10 rfl rfl)
theorem dJ40_init_11 : decode cJ40_init 11 = .ok (.getfield 13, 3) := dk_180 0 13 (dk_at dksJ40_init_0 11 rfl rfl)
theorem dJ40_init_14 : decode cJ40_init 14 = .ok (.putfield 19, 3) := dk_181 0 19 (dk_at dksJ40_init_0 14 rfl rfl)
theorem dJ40_init_17 : decode cJ40_init 17 = .ok (.aload_n 0, 1) := dk_42 (dk_at dksJ40_init_0 17 rfl rfl)
theorem dJ40_init_18 : decode cJ40_init 18 = .ok (.aconst_null, 1) := dk_1 (dk_at dksJ40_init_0 18 rfl rfl)
theorem dJ40_init_19 : decode cJ40_init 19 = .ok (.putfield 22, 3) := dk_181 0 22 (dk_at dksJ40_init_0 19 rfl rfl)
theorem dJ40_init_22 : decode cJ40_init 22 = .ok (.aload_n 0, 1) := dk_42 (dk_at dksJ40_init_0 22 rfl rfl)
theorem dJ40_init_23 : decode cJ40_init 23 = .ok (.aload_n 2, 1) := dk_44 (dk_at dksJ40_init_0 23 rfl rfl)
theorem dJ40_init_24 : decode cJ40_init 24 = .ok (.putfield 26, 3) := dk_181 0 26 (dk_at dksJ40_init_1 0 rfl rfl)
theorem dJ40_init_27 : decode cJ40_init 27 = .ok (.return_, 1) := dk_177 (dk_at dksJ40_init_1 3 rfl rfl)
def dkwJ40_nextEntry_2 : List UInt8 := [43, 181, 0, 22, 43, 176]
abbrev dktJ40_nextEntry_2 : List UInt8 := dkwJ40_nextEntry_2 ++ []
def dkwJ40_nextEntry_1 : List UInt8 := [42, 180, 0, 19, 159, 0, 11, 187, 0, 32, 89, 183, 0, 34, 191, 42, 43, 184, 0, 35, 181, 0, 26, 42]
abbrev dktJ40_nextEntry_1 : List UInt8 := dkwJ40_nextEntry_1 ++ dktJ40_nextEntry_2
def dkwJ40_nextEntry_0 : List UInt8 := [42, 180, 0, 26, 76, 43, 199, 0, 11, 187, 0, 29, 89, 183, 0, 31, 191, 42, 180, 0, 1, 180, 0, 13]
abbrev dktJ40_nextEntry_0 : List UInt8 := dkwJ40_nextEntry_0 ++ dktJ40_nextEntry_1
theorem dksJ40_nextEntry_0 : cJ40_nextEntry.data.toList.drop 0 = dktJ40_nextEntry_0 := by decide +kernel
theorem dksJ40_nextEntry_1 : cJ40_nextEntry.data.toList.drop 24 = dktJ40_nextEntry_1 := dk_seg dksJ40_nextEntry_0 24 rfl rfl
theorem dksJ40_nextEntry_2 : cJ40_nextEntry.data.toList.drop 48 = dktJ40_nextEntry_2 := dk_seg dksJ40_nextEntry_1 24 rfl rfl
theorem dJ40_nextEntry_0 : decode cJ40_nextEntry 0 = .ok (.aload_n 0, 1) := dk_42 (dk_at dksJ40_nextEntry_0 0 rfl rfl)
theorem dJ40_nextEntry_1 : decode cJ40_nextEntry 1 = .ok (.getfield 26, 3) := dk_180 0 26 (dk_at dksJ40_nextEntry_0 1 rfl rfl)
theorem dJ40_nextEntry_4 : decode cJ40_nextEntry 4 = .ok (.astore_n 1, 1) := dk_76 (dk_at dksJ40_nextEntry_0 4 rfl rfl)
theorem dJ40_nextEntry_5 : decode cJ40_nextEntry 5 = .ok (.aload_n 1, 1) := dk_43 (dk_at dksJ40_nextEntry_0 5 rfl rfl)
theorem dJ40_nextEntry_6 : decode cJ40_nextEntry 6 = .ok (.ifnonnull 11, 3) := dk_199 0 11 (dk_at dksJ40_nextEntry_0 6 rfl rfl)
theorem dJ40_nextEntry_9 : decode cJ40_nextEntry 9 = .ok (.new 29, 3) := dk_187 0 29 (dk_at dksJ40_nextEntry_0 9 rfl rfl)
theorem dJ40_nextEntry_12 : decode cJ40_nextEntry 12 = .ok (.dup, 1) := dk_89 (dk_at dksJ40_nextEntry_0 12 rfl rfl)
theorem dJ40_nextEntry_13 : decode cJ40_nextEntry 13 = .ok (.invokespecial 31, 3) := dk_183 0 31 (dk_at dksJ40_nextEntry_0 13 rfl rfl)
theorem dJ40_nextEntry_16 : decode cJ40_nextEntry 16 = .ok (.athrow, 1) := dk_191 (dk_at dksJ40_nextEntry_0 16 rfl rfl)
theorem dJ40_nextEntry_17 : decode cJ40_nextEntry 17 = .ok (.aload_n 0, 1) := dk_42 (dk_at dksJ40_nextEntry_0 17 rfl rfl)
theorem dJ40_nextEntry_18 : decode cJ40_nextEntry 18 = .ok (.getfield 1, 3) := dk_180 0 1 (dk_at dksJ40_nextEntry_0 18 rfl rfl)
theorem dJ40_nextEntry_21 : decode cJ40_nextEntry 21 = .ok (.getfield 13, 3) := dk_180 0 13 (dk_at dksJ40_nextEntry_0 21 rfl rfl)
theorem dJ40_nextEntry_24 : decode cJ40_nextEntry 24 = .ok (.aload_n 0, 1) := dk_42 (dk_at dksJ40_nextEntry_1 0 rfl rfl)
theorem dJ40_nextEntry_25 : decode cJ40_nextEntry 25 = .ok (.getfield 19, 3) := dk_180 0 19 (dk_at dksJ40_nextEntry_1 1 rfl rfl)
theorem dJ40_nextEntry_28 : decode cJ40_nextEntry 28 = .ok (.if_icmp .eq 11, 3) := dk_159 0 11 (dk_at dksJ40_nextEntry_1 4 rfl rfl)
theorem dJ40_nextEntry_31 : decode cJ40_nextEntry 31 = .ok (.new 32, 3) := dk_187 0 32 (dk_at dksJ40_nextEntry_1 7 rfl rfl)
theorem dJ40_nextEntry_34 : decode cJ40_nextEntry 34 = .ok (.dup, 1) := dk_89 (dk_at dksJ40_nextEntry_1 10 rfl rfl)
theorem dJ40_nextEntry_35 : decode cJ40_nextEntry 35 = .ok (.invokespecial 34, 3) := dk_183 0 34 (dk_at dksJ40_nextEntry_1 11 rfl rfl)
theorem dJ40_nextEntry_38 : decode cJ40_nextEntry 38 = .ok (.athrow, 1) := dk_191 (dk_at dksJ40_nextEntry_1 14 rfl rfl)
theorem dJ40_nextEntry_39 : decode cJ40_nextEntry 39 = .ok (.aload_n 0, 1) := dk_42 (dk_at dksJ40_nextEntry_1 15 rfl rfl)
theorem dJ40_nextEntry_40 : decode cJ40_nextEntry 40 = .ok (.aload_n 1, 1) := dk_43 (dk_at dksJ40_nextEntry_1 16 rfl rfl)
theorem dJ40_nextEntry_41 : decode cJ40_nextEntry 41 = .ok (.invokestatic 35, 3) := dk_184 0 35 (dk_at dksJ40_nextEntry_1 17 rfl rfl)
theorem dJ40_nextEntry_44 : decode cJ40_nextEntry 44 = .ok (.putfield 26, 3) := dk_181 0 26 (dk_at dksJ40_nextEntry_1 20 rfl rfl)
theorem dJ40_nextEntry_47 : decode cJ40_nextEntry 47 = .ok (.aload_n 0, 1) := dk_42 (dk_at dksJ40_nextEntry_1 23 rfl rfl)
theorem dJ40_nextEntry_48 : decode cJ40_nextEntry 48 = .ok (.aload_n 1, 1) := dk_43 (dk_at dksJ40_nextEntry_2 0 rfl rfl)
theorem dJ40_nextEntry_49 : decode cJ40_nextEntry 49 = .ok (.putfield 22, 3) := dk_181 0 22 (dk_at dksJ40_nextEntry_2 1 rfl rfl)
theorem dJ40_nextEntry_52 : decode cJ40_nextEntry 52 = .ok (.aload_n 1, 1) := dk_43 (dk_at dksJ40_nextEntry_2 4 rfl rfl)
theorem dJ40_nextEntry_53 : decode cJ40_nextEntry 53 = .ok (.areturn, 1) := dk_176 (dk_at dksJ40_nextEntry_2 5 rfl rfl)
def dkwJ40_hasNext_0 : List UInt8 := [42, 180, 0, 26, 198, 0, 7, 4, 167, 0, 4, 3, 172]
abbrev dktJ40_hasNext_0 : List UInt8 := dkwJ40_hasNext_0 ++ []
theorem dksJ40_hasNext_0 : cJ40_hasNext.data.toList.drop 0 = dktJ40_hasNext_0 := by decide +kernel
theorem dJ40_hasNext_0 : decode cJ40_hasNext 0 = .ok (.aload_n 0, 1) := dk_42 (dk_at dksJ40_hasNext_0 0 rfl rfl)
theorem dJ40_hasNext_1 : decode cJ40_hasNext 1 = .ok (.getfield 26, 3) := dk_180 0 26 (dk_at dksJ40_hasNext_0 1 rfl rfl)
theorem dJ40_hasNext_4 : decode cJ40_hasNext 4 = .ok (.ifnull 7, 3) := dk_198 0 7 (dk_at dksJ40_hasNext_0 4 rfl rfl)
theorem dJ40_hasNext_7 : decode cJ40_hasNext 7 = .ok (.iconst 1, 1) := dk_4 (dk_at dksJ40_hasNext_0 7 rfl rfl)
theorem dJ40_hasNext_8 : decode cJ40_hasNext 8 = .ok (.goto 4, 3) := dk_167 0 4 (dk_at dksJ40_hasNext_0 8 rfl rfl)
theorem dJ40_hasNext_11 : decode cJ40_hasNext 11 = .ok (.iconst 0, 1) := dk_3 (dk_at dksJ40_hasNext_0 11 rfl rfl)
theorem dJ40_hasNext_12 : decode cJ40_hasNext 12 = .ok (.ireturn, 1) := dk_172 (dk_at dksJ40_hasNext_0 12 rfl rfl)
def dkwJ37_init_0 : List UInt8 := [42, 43, 181, 0, 1, 42, 183, 0, 7, 177]
abbrev dktJ37_init_0 : List UInt8 := dkwJ37_init_0 ++ []
theorem dksJ37_init_0 : cJ37_init.data.toList.drop 0 = dktJ37_init_0 := by decide +kernel
theorem dJ37_init_0 : decode cJ37_init 0 = .ok (.aload_n 0, 1) := dk_42 (dk_at dksJ37_init_0 0 rfl rfl)
theorem dJ37_init_1 : decode cJ37_init 1 = .ok (.aload_n 1, 1) := dk_43 (dk_at dksJ37_init_0 1 rfl rfl)
theorem dJ37_init_2 : decode cJ37_init 2 = .ok (.putfield 1, 3) := dk_181 0 1 (dk_at dksJ37_init_0 2 rfl rfl)
theorem dJ37_init_5 : decode cJ37_init 5 = .ok (.aload_n 0, 1) := dk_42 (dk_at dksJ37_init_0 5 rfl rfl)
theorem dJ37_init_6 : decode cJ37_init 6 = .ok (.invokespecial 7, 3) := dk_183 0 7 (dk_at dksJ37_init_0 6 rfl rfl)
theorem dJ37_init_9 : decode cJ37_init 9 = .ok (.return_, 1) := dk_177 (dk_at dksJ37_init_0 9 rfl rfl)
def dkwJ37_iterator_0 : List UInt8 := [187, 0, 13, 89, 42, 180, 0, 1, 42, 180, 0, 1, 182, 0, 15, 183, 0, 21, 176]
abbrev dktJ37_iterator_0 : List UInt8 := dkwJ37_iterator_0 ++ []
theorem dksJ37_iterator_0 : cJ37_iterator.data.toList.drop 0 = dktJ37_iterator_0 := by decide +kernel
theorem dJ37_iterator_0 : decode cJ37_iterator 0 = .ok (.new 13, 3) := dk_187 0 13 (dk_at dksJ37_iterator_0 0 rfl rfl)
theorem dJ37_iterator_3 : decode cJ37_iterator 3 = .ok (.dup, 1) := dk_89 (dk_at dksJ37_iterator_0 3 rfl rfl)
theorem dJ37_iterator_4 : decode cJ37_iterator 4 = .ok (.aload_n 0, 1) := dk_42 (dk_at dksJ37_iterator_0 4 rfl rfl)
theorem dJ37_iterator_5 : decode cJ37_iterator 5 = .ok (.getfield 1, 3) := dk_180 0 1 (dk_at dksJ37_iterator_0 5 rfl rfl)
theorem dJ37_iterator_8 : decode cJ37_iterator 8 = .ok (.aload_n 0, 1) := dk_42 (dk_at dksJ37_iterator_0 8 rfl rfl)
theorem dJ37_iterator_9 : decode cJ37_iterator 9 = .ok (.getfield 1, 3) := dk_180 0 1 (dk_at dksJ37_iterator_0 9 rfl rfl)
theorem dJ37_iterator_12 : decode cJ37_iterator 12 = .ok (.invokevirtual 15, 3) := dk_182 0 15 (dk_at dksJ37_iterator_0 12 rfl rfl)
theorem dJ37_iterator_15 : decode cJ37_iterator 15 = .ok (.invokespecial 21, 3) := dk_183 0 21 (dk_at dksJ37_iterator_0 15 rfl rfl)
theorem dJ37_iterator_18 : decode cJ37_iterator 18 = .ok (.areturn, 1) := dk_176 (dk_at dksJ37_iterator_0 18 rfl rfl)
def dkwJ18_equals_0 : List UInt8 := [42, 43, 165, 0, 15, 42, 198, 0, 15, 42, 43, 182, 0, 14, 153, 0, 7, 4, 167, 0, 4, 3, 172]
abbrev dktJ18_equals_0 : List UInt8 := dkwJ18_equals_0 ++ []
theorem dksJ18_equals_0 : cJ18_equals.data.toList.drop 0 = dktJ18_equals_0 := by decide +kernel
theorem dJ18_equals_0 : decode cJ18_equals 0 = .ok (.aload_n 0, 1) := dk_42 (dk_at dksJ18_equals_0 0 rfl rfl)
theorem dJ18_equals_1 : decode cJ18_equals 1 = .ok (.aload_n 1, 1) := dk_43 (dk_at dksJ18_equals_0 1 rfl rfl)
theorem dJ18_equals_2 : decode cJ18_equals 2 = .ok (.if_acmp .eq 15, 3) := dk_165 0 15 (dk_at dksJ18_equals_0 2 rfl rfl)
theorem dJ18_equals_5 : decode cJ18_equals 5 = .ok (.aload_n 0, 1) := dk_42 (dk_at dksJ18_equals_0 5 rfl rfl)
theorem dJ18_equals_6 : decode cJ18_equals 6 = .ok (.ifnull 15, 3) := dk_198 0 15 (dk_at dksJ18_equals_0 6 rfl rfl)
theorem dJ18_equals_9 : decode cJ18_equals 9 = .ok (.aload_n 0, 1) := dk_42 (dk_at dksJ18_equals_0 9 rfl rfl)
theorem dJ18_equals_10 : decode cJ18_equals 10 = .ok (.aload_n 1, 1) := dk_43 (dk_at dksJ18_equals_0 10 rfl rfl)
theorem dJ18_equals_11 : decode cJ18_equals 11 = .ok (.invokevirtual 14, 3) := dk_182 0 14 (dk_at dksJ18_equals_0 11 rfl rfl)
theorem dJ18_equals_14 : decode cJ18_equals 14 = .ok (.ifCond .eq 7, 3) := dk_153 0 7 (dk_at dksJ18_equals_0 14 rfl rfl)
theorem dJ18_equals_17 : decode cJ18_equals 17 = .ok (.iconst 1, 1) := dk_4 (dk_at dksJ18_equals_0 17 rfl rfl)
theorem dJ18_equals_18 : decode cJ18_equals 18 = .ok (.goto 4, 3) := dk_167 0 4 (dk_at dksJ18_equals_0 18 rfl rfl)
theorem dJ18_equals_21 : decode cJ18_equals 21 = .ok (.iconst 0, 1) := dk_3 (dk_at dksJ18_equals_0 21 rfl rfl)
theorem dJ18_equals_22 : decode cJ18_equals 22 = .ok (.ireturn, 1) := dk_172 (dk_at dksJ18_equals_0 22 rfl rfl)
