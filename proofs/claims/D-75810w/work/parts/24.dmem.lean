set_option maxRecDepth 100000
def dkwX11_init_4 : List UInt8 := [133, 105, 97, 28, 133, 97, 20, 0, 22, 113, 136, 79, 132, 2, 255, 167, 255, 199, 177]
abbrev dktX11_init_4 : List UInt8 := dkwX11_init_4 ++ []
def dkwX11_init_3 : List UInt8 := [104, 46, 133, 105, 20, 0, 18, 20, 0, 20, 28, 133, 105, 97, 42, 180, 0, 9, 5, 28, 104, 4, 96, 46]
abbrev dktX11_init_3 : List UInt8 := dkwX11_init_3 ++ dktX11_init_4
def dkwX11_init_2 : List UInt8 := [167, 255, 224, 16, 15, 61, 28, 158, 0, 59, 42, 180, 0, 9, 28, 20, 0, 16, 42, 180, 0, 9, 5, 28]
abbrev dktX11_init_2 : List UInt8 := dkwX11_init_2 ++ dktX11_init_3
def dkwX11_init_1 : List UInt8 := [16, 16, 28, 96, 18, 15, 43, 28, 46, 104, 17, 3, 209, 28, 104, 96, 4, 96, 79, 132, 2, 1]
abbrev dktX11_init_1 : List UInt8 := dkwX11_init_1 ++ dktX11_init_2
def dkwX11_init_0 : List UInt8 := [42, 183, 0, 3, 42, 16, 32, 188, 10, 181, 0, 9, 3, 61, 28, 16, 16, 162, 0, 32, 42, 180, 0, 9]
abbrev dktX11_init_0 : List UInt8 := dkwX11_init_0 ++ dktX11_init_1
theorem dksX11_init_0 : cX11_init.data.toList.drop 0 = dktX11_init_0 := by decide +kernel
theorem dksX11_init_1 : cX11_init.data.toList.drop 24 = dktX11_init_1 := dk_seg dksX11_init_0 24 rfl rfl
theorem dksX11_init_2 : cX11_init.data.toList.drop 46 = dktX11_init_2 := dk_seg dksX11_init_1 22 rfl rfl
theorem dksX11_init_3 : cX11_init.data.toList.drop 70 = dktX11_init_3 := dk_seg dksX11_init_2 24 rfl rfl
theorem dksX11_init_4 : cX11_init.data.toList.drop 94 = dktX11_init_4 := dk_seg dksX11_init_3 24 rfl rfl
theorem dX11_init_0 : decode cX11_init 0 = .ok (.aload_n 0, 1) := dk_42 (dk_at dksX11_init_0 0 rfl rfl)
theorem dX11_init_1 : decode cX11_init 1 = .ok (.invokespecial 3, 3) := dk_183 0 3 (dk_at dksX11_init_0 1 rfl rfl)
theorem dX11_init_4 : decode cX11_init 4 = .ok (.aload_n 0, 1) := dk_42 (dk_at dksX11_init_0 4 rfl rfl)
theorem dX11_init_5 : decode cX11_init 5 = .ok (.bipush 32, 2) := dk_16 32 (dk_at dksX11_init_0 5 rfl rfl)
theorem dX11_init_7 : decode cX11_init 7 = .ok (.newarray .int, 2) := dk_188_10 (dk_at dksX11_init_0 7 rfl rfl)
theorem dX11_init_9 : decode cX11_init 9 = .ok (.putfield 9, 3) := dk_181 0 9 (dk_at dksX11_init_0 9 rfl rfl)
theorem dX11_init_12 : decode cX11_init 12 = .ok (.iconst 0, 1) := dk_3 (dk_at dksX11_init_0 12 rfl rfl)
theorem dX11_init_13 : decode cX11_init 13 = .ok (.istore_n 2, 1) := dk_61 (dk_at dksX11_init_0 13 rfl rfl)
theorem dX11_init_14 : decode cX11_init 14 = .ok (.iload_n 2, 1) := dk_28 (dk_at dksX11_init_0 14 rfl rfl)
theorem dX11_init_15 : decode cX11_init 15 = .ok (.bipush 16, 2) := dk_16 16 (dk_at dksX11_init_0 15 rfl rfl)
theorem dX11_init_17 : decode cX11_init 17 = .ok (.if_icmp .ge 32, 3) := dk_162 0 32 (dk_at dksX11_init_0 17 rfl rfl)
theorem dX11_init_20 : decode cX11_init 20 = .ok (.aload_n 0, 1) := dk_42 (dk_at dksX11_init_0 20 rfl rfl)
theorem dX11_init_21 : decode cX11_init 21 = .ok (.getfield 9, 3) := dk_180 0 9 (dk_at dksX11_init_0 21 rfl rfl)
theorem dX11_init_24 : decode cX11_init 24 = .ok (.bipush 16, 2) := dk_16 16 (dk_at dksX11_init_1 0 rfl rfl)
theorem dX11_init_26 : decode cX11_init 26 = .ok (.iload_n 2, 1) := dk_28 (dk_at dksX11_init_1 2 rfl rfl)
theorem dX11_init_27 : decode cX11_init 27 = .ok (.iadd, 1) := dk_96 (dk_at dksX11_init_1 3 rfl rfl)
theorem dX11_init_28 : decode cX11_init 28 = .ok (.ldc 15, 2) := dk_18 15 (dk_at dksX11_init_1 4 rfl rfl)
theorem dX11_init_30 : decode cX11_init 30 = .ok (.aload_n 1, 1) := dk_43 (dk_at dksX11_init_1 6 rfl rfl)
theorem dX11_init_31 : decode cX11_init 31 = .ok (.iload_n 2, 1) := dk_28 (dk_at dksX11_init_1 7 rfl rfl)
theorem dX11_init_32 : decode cX11_init 32 = .ok (.iaload, 1) := dk_46 (dk_at dksX11_init_1 8 rfl rfl)
theorem dX11_init_33 : decode cX11_init 33 = .ok (.imul, 1) := dk_104 (dk_at dksX11_init_1 9 rfl rfl)
theorem dX11_init_34 : decode cX11_init 34 = .ok (.sipush 977, 3) := dk_17 3 209 (dk_at dksX11_init_1 10 rfl rfl)
theorem dX11_init_37 : decode cX11_init 37 = .ok (.iload_n 2, 1) := dk_28 (dk_at dksX11_init_1 13 rfl rfl)
theorem dX11_init_38 : decode cX11_init 38 = .ok (.imul, 1) := dk_104 (dk_at dksX11_init_1 14 rfl rfl)
theorem dX11_init_39 : decode cX11_init 39 = .ok (.iadd, 1) := dk_96 (dk_at dksX11_init_1 15 rfl rfl)
theorem dX11_init_40 : decode cX11_init 40 = .ok (.iconst 1, 1) := dk_4 (dk_at dksX11_init_1 16 rfl rfl)
theorem dX11_init_41 : decode cX11_init 41 = .ok (.iadd, 1) := dk_96 (dk_at dksX11_init_1 17 rfl rfl)
theorem dX11_init_42 : decode cX11_init 42 = .ok (.iastore, 1) := dk_79 (dk_at dksX11_init_1 18 rfl rfl)
theorem dX11_init_43 : decode cX11_init 43 = .ok (.iinc 2 1, 3) := dk_132 2 1 (dk_at dksX11_init_1 19 rfl rfl)
theorem dX11_init_46 : decode cX11_init 46 = .ok (.goto (-32), 3) := dk_167 255 224 (dk_at dksX11_init_2 0 rfl rfl)
theorem dX11_init_49 : decode cX11_init 49 = .ok (.bipush 15, 2) := dk_16 15 (dk_at dksX11_init_2 3 rfl rfl)
theorem dX11_init_51 : decode cX11_init 51 = .ok (.istore_n 2, 1) := dk_61 (dk_at dksX11_init_2 5 rfl rfl)
theorem dX11_init_52 : decode cX11_init 52 = .ok (.iload_n 2, 1) := dk_28 (dk_at dksX11_init_2 6 rfl rfl)
theorem dX11_init_53 : decode cX11_init 53 = .ok (.ifCond .le 59, 3) := dk_158 0 59 (dk_at dksX11_init_2 7 rfl rfl)
theorem dX11_init_56 : decode cX11_init 56 = .ok (.aload_n 0, 1) := dk_42 (dk_at dksX11_init_2 10 rfl rfl)
theorem dX11_init_57 : decode cX11_init 57 = .ok (.getfield 9, 3) := dk_180 0 9 (dk_at dksX11_init_2 11 rfl rfl)
theorem dX11_init_60 : decode cX11_init 60 = .ok (.iload_n 2, 1) := dk_28 (dk_at dksX11_init_2 14 rfl rfl)
theorem dX11_init_61 : decode cX11_init 61 = .ok (.ldc2_w 16, 3) := dk_20 0 16 (dk_at dksX11_init_2 15 rfl rfl)
theorem dX11_init_64 : decode cX11_init 64 = .ok (.aload_n 0, 1) := dk_42 (dk_at dksX11_init_2 18 rfl rfl)
theorem dX11_init_65 : decode cX11_init 65 = .ok (.getfield 9, 3) := dk_180 0 9 (dk_at dksX11_init_2 19 rfl rfl)
theorem dX11_init_68 : decode cX11_init 68 = .ok (.iconst 2, 1) := dk_5 (dk_at dksX11_init_2 22 rfl rfl)
theorem dX11_init_69 : decode cX11_init 69 = .ok (.iload_n 2, 1) := dk_28 (dk_at dksX11_init_2 23 rfl rfl)
theorem dX11_init_70 : decode cX11_init 70 = .ok (.imul, 1) := dk_104 (dk_at dksX11_init_3 0 rfl rfl)
theorem dX11_init_71 : decode cX11_init 71 = .ok (.iaload, 1) := dk_46 (dk_at dksX11_init_3 1 rfl rfl)
theorem dX11_init_72 : decode cX11_init 72 = .ok (.i2l, 1) := dk_133 (dk_at dksX11_init_3 2 rfl rfl)
theorem dX11_init_73 : decode cX11_init 73 = .ok (.lmul, 1) := dk_105 (dk_at dksX11_init_3 3 rfl rfl)
theorem dX11_init_74 : decode cX11_init 74 = .ok (.ldc2_w 18, 3) := dk_20 0 18 (dk_at dksX11_init_3 4 rfl rfl)
theorem dX11_init_77 : decode cX11_init 77 = .ok (.ldc2_w 20, 3) := dk_20 0 20 (dk_at dksX11_init_3 7 rfl rfl)
theorem dX11_init_80 : decode cX11_init 80 = .ok (.iload_n 2, 1) := dk_28 (dk_at dksX11_init_3 10 rfl rfl)
theorem dX11_init_81 : decode cX11_init 81 = .ok (.i2l, 1) := dk_133 (dk_at dksX11_init_3 11 rfl rfl)
theorem dX11_init_82 : decode cX11_init 82 = .ok (.lmul, 1) := dk_105 (dk_at dksX11_init_3 12 rfl rfl)
theorem dX11_init_83 : decode cX11_init 83 = .ok (.ladd, 1) := dk_97 (dk_at dksX11_init_3 13 rfl rfl)
theorem dX11_init_84 : decode cX11_init 84 = .ok (.aload_n 0, 1) := dk_42 (dk_at dksX11_init_3 14 rfl rfl)
theorem dX11_init_85 : decode cX11_init 85 = .ok (.getfield 9, 3) := dk_180 0 9 (dk_at dksX11_init_3 15 rfl rfl)
theorem dX11_init_88 : decode cX11_init 88 = .ok (.iconst 2, 1) := dk_5 (dk_at dksX11_init_3 18 rfl rfl)
theorem dX11_init_89 : decode cX11_init 89 = .ok (.iload_n 2, 1) := dk_28 (dk_at dksX11_init_3 19 rfl rfl)
theorem dX11_init_90 : decode cX11_init 90 = .ok (.imul, 1) := dk_104 (dk_at dksX11_init_3 20 rfl rfl)
theorem dX11_init_91 : decode cX11_init 91 = .ok (.iconst 1, 1) := dk_4 (dk_at dksX11_init_3 21 rfl rfl)
theorem dX11_init_92 : decode cX11_init 92 = .ok (.iadd, 1) := dk_96 (dk_at dksX11_init_3 22 rfl rfl)
theorem dX11_init_93 : decode cX11_init 93 = .ok (.iaload, 1) := dk_46 (dk_at dksX11_init_3 23 rfl rfl)
theorem dX11_init_94 : decode cX11_init 94 = .ok (.i2l, 1) := dk_133 (dk_at dksX11_init_4 0 rfl rfl)
theorem dX11_init_95 : decode cX11_init 95 = .ok (.lmul, 1) := dk_105 (dk_at dksX11_init_4 1 rfl rfl)
theorem dX11_init_96 : decode cX11_init 96 = .ok (.ladd, 1) := dk_97 (dk_at dksX11_init_4 2 rfl rfl)
theorem dX11_init_97 : decode cX11_init 97 = .ok (.iload_n 2, 1) := dk_28 (dk_at dksX11_init_4 3 rfl rfl)
theorem dX11_init_98 : decode cX11_init 98 = .ok (.i2l, 1) := dk_133 (dk_at dksX11_init_4 4 rfl rfl)
theorem dX11_init_99 : decode cX11_init 99 = .ok (.ladd, 1) := dk_97 (dk_at dksX11_init_4 5 rfl rfl)
theorem dX11_init_100 : decode cX11_init 100 = .ok (.ldc2_w 22, 3) := dk_20 0 22 (dk_at dksX11_init_4 6 rfl rfl)
theorem dX11_init_103 : decode cX11_init 103 = .ok (.lrem, 1) := dk_113 (dk_at dksX11_init_4 9 rfl rfl)
theorem dX11_init_104 : decode cX11_init 104 = .ok (.l2i, 1) := dk_136 (dk_at dksX11_init_4 10 rfl rfl)
theorem dX11_init_105 : decode cX11_init 105 = .ok (.iastore, 1) := dk_79 (dk_at dksX11_init_4 11 rfl rfl)
theorem dX11_init_106 : decode cX11_init 106 = .ok (.iinc 2 (-1), 3) := dk_132 2 255 (dk_at dksX11_init_4 12 rfl rfl)
theorem dX11_init_109 : decode cX11_init 109 = .ok (.goto (-57), 3) := dk_167 255 199 (dk_at dksX11_init_4 15 rfl rfl)
theorem dX11_init_112 : decode cX11_init 112 = .ok (.return_, 1) := dk_177 (dk_at dksX11_init_4 18 rfl rfl)
def dkwX11_root_0 : List UInt8 := [42, 180, 0, 9, 4, 46, 172]
abbrev dktX11_root_0 : List UInt8 := dkwX11_root_0 ++ []
theorem dksX11_root_0 : cX11_root.data.toList.drop 0 = dktX11_root_0 := by decide +kernel
theorem dX11_root_0 : decode cX11_root 0 = .ok (.aload_n 0, 1) := dk_42 (dk_at dksX11_root_0 0 rfl rfl)
theorem dX11_root_1 : decode cX11_root 1 = .ok (.getfield 9, 3) := dk_180 0 9 (dk_at dksX11_root_0 1 rfl rfl)
theorem dX11_root_4 : decode cX11_root 4 = .ok (.iconst 1, 1) := dk_4 (dk_at dksX11_root_0 4 rfl rfl)
theorem dX11_root_5 : decode cX11_root 5 = .ok (.iaload, 1) := dk_46 (dk_at dksX11_root_0 5 rfl rfl)
theorem dX11_root_6 : decode cX11_root 6 = .ok (.ireturn, 1) := dk_172 (dk_at dksX11_root_0 6 rfl rfl)
def dkwX10_init_2 : List UInt8 := [181, 0, 36, 177]
abbrev dktX10_init_2 : List UInt8 := dkwX10_init_2 ++ []
def dkwX10_init_1 : List UInt8 := [181, 0, 22, 42, 28, 181, 0, 26, 42, 29, 181, 0, 29, 42, 25, 4, 181, 0, 32, 42, 21, 5]
abbrev dktX10_init_1 : List UInt8 := dkwX10_init_1 ++ dktX10_init_2
def dkwX10_init_0 : List UInt8 := [42, 183, 0, 3, 42, 4, 181, 0, 9, 42, 187, 0, 15, 89, 183, 0, 17, 181, 0, 18, 42, 27]
abbrev dktX10_init_0 : List UInt8 := dkwX10_init_0 ++ dktX10_init_1
theorem dksX10_init_0 : cX10_init.data.toList.drop 0 = dktX10_init_0 := by decide +kernel
theorem dksX10_init_1 : cX10_init.data.toList.drop 22 = dktX10_init_1 := dk_seg dksX10_init_0 22 rfl rfl
theorem dksX10_init_2 : cX10_init.data.toList.drop 44 = dktX10_init_2 := dk_seg dksX10_init_1 22 rfl rfl
theorem dX10_init_0 : decode cX10_init 0 = .ok (.aload_n 0, 1) := dk_42 (dk_at dksX10_init_0 0 rfl rfl)
theorem dX10_init_1 : decode cX10_init 1 = .ok (.invokespecial 3, 3) := dk_183 0 3 (dk_at dksX10_init_0 1 rfl rfl)
theorem dX10_init_4 : decode cX10_init 4 = .ok (.aload_n 0, 1) := dk_42 (dk_at dksX10_init_0 4 rfl rfl)
theorem dX10_init_5 : decode cX10_init 5 = .ok (.iconst 1, 1) := dk_4 (dk_at dksX10_init_0 5 rfl rfl)
theorem dX10_init_6 : decode cX10_init 6 = .ok (.putfield 9, 3) := dk_181 0 9 (dk_at dksX10_init_0 6 rfl rfl)
theorem dX10_init_9 : decode cX10_init 9 = .ok (.aload_n 0, 1) := dk_42 (dk_at dksX10_init_0 9 rfl rfl)
theorem dX10_init_10 : decode cX10_init 10 = .ok (.new 15, 3) := dk_187 0 15 (dk_at dksX10_init_0 10 rfl rfl)
theorem dX10_init_13 : decode cX10_init 13 = .ok (.dup, 1) := dk_89 (dk_at dksX10_init_0 13 rfl rfl)
theorem dX10_init_14 : decode cX10_init 14 = .ok (.invokespecial 17, 3) := dk_183 0 17 (dk_at dksX10_init_0 14 rfl rfl)
theorem dX10_init_17 : decode cX10_init 17 = .ok (.putfield 18, 3) := dk_181 0 18 (dk_at dksX10_init_0 17 rfl rfl)
theorem dX10_init_20 : decode cX10_init 20 = .ok (.aload_n 0, 1) := dk_42 (dk_at dksX10_init_0 20 rfl rfl)
theorem dX10_init_21 : decode cX10_init 21 = .ok (.iload_n 1, 1) := dk_27 (dk_at dksX10_init_0 21 rfl rfl)
theorem dX10_init_22 : decode cX10_init 22 = .ok (.putfield 22, 3) := dk_181 0 22 (dk_at dksX10_init_1 0 rfl rfl)
theorem dX10_init_25 : decode cX10_init 25 = .ok (.aload_n 0, 1) := dk_42 (dk_at dksX10_init_1 3 rfl rfl)
theorem dX10_init_26 : decode cX10_init 26 = .ok (.iload_n 2, 1) := dk_28 (dk_at dksX10_init_1 4 rfl rfl)
theorem dX10_init_27 : decode cX10_init 27 = .ok (.putfield 26, 3) := dk_181 0 26 (dk_at dksX10_init_1 5 rfl rfl)
theorem dX10_init_30 : decode cX10_init 30 = .ok (.aload_n 0, 1) := dk_42 (dk_at dksX10_init_1 8 rfl rfl)
theorem dX10_init_31 : decode cX10_init 31 = .ok (.iload_n 3, 1) := dk_29 (dk_at dksX10_init_1 9 rfl rfl)
theorem dX10_init_32 : decode cX10_init 32 = .ok (.putfield 29, 3) := dk_181 0 29 (dk_at dksX10_init_1 10 rfl rfl)
theorem dX10_init_35 : decode cX10_init 35 = .ok (.aload_n 0, 1) := dk_42 (dk_at dksX10_init_1 13 rfl rfl)
theorem dX10_init_36 : decode cX10_init 36 = .ok (.aload 4, 2) := dk_25 4 (dk_at dksX10_init_1 14 rfl rfl)
theorem dX10_init_38 : decode cX10_init 38 = .ok (.putfield 32, 3) := dk_181 0 32 (dk_at dksX10_init_1 16 rfl rfl)
theorem dX10_init_41 : decode cX10_init 41 = .ok (.aload_n 0, 1) := dk_42 (dk_at dksX10_init_1 19 rfl rfl)
theorem dX10_init_42 : decode cX10_init 42 = .ok (.iload 5, 2) := dk_21 5 (dk_at dksX10_init_1 20 rfl rfl)
theorem dX10_init_44 : decode cX10_init 44 = .ok (.putfield 36, 3) := dk_181 0 36 (dk_at dksX10_init_2 0 rfl rfl)
theorem dX10_init_47 : decode cX10_init 47 = .ok (.return_, 1) := dk_177 (dk_at dksX10_init_2 3 rfl rfl)
def dkwX10_note_1 : List UInt8 := [192, 0, 66, 76, 177]
abbrev dktX10_note_1 : List UInt8 := dkwX10_note_1 ++ []
def dkwX10_note_0 : List UInt8 := [42, 180, 0, 18, 42, 180, 0, 36, 184, 0, 65, 42, 182, 0, 71, 182, 0, 75, 184, 0, 65, 182, 0, 79]
abbrev dktX10_note_0 : List UInt8 := dkwX10_note_0 ++ dktX10_note_1
theorem dksX10_note_0 : cX10_note.data.toList.drop 0 = dktX10_note_0 := by decide +kernel
theorem dksX10_note_1 : cX10_note.data.toList.drop 24 = dktX10_note_1 := dk_seg dksX10_note_0 24 rfl rfl
theorem dX10_note_0 : decode cX10_note 0 = .ok (.aload_n 0, 1) := dk_42 (dk_at dksX10_note_0 0 rfl rfl)
theorem dX10_note_1 : decode cX10_note 1 = .ok (.getfield 18, 3) := dk_180 0 18 (dk_at dksX10_note_0 1 rfl rfl)
theorem dX10_note_4 : decode cX10_note 4 = .ok (.aload_n 0, 1) := dk_42 (dk_at dksX10_note_0 4 rfl rfl)
theorem dX10_note_5 : decode cX10_note 5 = .ok (.getfield 36, 3) := dk_180 0 36 (dk_at dksX10_note_0 5 rfl rfl)
theorem dX10_note_8 : decode cX10_note 8 = .ok (.invokestatic 65, 3) := dk_184 0 65 (dk_at dksX10_note_0 8 rfl rfl)
theorem dX10_note_11 : decode cX10_note 11 = .ok (.aload_n 0, 1) := dk_42 (dk_at dksX10_note_0 11 rfl rfl)
theorem dX10_note_12 : decode cX10_note 12 = .ok (.invokevirtual 71, 3) := dk_182 0 71 (dk_at dksX10_note_0 12 rfl rfl)
theorem dX10_note_15 : decode cX10_note 15 = .ok (.invokevirtual 75, 3) := dk_182 0 75 (dk_at dksX10_note_0 15 rfl rfl)
theorem dX10_note_18 : decode cX10_note 18 = .ok (.invokestatic 65, 3) := dk_184 0 65 (dk_at dksX10_note_0 18 rfl rfl)
theorem dX10_note_21 : decode cX10_note 21 = .ok (.invokevirtual 79, 3) := dk_182 0 79 (dk_at dksX10_note_0 21 rfl rfl)
theorem dX10_note_24 : decode cX10_note 24 = .ok (.checkcast 66, 3) := dk_192 0 66 (dk_at dksX10_note_1 0 rfl rfl)
theorem dX10_note_27 : decode cX10_note 27 = .ok (.astore_n 1, 1) := dk_76 (dk_at dksX10_note_1 3 rfl rfl)
theorem dX10_note_28 : decode cX10_note 28 = .ok (.return_, 1) := dk_177 (dk_at dksX10_note_1 4 rfl rfl)
def dkwX10_tree_0 : List UInt8 := [187, 0, 60, 89, 42, 180, 0, 32, 183, 0, 62, 176]
abbrev dktX10_tree_0 : List UInt8 := dkwX10_tree_0 ++ []
theorem dksX10_tree_0 : cX10_tree.data.toList.drop 0 = dktX10_tree_0 := by decide +kernel
theorem dX10_tree_0 : decode cX10_tree 0 = .ok (.new 60, 3) := dk_187 0 60 (dk_at dksX10_tree_0 0 rfl rfl)
theorem dX10_tree_3 : decode cX10_tree 3 = .ok (.dup, 1) := dk_89 (dk_at dksX10_tree_0 3 rfl rfl)
theorem dX10_tree_4 : decode cX10_tree 4 = .ok (.aload_n 0, 1) := dk_42 (dk_at dksX10_tree_0 4 rfl rfl)
theorem dX10_tree_5 : decode cX10_tree 5 = .ok (.getfield 32, 3) := dk_180 0 32 (dk_at dksX10_tree_0 5 rfl rfl)
theorem dX10_tree_8 : decode cX10_tree 8 = .ok (.invokespecial 62, 3) := dk_183 0 62 (dk_at dksX10_tree_0 8 rfl rfl)
theorem dX10_tree_11 : decode cX10_tree 11 = .ok (.areturn, 1) := dk_176 (dk_at dksX10_tree_0 11 rfl rfl)
def dkwX10_rootAt_1 : List UInt8 := [182, 0, 86, 172]
abbrev dktX10_rootAt_1 : List UInt8 := dkwX10_rootAt_1 ++ []
def dkwX10_rootAt_0 : List UInt8 := [42, 180, 0, 18, 27, 184, 0, 65, 182, 0, 89, 192, 0, 66, 77, 44, 199, 0, 7, 2, 167, 0, 7, 44]
abbrev dktX10_rootAt_0 : List UInt8 := dkwX10_rootAt_0 ++ dktX10_rootAt_1
theorem dksX10_rootAt_0 : cX10_rootAt.data.toList.drop 0 = dktX10_rootAt_0 := by decide +kernel
theorem dksX10_rootAt_1 : cX10_rootAt.data.toList.drop 24 = dktX10_rootAt_1 := dk_seg dksX10_rootAt_0 24 rfl rfl
theorem dX10_rootAt_0 : decode cX10_rootAt 0 = .ok (.aload_n 0, 1) := dk_42 (dk_at dksX10_rootAt_0 0 rfl rfl)
theorem dX10_rootAt_1 : decode cX10_rootAt 1 = .ok (.getfield 18, 3) := dk_180 0 18 (dk_at dksX10_rootAt_0 1 rfl rfl)
theorem dX10_rootAt_4 : decode cX10_rootAt 4 = .ok (.iload_n 1, 1) := dk_27 (dk_at dksX10_rootAt_0 4 rfl rfl)
theorem dX10_rootAt_5 : decode cX10_rootAt 5 = .ok (.invokestatic 65, 3) := dk_184 0 65 (dk_at dksX10_rootAt_0 5 rfl rfl)
theorem dX10_rootAt_8 : decode cX10_rootAt 8 = .ok (.invokevirtual 89, 3) := dk_182 0 89 (dk_at dksX10_rootAt_0 8 rfl rfl)
theorem dX10_rootAt_11 : decode cX10_rootAt 11 = .ok (.checkcast 66, 3) := dk_192 0 66 (dk_at dksX10_rootAt_0 11 rfl rfl)
theorem dX10_rootAt_14 : decode cX10_rootAt 14 = .ok (.astore_n 2, 1) := dk_77 (dk_at dksX10_rootAt_0 14 rfl rfl)
theorem dX10_rootAt_15 : decode cX10_rootAt 15 = .ok (.aload_n 2, 1) := dk_44 (dk_at dksX10_rootAt_0 15 rfl rfl)
theorem dX10_rootAt_16 : decode cX10_rootAt 16 = .ok (.ifnonnull 7, 3) := dk_199 0 7 (dk_at dksX10_rootAt_0 16 rfl rfl)
theorem dX10_rootAt_19 : decode cX10_rootAt 19 = .ok (.iconst (-1), 1) := dk_2 (dk_at dksX10_rootAt_0 19 rfl rfl)
theorem dX10_rootAt_20 : decode cX10_rootAt 20 = .ok (.goto 7, 3) := dk_167 0 7 (dk_at dksX10_rootAt_0 20 rfl rfl)
theorem dX10_rootAt_23 : decode cX10_rootAt 23 = .ok (.aload_n 2, 1) := dk_44 (dk_at dksX10_rootAt_0 23 rfl rfl)
theorem dX10_rootAt_24 : decode cX10_rootAt 24 = .ok (.invokevirtual 86, 3) := dk_182 0 86 (dk_at dksX10_rootAt_1 0 rfl rfl)
theorem dX10_rootAt_27 : decode cX10_rootAt 27 = .ok (.ireturn, 1) := dk_172 (dk_at dksX10_rootAt_1 3 rfl rfl)
def dkwX10_copy_3 : List UInt8 := [180, 0, 18, 182, 0, 56, 43, 176]
abbrev dktX10_copy_3 : List UInt8 := dkwX10_copy_3 ++ []
def dkwX10_copy_2 : List UInt8 := [181, 0, 47, 43, 42, 180, 0, 50, 181, 0, 50, 43, 42, 180, 0, 53, 181, 0, 53, 43, 180, 0, 18, 42]
abbrev dktX10_copy_2 : List UInt8 := dkwX10_copy_2 ++ dktX10_copy_3
def dkwX10_copy_1 : List UInt8 := [192, 0, 40, 42, 180, 0, 36, 183, 0, 44, 76, 43, 42, 180, 0, 9, 181, 0, 9, 43, 42, 180, 0, 47]
abbrev dktX10_copy_1 : List UInt8 := dkwX10_copy_1 ++ dktX10_copy_2
def dkwX10_copy_0 : List UInt8 := [187, 0, 10, 89, 42, 180, 0, 22, 42, 180, 0, 26, 42, 180, 0, 29, 42, 180, 0, 32, 182, 0, 39]
abbrev dktX10_copy_0 : List UInt8 := dkwX10_copy_0 ++ dktX10_copy_1
theorem dksX10_copy_0 : cX10_copy.data.toList.drop 0 = dktX10_copy_0 := by decide +kernel
theorem dksX10_copy_1 : cX10_copy.data.toList.drop 23 = dktX10_copy_1 := dk_seg dksX10_copy_0 23 rfl rfl
theorem dksX10_copy_2 : cX10_copy.data.toList.drop 47 = dktX10_copy_2 := dk_seg dksX10_copy_1 24 rfl rfl
theorem dksX10_copy_3 : cX10_copy.data.toList.drop 71 = dktX10_copy_3 := dk_seg dksX10_copy_2 24 rfl rfl
theorem dX10_copy_0 : decode cX10_copy 0 = .ok (.new 10, 3) := dk_187 0 10 (dk_at dksX10_copy_0 0 rfl rfl)
theorem dX10_copy_3 : decode cX10_copy 3 = .ok (.dup, 1) := dk_89 (dk_at dksX10_copy_0 3 rfl rfl)
theorem dX10_copy_4 : decode cX10_copy 4 = .ok (.aload_n 0, 1) := dk_42 (dk_at dksX10_copy_0 4 rfl rfl)
theorem dX10_copy_5 : decode cX10_copy 5 = .ok (.getfield 22, 3) := dk_180 0 22 (dk_at dksX10_copy_0 5 rfl rfl)
theorem dX10_copy_8 : decode cX10_copy 8 = .ok (.aload_n 0, 1) := dk_42 (dk_at dksX10_copy_0 8 rfl rfl)
theorem dX10_copy_9 : decode cX10_copy 9 = .ok (.getfield 26, 3) := dk_180 0 26 (dk_at dksX10_copy_0 9 rfl rfl)
theorem dX10_copy_12 : decode cX10_copy 12 = .ok (.aload_n 0, 1) := dk_42 (dk_at dksX10_copy_0 12 rfl rfl)
theorem dX10_copy_13 : decode cX10_copy 13 = .ok (.getfield 29, 3) := dk_180 0 29 (dk_at dksX10_copy_0 13 rfl rfl)
theorem dX10_copy_16 : decode cX10_copy 16 = .ok (.aload_n 0, 1) := dk_42 (dk_at dksX10_copy_0 16 rfl rfl)
theorem dX10_copy_17 : decode cX10_copy 17 = .ok (.getfield 32, 3) := dk_180 0 32 (dk_at dksX10_copy_0 17 rfl rfl)
theorem dX10_copy_20 : decode cX10_copy 20 = .ok (.invokevirtual 39, 3) := dk_182 0 39 (dk_at dksX10_copy_0 20 rfl rfl)
theorem dX10_copy_23 : decode cX10_copy 23 = .ok (.checkcast 40, 3) := dk_192 0 40 (dk_at dksX10_copy_1 0 rfl rfl)
theorem dX10_copy_26 : decode cX10_copy 26 = .ok (.aload_n 0, 1) := dk_42 (dk_at dksX10_copy_1 3 rfl rfl)
theorem dX10_copy_27 : decode cX10_copy 27 = .ok (.getfield 36, 3) := dk_180 0 36 (dk_at dksX10_copy_1 4 rfl rfl)
theorem dX10_copy_30 : decode cX10_copy 30 = .ok (.invokespecial 44, 3) := dk_183 0 44 (dk_at dksX10_copy_1 7 rfl rfl)
theorem dX10_copy_33 : decode cX10_copy 33 = .ok (.astore_n 1, 1) := dk_76 (dk_at dksX10_copy_1 10 rfl rfl)
theorem dX10_copy_34 : decode cX10_copy 34 = .ok (.aload_n 1, 1) := dk_43 (dk_at dksX10_copy_1 11 rfl rfl)
theorem dX10_copy_35 : decode cX10_copy 35 = .ok (.aload_n 0, 1) := dk_42 (dk_at dksX10_copy_1 12 rfl rfl)
theorem dX10_copy_36 : decode cX10_copy 36 = .ok (.getfield 9, 3) := dk_180 0 9 (dk_at dksX10_copy_1 13 rfl rfl)
theorem dX10_copy_39 : decode cX10_copy 39 = .ok (.putfield 9, 3) := dk_181 0 9 (dk_at dksX10_copy_1 16 rfl rfl)
theorem dX10_copy_42 : decode cX10_copy 42 = .ok (.aload_n 1, 1) := dk_43 (dk_at dksX10_copy_1 19 rfl rfl)
theorem dX10_copy_43 : decode cX10_copy 43 = .ok (.aload_n 0, 1) := dk_42 (dk_at dksX10_copy_1 20 rfl rfl)
theorem dX10_copy_44 : decode cX10_copy 44 = .ok (.getfield 47, 3) := dk_180 0 47 (dk_at dksX10_copy_1 21 rfl rfl)
theorem dX10_copy_47 : decode cX10_copy 47 = .ok (.putfield 47, 3) := dk_181 0 47 (dk_at dksX10_copy_2 0 rfl rfl)
theorem dX10_copy_50 : decode cX10_copy 50 = .ok (.aload_n 1, 1) := dk_43 (dk_at dksX10_copy_2 3 rfl rfl)
theorem dX10_copy_51 : decode cX10_copy 51 = .ok (.aload_n 0, 1) := dk_42 (dk_at dksX10_copy_2 4 rfl rfl)
theorem dX10_copy_52 : decode cX10_copy 52 = .ok (.getfield 50, 3) := dk_180 0 50 (dk_at dksX10_copy_2 5 rfl rfl)
theorem dX10_copy_55 : decode cX10_copy 55 = .ok (.putfield 50, 3) := dk_181 0 50 (dk_at dksX10_copy_2 8 rfl rfl)
theorem dX10_copy_58 : decode cX10_copy 58 = .ok (.aload_n 1, 1) := dk_43 (dk_at dksX10_copy_2 11 rfl rfl)
theorem dX10_copy_59 : decode cX10_copy 59 = .ok (.aload_n 0, 1) := dk_42 (dk_at dksX10_copy_2 12 rfl rfl)
theorem dX10_copy_60 : decode cX10_copy 60 = .ok (.getfield 53, 3) := dk_180 0 53 (dk_at dksX10_copy_2 13 rfl rfl)
theorem dX10_copy_63 : decode cX10_copy 63 = .ok (.putfield 53, 3) := dk_181 0 53 (dk_at dksX10_copy_2 16 rfl rfl)
theorem dX10_copy_66 : decode cX10_copy 66 = .ok (.aload_n 1, 1) := dk_43 (dk_at dksX10_copy_2 19 rfl rfl)
theorem dX10_copy_67 : decode cX10_copy 67 = .ok (.getfield 18, 3) := dk_180 0 18 (dk_at dksX10_copy_2 20 rfl rfl)
theorem dX10_copy_70 : decode cX10_copy 70 = .ok (.aload_n 0, 1) := dk_42 (dk_at dksX10_copy_2 23 rfl rfl)
theorem dX10_copy_71 : decode cX10_copy 71 = .ok (.getfield 18, 3) := dk_180 0 18 (dk_at dksX10_copy_3 0 rfl rfl)
theorem dX10_copy_74 : decode cX10_copy 74 = .ok (.invokevirtual 56, 3) := dk_182 0 56 (dk_at dksX10_copy_3 3 rfl rfl)
theorem dX10_copy_77 : decode cX10_copy 77 = .ok (.aload_n 1, 1) := dk_43 (dk_at dksX10_copy_3 6 rfl rfl)
theorem dX10_copy_78 : decode cX10_copy 78 = .ok (.areturn, 1) := dk_176 (dk_at dksX10_copy_3 7 rfl rfl)
def dkwX10_first_0 : List UInt8 := [42, 180, 0, 18, 182, 0, 83, 192, 0, 66, 182, 0, 86, 172]
abbrev dktX10_first_0 : List UInt8 := dkwX10_first_0 ++ []
theorem dksX10_first_0 : cX10_first.data.toList.drop 0 = dktX10_first_0 := by decide +kernel
theorem dX10_first_0 : decode cX10_first 0 = .ok (.aload_n 0, 1) := dk_42 (dk_at dksX10_first_0 0 rfl rfl)
theorem dX10_first_1 : decode cX10_first 1 = .ok (.getfield 18, 3) := dk_180 0 18 (dk_at dksX10_first_0 1 rfl rfl)
theorem dX10_first_4 : decode cX10_first 4 = .ok (.invokevirtual 83, 3) := dk_182 0 83 (dk_at dksX10_first_0 4 rfl rfl)
theorem dX10_first_7 : decode cX10_first 7 = .ok (.checkcast 66, 3) := dk_192 0 66 (dk_at dksX10_first_0 7 rfl rfl)
theorem dX10_first_10 : decode cX10_first 10 = .ok (.invokevirtual 86, 3) := dk_182 0 86 (dk_at dksX10_first_0 10 rfl rfl)
theorem dX10_first_13 : decode cX10_first 13 = .ok (.ireturn, 1) := dk_172 (dk_at dksX10_first_0 13 rfl rfl)
def dkwX13_differs_1 : List UInt8 := [180, 0, 20, 27, 46, 159, 0, 7, 4, 167, 0, 4, 3, 172]
abbrev dktX13_differs_1 : List UInt8 := dkwX13_differs_1 ++ []
def dkwX13_differs_0 : List UInt8 := [42, 89, 180, 0, 16, 4, 96, 181, 0, 16, 42, 180, 0, 7, 180, 0, 20, 27, 46, 42, 180, 0, 13]
abbrev dktX13_differs_0 : List UInt8 := dkwX13_differs_0 ++ dktX13_differs_1
theorem dksX13_differs_0 : cX13_differs.data.toList.drop 0 = dktX13_differs_0 := by decide +kernel
theorem dksX13_differs_1 : cX13_differs.data.toList.drop 23 = dktX13_differs_1 := dk_seg dksX13_differs_0 23 rfl rfl
theorem dX13_differs_0 : decode cX13_differs 0 = .ok (.aload_n 0, 1) := dk_42 (dk_at dksX13_differs_0 0 rfl rfl)
theorem dX13_differs_1 : decode cX13_differs 1 = .ok (.dup, 1) := dk_89 (dk_at dksX13_differs_0 1 rfl rfl)
theorem dX13_differs_2 : decode cX13_differs 2 = .ok (.getfield 16, 3) := dk_180 0 16 (dk_at dksX13_differs_0 2 rfl rfl)
theorem dX13_differs_5 : decode cX13_differs 5 = .ok (.iconst 1, 1) := dk_4 (dk_at dksX13_differs_0 5 rfl rfl)
theorem dX13_differs_6 : decode cX13_differs 6 = .ok (.iadd, 1) := dk_96 (dk_at dksX13_differs_0 6 rfl rfl)
theorem dX13_differs_7 : decode cX13_differs 7 = .ok (.putfield 16, 3) := dk_181 0 16 (dk_at dksX13_differs_0 7 rfl rfl)
theorem dX13_differs_10 : decode cX13_differs 10 = .ok (.aload_n 0, 1) := dk_42 (dk_at dksX13_differs_0 10 rfl rfl)
theorem dX13_differs_11 : decode cX13_differs 11 = .ok (.getfield 7, 3) := dk_180 0 7 (dk_at dksX13_differs_0 11 rfl rfl)
theorem dX13_differs_14 : decode cX13_differs 14 = .ok (.getfield 20, 3) := dk_180 0 20 (dk_at dksX13_differs_0 14 rfl rfl)
theorem dX13_differs_17 : decode cX13_differs 17 = .ok (.iload_n 1, 1) := dk_27 (dk_at dksX13_differs_0 17 rfl rfl)
theorem dX13_differs_18 : decode cX13_differs 18 = .ok (.iaload, 1) := dk_46 (dk_at dksX13_differs_0 18 rfl rfl)
theorem dX13_differs_19 : decode cX13_differs 19 = .ok (.aload_n 0, 1) := dk_42 (dk_at dksX13_differs_0 19 rfl rfl)
theorem dX13_differs_20 : decode cX13_differs 20 = .ok (.getfield 13, 3) := dk_180 0 13 (dk_at dksX13_differs_0 20 rfl rfl)
theorem dX13_differs_23 : decode cX13_differs 23 = .ok (.getfield 20, 3) := dk_180 0 20 (dk_at dksX13_differs_1 0 rfl rfl)
theorem dX13_differs_26 : decode cX13_differs 26 = .ok (.iload_n 1, 1) := dk_27 (dk_at dksX13_differs_1 3 rfl rfl)
theorem dX13_differs_27 : decode cX13_differs 27 = .ok (.iaload, 1) := dk_46 (dk_at dksX13_differs_1 4 rfl rfl)
theorem dX13_differs_28 : decode cX13_differs 28 = .ok (.if_icmp .eq 7, 3) := dk_159 0 7 (dk_at dksX13_differs_1 5 rfl rfl)
theorem dX13_differs_31 : decode cX13_differs 31 = .ok (.iconst 1, 1) := dk_4 (dk_at dksX13_differs_1 8 rfl rfl)
theorem dX13_differs_32 : decode cX13_differs 32 = .ok (.goto 4, 3) := dk_167 0 4 (dk_at dksX13_differs_1 9 rfl rfl)
theorem dX13_differs_35 : decode cX13_differs 35 = .ok (.iconst 0, 1) := dk_3 (dk_at dksX13_differs_1 12 rfl rfl)
theorem dX13_differs_36 : decode cX13_differs 36 = .ok (.ireturn, 1) := dk_172 (dk_at dksX13_differs_1 13 rfl rfl)
def dkwX13_init_0 : List UInt8 := [42, 183, 0, 1, 42, 43, 181, 0, 7, 42, 44, 181, 0, 13, 177]
abbrev dktX13_init_0 : List UInt8 := dkwX13_init_0 ++ []
theorem dksX13_init_0 : cX13_init.data.toList.drop 0 = dktX13_init_0 := by decide +kernel
theorem dX13_init_0 : decode cX13_init 0 = .ok (.aload_n 0, 1) := dk_42 (dk_at dksX13_init_0 0 rfl rfl)
theorem dX13_init_1 : decode cX13_init 1 = .ok (.invokespecial 1, 3) := dk_183 0 1 (dk_at dksX13_init_0 1 rfl rfl)
theorem dX13_init_4 : decode cX13_init 4 = .ok (.aload_n 0, 1) := dk_42 (dk_at dksX13_init_0 4 rfl rfl)
theorem dX13_init_5 : decode cX13_init 5 = .ok (.aload_n 1, 1) := dk_43 (dk_at dksX13_init_0 5 rfl rfl)
theorem dX13_init_6 : decode cX13_init 6 = .ok (.putfield 7, 3) := dk_181 0 7 (dk_at dksX13_init_0 6 rfl rfl)
theorem dX13_init_9 : decode cX13_init 9 = .ok (.aload_n 0, 1) := dk_42 (dk_at dksX13_init_0 9 rfl rfl)
theorem dX13_init_10 : decode cX13_init 10 = .ok (.aload_n 2, 1) := dk_44 (dk_at dksX13_init_0 10 rfl rfl)
theorem dX13_init_11 : decode cX13_init 11 = .ok (.putfield 13, 3) := dk_181 0 13 (dk_at dksX13_init_0 11 rfl rfl)
theorem dX13_init_14 : decode cX13_init 14 = .ok (.return_, 1) := dk_177 (dk_at dksX13_init_0 14 rfl rfl)
def dkwX13_iterator_0 : List UInt8 := [187, 0, 26, 89, 42, 183, 0, 28, 176]
abbrev dktX13_iterator_0 : List UInt8 := dkwX13_iterator_0 ++ []
theorem dksX13_iterator_0 : cX13_iterator.data.toList.drop 0 = dktX13_iterator_0 := by decide +kernel
theorem dX13_iterator_0 : decode cX13_iterator 0 = .ok (.new 26, 3) := dk_187 0 26 (dk_at dksX13_iterator_0 0 rfl rfl)
theorem dX13_iterator_3 : decode cX13_iterator 3 = .ok (.dup, 1) := dk_89 (dk_at dksX13_iterator_0 3 rfl rfl)
theorem dX13_iterator_4 : decode cX13_iterator 4 = .ok (.aload_n 0, 1) := dk_42 (dk_at dksX13_iterator_0 4 rfl rfl)
theorem dX13_iterator_5 : decode cX13_iterator 5 = .ok (.invokespecial 28, 3) := dk_183 0 28 (dk_at dksX13_iterator_0 5 rfl rfl)
theorem dX13_iterator_8 : decode cX13_iterator 8 = .ok (.areturn, 1) := dk_176 (dk_at dksX13_iterator_0 8 rfl rfl)
theorem dX14_next_0 : decode cX14_next 0 = .ok (.aload_n 0, 1) := by decide +kernel
theorem dX14_next_1 : decode cX14_next 1 = .ok (.invokevirtual 60, 3) := by decide +kernel
theorem dX14_next_4 : decode cX14_next 4 = .ok (.areturn, 1) := by decide +kernel
def dkwX14_next_2_1 : List UInt8 := [182, 0, 36, 27, 184, 0, 26, 176]
abbrev dktX14_next_2_1 : List UInt8 := dkwX14_next_2_1 ++ []
def dkwX14_next_2_0 : List UInt8 := [42, 180, 0, 22, 2, 160, 0, 11, 187, 0, 57, 89, 183, 0, 59, 191, 42, 180, 0, 22, 60, 42]
abbrev dktX14_next_2_0 : List UInt8 := dkwX14_next_2_0 ++ dktX14_next_2_1
theorem dksX14_next_2_0 : cX14_next_2.data.toList.drop 0 = dktX14_next_2_0 := by decide +kernel
theorem dksX14_next_2_1 : cX14_next_2.data.toList.drop 22 = dktX14_next_2_1 := dk_seg dksX14_next_2_0 22 rfl rfl
theorem dX14_next_2_0 : decode cX14_next_2 0 = .ok (.aload_n 0, 1) := dk_42 (dk_at dksX14_next_2_0 0 rfl rfl)
theorem dX14_next_2_1 : decode cX14_next_2 1 = .ok (.getfield 22, 3) := dk_180 0 22 (dk_at dksX14_next_2_0 1 rfl rfl)
theorem dX14_next_2_4 : decode cX14_next_2 4 = .ok (.iconst (-1), 1) := dk_2 (dk_at dksX14_next_2_0 4 rfl rfl)
theorem dX14_next_2_5 : decode cX14_next_2 5 = .ok (.if_icmp .ne 11, 3) := dk_160 0 11 (dk_at dksX14_next_2_0 5 rfl rfl)
theorem dX14_next_2_8 : decode cX14_next_2 8 = .ok (.new 57, 3) := dk_187 0 57 (dk_at dksX14_next_2_0 8 rfl rfl)
theorem dX14_next_2_11 : decode cX14_next_2 11 = .ok (.dup, 1) := dk_89 (dk_at dksX14_next_2_0 11 rfl rfl)
theorem dX14_next_2_12 : decode cX14_next_2 12 = .ok (.invokespecial 59, 3) := dk_183 0 59 (dk_at dksX14_next_2_0 12 rfl rfl)
theorem dX14_next_2_15 : decode cX14_next_2 15 = .ok (.athrow, 1) := dk_191 (dk_at dksX14_next_2_0 15 rfl rfl)
theorem dX14_next_2_16 : decode cX14_next_2 16 = .ok (.aload_n 0, 1) := dk_42 (dk_at dksX14_next_2_0 16 rfl rfl)
theorem dX14_next_2_17 : decode cX14_next_2 17 = .ok (.getfield 22, 3) := dk_180 0 22 (dk_at dksX14_next_2_0 17 rfl rfl)
theorem dX14_next_2_20 : decode cX14_next_2 20 = .ok (.istore_n 1, 1) := dk_60 (dk_at dksX14_next_2_0 20 rfl rfl)
theorem dX14_next_2_21 : decode cX14_next_2 21 = .ok (.aload_n 0, 1) := dk_42 (dk_at dksX14_next_2_0 21 rfl rfl)
theorem dX14_next_2_22 : decode cX14_next_2 22 = .ok (.invokevirtual 36, 3) := dk_182 0 36 (dk_at dksX14_next_2_1 0 rfl rfl)
theorem dX14_next_2_25 : decode cX14_next_2 25 = .ok (.iload_n 1, 1) := dk_27 (dk_at dksX14_next_2_1 3 rfl rfl)
theorem dX14_next_2_26 : decode cX14_next_2 26 = .ok (.invokestatic 26, 3) := dk_184 0 26 (dk_at dksX14_next_2_1 4 rfl rfl)
theorem dX14_next_2_29 : decode cX14_next_2 29 = .ok (.areturn, 1) := dk_176 (dk_at dksX14_next_2_1 7 rfl rfl)
def dkwX14_goOn_4 : List UInt8 := [167, 255, 165, 177]
abbrev dktX14_goOn_4 : List UInt8 := dkwX14_goOn_4 ++ []
def dkwX14_goOn_3 : List UInt8 := [5, 27, 104, 4, 96, 184, 0, 26, 182, 0, 32, 42, 180, 0, 18, 5, 27, 104, 184, 0, 26, 182, 0, 32]
abbrev dktX14_goOn_3 : List UInt8 := dkwX14_goOn_3 ++ dktX14_goOn_4
def dkwX14_goOn_2 : List UInt8 := [167, 255, 213, 27, 16, 16, 161, 0, 14, 42, 27, 16, 16, 100, 181, 0, 22, 167, 0, 31, 42, 180, 0, 18]
abbrev dktX14_goOn_2 : List UInt8 := dkwX14_goOn_2 ++ dktX14_goOn_3
def dkwX14_goOn_1 : List UInt8 := [180, 0, 18, 182, 0, 43, 192, 0, 27, 182, 0, 47, 60, 42, 180, 0, 3, 27, 182, 0, 51, 154, 0, 6]
abbrev dktX14_goOn_1 : List UInt8 := dkwX14_goOn_1 ++ dktX14_goOn_2
def dkwX14_goOn_0 : List UInt8 := [42, 2, 181, 0, 22, 42, 180, 0, 22, 2, 160, 0, 89, 42, 180, 0, 18, 182, 0, 39, 154, 0, 79, 42]
abbrev dktX14_goOn_0 : List UInt8 := dkwX14_goOn_0 ++ dktX14_goOn_1
theorem dksX14_goOn_0 : cX14_goOn.data.toList.drop 0 = dktX14_goOn_0 := by decide +kernel
theorem dksX14_goOn_1 : cX14_goOn.data.toList.drop 24 = dktX14_goOn_1 := dk_seg dksX14_goOn_0 24 rfl rfl
theorem dksX14_goOn_2 : cX14_goOn.data.toList.drop 48 = dktX14_goOn_2 := dk_seg dksX14_goOn_1 24 rfl rfl
theorem dksX14_goOn_3 : cX14_goOn.data.toList.drop 72 = dktX14_goOn_3 := dk_seg dksX14_goOn_2 24 rfl rfl
theorem dksX14_goOn_4 : cX14_goOn.data.toList.drop 96 = dktX14_goOn_4 := dk_seg dksX14_goOn_3 24 rfl rfl
theorem dX14_goOn_0 : decode cX14_goOn 0 = .ok (.aload_n 0, 1) := dk_42 (dk_at dksX14_goOn_0 0 rfl rfl)
theorem dX14_goOn_1 : decode cX14_goOn 1 = .ok (.iconst (-1), 1) := dk_2 (dk_at dksX14_goOn_0 1 rfl rfl)
theorem dX14_goOn_2 : decode cX14_goOn 2 = .ok (.putfield 22, 3) := dk_181 0 22 (dk_at dksX14_goOn_0 2 rfl rfl)
theorem dX14_goOn_5 : decode cX14_goOn 5 = .ok (.aload_n 0, 1) := dk_42 (dk_at dksX14_goOn_0 5 rfl rfl)
theorem dX14_goOn_6 : decode cX14_goOn 6 = .ok (.getfield 22, 3) := dk_180 0 22 (dk_at dksX14_goOn_0 6 rfl rfl)
theorem dX14_goOn_9 : decode cX14_goOn 9 = .ok (.iconst (-1), 1) := dk_2 (dk_at dksX14_goOn_0 9 rfl rfl)
theorem dX14_goOn_10 : decode cX14_goOn 10 = .ok (.if_icmp .ne 89, 3) := dk_160 0 89 (dk_at dksX14_goOn_0 10 rfl rfl)
theorem dX14_goOn_13 : decode cX14_goOn 13 = .ok (.aload_n 0, 1) := dk_42 (dk_at dksX14_goOn_0 13 rfl rfl)
theorem dX14_goOn_14 : decode cX14_goOn 14 = .ok (.getfield 18, 3) := dk_180 0 18 (dk_at dksX14_goOn_0 14 rfl rfl)
theorem dX14_goOn_17 : decode cX14_goOn 17 = .ok (.invokevirtual 39, 3) := dk_182 0 39 (dk_at dksX14_goOn_0 17 rfl rfl)
theorem dX14_goOn_20 : decode cX14_goOn 20 = .ok (.ifCond .ne 79, 3) := dk_154 0 79 (dk_at dksX14_goOn_0 20 rfl rfl)
theorem dX14_goOn_23 : decode cX14_goOn 23 = .ok (.aload_n 0, 1) := dk_42 (dk_at dksX14_goOn_0 23 rfl rfl)
theorem dX14_goOn_24 : decode cX14_goOn 24 = .ok (.getfield 18, 3) := dk_180 0 18 (dk_at dksX14_goOn_1 0 rfl rfl)
theorem dX14_goOn_27 : decode cX14_goOn 27 = .ok (.invokevirtual 43, 3) := dk_182 0 43 (dk_at dksX14_goOn_1 3 rfl rfl)
theorem dX14_goOn_30 : decode cX14_goOn 30 = .ok (.checkcast 27, 3) := dk_192 0 27 (dk_at dksX14_goOn_1 6 rfl rfl)
theorem dX14_goOn_33 : decode cX14_goOn 33 = .ok (.invokevirtual 47, 3) := dk_182 0 47 (dk_at dksX14_goOn_1 9 rfl rfl)
theorem dX14_goOn_36 : decode cX14_goOn 36 = .ok (.istore_n 1, 1) := dk_60 (dk_at dksX14_goOn_1 12 rfl rfl)
theorem dX14_goOn_37 : decode cX14_goOn 37 = .ok (.aload_n 0, 1) := dk_42 (dk_at dksX14_goOn_1 13 rfl rfl)
theorem dX14_goOn_38 : decode cX14_goOn 38 = .ok (.getfield 3, 3) := dk_180 0 3 (dk_at dksX14_goOn_1 14 rfl rfl)
theorem dX14_goOn_41 : decode cX14_goOn 41 = .ok (.iload_n 1, 1) := dk_27 (dk_at dksX14_goOn_1 17 rfl rfl)
theorem dX14_goOn_42 : decode cX14_goOn 42 = .ok (.invokevirtual 51, 3) := dk_182 0 51 (dk_at dksX14_goOn_1 18 rfl rfl)
theorem dX14_goOn_45 : decode cX14_goOn 45 = .ok (.ifCond .ne 6, 3) := dk_154 0 6 (dk_at dksX14_goOn_1 21 rfl rfl)
theorem dX14_goOn_48 : decode cX14_goOn 48 = .ok (.goto (-43), 3) := dk_167 255 213 (dk_at dksX14_goOn_2 0 rfl rfl)
theorem dX14_goOn_51 : decode cX14_goOn 51 = .ok (.iload_n 1, 1) := dk_27 (dk_at dksX14_goOn_2 3 rfl rfl)
theorem dX14_goOn_52 : decode cX14_goOn 52 = .ok (.bipush 16, 2) := dk_16 16 (dk_at dksX14_goOn_2 4 rfl rfl)
theorem dX14_goOn_54 : decode cX14_goOn 54 = .ok (.if_icmp .lt 14, 3) := dk_161 0 14 (dk_at dksX14_goOn_2 6 rfl rfl)
theorem dX14_goOn_57 : decode cX14_goOn 57 = .ok (.aload_n 0, 1) := dk_42 (dk_at dksX14_goOn_2 9 rfl rfl)
theorem dX14_goOn_58 : decode cX14_goOn 58 = .ok (.iload_n 1, 1) := dk_27 (dk_at dksX14_goOn_2 10 rfl rfl)
theorem dX14_goOn_59 : decode cX14_goOn 59 = .ok (.bipush 16, 2) := dk_16 16 (dk_at dksX14_goOn_2 11 rfl rfl)
theorem dX14_goOn_61 : decode cX14_goOn 61 = .ok (.isub, 1) := dk_100 (dk_at dksX14_goOn_2 13 rfl rfl)
theorem dX14_goOn_62 : decode cX14_goOn 62 = .ok (.putfield 22, 3) := dk_181 0 22 (dk_at dksX14_goOn_2 14 rfl rfl)
theorem dX14_goOn_65 : decode cX14_goOn 65 = .ok (.goto 31, 3) := dk_167 0 31 (dk_at dksX14_goOn_2 17 rfl rfl)
theorem dX14_goOn_68 : decode cX14_goOn 68 = .ok (.aload_n 0, 1) := dk_42 (dk_at dksX14_goOn_2 20 rfl rfl)
theorem dX14_goOn_69 : decode cX14_goOn 69 = .ok (.getfield 18, 3) := dk_180 0 18 (dk_at dksX14_goOn_2 21 rfl rfl)
theorem dX14_goOn_72 : decode cX14_goOn 72 = .ok (.iconst 2, 1) := dk_5 (dk_at dksX14_goOn_3 0 rfl rfl)
theorem dX14_goOn_73 : decode cX14_goOn 73 = .ok (.iload_n 1, 1) := dk_27 (dk_at dksX14_goOn_3 1 rfl rfl)
theorem dX14_goOn_74 : decode cX14_goOn 74 = .ok (.imul, 1) := dk_104 (dk_at dksX14_goOn_3 2 rfl rfl)
theorem dX14_goOn_75 : decode cX14_goOn 75 = .ok (.iconst 1, 1) := dk_4 (dk_at dksX14_goOn_3 3 rfl rfl)
theorem dX14_goOn_76 : decode cX14_goOn 76 = .ok (.iadd, 1) := dk_96 (dk_at dksX14_goOn_3 4 rfl rfl)
theorem dX14_goOn_77 : decode cX14_goOn 77 = .ok (.invokestatic 26, 3) := dk_184 0 26 (dk_at dksX14_goOn_3 5 rfl rfl)
theorem dX14_goOn_80 : decode cX14_goOn 80 = .ok (.invokevirtual 32, 3) := dk_182 0 32 (dk_at dksX14_goOn_3 8 rfl rfl)
theorem dX14_goOn_83 : decode cX14_goOn 83 = .ok (.aload_n 0, 1) := dk_42 (dk_at dksX14_goOn_3 11 rfl rfl)
theorem dX14_goOn_84 : decode cX14_goOn 84 = .ok (.getfield 18, 3) := dk_180 0 18 (dk_at dksX14_goOn_3 12 rfl rfl)
theorem dX14_goOn_87 : decode cX14_goOn 87 = .ok (.iconst 2, 1) := dk_5 (dk_at dksX14_goOn_3 15 rfl rfl)
theorem dX14_goOn_88 : decode cX14_goOn 88 = .ok (.iload_n 1, 1) := dk_27 (dk_at dksX14_goOn_3 16 rfl rfl)
theorem dX14_goOn_89 : decode cX14_goOn 89 = .ok (.imul, 1) := dk_104 (dk_at dksX14_goOn_3 17 rfl rfl)
theorem dX14_goOn_90 : decode cX14_goOn 90 = .ok (.invokestatic 26, 3) := dk_184 0 26 (dk_at dksX14_goOn_3 18 rfl rfl)
theorem dX14_goOn_93 : decode cX14_goOn 93 = .ok (.invokevirtual 32, 3) := dk_182 0 32 (dk_at dksX14_goOn_3 21 rfl rfl)
theorem dX14_goOn_96 : decode cX14_goOn 96 = .ok (.goto (-91), 3) := dk_167 255 165 (dk_at dksX14_goOn_4 0 rfl rfl)
theorem dX14_goOn_99 : decode cX14_goOn 99 = .ok (.return_, 1) := dk_177 (dk_at dksX14_goOn_4 3 rfl rfl)
def dkwX14_hasNext_0 : List UInt8 := [42, 180, 0, 22, 2, 159, 0, 7, 4, 167, 0, 4, 3, 172]
abbrev dktX14_hasNext_0 : List UInt8 := dkwX14_hasNext_0 ++ []
theorem dksX14_hasNext_0 : cX14_hasNext.data.toList.drop 0 = dktX14_hasNext_0 := by decide +kernel
theorem dX14_hasNext_0 : decode cX14_hasNext 0 = .ok (.aload_n 0, 1) := dk_42 (dk_at dksX14_hasNext_0 0 rfl rfl)
theorem dX14_hasNext_1 : decode cX14_hasNext 1 = .ok (.getfield 22, 3) := dk_180 0 22 (dk_at dksX14_hasNext_0 1 rfl rfl)
theorem dX14_hasNext_4 : decode cX14_hasNext 4 = .ok (.iconst (-1), 1) := dk_2 (dk_at dksX14_hasNext_0 4 rfl rfl)
theorem dX14_hasNext_5 : decode cX14_hasNext 5 = .ok (.if_icmp .eq 7, 3) := dk_159 0 7 (dk_at dksX14_hasNext_0 5 rfl rfl)
theorem dX14_hasNext_8 : decode cX14_hasNext 8 = .ok (.iconst 1, 1) := dk_4 (dk_at dksX14_hasNext_0 8 rfl rfl)
theorem dX14_hasNext_9 : decode cX14_hasNext 9 = .ok (.goto 4, 3) := dk_167 0 4 (dk_at dksX14_hasNext_0 9 rfl rfl)
theorem dX14_hasNext_12 : decode cX14_hasNext 12 = .ok (.iconst 0, 1) := dk_3 (dk_at dksX14_hasNext_0 12 rfl rfl)
theorem dX14_hasNext_13 : decode cX14_hasNext 13 = .ok (.ireturn, 1) := dk_172 (dk_at dksX14_hasNext_0 13 rfl rfl)
def dkwX14_init_1 : List UInt8 := [181, 0, 22, 42, 180, 0, 18, 4, 184, 0, 26, 182, 0, 32, 42, 182, 0, 36, 177]
abbrev dktX14_init_1 : List UInt8 := dkwX14_init_1 ++ []
def dkwX14_init_0 : List UInt8 := [42, 43, 181, 0, 3, 42, 183, 0, 9, 42, 187, 0, 15, 89, 183, 0, 17, 181, 0, 18, 42, 2]
abbrev dktX14_init_0 : List UInt8 := dkwX14_init_0 ++ dktX14_init_1
theorem dksX14_init_0 : cX14_init.data.toList.drop 0 = dktX14_init_0 := by decide +kernel
theorem dksX14_init_1 : cX14_init.data.toList.drop 22 = dktX14_init_1 := dk_seg dksX14_init_0 22 rfl rfl
theorem dX14_init_0 : decode cX14_init 0 = .ok (.aload_n 0, 1) := dk_42 (dk_at dksX14_init_0 0 rfl rfl)
theorem dX14_init_1 : decode cX14_init 1 = .ok (.aload_n 1, 1) := dk_43 (dk_at dksX14_init_0 1 rfl rfl)
theorem dX14_init_2 : decode cX14_init 2 = .ok (.putfield 3, 3) := dk_181 0 3 (dk_at dksX14_init_0 2 rfl rfl)
theorem dX14_init_5 : decode cX14_init 5 = .ok (.aload_n 0, 1) := dk_42 (dk_at dksX14_init_0 5 rfl rfl)
theorem dX14_init_6 : decode cX14_init 6 = .ok (.invokespecial 9, 3) := dk_183 0 9 (dk_at dksX14_init_0 6 rfl rfl)
theorem dX14_init_9 : decode cX14_init 9 = .ok (.aload_n 0, 1) := dk_42 (dk_at dksX14_init_0 9 rfl rfl)
theorem dX14_init_10 : decode cX14_init 10 = .ok (.new 15, 3) := dk_187 0 15 (dk_at dksX14_init_0 10 rfl rfl)
theorem dX14_init_13 : decode cX14_init 13 = .ok (.dup, 1) := dk_89 (dk_at dksX14_init_0 13 rfl rfl)
theorem dX14_init_14 : decode cX14_init 14 = .ok (.invokespecial 17, 3) := dk_183 0 17 (dk_at dksX14_init_0 14 rfl rfl)
theorem dX14_init_17 : decode cX14_init 17 = .ok (.putfield 18, 3) := dk_181 0 18 (dk_at dksX14_init_0 17 rfl rfl)
theorem dX14_init_20 : decode cX14_init 20 = .ok (.aload_n 0, 1) := dk_42 (dk_at dksX14_init_0 20 rfl rfl)
theorem dX14_init_21 : decode cX14_init 21 = .ok (.iconst (-1), 1) := dk_2 (dk_at dksX14_init_0 21 rfl rfl)
theorem dX14_init_22 : decode cX14_init 22 = .ok (.putfield 22, 3) := dk_181 0 22 (dk_at dksX14_init_1 0 rfl rfl)
theorem dX14_init_25 : decode cX14_init 25 = .ok (.aload_n 0, 1) := dk_42 (dk_at dksX14_init_1 3 rfl rfl)
theorem dX14_init_26 : decode cX14_init 26 = .ok (.getfield 18, 3) := dk_180 0 18 (dk_at dksX14_init_1 4 rfl rfl)
theorem dX14_init_29 : decode cX14_init 29 = .ok (.iconst 1, 1) := dk_4 (dk_at dksX14_init_1 7 rfl rfl)
theorem dX14_init_30 : decode cX14_init 30 = .ok (.invokestatic 26, 3) := dk_184 0 26 (dk_at dksX14_init_1 8 rfl rfl)
theorem dX14_init_33 : decode cX14_init 33 = .ok (.invokevirtual 32, 3) := dk_182 0 32 (dk_at dksX14_init_1 11 rfl rfl)
theorem dX14_init_36 : decode cX14_init 36 = .ok (.aload_n 0, 1) := dk_42 (dk_at dksX14_init_1 14 rfl rfl)
theorem dX14_init_37 : decode cX14_init 37 = .ok (.invokevirtual 36, 3) := dk_182 0 36 (dk_at dksX14_init_1 15 rfl rfl)
theorem dX14_init_40 : decode cX14_init 40 = .ok (.return_, 1) := dk_177 (dk_at dksX14_init_1 18 rfl rfl)
def dkwX7_init_0 : List UInt8 := [42, 1, 1, 3, 3, 183, 0, 1, 42, 27, 181, 0, 7, 177]
abbrev dktX7_init_0 : List UInt8 := dkwX7_init_0 ++ []
theorem dksX7_init_0 : cX7_init.data.toList.drop 0 = dktX7_init_0 := by decide +kernel
theorem dX7_init_0 : decode cX7_init 0 = .ok (.aload_n 0, 1) := dk_42 (dk_at dksX7_init_0 0 rfl rfl)
theorem dX7_init_1 : decode cX7_init 1 = .ok (.aconst_null, 1) := dk_1 (dk_at dksX7_init_0 1 rfl rfl)
theorem dX7_init_2 : decode cX7_init 2 = .ok (.aconst_null, 1) := dk_1 (dk_at dksX7_init_0 2 rfl rfl)
theorem dX7_init_3 : decode cX7_init 3 = .ok (.iconst 0, 1) := dk_3 (dk_at dksX7_init_0 3 rfl rfl)
theorem dX7_init_4 : decode cX7_init 4 = .ok (.iconst 0, 1) := dk_3 (dk_at dksX7_init_0 4 rfl rfl)
theorem dX7_init_5 : decode cX7_init 5 = .ok (.invokespecial 1, 3) := dk_183 0 1 (dk_at dksX7_init_0 5 rfl rfl)
theorem dX7_init_8 : decode cX7_init 8 = .ok (.aload_n 0, 1) := dk_42 (dk_at dksX7_init_0 8 rfl rfl)
theorem dX7_init_9 : decode cX7_init 9 = .ok (.iload_n 1, 1) := dk_27 (dk_at dksX7_init_0 9 rfl rfl)
theorem dX7_init_10 : decode cX7_init 10 = .ok (.putfield 7, 3) := dk_181 0 7 (dk_at dksX7_init_0 10 rfl rfl)
theorem dX7_init_13 : decode cX7_init 13 = .ok (.return_, 1) := dk_177 (dk_at dksX7_init_0 13 rfl rfl)
def dkwJ16_init_2_2 : List UInt8 := [44, 181, 0, 7, 29, 154, 0, 8, 42, 1, 181, 0, 24, 177]
abbrev dktJ16_init_2_2 : List UInt8 := dkwJ16_init_2_2 ++ []
def dkwJ16_init_2_1 : List UInt8 := [21, 4, 153, 0, 11, 42, 182, 0, 27, 87, 167, 0, 8, 42, 1, 181, 0, 17, 42, 43, 181, 0, 31, 42]
abbrev dktJ16_init_2_1 : List UInt8 := dkwJ16_init_2_1 ++ dktJ16_init_2_2
def dkwJ16_init_2_0 : List UInt8 := [42, 183, 0, 1, 42, 42, 181, 0, 7, 42, 178, 0, 13, 181, 0, 17, 42, 178, 0, 20, 181, 0, 24]
abbrev dktJ16_init_2_0 : List UInt8 := dkwJ16_init_2_0 ++ dktJ16_init_2_1
theorem dksJ16_init_2_0 : cJ16_init_2.data.toList.drop 0 = dktJ16_init_2_0 := by decide +kernel
theorem dksJ16_init_2_1 : cJ16_init_2.data.toList.drop 23 = dktJ16_init_2_1 := dk_seg dksJ16_init_2_0 23 rfl rfl
theorem dksJ16_init_2_2 : cJ16_init_2.data.toList.drop 47 = dktJ16_init_2_2 := dk_seg dksJ16_init_2_1 24 rfl rfl
theorem dJ16_init_2_0 : decode cJ16_init_2 0 = .ok (.aload_n 0, 1) := dk_42 (dk_at dksJ16_init_2_0 0 rfl rfl)
theorem dJ16_init_2_1 : decode cJ16_init_2 1 = .ok (.invokespecial 1, 3) := dk_183 0 1 (dk_at dksJ16_init_2_0 1 rfl rfl)
theorem dJ16_init_2_4 : decode cJ16_init_2 4 = .ok (.aload_n 0, 1) := dk_42 (dk_at dksJ16_init_2_0 4 rfl rfl)
theorem dJ16_init_2_5 : decode cJ16_init_2 5 = .ok (.aload_n 0, 1) := dk_42 (dk_at dksJ16_init_2_0 5 rfl rfl)
theorem dJ16_init_2_6 : decode cJ16_init_2 6 = .ok (.putfield 7, 3) := dk_181 0 7 (dk_at dksJ16_init_2_0 6 rfl rfl)
theorem dJ16_init_2_9 : decode cJ16_init_2 9 = .ok (.aload_n 0, 1) := dk_42 (dk_at dksJ16_init_2_0 9 rfl rfl)
theorem dJ16_init_2_10 : decode cJ16_init_2 10 = .ok (.getstatic 13, 3) := dk_178 0 13 (dk_at dksJ16_init_2_0 10 rfl rfl)
theorem dJ16_init_2_13 : decode cJ16_init_2 13 = .ok (.putfield 17, 3) := dk_181 0 17 (dk_at dksJ16_init_2_0 13 rfl rfl)
theorem dJ16_init_2_16 : decode cJ16_init_2 16 = .ok (.aload_n 0, 1) := dk_42 (dk_at dksJ16_init_2_0 16 rfl rfl)
theorem dJ16_init_2_17 : decode cJ16_init_2 17 = .ok (.getstatic 20, 3) := dk_178 0 20 (dk_at dksJ16_init_2_0 17 rfl rfl)
theorem dJ16_init_2_20 : decode cJ16_init_2 20 = .ok (.putfield 24, 3) := dk_181 0 24 (dk_at dksJ16_init_2_0 20 rfl rfl)
theorem dJ16_init_2_23 : decode cJ16_init_2 23 = .ok (.iload 4, 2) := dk_21 4 (dk_at dksJ16_init_2_1 0 rfl rfl)
theorem dJ16_init_2_25 : decode cJ16_init_2 25 = .ok (.ifCond .eq 11, 3) := dk_153 0 11 (dk_at dksJ16_init_2_1 2 rfl rfl)
theorem dJ16_init_2_28 : decode cJ16_init_2 28 = .ok (.aload_n 0, 1) := dk_42 (dk_at dksJ16_init_2_1 5 rfl rfl)
theorem dJ16_init_2_29 : decode cJ16_init_2 29 = .ok (.invokevirtual 27, 3) := dk_182 0 27 (dk_at dksJ16_init_2_1 6 rfl rfl)
theorem dJ16_init_2_32 : decode cJ16_init_2 32 = .ok (.pop, 1) := dk_87 (dk_at dksJ16_init_2_1 9 rfl rfl)
theorem dJ16_init_2_33 : decode cJ16_init_2 33 = .ok (.goto 8, 3) := dk_167 0 8 (dk_at dksJ16_init_2_1 10 rfl rfl)
theorem dJ16_init_2_36 : decode cJ16_init_2 36 = .ok (.aload_n 0, 1) := dk_42 (dk_at dksJ16_init_2_1 13 rfl rfl)
theorem dJ16_init_2_37 : decode cJ16_init_2 37 = .ok (.aconst_null, 1) := dk_1 (dk_at dksJ16_init_2_1 14 rfl rfl)
theorem dJ16_init_2_38 : decode cJ16_init_2 38 = .ok (.putfield 17, 3) := dk_181 0 17 (dk_at dksJ16_init_2_1 15 rfl rfl)
theorem dJ16_init_2_41 : decode cJ16_init_2 41 = .ok (.aload_n 0, 1) := dk_42 (dk_at dksJ16_init_2_1 18 rfl rfl)
theorem dJ16_init_2_42 : decode cJ16_init_2 42 = .ok (.aload_n 1, 1) := dk_43 (dk_at dksJ16_init_2_1 19 rfl rfl)
theorem dJ16_init_2_43 : decode cJ16_init_2 43 = .ok (.putfield 31, 3) := dk_181 0 31 (dk_at dksJ16_init_2_1 20 rfl rfl)
theorem dJ16_init_2_46 : decode cJ16_init_2 46 = .ok (.aload_n 0, 1) := dk_42 (dk_at dksJ16_init_2_1 23 rfl rfl)
theorem dJ16_init_2_47 : decode cJ16_init_2 47 = .ok (.aload_n 2, 1) := dk_44 (dk_at dksJ16_init_2_2 0 rfl rfl)
theorem dJ16_init_2_48 : decode cJ16_init_2 48 = .ok (.putfield 7, 3) := dk_181 0 7 (dk_at dksJ16_init_2_2 1 rfl rfl)
theorem dJ16_init_2_51 : decode cJ16_init_2 51 = .ok (.iload_n 3, 1) := dk_29 (dk_at dksJ16_init_2_2 4 rfl rfl)
theorem dJ16_init_2_52 : decode cJ16_init_2 52 = .ok (.ifCond .ne 8, 3) := dk_154 0 8 (dk_at dksJ16_init_2_2 5 rfl rfl)
theorem dJ16_init_2_55 : decode cJ16_init_2 55 = .ok (.aload_n 0, 1) := dk_42 (dk_at dksJ16_init_2_2 8 rfl rfl)
theorem dJ16_init_2_56 : decode cJ16_init_2 56 = .ok (.aconst_null, 1) := dk_1 (dk_at dksJ16_init_2_2 9 rfl rfl)
theorem dJ16_init_2_57 : decode cJ16_init_2 57 = .ok (.putfield 24, 3) := dk_181 0 24 (dk_at dksJ16_init_2_2 10 rfl rfl)
theorem dJ16_init_2_60 : decode cJ16_init_2 60 = .ok (.return_, 1) := dk_177 (dk_at dksJ16_init_2_2 13 rfl rfl)
def dkwJ17_init_0 : List UInt8 := [42, 43, 44, 29, 21, 4, 183, 0, 16, 177]
abbrev dktJ17_init_0 : List UInt8 := dkwJ17_init_0 ++ []
theorem dksJ17_init_0 : cJ17_init.data.toList.drop 0 = dktJ17_init_0 := by decide +kernel
theorem dJ17_init_0 : decode cJ17_init 0 = .ok (.aload_n 0, 1) := dk_42 (dk_at dksJ17_init_0 0 rfl rfl)
theorem dJ17_init_1 : decode cJ17_init 1 = .ok (.aload_n 1, 1) := dk_43 (dk_at dksJ17_init_0 1 rfl rfl)
theorem dJ17_init_2 : decode cJ17_init 2 = .ok (.aload_n 2, 1) := dk_44 (dk_at dksJ17_init_0 2 rfl rfl)
theorem dJ17_init_3 : decode cJ17_init 3 = .ok (.iload_n 3, 1) := dk_29 (dk_at dksJ17_init_0 3 rfl rfl)
theorem dJ17_init_4 : decode cJ17_init 4 = .ok (.iload 4, 2) := dk_21 4 (dk_at dksJ17_init_0 4 rfl rfl)
theorem dJ17_init_6 : decode cJ17_init 6 = .ok (.invokespecial 16, 3) := dk_183 0 16 (dk_at dksJ17_init_0 6 rfl rfl)
theorem dJ17_init_9 : decode cJ17_init 9 = .ok (.return_, 1) := dk_177 (dk_at dksJ17_init_0 9 rfl rfl)
