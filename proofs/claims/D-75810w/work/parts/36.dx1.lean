set_option maxRecDepth 100000
def dkwX1_init_2 : List UInt8 := [183, 0, 33, 181, 0, 34, 177]
abbrev dktX1_init_2 : List UInt8 := dkwX1_init_2 ++ []
def dkwX1_init_1 : List UInt8 := [181, 0, 19, 42, 17, 3, 132, 188, 8, 181, 0, 23, 42, 2, 181, 0, 27, 42, 187, 0, 31, 89]
abbrev dktX1_init_1 : List UInt8 := dkwX1_init_1 ++ dktX1_init_2
def dkwX1_init_0 : List UInt8 := [42, 183, 0, 1, 42, 187, 0, 7, 89, 183, 0, 9, 181, 0, 10, 42, 187, 0, 16, 89, 183, 0, 18]
abbrev dktX1_init_0 : List UInt8 := dkwX1_init_0 ++ dktX1_init_1
theorem dksX1_init_0 : cX1_init.data.toList.drop 0 = dktX1_init_0 := by decide +kernel
theorem dksX1_init_1 : cX1_init.data.toList.drop 23 = dktX1_init_1 := dk_seg dksX1_init_0 23 rfl rfl
theorem dksX1_init_2 : cX1_init.data.toList.drop 45 = dktX1_init_2 := dk_seg dksX1_init_1 22 rfl rfl
theorem dX1_init_0 : decode cX1_init 0 = .ok (.aload_n 0, 1) := dk_42 (dk_at dksX1_init_0 0 rfl rfl)
theorem dX1_init_1 : decode cX1_init 1 = .ok (.invokespecial 1, 3) := dk_183 0 1 (dk_at dksX1_init_0 1 rfl rfl)
theorem dX1_init_4 : decode cX1_init 4 = .ok (.aload_n 0, 1) := dk_42 (dk_at dksX1_init_0 4 rfl rfl)
theorem dX1_init_5 : decode cX1_init 5 = .ok (.new 7, 3) := dk_187 0 7 (dk_at dksX1_init_0 5 rfl rfl)
theorem dX1_init_8 : decode cX1_init 8 = .ok (.dup, 1) := dk_89 (dk_at dksX1_init_0 8 rfl rfl)
theorem dX1_init_9 : decode cX1_init 9 = .ok (.invokespecial 9, 3) := dk_183 0 9 (dk_at dksX1_init_0 9 rfl rfl)
theorem dX1_init_12 : decode cX1_init 12 = .ok (.putfield 10, 3) := dk_181 0 10 (dk_at dksX1_init_0 12 rfl rfl)
theorem dX1_init_15 : decode cX1_init 15 = .ok (.aload_n 0, 1) := dk_42 (dk_at dksX1_init_0 15 rfl rfl)
theorem dX1_init_16 : decode cX1_init 16 = .ok (.new 16, 3) := dk_187 0 16 (dk_at dksX1_init_0 16 rfl rfl)
theorem dX1_init_19 : decode cX1_init 19 = .ok (.dup, 1) := dk_89 (dk_at dksX1_init_0 19 rfl rfl)
theorem dX1_init_20 : decode cX1_init 20 = .ok (.invokespecial 18, 3) := dk_183 0 18 (dk_at dksX1_init_0 20 rfl rfl)
theorem dX1_init_23 : decode cX1_init 23 = .ok (.putfield 19, 3) := dk_181 0 19 (dk_at dksX1_init_1 0 rfl rfl)
theorem dX1_init_26 : decode cX1_init 26 = .ok (.aload_n 0, 1) := dk_42 (dk_at dksX1_init_1 3 rfl rfl)
theorem dX1_init_27 : decode cX1_init 27 = .ok (.sipush 900, 3) := dk_17 3 132 (dk_at dksX1_init_1 4 rfl rfl)
theorem dX1_init_30 : decode cX1_init 30 = .ok (.newarray .byte, 2) := dk_188_8 (dk_at dksX1_init_1 7 rfl rfl)
theorem dX1_init_32 : decode cX1_init 32 = .ok (.putfield 23, 3) := dk_181 0 23 (dk_at dksX1_init_1 9 rfl rfl)
theorem dX1_init_35 : decode cX1_init 35 = .ok (.aload_n 0, 1) := dk_42 (dk_at dksX1_init_1 12 rfl rfl)
theorem dX1_init_36 : decode cX1_init 36 = .ok (.iconst (-1), 1) := dk_2 (dk_at dksX1_init_1 13 rfl rfl)
theorem dX1_init_37 : decode cX1_init 37 = .ok (.putfield 27, 3) := dk_181 0 27 (dk_at dksX1_init_1 14 rfl rfl)
theorem dX1_init_40 : decode cX1_init 40 = .ok (.aload_n 0, 1) := dk_42 (dk_at dksX1_init_1 17 rfl rfl)
theorem dX1_init_41 : decode cX1_init 41 = .ok (.new 31, 3) := dk_187 0 31 (dk_at dksX1_init_1 18 rfl rfl)
theorem dX1_init_44 : decode cX1_init 44 = .ok (.dup, 1) := dk_89 (dk_at dksX1_init_1 21 rfl rfl)
theorem dX1_init_45 : decode cX1_init 45 = .ok (.invokespecial 33, 3) := dk_183 0 33 (dk_at dksX1_init_2 0 rfl rfl)
theorem dX1_init_48 : decode cX1_init 48 = .ok (.putfield 34, 3) := dk_181 0 34 (dk_at dksX1_init_2 3 rfl rfl)
theorem dX1_init_51 : decode cX1_init 51 = .ok (.return_, 1) := dk_177 (dk_at dksX1_init_2 6 rfl rfl)
def dkwX1_undo_1 : List UInt8 := [181, 0, 10, 42, 180, 0, 19, 182, 0, 47, 172]
abbrev dktX1_undo_1 : List UInt8 := dkwX1_undo_1 ++ []
def dkwX1_undo_0 : List UInt8 := [42, 180, 0, 19, 182, 0, 63, 153, 0, 5, 2, 172, 42, 42, 180, 0, 19, 182, 0, 67, 192, 0, 7]
abbrev dktX1_undo_0 : List UInt8 := dkwX1_undo_0 ++ dktX1_undo_1
theorem dksX1_undo_0 : cX1_undo.data.toList.drop 0 = dktX1_undo_0 := by decide +kernel
theorem dksX1_undo_1 : cX1_undo.data.toList.drop 23 = dktX1_undo_1 := dk_seg dksX1_undo_0 23 rfl rfl
theorem dX1_undo_0 : decode cX1_undo 0 = .ok (.aload_n 0, 1) := dk_42 (dk_at dksX1_undo_0 0 rfl rfl)
theorem dX1_undo_1 : decode cX1_undo 1 = .ok (.getfield 19, 3) := dk_180 0 19 (dk_at dksX1_undo_0 1 rfl rfl)
theorem dX1_undo_4 : decode cX1_undo 4 = .ok (.invokevirtual 63, 3) := dk_182 0 63 (dk_at dksX1_undo_0 4 rfl rfl)
theorem dX1_undo_7 : decode cX1_undo 7 = .ok (.ifCond .eq 5, 3) := dk_153 0 5 (dk_at dksX1_undo_0 7 rfl rfl)
theorem dX1_undo_10 : decode cX1_undo 10 = .ok (.iconst (-1), 1) := dk_2 (dk_at dksX1_undo_0 10 rfl rfl)
theorem dX1_undo_11 : decode cX1_undo 11 = .ok (.ireturn, 1) := dk_172 (dk_at dksX1_undo_0 11 rfl rfl)
theorem dX1_undo_12 : decode cX1_undo 12 = .ok (.aload_n 0, 1) := dk_42 (dk_at dksX1_undo_0 12 rfl rfl)
theorem dX1_undo_13 : decode cX1_undo 13 = .ok (.aload_n 0, 1) := dk_42 (dk_at dksX1_undo_0 13 rfl rfl)
theorem dX1_undo_14 : decode cX1_undo 14 = .ok (.getfield 19, 3) := dk_180 0 19 (dk_at dksX1_undo_0 14 rfl rfl)
theorem dX1_undo_17 : decode cX1_undo 17 = .ok (.invokevirtual 67, 3) := dk_182 0 67 (dk_at dksX1_undo_0 17 rfl rfl)
theorem dX1_undo_20 : decode cX1_undo 20 = .ok (.checkcast 7, 3) := dk_192 0 7 (dk_at dksX1_undo_0 20 rfl rfl)
theorem dX1_undo_23 : decode cX1_undo 23 = .ok (.putfield 10, 3) := dk_181 0 10 (dk_at dksX1_undo_1 0 rfl rfl)
theorem dX1_undo_26 : decode cX1_undo 26 = .ok (.aload_n 0, 1) := dk_42 (dk_at dksX1_undo_1 3 rfl rfl)
theorem dX1_undo_27 : decode cX1_undo 27 = .ok (.getfield 19, 3) := dk_180 0 19 (dk_at dksX1_undo_1 4 rfl rfl)
theorem dX1_undo_30 : decode cX1_undo 30 = .ok (.invokevirtual 47, 3) := dk_182 0 47 (dk_at dksX1_undo_1 7 rfl rfl)
theorem dX1_undo_33 : decode cX1_undo 33 = .ok (.ireturn, 1) := dk_172 (dk_at dksX1_undo_1 10 rfl rfl)
def dkwX1_undoCount_0 : List UInt8 := [42, 180, 0, 19, 182, 0, 47, 172]
abbrev dktX1_undoCount_0 : List UInt8 := dkwX1_undoCount_0 ++ []
theorem dksX1_undoCount_0 : cX1_undoCount.data.toList.drop 0 = dktX1_undoCount_0 := by decide +kernel
theorem dX1_undoCount_0 : decode cX1_undoCount 0 = .ok (.aload_n 0, 1) := dk_42 (dk_at dksX1_undoCount_0 0 rfl rfl)
theorem dX1_undoCount_1 : decode cX1_undoCount 1 = .ok (.getfield 19, 3) := dk_180 0 19 (dk_at dksX1_undoCount_0 1 rfl rfl)
theorem dX1_undoCount_4 : decode cX1_undoCount 4 = .ok (.invokevirtual 47, 3) := dk_182 0 47 (dk_at dksX1_undoCount_0 4 rfl rfl)
theorem dX1_undoCount_7 : decode cX1_undoCount 7 = .ok (.ireturn, 1) := dk_172 (dk_at dksX1_undoCount_0 7 rfl rfl)
def dkwX1_feed_4 : List UInt8 := [96, 181, 0, 70, 132, 10, 248, 167, 255, 223, 132, 8, 1, 167, 255, 199, 42, 180, 0, 70, 172]
abbrev dktX1_feed_4 : List UInt8 := dkwX1_feed_4 ++ []
def dkwX1_feed_3 : List UInt8 := [155, 0, 34, 42, 180, 0, 23, 42, 180, 0, 70, 21, 9, 21, 10, 124, 145, 84, 42, 89, 180, 0, 70, 4]
abbrev dktX1_feed_3 : List UInt8 := dkwX1_feed_3 ++ dktX1_feed_4
def dkwX1_feed_2 : List UInt8 := [3, 54, 8, 21, 8, 21, 7, 162, 0, 56, 25, 6, 21, 8, 46, 54, 9, 16, 24, 54, 10, 21, 10]
abbrev dktX1_feed_2 : List UInt8 := dkwX1_feed_2 ++ dktX1_feed_3
def dkwX1_feed_1 : List UInt8 := [4, 28, 79, 89, 5, 29, 79, 89, 6, 21, 4, 79, 89, 7, 21, 5, 79, 58, 6, 25, 6, 190, 54, 7]
abbrev dktX1_feed_1 : List UInt8 := dkwX1_feed_1 ++ dktX1_feed_2
def dkwX1_feed_0 : List UInt8 := [42, 180, 0, 70, 16, 20, 96, 17, 3, 132, 164, 0, 6, 16, 253, 172, 8, 188, 10, 89, 3, 27, 79, 89]
abbrev dktX1_feed_0 : List UInt8 := dkwX1_feed_0 ++ dktX1_feed_1
theorem dksX1_feed_0 : cX1_feed.data.toList.drop 0 = dktX1_feed_0 := by decide +kernel
theorem dksX1_feed_1 : cX1_feed.data.toList.drop 24 = dktX1_feed_1 := dk_seg dksX1_feed_0 24 rfl rfl
theorem dksX1_feed_2 : cX1_feed.data.toList.drop 48 = dktX1_feed_2 := dk_seg dksX1_feed_1 24 rfl rfl
theorem dksX1_feed_3 : cX1_feed.data.toList.drop 71 = dktX1_feed_3 := dk_seg dksX1_feed_2 23 rfl rfl
theorem dksX1_feed_4 : cX1_feed.data.toList.drop 95 = dktX1_feed_4 := dk_seg dksX1_feed_3 24 rfl rfl
theorem dX1_feed_0 : decode cX1_feed 0 = .ok (.aload_n 0, 1) := dk_42 (dk_at dksX1_feed_0 0 rfl rfl)
theorem dX1_feed_1 : decode cX1_feed 1 = .ok (.getfield 70, 3) := dk_180 0 70 (dk_at dksX1_feed_0 1 rfl rfl)
theorem dX1_feed_4 : decode cX1_feed 4 = .ok (.bipush 20, 2) := dk_16 20 (dk_at dksX1_feed_0 4 rfl rfl)
theorem dX1_feed_6 : decode cX1_feed 6 = .ok (.iadd, 1) := dk_96 (dk_at dksX1_feed_0 6 rfl rfl)
theorem dX1_feed_7 : decode cX1_feed 7 = .ok (.sipush 900, 3) := dk_17 3 132 (dk_at dksX1_feed_0 7 rfl rfl)
theorem dX1_feed_10 : decode cX1_feed 10 = .ok (.if_icmp .le 6, 3) := dk_164 0 6 (dk_at dksX1_feed_0 10 rfl rfl)
theorem dX1_feed_13 : decode cX1_feed 13 = .ok (.bipush (-3), 2) := dk_16 253 (dk_at dksX1_feed_0 13 rfl rfl)
theorem dX1_feed_15 : decode cX1_feed 15 = .ok (.ireturn, 1) := dk_172 (dk_at dksX1_feed_0 15 rfl rfl)
theorem dX1_feed_16 : decode cX1_feed 16 = .ok (.iconst 5, 1) := dk_8 (dk_at dksX1_feed_0 16 rfl rfl)
theorem dX1_feed_17 : decode cX1_feed 17 = .ok (.newarray .int, 2) := dk_188_10 (dk_at dksX1_feed_0 17 rfl rfl)
theorem dX1_feed_19 : decode cX1_feed 19 = .ok (.dup, 1) := dk_89 (dk_at dksX1_feed_0 19 rfl rfl)
theorem dX1_feed_20 : decode cX1_feed 20 = .ok (.iconst 0, 1) := dk_3 (dk_at dksX1_feed_0 20 rfl rfl)
theorem dX1_feed_21 : decode cX1_feed 21 = .ok (.iload_n 1, 1) := dk_27 (dk_at dksX1_feed_0 21 rfl rfl)
theorem dX1_feed_22 : decode cX1_feed 22 = .ok (.iastore, 1) := dk_79 (dk_at dksX1_feed_0 22 rfl rfl)
theorem dX1_feed_23 : decode cX1_feed 23 = .ok (.dup, 1) := dk_89 (dk_at dksX1_feed_0 23 rfl rfl)
theorem dX1_feed_24 : decode cX1_feed 24 = .ok (.iconst 1, 1) := dk_4 (dk_at dksX1_feed_1 0 rfl rfl)
theorem dX1_feed_25 : decode cX1_feed 25 = .ok (.iload_n 2, 1) := dk_28 (dk_at dksX1_feed_1 1 rfl rfl)
theorem dX1_feed_26 : decode cX1_feed 26 = .ok (.iastore, 1) := dk_79 (dk_at dksX1_feed_1 2 rfl rfl)
theorem dX1_feed_27 : decode cX1_feed 27 = .ok (.dup, 1) := dk_89 (dk_at dksX1_feed_1 3 rfl rfl)
theorem dX1_feed_28 : decode cX1_feed 28 = .ok (.iconst 2, 1) := dk_5 (dk_at dksX1_feed_1 4 rfl rfl)
theorem dX1_feed_29 : decode cX1_feed 29 = .ok (.iload_n 3, 1) := dk_29 (dk_at dksX1_feed_1 5 rfl rfl)
theorem dX1_feed_30 : decode cX1_feed 30 = .ok (.iastore, 1) := dk_79 (dk_at dksX1_feed_1 6 rfl rfl)
theorem dX1_feed_31 : decode cX1_feed 31 = .ok (.dup, 1) := dk_89 (dk_at dksX1_feed_1 7 rfl rfl)
theorem dX1_feed_32 : decode cX1_feed 32 = .ok (.iconst 3, 1) := dk_6 (dk_at dksX1_feed_1 8 rfl rfl)
theorem dX1_feed_33 : decode cX1_feed 33 = .ok (.iload 4, 2) := dk_21 4 (dk_at dksX1_feed_1 9 rfl rfl)
theorem dX1_feed_35 : decode cX1_feed 35 = .ok (.iastore, 1) := dk_79 (dk_at dksX1_feed_1 11 rfl rfl)
theorem dX1_feed_36 : decode cX1_feed 36 = .ok (.dup, 1) := dk_89 (dk_at dksX1_feed_1 12 rfl rfl)
theorem dX1_feed_37 : decode cX1_feed 37 = .ok (.iconst 4, 1) := dk_7 (dk_at dksX1_feed_1 13 rfl rfl)
theorem dX1_feed_38 : decode cX1_feed 38 = .ok (.iload 5, 2) := dk_21 5 (dk_at dksX1_feed_1 14 rfl rfl)
theorem dX1_feed_40 : decode cX1_feed 40 = .ok (.iastore, 1) := dk_79 (dk_at dksX1_feed_1 16 rfl rfl)
theorem dX1_feed_41 : decode cX1_feed 41 = .ok (.astore 6, 2) := dk_58 6 (dk_at dksX1_feed_1 17 rfl rfl)
theorem dX1_feed_43 : decode cX1_feed 43 = .ok (.aload 6, 2) := dk_25 6 (dk_at dksX1_feed_1 19 rfl rfl)
theorem dX1_feed_45 : decode cX1_feed 45 = .ok (.arraylength, 1) := dk_190 (dk_at dksX1_feed_1 21 rfl rfl)
theorem dX1_feed_46 : decode cX1_feed 46 = .ok (.istore 7, 2) := dk_54 7 (dk_at dksX1_feed_1 22 rfl rfl)
theorem dX1_feed_48 : decode cX1_feed 48 = .ok (.iconst 0, 1) := dk_3 (dk_at dksX1_feed_2 0 rfl rfl)
theorem dX1_feed_49 : decode cX1_feed 49 = .ok (.istore 8, 2) := dk_54 8 (dk_at dksX1_feed_2 1 rfl rfl)
theorem dX1_feed_51 : decode cX1_feed 51 = .ok (.iload 8, 2) := dk_21 8 (dk_at dksX1_feed_2 3 rfl rfl)
theorem dX1_feed_53 : decode cX1_feed 53 = .ok (.iload 7, 2) := dk_21 7 (dk_at dksX1_feed_2 5 rfl rfl)
theorem dX1_feed_55 : decode cX1_feed 55 = .ok (.if_icmp .ge 56, 3) := dk_162 0 56 (dk_at dksX1_feed_2 7 rfl rfl)
theorem dX1_feed_58 : decode cX1_feed 58 = .ok (.aload 6, 2) := dk_25 6 (dk_at dksX1_feed_2 10 rfl rfl)
theorem dX1_feed_60 : decode cX1_feed 60 = .ok (.iload 8, 2) := dk_21 8 (dk_at dksX1_feed_2 12 rfl rfl)
theorem dX1_feed_62 : decode cX1_feed 62 = .ok (.iaload, 1) := dk_46 (dk_at dksX1_feed_2 14 rfl rfl)
theorem dX1_feed_63 : decode cX1_feed 63 = .ok (.istore 9, 2) := dk_54 9 (dk_at dksX1_feed_2 15 rfl rfl)
theorem dX1_feed_65 : decode cX1_feed 65 = .ok (.bipush 24, 2) := dk_16 24 (dk_at dksX1_feed_2 17 rfl rfl)
theorem dX1_feed_67 : decode cX1_feed 67 = .ok (.istore 10, 2) := dk_54 10 (dk_at dksX1_feed_2 19 rfl rfl)
theorem dX1_feed_69 : decode cX1_feed 69 = .ok (.iload 10, 2) := dk_21 10 (dk_at dksX1_feed_2 21 rfl rfl)
theorem dX1_feed_71 : decode cX1_feed 71 = .ok (.ifCond .lt 34, 3) := dk_155 0 34 (dk_at dksX1_feed_3 0 rfl rfl)
theorem dX1_feed_74 : decode cX1_feed 74 = .ok (.aload_n 0, 1) := dk_42 (dk_at dksX1_feed_3 3 rfl rfl)
theorem dX1_feed_75 : decode cX1_feed 75 = .ok (.getfield 23, 3) := dk_180 0 23 (dk_at dksX1_feed_3 4 rfl rfl)
theorem dX1_feed_78 : decode cX1_feed 78 = .ok (.aload_n 0, 1) := dk_42 (dk_at dksX1_feed_3 7 rfl rfl)
theorem dX1_feed_79 : decode cX1_feed 79 = .ok (.getfield 70, 3) := dk_180 0 70 (dk_at dksX1_feed_3 8 rfl rfl)
theorem dX1_feed_82 : decode cX1_feed 82 = .ok (.iload 9, 2) := dk_21 9 (dk_at dksX1_feed_3 11 rfl rfl)
theorem dX1_feed_84 : decode cX1_feed 84 = .ok (.iload 10, 2) := dk_21 10 (dk_at dksX1_feed_3 13 rfl rfl)
theorem dX1_feed_86 : decode cX1_feed 86 = .ok (.iushr, 1) := dk_124 (dk_at dksX1_feed_3 15 rfl rfl)
theorem dX1_feed_87 : decode cX1_feed 87 = .ok (.i2b, 1) := dk_145 (dk_at dksX1_feed_3 16 rfl rfl)
theorem dX1_feed_88 : decode cX1_feed 88 = .ok (.bastore, 1) := dk_84 (dk_at dksX1_feed_3 17 rfl rfl)
theorem dX1_feed_89 : decode cX1_feed 89 = .ok (.aload_n 0, 1) := dk_42 (dk_at dksX1_feed_3 18 rfl rfl)
theorem dX1_feed_90 : decode cX1_feed 90 = .ok (.dup, 1) := dk_89 (dk_at dksX1_feed_3 19 rfl rfl)
theorem dX1_feed_91 : decode cX1_feed 91 = .ok (.getfield 70, 3) := dk_180 0 70 (dk_at dksX1_feed_3 20 rfl rfl)
theorem dX1_feed_94 : decode cX1_feed 94 = .ok (.iconst 1, 1) := dk_4 (dk_at dksX1_feed_3 23 rfl rfl)
theorem dX1_feed_95 : decode cX1_feed 95 = .ok (.iadd, 1) := dk_96 (dk_at dksX1_feed_4 0 rfl rfl)
theorem dX1_feed_96 : decode cX1_feed 96 = .ok (.putfield 70, 3) := dk_181 0 70 (dk_at dksX1_feed_4 1 rfl rfl)
theorem dX1_feed_99 : decode cX1_feed 99 = .ok (.iinc 10 (-8), 3) := dk_132 10 248 (dk_at dksX1_feed_4 4 rfl rfl)
theorem dX1_feed_102 : decode cX1_feed 102 = .ok (.goto (-33), 3) := dk_167 255 223 (dk_at dksX1_feed_4 7 rfl rfl)
theorem dX1_feed_105 : decode cX1_feed 105 = .ok (.iinc 8 1, 3) := dk_132 8 1 (dk_at dksX1_feed_4 10 rfl rfl)
theorem dX1_feed_108 : decode cX1_feed 108 = .ok (.goto (-57), 3) := dk_167 255 199 (dk_at dksX1_feed_4 13 rfl rfl)
theorem dX1_feed_111 : decode cX1_feed 111 = .ok (.aload_n 0, 1) := dk_42 (dk_at dksX1_feed_4 16 rfl rfl)
theorem dX1_feed_112 : decode cX1_feed 112 = .ok (.getfield 70, 3) := dk_180 0 70 (dk_at dksX1_feed_4 17 rfl rfl)
theorem dX1_feed_115 : decode cX1_feed 115 = .ok (.ireturn, 1) := dk_172 (dk_at dksX1_feed_4 20 rfl rfl)
theorem dX1_errorPosition_0 : decode cX1_errorPosition 0 = .ok (.aload_n 0, 1) := by decide +kernel
theorem dX1_errorPosition_1 : decode cX1_errorPosition 1 = .ok (.getfield 27, 3) := by decide +kernel
theorem dX1_errorPosition_4 : decode cX1_errorPosition 4 = .ok (.ireturn, 1) := by decide +kernel
def dkwX1_count_4 : List UInt8 := [172]
abbrev dktX1_count_4 : List UInt8 := dkwX1_count_4 ++ []
def dkwX1_count_3 : List UInt8 := [180, 0, 121, 182, 0, 125, 167, 0, 18, 42, 180, 0, 10, 180, 0, 128, 182, 0, 99, 167, 0, 5, 16, 254]
abbrev dktX1_count_3 : List UInt8 := dkwX1_count_3 ++ dktX1_count_4
def dkwX1_count_2 : List UInt8 := [42, 182, 0, 102, 167, 0, 44, 42, 180, 0, 10, 180, 0, 112, 182, 0, 99, 167, 0, 31, 42, 180, 0, 10]
abbrev dktX1_count_2 : List UInt8 := dkwX1_count_2 ++ dktX1_count_3
def dkwX1_count_1 : List UInt8 := [170, 0, 0, 0, 0, 0, 77, 0, 0, 0, 0, 0, 0, 0, 3, 0, 0, 0, 31, 0, 0, 0, 38, 0, 0, 0, 51, 0, 0, 0, 64]
abbrev dktX1_count_1 : List UInt8 := dkwX1_count_1 ++ dktX1_count_2
def dkwX1_count_0 : List UInt8 := [27]
abbrev dktX1_count_0 : List UInt8 := dkwX1_count_0 ++ dktX1_count_1
theorem dksX1_count_0 : cX1_count.data.toList.drop 0 = dktX1_count_0 := by decide +kernel
theorem dksX1_count_1 : cX1_count.data.toList.drop 1 = dktX1_count_1 := dk_seg dksX1_count_0 1 rfl rfl
theorem dksX1_count_2 : cX1_count.data.toList.drop 32 = dktX1_count_2 := dk_seg dksX1_count_1 31 rfl rfl
theorem dksX1_count_3 : cX1_count.data.toList.drop 56 = dktX1_count_3 := dk_seg dksX1_count_2 24 rfl rfl
theorem dksX1_count_4 : cX1_count.data.toList.drop 80 = dktX1_count_4 := dk_seg dksX1_count_3 24 rfl rfl
theorem dX1_count_0 : decode cX1_count 0 = .ok (.iload_n 1, 1) := dk_27 (dk_at dksX1_count_0 0 rfl rfl)
theorem dX1_count_1 : decode cX1_count 1 = .ok (.tableswitch 77 0 3 #[31, 38, 51, 64], 31) := by decide +kernel
theorem dX1_count_32 : decode cX1_count 32 = .ok (.aload_n 0, 1) := dk_42 (dk_at dksX1_count_2 0 rfl rfl)
theorem dX1_count_33 : decode cX1_count 33 = .ok (.invokevirtual 102, 3) := dk_182 0 102 (dk_at dksX1_count_2 1 rfl rfl)
theorem dX1_count_36 : decode cX1_count 36 = .ok (.goto 44, 3) := dk_167 0 44 (dk_at dksX1_count_2 4 rfl rfl)
theorem dX1_count_39 : decode cX1_count 39 = .ok (.aload_n 0, 1) := dk_42 (dk_at dksX1_count_2 7 rfl rfl)
theorem dX1_count_40 : decode cX1_count 40 = .ok (.getfield 10, 3) := dk_180 0 10 (dk_at dksX1_count_2 8 rfl rfl)
theorem dX1_count_43 : decode cX1_count 43 = .ok (.getfield 112, 3) := dk_180 0 112 (dk_at dksX1_count_2 11 rfl rfl)
theorem dX1_count_46 : decode cX1_count 46 = .ok (.invokevirtual 99, 3) := dk_182 0 99 (dk_at dksX1_count_2 14 rfl rfl)
theorem dX1_count_49 : decode cX1_count 49 = .ok (.goto 31, 3) := dk_167 0 31 (dk_at dksX1_count_2 17 rfl rfl)
theorem dX1_count_52 : decode cX1_count 52 = .ok (.aload_n 0, 1) := dk_42 (dk_at dksX1_count_2 20 rfl rfl)
theorem dX1_count_53 : decode cX1_count 53 = .ok (.getfield 10, 3) := dk_180 0 10 (dk_at dksX1_count_2 21 rfl rfl)
theorem dX1_count_56 : decode cX1_count 56 = .ok (.getfield 121, 3) := dk_180 0 121 (dk_at dksX1_count_3 0 rfl rfl)
theorem dX1_count_59 : decode cX1_count 59 = .ok (.invokevirtual 125, 3) := dk_182 0 125 (dk_at dksX1_count_3 3 rfl rfl)
theorem dX1_count_62 : decode cX1_count 62 = .ok (.goto 18, 3) := dk_167 0 18 (dk_at dksX1_count_3 6 rfl rfl)
theorem dX1_count_65 : decode cX1_count 65 = .ok (.aload_n 0, 1) := dk_42 (dk_at dksX1_count_3 9 rfl rfl)
theorem dX1_count_66 : decode cX1_count 66 = .ok (.getfield 10, 3) := dk_180 0 10 (dk_at dksX1_count_3 10 rfl rfl)
theorem dX1_count_69 : decode cX1_count 69 = .ok (.getfield 128, 3) := dk_180 0 128 (dk_at dksX1_count_3 13 rfl rfl)
theorem dX1_count_72 : decode cX1_count 72 = .ok (.invokevirtual 99, 3) := dk_182 0 99 (dk_at dksX1_count_3 16 rfl rfl)
theorem dX1_count_75 : decode cX1_count 75 = .ok (.goto 5, 3) := dk_167 0 5 (dk_at dksX1_count_3 19 rfl rfl)
theorem dX1_count_78 : decode cX1_count 78 = .ok (.bipush (-2), 2) := dk_16 254 (dk_at dksX1_count_3 22 rfl rfl)
theorem dX1_count_80 : decode cX1_count 80 = .ok (.ireturn, 1) := dk_172 (dk_at dksX1_count_4 0 rfl rfl)
def dkwX1_members_0 : List UInt8 := [42, 180, 0, 10, 180, 0, 95, 182, 0, 99, 172]
abbrev dktX1_members_0 : List UInt8 := dkwX1_members_0 ++ []
theorem dksX1_members_0 : cX1_members.data.toList.drop 0 = dktX1_members_0 := by decide +kernel
theorem dX1_members_0 : decode cX1_members 0 = .ok (.aload_n 0, 1) := dk_42 (dk_at dksX1_members_0 0 rfl rfl)
theorem dX1_members_1 : decode cX1_members 1 = .ok (.getfield 10, 3) := dk_180 0 10 (dk_at dksX1_members_0 1 rfl rfl)
theorem dX1_members_4 : decode cX1_members 4 = .ok (.getfield 95, 3) := dk_180 0 95 (dk_at dksX1_members_0 4 rfl rfl)
theorem dX1_members_7 : decode cX1_members 7 = .ok (.invokevirtual 99, 3) := dk_182 0 99 (dk_at dksX1_members_0 7 rfl rfl)
theorem dX1_members_10 : decode cX1_members 10 = .ok (.ireturn, 1) := dk_172 (dk_at dksX1_members_0 10 rfl rfl)
def dkwX1_memberNamed_1 : List UInt8 := [180, 0, 131, 27, 160, 0, 5, 28, 172, 132, 2, 1, 167, 255, 224, 2, 172]
abbrev dktX1_memberNamed_1 : List UInt8 := dkwX1_memberNamed_1 ++ []
def dkwX1_memberNamed_0 : List UInt8 := [3, 61, 28, 42, 182, 0, 102, 162, 0, 30, 27, 153, 0, 20, 42, 180, 0, 10, 28, 182, 0, 108]
abbrev dktX1_memberNamed_0 : List UInt8 := dkwX1_memberNamed_0 ++ dktX1_memberNamed_1
theorem dksX1_memberNamed_0 : cX1_memberNamed.data.toList.drop 0 = dktX1_memberNamed_0 := by decide +kernel
theorem dksX1_memberNamed_1 : cX1_memberNamed.data.toList.drop 22 = dktX1_memberNamed_1 := dk_seg dksX1_memberNamed_0 22 rfl rfl
theorem dX1_memberNamed_0 : decode cX1_memberNamed 0 = .ok (.iconst 0, 1) := dk_3 (dk_at dksX1_memberNamed_0 0 rfl rfl)
theorem dX1_memberNamed_1 : decode cX1_memberNamed 1 = .ok (.istore_n 2, 1) := dk_61 (dk_at dksX1_memberNamed_0 1 rfl rfl)
theorem dX1_memberNamed_2 : decode cX1_memberNamed 2 = .ok (.iload_n 2, 1) := dk_28 (dk_at dksX1_memberNamed_0 2 rfl rfl)
theorem dX1_memberNamed_3 : decode cX1_memberNamed 3 = .ok (.aload_n 0, 1) := dk_42 (dk_at dksX1_memberNamed_0 3 rfl rfl)
theorem dX1_memberNamed_4 : decode cX1_memberNamed 4 = .ok (.invokevirtual 102, 3) := dk_182 0 102 (dk_at dksX1_memberNamed_0 4 rfl rfl)
theorem dX1_memberNamed_7 : decode cX1_memberNamed 7 = .ok (.if_icmp .ge 30, 3) := dk_162 0 30 (dk_at dksX1_memberNamed_0 7 rfl rfl)
theorem dX1_memberNamed_10 : decode cX1_memberNamed 10 = .ok (.iload_n 1, 1) := dk_27 (dk_at dksX1_memberNamed_0 10 rfl rfl)
theorem dX1_memberNamed_11 : decode cX1_memberNamed 11 = .ok (.ifCond .eq 20, 3) := dk_153 0 20 (dk_at dksX1_memberNamed_0 11 rfl rfl)
theorem dX1_memberNamed_14 : decode cX1_memberNamed 14 = .ok (.aload_n 0, 1) := dk_42 (dk_at dksX1_memberNamed_0 14 rfl rfl)
theorem dX1_memberNamed_15 : decode cX1_memberNamed 15 = .ok (.getfield 10, 3) := dk_180 0 10 (dk_at dksX1_memberNamed_0 15 rfl rfl)
theorem dX1_memberNamed_18 : decode cX1_memberNamed 18 = .ok (.iload_n 2, 1) := dk_28 (dk_at dksX1_memberNamed_0 18 rfl rfl)
theorem dX1_memberNamed_19 : decode cX1_memberNamed 19 = .ok (.invokevirtual 108, 3) := dk_182 0 108 (dk_at dksX1_memberNamed_0 19 rfl rfl)
theorem dX1_memberNamed_22 : decode cX1_memberNamed 22 = .ok (.getfield 131, 3) := dk_180 0 131 (dk_at dksX1_memberNamed_1 0 rfl rfl)
theorem dX1_memberNamed_25 : decode cX1_memberNamed 25 = .ok (.iload_n 1, 1) := dk_27 (dk_at dksX1_memberNamed_1 3 rfl rfl)
theorem dX1_memberNamed_26 : decode cX1_memberNamed 26 = .ok (.if_icmp .ne 5, 3) := dk_160 0 5 (dk_at dksX1_memberNamed_1 4 rfl rfl)
theorem dX1_memberNamed_29 : decode cX1_memberNamed 29 = .ok (.iload_n 2, 1) := dk_28 (dk_at dksX1_memberNamed_1 7 rfl rfl)
theorem dX1_memberNamed_30 : decode cX1_memberNamed 30 = .ok (.ireturn, 1) := dk_172 (dk_at dksX1_memberNamed_1 8 rfl rfl)
theorem dX1_memberNamed_31 : decode cX1_memberNamed 31 = .ok (.iinc 2 1, 3) := dk_132 2 1 (dk_at dksX1_memberNamed_1 9 rfl rfl)
theorem dX1_memberNamed_34 : decode cX1_memberNamed 34 = .ok (.goto (-32), 3) := dk_167 255 224 (dk_at dksX1_memberNamed_1 12 rfl rfl)
theorem dX1_memberNamed_37 : decode cX1_memberNamed 37 = .ok (.iconst (-1), 1) := dk_2 (dk_at dksX1_memberNamed_1 15 rfl rfl)
theorem dX1_memberNamed_38 : decode cX1_memberNamed 38 = .ok (.ireturn, 1) := dk_172 (dk_at dksX1_memberNamed_1 16 rfl rfl)
def dkwX1_getSetting_0 : List UInt8 := [27, 184, 0, 158, 153, 0, 15, 42, 180, 0, 10, 180, 0, 162, 27, 46, 167, 0, 5, 16, 254, 172]
abbrev dktX1_getSetting_0 : List UInt8 := dkwX1_getSetting_0 ++ []
theorem dksX1_getSetting_0 : cX1_getSetting.data.toList.drop 0 = dktX1_getSetting_0 := by decide +kernel
theorem dX1_getSetting_0 : decode cX1_getSetting 0 = .ok (.iload_n 1, 1) := dk_27 (dk_at dksX1_getSetting_0 0 rfl rfl)
theorem dX1_getSetting_1 : decode cX1_getSetting 1 = .ok (.invokestatic 158, 3) := dk_184 0 158 (dk_at dksX1_getSetting_0 1 rfl rfl)
theorem dX1_getSetting_4 : decode cX1_getSetting 4 = .ok (.ifCond .eq 15, 3) := dk_153 0 15 (dk_at dksX1_getSetting_0 4 rfl rfl)
theorem dX1_getSetting_7 : decode cX1_getSetting 7 = .ok (.aload_n 0, 1) := dk_42 (dk_at dksX1_getSetting_0 7 rfl rfl)
theorem dX1_getSetting_8 : decode cX1_getSetting 8 = .ok (.getfield 10, 3) := dk_180 0 10 (dk_at dksX1_getSetting_0 8 rfl rfl)
theorem dX1_getSetting_11 : decode cX1_getSetting 11 = .ok (.getfield 162, 3) := dk_180 0 162 (dk_at dksX1_getSetting_0 11 rfl rfl)
theorem dX1_getSetting_14 : decode cX1_getSetting 14 = .ok (.iload_n 1, 1) := dk_27 (dk_at dksX1_getSetting_0 14 rfl rfl)
theorem dX1_getSetting_15 : decode cX1_getSetting 15 = .ok (.iaload, 1) := dk_46 (dk_at dksX1_getSetting_0 15 rfl rfl)
theorem dX1_getSetting_16 : decode cX1_getSetting 16 = .ok (.goto 5, 3) := dk_167 0 5 (dk_at dksX1_getSetting_0 16 rfl rfl)
theorem dX1_getSetting_19 : decode cX1_getSetting 19 = .ok (.bipush (-2), 2) := dk_16 254 (dk_at dksX1_getSetting_0 19 rfl rfl)
theorem dX1_getSetting_21 : decode cX1_getSetting 21 = .ok (.ireturn, 1) := dk_172 (dk_at dksX1_getSetting_0 21 rfl rfl)
def dkwX1_isSetting_0 : List UInt8 := [26, 153, 0, 8, 26, 4, 160, 0, 7, 4, 167, 0, 4, 3, 172]
abbrev dktX1_isSetting_0 : List UInt8 := dkwX1_isSetting_0 ++ []
theorem dksX1_isSetting_0 : cX1_isSetting.data.toList.drop 0 = dktX1_isSetting_0 := by decide +kernel
theorem dX1_isSetting_0 : decode cX1_isSetting 0 = .ok (.iload_n 0, 1) := dk_26 (dk_at dksX1_isSetting_0 0 rfl rfl)
theorem dX1_isSetting_1 : decode cX1_isSetting 1 = .ok (.ifCond .eq 8, 3) := dk_153 0 8 (dk_at dksX1_isSetting_0 1 rfl rfl)
theorem dX1_isSetting_4 : decode cX1_isSetting 4 = .ok (.iload_n 0, 1) := dk_26 (dk_at dksX1_isSetting_0 4 rfl rfl)
theorem dX1_isSetting_5 : decode cX1_isSetting 5 = .ok (.iconst 1, 1) := dk_4 (dk_at dksX1_isSetting_0 5 rfl rfl)
theorem dX1_isSetting_6 : decode cX1_isSetting 6 = .ok (.if_icmp .ne 7, 3) := dk_160 0 7 (dk_at dksX1_isSetting_0 6 rfl rfl)
theorem dX1_isSetting_9 : decode cX1_isSetting 9 = .ok (.iconst 1, 1) := dk_4 (dk_at dksX1_isSetting_0 9 rfl rfl)
theorem dX1_isSetting_10 : decode cX1_isSetting 10 = .ok (.goto 4, 3) := dk_167 0 4 (dk_at dksX1_isSetting_0 10 rfl rfl)
theorem dX1_isSetting_13 : decode cX1_isSetting 13 = .ok (.iconst 0, 1) := dk_3 (dk_at dksX1_isSetting_0 13 rfl rfl)
theorem dX1_isSetting_14 : decode cX1_isSetting 14 = .ok (.ireturn, 1) := dk_172 (dk_at dksX1_isSetting_0 14 rfl rfl)
def dkwX1_winner_0 : List UInt8 := [42, 180, 0, 10, 27, 182, 0, 253, 172]
abbrev dktX1_winner_0 : List UInt8 := dkwX1_winner_0 ++ []
theorem dksX1_winner_0 : cX1_winner.data.toList.drop 0 = dktX1_winner_0 := by decide +kernel
theorem dX1_winner_0 : decode cX1_winner 0 = .ok (.aload_n 0, 1) := dk_42 (dk_at dksX1_winner_0 0 rfl rfl)
theorem dX1_winner_1 : decode cX1_winner 1 = .ok (.getfield 10, 3) := dk_180 0 10 (dk_at dksX1_winner_0 1 rfl rfl)
theorem dX1_winner_4 : decode cX1_winner 4 = .ok (.iload_n 1, 1) := dk_27 (dk_at dksX1_winner_0 4 rfl rfl)
theorem dX1_winner_5 : decode cX1_winner 5 = .ok (.invokevirtual 253, 3) := dk_182 0 253 (dk_at dksX1_winner_0 5 rfl rfl)
theorem dX1_winner_8 : decode cX1_winner 8 = .ok (.ireturn, 1) := dk_172 (dk_at dksX1_winner_0 8 rfl rfl)
def dkwX1_wrongMembers_2 : List UInt8 := [27, 172]
abbrev dktX1_wrongMembers_2 : List UInt8 := dkwX1_wrongMembers_2 ++ []
def dkwX1_wrongMembers_1 : List UInt8 := [182, 0, 108, 182, 1, 0, 153, 0, 9, 4, 28, 120, 167, 0, 4, 3, 128, 60, 132, 2, 1, 167, 255, 217]
abbrev dktX1_wrongMembers_1 : List UInt8 := dkwX1_wrongMembers_1 ++ dktX1_wrongMembers_2
def dkwX1_wrongMembers_0 : List UInt8 := [3, 60, 3, 61, 28, 42, 182, 0, 102, 162, 0, 37, 27, 42, 180, 0, 10, 42, 180, 0, 10, 28]
abbrev dktX1_wrongMembers_0 : List UInt8 := dkwX1_wrongMembers_0 ++ dktX1_wrongMembers_1
theorem dksX1_wrongMembers_0 : cX1_wrongMembers.data.toList.drop 0 = dktX1_wrongMembers_0 := by decide +kernel
theorem dksX1_wrongMembers_1 : cX1_wrongMembers.data.toList.drop 22 = dktX1_wrongMembers_1 := dk_seg dksX1_wrongMembers_0 22 rfl rfl
theorem dksX1_wrongMembers_2 : cX1_wrongMembers.data.toList.drop 46 = dktX1_wrongMembers_2 := dk_seg dksX1_wrongMembers_1 24 rfl rfl
theorem dX1_wrongMembers_0 : decode cX1_wrongMembers 0 = .ok (.iconst 0, 1) := dk_3 (dk_at dksX1_wrongMembers_0 0 rfl rfl)
theorem dX1_wrongMembers_1 : decode cX1_wrongMembers 1 = .ok (.istore_n 1, 1) := dk_60 (dk_at dksX1_wrongMembers_0 1 rfl rfl)
theorem dX1_wrongMembers_2 : decode cX1_wrongMembers 2 = .ok (.iconst 0, 1) := dk_3 (dk_at dksX1_wrongMembers_0 2 rfl rfl)
theorem dX1_wrongMembers_3 : decode cX1_wrongMembers 3 = .ok (.istore_n 2, 1) := dk_61 (dk_at dksX1_wrongMembers_0 3 rfl rfl)
theorem dX1_wrongMembers_4 : decode cX1_wrongMembers 4 = .ok (.iload_n 2, 1) := dk_28 (dk_at dksX1_wrongMembers_0 4 rfl rfl)
theorem dX1_wrongMembers_5 : decode cX1_wrongMembers 5 = .ok (.aload_n 0, 1) := dk_42 (dk_at dksX1_wrongMembers_0 5 rfl rfl)
theorem dX1_wrongMembers_6 : decode cX1_wrongMembers 6 = .ok (.invokevirtual 102, 3) := dk_182 0 102 (dk_at dksX1_wrongMembers_0 6 rfl rfl)
theorem dX1_wrongMembers_9 : decode cX1_wrongMembers 9 = .ok (.if_icmp .ge 37, 3) := dk_162 0 37 (dk_at dksX1_wrongMembers_0 9 rfl rfl)
theorem dX1_wrongMembers_12 : decode cX1_wrongMembers 12 = .ok (.iload_n 1, 1) := dk_27 (dk_at dksX1_wrongMembers_0 12 rfl rfl)
theorem dX1_wrongMembers_13 : decode cX1_wrongMembers 13 = .ok (.aload_n 0, 1) := dk_42 (dk_at dksX1_wrongMembers_0 13 rfl rfl)
theorem dX1_wrongMembers_14 : decode cX1_wrongMembers 14 = .ok (.getfield 10, 3) := dk_180 0 10 (dk_at dksX1_wrongMembers_0 14 rfl rfl)
theorem dX1_wrongMembers_17 : decode cX1_wrongMembers 17 = .ok (.aload_n 0, 1) := dk_42 (dk_at dksX1_wrongMembers_0 17 rfl rfl)
theorem dX1_wrongMembers_18 : decode cX1_wrongMembers 18 = .ok (.getfield 10, 3) := dk_180 0 10 (dk_at dksX1_wrongMembers_0 18 rfl rfl)
theorem dX1_wrongMembers_21 : decode cX1_wrongMembers 21 = .ok (.iload_n 2, 1) := dk_28 (dk_at dksX1_wrongMembers_0 21 rfl rfl)
theorem dX1_wrongMembers_22 : decode cX1_wrongMembers 22 = .ok (.invokevirtual 108, 3) := dk_182 0 108 (dk_at dksX1_wrongMembers_1 0 rfl rfl)
theorem dX1_wrongMembers_25 : decode cX1_wrongMembers 25 = .ok (.invokevirtual 256, 3) := dk_182 1 0 (dk_at dksX1_wrongMembers_1 3 rfl rfl)
theorem dX1_wrongMembers_28 : decode cX1_wrongMembers 28 = .ok (.ifCond .eq 9, 3) := dk_153 0 9 (dk_at dksX1_wrongMembers_1 6 rfl rfl)
theorem dX1_wrongMembers_31 : decode cX1_wrongMembers 31 = .ok (.iconst 1, 1) := dk_4 (dk_at dksX1_wrongMembers_1 9 rfl rfl)
theorem dX1_wrongMembers_32 : decode cX1_wrongMembers 32 = .ok (.iload_n 2, 1) := dk_28 (dk_at dksX1_wrongMembers_1 10 rfl rfl)
theorem dX1_wrongMembers_33 : decode cX1_wrongMembers 33 = .ok (.ishl, 1) := dk_120 (dk_at dksX1_wrongMembers_1 11 rfl rfl)
theorem dX1_wrongMembers_34 : decode cX1_wrongMembers 34 = .ok (.goto 4, 3) := dk_167 0 4 (dk_at dksX1_wrongMembers_1 12 rfl rfl)
theorem dX1_wrongMembers_37 : decode cX1_wrongMembers 37 = .ok (.iconst 0, 1) := dk_3 (dk_at dksX1_wrongMembers_1 15 rfl rfl)
theorem dX1_wrongMembers_38 : decode cX1_wrongMembers 38 = .ok (.ior, 1) := dk_128 (dk_at dksX1_wrongMembers_1 16 rfl rfl)
theorem dX1_wrongMembers_39 : decode cX1_wrongMembers 39 = .ok (.istore_n 1, 1) := dk_60 (dk_at dksX1_wrongMembers_1 17 rfl rfl)
theorem dX1_wrongMembers_40 : decode cX1_wrongMembers 40 = .ok (.iinc 2 1, 3) := dk_132 2 1 (dk_at dksX1_wrongMembers_1 18 rfl rfl)
theorem dX1_wrongMembers_43 : decode cX1_wrongMembers 43 = .ok (.goto (-39), 3) := dk_167 255 217 (dk_at dksX1_wrongMembers_1 21 rfl rfl)
theorem dX1_wrongMembers_46 : decode cX1_wrongMembers 46 = .ok (.iload_n 1, 1) := dk_27 (dk_at dksX1_wrongMembers_2 0 rfl rfl)
theorem dX1_wrongMembers_47 : decode cX1_wrongMembers 47 = .ok (.ireturn, 1) := dk_172 (dk_at dksX1_wrongMembers_2 1 rfl rfl)
def dkwX1_reached_0 : List UInt8 := [27, 153, 0, 13, 42, 180, 0, 10, 182, 1, 12, 167, 0, 10, 42, 180, 0, 10, 182, 1, 15, 172]
abbrev dktX1_reached_0 : List UInt8 := dkwX1_reached_0 ++ []
theorem dksX1_reached_0 : cX1_reached.data.toList.drop 0 = dktX1_reached_0 := by decide +kernel
theorem dX1_reached_0 : decode cX1_reached 0 = .ok (.iload_n 1, 1) := dk_27 (dk_at dksX1_reached_0 0 rfl rfl)
theorem dX1_reached_1 : decode cX1_reached 1 = .ok (.ifCond .eq 13, 3) := dk_153 0 13 (dk_at dksX1_reached_0 1 rfl rfl)
theorem dX1_reached_4 : decode cX1_reached 4 = .ok (.aload_n 0, 1) := dk_42 (dk_at dksX1_reached_0 4 rfl rfl)
theorem dX1_reached_5 : decode cX1_reached 5 = .ok (.getfield 10, 3) := dk_180 0 10 (dk_at dksX1_reached_0 5 rfl rfl)
theorem dX1_reached_8 : decode cX1_reached 8 = .ok (.invokevirtual 268, 3) := dk_182 1 12 (dk_at dksX1_reached_0 8 rfl rfl)
theorem dX1_reached_11 : decode cX1_reached 11 = .ok (.goto 10, 3) := dk_167 0 10 (dk_at dksX1_reached_0 11 rfl rfl)
theorem dX1_reached_14 : decode cX1_reached 14 = .ok (.aload_n 0, 1) := dk_42 (dk_at dksX1_reached_0 14 rfl rfl)
theorem dX1_reached_15 : decode cX1_reached 15 = .ok (.getfield 10, 3) := dk_180 0 10 (dk_at dksX1_reached_0 15 rfl rfl)
theorem dX1_reached_18 : decode cX1_reached 18 = .ok (.invokevirtual 271, 3) := dk_182 1 15 (dk_at dksX1_reached_0 18 rfl rfl)
theorem dX1_reached_21 : decode cX1_reached 21 = .ok (.ireturn, 1) := dk_172 (dk_at dksX1_reached_0 21 rfl rfl)
def dkwX1_meanTurns_3 : List UInt8 := [182, 1, 22, 135, 111, 175]
abbrev dktX1_meanTurns_3 : List UInt8 := dkwX1_meanTurns_3 ++ []
def dkwX1_meanTurns_2 : List UInt8 := [167, 255, 213, 42, 180, 0, 10, 182, 1, 22, 154, 0, 7, 14, 167, 0, 14, 27, 135, 42, 180, 0, 10]
abbrev dktX1_meanTurns_2 : List UInt8 := dkwX1_meanTurns_2 ++ dktX1_meanTurns_3
def dkwX1_meanTurns_1 : List UInt8 := [153, 0, 17, 42, 180, 0, 10, 28, 182, 0, 108, 180, 0, 142, 167, 0, 4, 3, 96, 60, 132, 2, 1]
abbrev dktX1_meanTurns_1 : List UInt8 := dkwX1_meanTurns_1 ++ dktX1_meanTurns_2
def dkwX1_meanTurns_0 : List UInt8 := [3, 60, 3, 61, 28, 42, 182, 0, 102, 162, 0, 41, 27, 42, 180, 0, 10, 28, 182, 0, 108, 180, 0, 145]
abbrev dktX1_meanTurns_0 : List UInt8 := dkwX1_meanTurns_0 ++ dktX1_meanTurns_1
theorem dksX1_meanTurns_0 : cX1_meanTurns.data.toList.drop 0 = dktX1_meanTurns_0 := by decide +kernel
theorem dksX1_meanTurns_1 : cX1_meanTurns.data.toList.drop 24 = dktX1_meanTurns_1 := dk_seg dksX1_meanTurns_0 24 rfl rfl
theorem dksX1_meanTurns_2 : cX1_meanTurns.data.toList.drop 47 = dktX1_meanTurns_2 := dk_seg dksX1_meanTurns_1 23 rfl rfl
theorem dksX1_meanTurns_3 : cX1_meanTurns.data.toList.drop 70 = dktX1_meanTurns_3 := dk_seg dksX1_meanTurns_2 23 rfl rfl
theorem dX1_meanTurns_0 : decode cX1_meanTurns 0 = .ok (.iconst 0, 1) := dk_3 (dk_at dksX1_meanTurns_0 0 rfl rfl)
theorem dX1_meanTurns_1 : decode cX1_meanTurns 1 = .ok (.istore_n 1, 1) := dk_60 (dk_at dksX1_meanTurns_0 1 rfl rfl)
theorem dX1_meanTurns_2 : decode cX1_meanTurns 2 = .ok (.iconst 0, 1) := dk_3 (dk_at dksX1_meanTurns_0 2 rfl rfl)
theorem dX1_meanTurns_3 : decode cX1_meanTurns 3 = .ok (.istore_n 2, 1) := dk_61 (dk_at dksX1_meanTurns_0 3 rfl rfl)
theorem dX1_meanTurns_4 : decode cX1_meanTurns 4 = .ok (.iload_n 2, 1) := dk_28 (dk_at dksX1_meanTurns_0 4 rfl rfl)
theorem dX1_meanTurns_5 : decode cX1_meanTurns 5 = .ok (.aload_n 0, 1) := dk_42 (dk_at dksX1_meanTurns_0 5 rfl rfl)
theorem dX1_meanTurns_6 : decode cX1_meanTurns 6 = .ok (.invokevirtual 102, 3) := dk_182 0 102 (dk_at dksX1_meanTurns_0 6 rfl rfl)
theorem dX1_meanTurns_9 : decode cX1_meanTurns 9 = .ok (.if_icmp .ge 41, 3) := dk_162 0 41 (dk_at dksX1_meanTurns_0 9 rfl rfl)
theorem dX1_meanTurns_12 : decode cX1_meanTurns 12 = .ok (.iload_n 1, 1) := dk_27 (dk_at dksX1_meanTurns_0 12 rfl rfl)
theorem dX1_meanTurns_13 : decode cX1_meanTurns 13 = .ok (.aload_n 0, 1) := dk_42 (dk_at dksX1_meanTurns_0 13 rfl rfl)
theorem dX1_meanTurns_14 : decode cX1_meanTurns 14 = .ok (.getfield 10, 3) := dk_180 0 10 (dk_at dksX1_meanTurns_0 14 rfl rfl)
theorem dX1_meanTurns_17 : decode cX1_meanTurns 17 = .ok (.iload_n 2, 1) := dk_28 (dk_at dksX1_meanTurns_0 17 rfl rfl)
theorem dX1_meanTurns_18 : decode cX1_meanTurns 18 = .ok (.invokevirtual 108, 3) := dk_182 0 108 (dk_at dksX1_meanTurns_0 18 rfl rfl)
theorem dX1_meanTurns_21 : decode cX1_meanTurns 21 = .ok (.getfield 145, 3) := dk_180 0 145 (dk_at dksX1_meanTurns_0 21 rfl rfl)
theorem dX1_meanTurns_24 : decode cX1_meanTurns 24 = .ok (.ifCond .eq 17, 3) := dk_153 0 17 (dk_at dksX1_meanTurns_1 0 rfl rfl)
theorem dX1_meanTurns_27 : decode cX1_meanTurns 27 = .ok (.aload_n 0, 1) := dk_42 (dk_at dksX1_meanTurns_1 3 rfl rfl)
theorem dX1_meanTurns_28 : decode cX1_meanTurns 28 = .ok (.getfield 10, 3) := dk_180 0 10 (dk_at dksX1_meanTurns_1 4 rfl rfl)
theorem dX1_meanTurns_31 : decode cX1_meanTurns 31 = .ok (.iload_n 2, 1) := dk_28 (dk_at dksX1_meanTurns_1 7 rfl rfl)
theorem dX1_meanTurns_32 : decode cX1_meanTurns 32 = .ok (.invokevirtual 108, 3) := dk_182 0 108 (dk_at dksX1_meanTurns_1 8 rfl rfl)
theorem dX1_meanTurns_35 : decode cX1_meanTurns 35 = .ok (.getfield 142, 3) := dk_180 0 142 (dk_at dksX1_meanTurns_1 11 rfl rfl)
theorem dX1_meanTurns_38 : decode cX1_meanTurns 38 = .ok (.goto 4, 3) := dk_167 0 4 (dk_at dksX1_meanTurns_1 14 rfl rfl)
theorem dX1_meanTurns_41 : decode cX1_meanTurns 41 = .ok (.iconst 0, 1) := dk_3 (dk_at dksX1_meanTurns_1 17 rfl rfl)
theorem dX1_meanTurns_42 : decode cX1_meanTurns 42 = .ok (.iadd, 1) := dk_96 (dk_at dksX1_meanTurns_1 18 rfl rfl)
theorem dX1_meanTurns_43 : decode cX1_meanTurns 43 = .ok (.istore_n 1, 1) := dk_60 (dk_at dksX1_meanTurns_1 19 rfl rfl)
theorem dX1_meanTurns_44 : decode cX1_meanTurns 44 = .ok (.iinc 2 1, 3) := dk_132 2 1 (dk_at dksX1_meanTurns_1 20 rfl rfl)
theorem dX1_meanTurns_47 : decode cX1_meanTurns 47 = .ok (.goto (-43), 3) := dk_167 255 213 (dk_at dksX1_meanTurns_2 0 rfl rfl)
theorem dX1_meanTurns_50 : decode cX1_meanTurns 50 = .ok (.aload_n 0, 1) := dk_42 (dk_at dksX1_meanTurns_2 3 rfl rfl)
theorem dX1_meanTurns_51 : decode cX1_meanTurns 51 = .ok (.getfield 10, 3) := dk_180 0 10 (dk_at dksX1_meanTurns_2 4 rfl rfl)
theorem dX1_meanTurns_54 : decode cX1_meanTurns 54 = .ok (.invokevirtual 278, 3) := dk_182 1 22 (dk_at dksX1_meanTurns_2 7 rfl rfl)
theorem dX1_meanTurns_57 : decode cX1_meanTurns 57 = .ok (.ifCond .ne 7, 3) := dk_154 0 7 (dk_at dksX1_meanTurns_2 10 rfl rfl)
theorem dX1_meanTurns_60 : decode cX1_meanTurns 60 = .ok (.dconst 0, 1) := dk_14 (dk_at dksX1_meanTurns_2 13 rfl rfl)
theorem dX1_meanTurns_61 : decode cX1_meanTurns 61 = .ok (.goto 14, 3) := dk_167 0 14 (dk_at dksX1_meanTurns_2 14 rfl rfl)
theorem dX1_meanTurns_64 : decode cX1_meanTurns 64 = .ok (.iload_n 1, 1) := dk_27 (dk_at dksX1_meanTurns_2 17 rfl rfl)
theorem dX1_meanTurns_65 : decode cX1_meanTurns 65 = .ok (.i2d, 1) := dk_135 (dk_at dksX1_meanTurns_2 18 rfl rfl)
theorem dX1_meanTurns_66 : decode cX1_meanTurns 66 = .ok (.aload_n 0, 1) := dk_42 (dk_at dksX1_meanTurns_2 19 rfl rfl)
theorem dX1_meanTurns_67 : decode cX1_meanTurns 67 = .ok (.getfield 10, 3) := dk_180 0 10 (dk_at dksX1_meanTurns_2 20 rfl rfl)
theorem dX1_meanTurns_70 : decode cX1_meanTurns 70 = .ok (.invokevirtual 278, 3) := dk_182 1 22 (dk_at dksX1_meanTurns_3 0 rfl rfl)
theorem dX1_meanTurns_73 : decode cX1_meanTurns 73 = .ok (.i2d, 1) := dk_135 (dk_at dksX1_meanTurns_3 3 rfl rfl)
theorem dX1_meanTurns_74 : decode cX1_meanTurns 74 = .ok (.ddiv, 1) := dk_111 (dk_at dksX1_meanTurns_3 4 rfl rfl)
theorem dX1_meanTurns_75 : decode cX1_meanTurns 75 = .ok (.dreturn, 1) := dk_175 (dk_at dksX1_meanTurns_3 5 rfl rfl)
def dkwX1_trueMembers_4 : List UInt8 := [60, 132, 2, 1, 167, 255, 161, 27, 172]
abbrev dktX1_trueMembers_4 : List UInt8 := dkwX1_trueMembers_4 ++ []
def dkwX1_trueMembers_3 : List UInt8 := [3, 126, 54, 4, 132, 5, 1, 167, 255, 215, 27, 21, 4, 153, 0, 9, 4, 28, 120, 167, 0, 4, 3, 128]
abbrev dktX1_trueMembers_3 : List UInt8 := dkwX1_trueMembers_3 ++ dktX1_trueMembers_4
def dkwX1_trueMembers_2 : List UInt8 := [180, 0, 10, 28, 182, 0, 108, 180, 0, 166, 21, 5, 46, 45, 21, 5, 46, 160, 0, 7, 4, 167, 0, 4]
abbrev dktX1_trueMembers_2 : List UInt8 := dkwX1_trueMembers_2 ++ dktX1_trueMembers_3
def dkwX1_trueMembers_1 : List UInt8 := [180, 0, 142, 182, 1, 25, 78, 4, 54, 4, 3, 54, 5, 21, 5, 16, 16, 162, 0, 40, 21, 4, 42]
abbrev dktX1_trueMembers_1 : List UInt8 := dkwX1_trueMembers_1 ++ dktX1_trueMembers_2
def dkwX1_trueMembers_0 : List UInt8 := [3, 60, 3, 61, 28, 42, 182, 0, 102, 162, 0, 93, 42, 180, 0, 10, 42, 180, 0, 10, 28, 182, 0, 108]
abbrev dktX1_trueMembers_0 : List UInt8 := dkwX1_trueMembers_0 ++ dktX1_trueMembers_1
theorem dksX1_trueMembers_0 : cX1_trueMembers.data.toList.drop 0 = dktX1_trueMembers_0 := by decide +kernel
theorem dksX1_trueMembers_1 : cX1_trueMembers.data.toList.drop 24 = dktX1_trueMembers_1 := dk_seg dksX1_trueMembers_0 24 rfl rfl
theorem dksX1_trueMembers_2 : cX1_trueMembers.data.toList.drop 47 = dktX1_trueMembers_2 := dk_seg dksX1_trueMembers_1 23 rfl rfl
theorem dksX1_trueMembers_3 : cX1_trueMembers.data.toList.drop 71 = dktX1_trueMembers_3 := dk_seg dksX1_trueMembers_2 24 rfl rfl
theorem dksX1_trueMembers_4 : cX1_trueMembers.data.toList.drop 95 = dktX1_trueMembers_4 := dk_seg dksX1_trueMembers_3 24 rfl rfl
theorem dX1_trueMembers_0 : decode cX1_trueMembers 0 = .ok (.iconst 0, 1) := dk_3 (dk_at dksX1_trueMembers_0 0 rfl rfl)
theorem dX1_trueMembers_1 : decode cX1_trueMembers 1 = .ok (.istore_n 1, 1) := dk_60 (dk_at dksX1_trueMembers_0 1 rfl rfl)
theorem dX1_trueMembers_2 : decode cX1_trueMembers 2 = .ok (.iconst 0, 1) := dk_3 (dk_at dksX1_trueMembers_0 2 rfl rfl)
theorem dX1_trueMembers_3 : decode cX1_trueMembers 3 = .ok (.istore_n 2, 1) := dk_61 (dk_at dksX1_trueMembers_0 3 rfl rfl)
theorem dX1_trueMembers_4 : decode cX1_trueMembers 4 = .ok (.iload_n 2, 1) := dk_28 (dk_at dksX1_trueMembers_0 4 rfl rfl)
theorem dX1_trueMembers_5 : decode cX1_trueMembers 5 = .ok (.aload_n 0, 1) := dk_42 (dk_at dksX1_trueMembers_0 5 rfl rfl)
theorem dX1_trueMembers_6 : decode cX1_trueMembers 6 = .ok (.invokevirtual 102, 3) := dk_182 0 102 (dk_at dksX1_trueMembers_0 6 rfl rfl)
theorem dX1_trueMembers_9 : decode cX1_trueMembers 9 = .ok (.if_icmp .ge 93, 3) := dk_162 0 93 (dk_at dksX1_trueMembers_0 9 rfl rfl)
theorem dX1_trueMembers_12 : decode cX1_trueMembers 12 = .ok (.aload_n 0, 1) := dk_42 (dk_at dksX1_trueMembers_0 12 rfl rfl)
theorem dX1_trueMembers_13 : decode cX1_trueMembers 13 = .ok (.getfield 10, 3) := dk_180 0 10 (dk_at dksX1_trueMembers_0 13 rfl rfl)
theorem dX1_trueMembers_16 : decode cX1_trueMembers 16 = .ok (.aload_n 0, 1) := dk_42 (dk_at dksX1_trueMembers_0 16 rfl rfl)
theorem dX1_trueMembers_17 : decode cX1_trueMembers 17 = .ok (.getfield 10, 3) := dk_180 0 10 (dk_at dksX1_trueMembers_0 17 rfl rfl)
theorem dX1_trueMembers_20 : decode cX1_trueMembers 20 = .ok (.iload_n 2, 1) := dk_28 (dk_at dksX1_trueMembers_0 20 rfl rfl)
theorem dX1_trueMembers_21 : decode cX1_trueMembers 21 = .ok (.invokevirtual 108, 3) := dk_182 0 108 (dk_at dksX1_trueMembers_0 21 rfl rfl)
theorem dX1_trueMembers_24 : decode cX1_trueMembers 24 = .ok (.getfield 142, 3) := dk_180 0 142 (dk_at dksX1_trueMembers_1 0 rfl rfl)
theorem dX1_trueMembers_27 : decode cX1_trueMembers 27 = .ok (.invokevirtual 281, 3) := dk_182 1 25 (dk_at dksX1_trueMembers_1 3 rfl rfl)
theorem dX1_trueMembers_30 : decode cX1_trueMembers 30 = .ok (.astore_n 3, 1) := dk_78 (dk_at dksX1_trueMembers_1 6 rfl rfl)
theorem dX1_trueMembers_31 : decode cX1_trueMembers 31 = .ok (.iconst 1, 1) := dk_4 (dk_at dksX1_trueMembers_1 7 rfl rfl)
theorem dX1_trueMembers_32 : decode cX1_trueMembers 32 = .ok (.istore 4, 2) := dk_54 4 (dk_at dksX1_trueMembers_1 8 rfl rfl)
theorem dX1_trueMembers_34 : decode cX1_trueMembers 34 = .ok (.iconst 0, 1) := dk_3 (dk_at dksX1_trueMembers_1 10 rfl rfl)
theorem dX1_trueMembers_35 : decode cX1_trueMembers 35 = .ok (.istore 5, 2) := dk_54 5 (dk_at dksX1_trueMembers_1 11 rfl rfl)
theorem dX1_trueMembers_37 : decode cX1_trueMembers 37 = .ok (.iload 5, 2) := dk_21 5 (dk_at dksX1_trueMembers_1 13 rfl rfl)
theorem dX1_trueMembers_39 : decode cX1_trueMembers 39 = .ok (.bipush 16, 2) := dk_16 16 (dk_at dksX1_trueMembers_1 15 rfl rfl)
theorem dX1_trueMembers_41 : decode cX1_trueMembers 41 = .ok (.if_icmp .ge 40, 3) := dk_162 0 40 (dk_at dksX1_trueMembers_1 17 rfl rfl)
theorem dX1_trueMembers_44 : decode cX1_trueMembers 44 = .ok (.iload 4, 2) := dk_21 4 (dk_at dksX1_trueMembers_1 20 rfl rfl)
theorem dX1_trueMembers_46 : decode cX1_trueMembers 46 = .ok (.aload_n 0, 1) := dk_42 (dk_at dksX1_trueMembers_1 22 rfl rfl)
theorem dX1_trueMembers_47 : decode cX1_trueMembers 47 = .ok (.getfield 10, 3) := dk_180 0 10 (dk_at dksX1_trueMembers_2 0 rfl rfl)
theorem dX1_trueMembers_50 : decode cX1_trueMembers 50 = .ok (.iload_n 2, 1) := dk_28 (dk_at dksX1_trueMembers_2 3 rfl rfl)
theorem dX1_trueMembers_51 : decode cX1_trueMembers 51 = .ok (.invokevirtual 108, 3) := dk_182 0 108 (dk_at dksX1_trueMembers_2 4 rfl rfl)
theorem dX1_trueMembers_54 : decode cX1_trueMembers 54 = .ok (.getfield 166, 3) := dk_180 0 166 (dk_at dksX1_trueMembers_2 7 rfl rfl)
theorem dX1_trueMembers_57 : decode cX1_trueMembers 57 = .ok (.iload 5, 2) := dk_21 5 (dk_at dksX1_trueMembers_2 10 rfl rfl)
theorem dX1_trueMembers_59 : decode cX1_trueMembers 59 = .ok (.iaload, 1) := dk_46 (dk_at dksX1_trueMembers_2 12 rfl rfl)
theorem dX1_trueMembers_60 : decode cX1_trueMembers 60 = .ok (.aload_n 3, 1) := dk_45 (dk_at dksX1_trueMembers_2 13 rfl rfl)
theorem dX1_trueMembers_61 : decode cX1_trueMembers 61 = .ok (.iload 5, 2) := dk_21 5 (dk_at dksX1_trueMembers_2 14 rfl rfl)
theorem dX1_trueMembers_63 : decode cX1_trueMembers 63 = .ok (.iaload, 1) := dk_46 (dk_at dksX1_trueMembers_2 16 rfl rfl)
theorem dX1_trueMembers_64 : decode cX1_trueMembers 64 = .ok (.if_icmp .ne 7, 3) := dk_160 0 7 (dk_at dksX1_trueMembers_2 17 rfl rfl)
theorem dX1_trueMembers_67 : decode cX1_trueMembers 67 = .ok (.iconst 1, 1) := dk_4 (dk_at dksX1_trueMembers_2 20 rfl rfl)
theorem dX1_trueMembers_68 : decode cX1_trueMembers 68 = .ok (.goto 4, 3) := dk_167 0 4 (dk_at dksX1_trueMembers_2 21 rfl rfl)
theorem dX1_trueMembers_71 : decode cX1_trueMembers 71 = .ok (.iconst 0, 1) := dk_3 (dk_at dksX1_trueMembers_3 0 rfl rfl)
theorem dX1_trueMembers_72 : decode cX1_trueMembers 72 = .ok (.iand, 1) := dk_126 (dk_at dksX1_trueMembers_3 1 rfl rfl)
theorem dX1_trueMembers_73 : decode cX1_trueMembers 73 = .ok (.istore 4, 2) := dk_54 4 (dk_at dksX1_trueMembers_3 2 rfl rfl)
theorem dX1_trueMembers_75 : decode cX1_trueMembers 75 = .ok (.iinc 5 1, 3) := dk_132 5 1 (dk_at dksX1_trueMembers_3 4 rfl rfl)
theorem dX1_trueMembers_78 : decode cX1_trueMembers 78 = .ok (.goto (-41), 3) := dk_167 255 215 (dk_at dksX1_trueMembers_3 7 rfl rfl)
theorem dX1_trueMembers_81 : decode cX1_trueMembers 81 = .ok (.iload_n 1, 1) := dk_27 (dk_at dksX1_trueMembers_3 10 rfl rfl)
theorem dX1_trueMembers_82 : decode cX1_trueMembers 82 = .ok (.iload 4, 2) := dk_21 4 (dk_at dksX1_trueMembers_3 11 rfl rfl)
theorem dX1_trueMembers_84 : decode cX1_trueMembers 84 = .ok (.ifCond .eq 9, 3) := dk_153 0 9 (dk_at dksX1_trueMembers_3 13 rfl rfl)
theorem dX1_trueMembers_87 : decode cX1_trueMembers 87 = .ok (.iconst 1, 1) := dk_4 (dk_at dksX1_trueMembers_3 16 rfl rfl)
theorem dX1_trueMembers_88 : decode cX1_trueMembers 88 = .ok (.iload_n 2, 1) := dk_28 (dk_at dksX1_trueMembers_3 17 rfl rfl)
theorem dX1_trueMembers_89 : decode cX1_trueMembers 89 = .ok (.ishl, 1) := dk_120 (dk_at dksX1_trueMembers_3 18 rfl rfl)
theorem dX1_trueMembers_90 : decode cX1_trueMembers 90 = .ok (.goto 4, 3) := dk_167 0 4 (dk_at dksX1_trueMembers_3 19 rfl rfl)
theorem dX1_trueMembers_93 : decode cX1_trueMembers 93 = .ok (.iconst 0, 1) := dk_3 (dk_at dksX1_trueMembers_3 22 rfl rfl)
theorem dX1_trueMembers_94 : decode cX1_trueMembers 94 = .ok (.ior, 1) := dk_128 (dk_at dksX1_trueMembers_3 23 rfl rfl)
theorem dX1_trueMembers_95 : decode cX1_trueMembers 95 = .ok (.istore_n 1, 1) := dk_60 (dk_at dksX1_trueMembers_4 0 rfl rfl)
theorem dX1_trueMembers_96 : decode cX1_trueMembers 96 = .ok (.iinc 2 1, 3) := dk_132 2 1 (dk_at dksX1_trueMembers_4 1 rfl rfl)
theorem dX1_trueMembers_99 : decode cX1_trueMembers 99 = .ok (.goto (-95), 3) := dk_167 255 161 (dk_at dksX1_trueMembers_4 4 rfl rfl)
theorem dX1_trueMembers_102 : decode cX1_trueMembers 102 = .ok (.iload_n 1, 1) := dk_27 (dk_at dksX1_trueMembers_4 7 rfl rfl)
theorem dX1_trueMembers_103 : decode cX1_trueMembers 103 = .ok (.ireturn, 1) := dk_172 (dk_at dksX1_trueMembers_4 8 rfl rfl)
def dkwX1_give_3 : List UInt8 := [160, 0, 6, 16, 253, 172, 42, 182, 1, 48, 42, 180, 0, 10, 27, 28, 29, 21, 4, 182, 1, 51, 172]
abbrev dktX1_give_3 : List UInt8 := dkwX1_give_3 ++ []
def dkwX1_give_2 : List UInt8 := [182, 0, 108, 180, 0, 145, 154, 0, 6, 16, 252, 172, 42, 180, 0, 10, 180, 0, 121, 182, 0, 125, 16, 8]
abbrev dktX1_give_2 : List UInt8 := dkwX1_give_2 ++ dktX1_give_3
def dkwX1_give_1 : List UInt8 := [184, 1, 41, 153, 0, 12, 28, 21, 4, 184, 1, 44, 154, 0, 6, 16, 254, 172, 42, 180, 0, 10, 27]
abbrev dktX1_give_1 : List UInt8 := dkwX1_give_1 ++ dktX1_give_2
def dkwX1_give_0 : List UInt8 := [42, 27, 182, 1, 36, 154, 0, 5, 2, 172, 28, 133, 9, 20, 1, 39, 184, 0, 38, 153, 0, 19, 29]
abbrev dktX1_give_0 : List UInt8 := dkwX1_give_0 ++ dktX1_give_1
theorem dksX1_give_0 : cX1_give.data.toList.drop 0 = dktX1_give_0 := by decide +kernel
theorem dksX1_give_1 : cX1_give.data.toList.drop 23 = dktX1_give_1 := dk_seg dksX1_give_0 23 rfl rfl
theorem dksX1_give_2 : cX1_give.data.toList.drop 46 = dktX1_give_2 := dk_seg dksX1_give_1 23 rfl rfl
theorem dksX1_give_3 : cX1_give.data.toList.drop 70 = dktX1_give_3 := dk_seg dksX1_give_2 24 rfl rfl
theorem dX1_give_0 : decode cX1_give 0 = .ok (.aload_n 0, 1) := dk_42 (dk_at dksX1_give_0 0 rfl rfl)
theorem dX1_give_1 : decode cX1_give 1 = .ok (.iload_n 1, 1) := dk_27 (dk_at dksX1_give_0 1 rfl rfl)
theorem dX1_give_2 : decode cX1_give 2 = .ok (.invokevirtual 292, 3) := dk_182 1 36 (dk_at dksX1_give_0 2 rfl rfl)
theorem dX1_give_5 : decode cX1_give 5 = .ok (.ifCond .ne 5, 3) := dk_154 0 5 (dk_at dksX1_give_0 5 rfl rfl)
theorem dX1_give_8 : decode cX1_give 8 = .ok (.iconst (-1), 1) := dk_2 (dk_at dksX1_give_0 8 rfl rfl)
theorem dX1_give_9 : decode cX1_give 9 = .ok (.ireturn, 1) := dk_172 (dk_at dksX1_give_0 9 rfl rfl)
theorem dX1_give_10 : decode cX1_give 10 = .ok (.iload_n 2, 1) := dk_28 (dk_at dksX1_give_0 10 rfl rfl)
theorem dX1_give_11 : decode cX1_give 11 = .ok (.i2l, 1) := dk_133 (dk_at dksX1_give_0 11 rfl rfl)
theorem dX1_give_12 : decode cX1_give 12 = .ok (.lconst 0, 1) := dk_9 (dk_at dksX1_give_0 12 rfl rfl)
theorem dX1_give_13 : decode cX1_give 13 = .ok (.ldc2_w 295, 3) := dk_20 1 39 (dk_at dksX1_give_0 13 rfl rfl)
theorem dX1_give_16 : decode cX1_give 16 = .ok (.invokestatic 38, 3) := dk_184 0 38 (dk_at dksX1_give_0 16 rfl rfl)
theorem dX1_give_19 : decode cX1_give 19 = .ok (.ifCond .eq 19, 3) := dk_153 0 19 (dk_at dksX1_give_0 19 rfl rfl)
theorem dX1_give_22 : decode cX1_give 22 = .ok (.iload_n 3, 1) := dk_29 (dk_at dksX1_give_0 22 rfl rfl)
theorem dX1_give_23 : decode cX1_give 23 = .ok (.invokestatic 297, 3) := dk_184 1 41 (dk_at dksX1_give_1 0 rfl rfl)
theorem dX1_give_26 : decode cX1_give 26 = .ok (.ifCond .eq 12, 3) := dk_153 0 12 (dk_at dksX1_give_1 3 rfl rfl)
theorem dX1_give_29 : decode cX1_give 29 = .ok (.iload_n 2, 1) := dk_28 (dk_at dksX1_give_1 6 rfl rfl)
theorem dX1_give_30 : decode cX1_give 30 = .ok (.iload 4, 2) := dk_21 4 (dk_at dksX1_give_1 7 rfl rfl)
theorem dX1_give_32 : decode cX1_give 32 = .ok (.invokestatic 300, 3) := dk_184 1 44 (dk_at dksX1_give_1 9 rfl rfl)
theorem dX1_give_35 : decode cX1_give 35 = .ok (.ifCond .ne 6, 3) := dk_154 0 6 (dk_at dksX1_give_1 12 rfl rfl)
theorem dX1_give_38 : decode cX1_give 38 = .ok (.bipush (-2), 2) := dk_16 254 (dk_at dksX1_give_1 15 rfl rfl)
theorem dX1_give_40 : decode cX1_give 40 = .ok (.ireturn, 1) := dk_172 (dk_at dksX1_give_1 17 rfl rfl)
theorem dX1_give_41 : decode cX1_give 41 = .ok (.aload_n 0, 1) := dk_42 (dk_at dksX1_give_1 18 rfl rfl)
theorem dX1_give_42 : decode cX1_give 42 = .ok (.getfield 10, 3) := dk_180 0 10 (dk_at dksX1_give_1 19 rfl rfl)
theorem dX1_give_45 : decode cX1_give 45 = .ok (.iload_n 1, 1) := dk_27 (dk_at dksX1_give_1 22 rfl rfl)
theorem dX1_give_46 : decode cX1_give 46 = .ok (.invokevirtual 108, 3) := dk_182 0 108 (dk_at dksX1_give_2 0 rfl rfl)
theorem dX1_give_49 : decode cX1_give 49 = .ok (.getfield 145, 3) := dk_180 0 145 (dk_at dksX1_give_2 3 rfl rfl)
theorem dX1_give_52 : decode cX1_give 52 = .ok (.ifCond .ne 6, 3) := dk_154 0 6 (dk_at dksX1_give_2 6 rfl rfl)
theorem dX1_give_55 : decode cX1_give 55 = .ok (.bipush (-4), 2) := dk_16 252 (dk_at dksX1_give_2 9 rfl rfl)
theorem dX1_give_57 : decode cX1_give 57 = .ok (.ireturn, 1) := dk_172 (dk_at dksX1_give_2 11 rfl rfl)
theorem dX1_give_58 : decode cX1_give 58 = .ok (.aload_n 0, 1) := dk_42 (dk_at dksX1_give_2 12 rfl rfl)
theorem dX1_give_59 : decode cX1_give 59 = .ok (.getfield 10, 3) := dk_180 0 10 (dk_at dksX1_give_2 13 rfl rfl)
theorem dX1_give_62 : decode cX1_give 62 = .ok (.getfield 121, 3) := dk_180 0 121 (dk_at dksX1_give_2 16 rfl rfl)
theorem dX1_give_65 : decode cX1_give 65 = .ok (.invokevirtual 125, 3) := dk_182 0 125 (dk_at dksX1_give_2 19 rfl rfl)
theorem dX1_give_68 : decode cX1_give 68 = .ok (.bipush 8, 2) := dk_16 8 (dk_at dksX1_give_2 22 rfl rfl)
theorem dX1_give_70 : decode cX1_give 70 = .ok (.if_icmp .ne 6, 3) := dk_160 0 6 (dk_at dksX1_give_3 0 rfl rfl)
theorem dX1_give_73 : decode cX1_give 73 = .ok (.bipush (-3), 2) := dk_16 253 (dk_at dksX1_give_3 3 rfl rfl)
theorem dX1_give_75 : decode cX1_give 75 = .ok (.ireturn, 1) := dk_172 (dk_at dksX1_give_3 5 rfl rfl)
theorem dX1_give_76 : decode cX1_give 76 = .ok (.aload_n 0, 1) := dk_42 (dk_at dksX1_give_3 6 rfl rfl)
theorem dX1_give_77 : decode cX1_give 77 = .ok (.invokevirtual 304, 3) := dk_182 1 48 (dk_at dksX1_give_3 7 rfl rfl)
theorem dX1_give_80 : decode cX1_give 80 = .ok (.aload_n 0, 1) := dk_42 (dk_at dksX1_give_3 10 rfl rfl)
theorem dX1_give_81 : decode cX1_give 81 = .ok (.getfield 10, 3) := dk_180 0 10 (dk_at dksX1_give_3 11 rfl rfl)
theorem dX1_give_84 : decode cX1_give 84 = .ok (.iload_n 1, 1) := dk_27 (dk_at dksX1_give_3 14 rfl rfl)
theorem dX1_give_85 : decode cX1_give 85 = .ok (.iload_n 2, 1) := dk_28 (dk_at dksX1_give_3 15 rfl rfl)
theorem dX1_give_86 : decode cX1_give 86 = .ok (.iload_n 3, 1) := dk_29 (dk_at dksX1_give_3 16 rfl rfl)
theorem dX1_give_87 : decode cX1_give 87 = .ok (.iload 4, 2) := dk_21 4 (dk_at dksX1_give_3 17 rfl rfl)
theorem dX1_give_89 : decode cX1_give 89 = .ok (.invokevirtual 307, 3) := dk_182 1 51 (dk_at dksX1_give_3 19 rfl rfl)
theorem dX1_give_92 : decode cX1_give 92 = .ok (.ireturn, 1) := dk_172 (dk_at dksX1_give_3 22 rfl rfl)
def dkwX1_isMember_0 : List UInt8 := [27, 133, 9, 42, 182, 0, 102, 4, 100, 133, 184, 0, 38, 172]
abbrev dktX1_isMember_0 : List UInt8 := dkwX1_isMember_0 ++ []
theorem dksX1_isMember_0 : cX1_isMember.data.toList.drop 0 = dktX1_isMember_0 := by decide +kernel
theorem dX1_isMember_0 : decode cX1_isMember 0 = .ok (.iload_n 1, 1) := dk_27 (dk_at dksX1_isMember_0 0 rfl rfl)
theorem dX1_isMember_1 : decode cX1_isMember 1 = .ok (.i2l, 1) := dk_133 (dk_at dksX1_isMember_0 1 rfl rfl)
theorem dX1_isMember_2 : decode cX1_isMember 2 = .ok (.lconst 0, 1) := dk_9 (dk_at dksX1_isMember_0 2 rfl rfl)
theorem dX1_isMember_3 : decode cX1_isMember 3 = .ok (.aload_n 0, 1) := dk_42 (dk_at dksX1_isMember_0 3 rfl rfl)
theorem dX1_isMember_4 : decode cX1_isMember 4 = .ok (.invokevirtual 102, 3) := dk_182 0 102 (dk_at dksX1_isMember_0 4 rfl rfl)
theorem dX1_isMember_7 : decode cX1_isMember 7 = .ok (.iconst 1, 1) := dk_4 (dk_at dksX1_isMember_0 7 rfl rfl)
theorem dX1_isMember_8 : decode cX1_isMember 8 = .ok (.isub, 1) := dk_100 (dk_at dksX1_isMember_0 8 rfl rfl)
theorem dX1_isMember_9 : decode cX1_isMember 9 = .ok (.i2l, 1) := dk_133 (dk_at dksX1_isMember_0 9 rfl rfl)
theorem dX1_isMember_10 : decode cX1_isMember 10 = .ok (.invokestatic 38, 3) := dk_184 0 38 (dk_at dksX1_isMember_0 10 rfl rfl)
theorem dX1_isMember_13 : decode cX1_isMember 13 = .ok (.ireturn, 1) := dk_172 (dk_at dksX1_isMember_0 13 rfl rfl)
def dkwX1_isCell_0 : List UInt8 := [26, 133, 9, 20, 0, 45, 184, 0, 38, 172]
abbrev dktX1_isCell_0 : List UInt8 := dkwX1_isCell_0 ++ []
theorem dksX1_isCell_0 : cX1_isCell.data.toList.drop 0 = dktX1_isCell_0 := by decide +kernel
theorem dX1_isCell_0 : decode cX1_isCell 0 = .ok (.iload_n 0, 1) := dk_26 (dk_at dksX1_isCell_0 0 rfl rfl)
theorem dX1_isCell_1 : decode cX1_isCell 1 = .ok (.i2l, 1) := dk_133 (dk_at dksX1_isCell_0 1 rfl rfl)
theorem dX1_isCell_2 : decode cX1_isCell 2 = .ok (.lconst 0, 1) := dk_9 (dk_at dksX1_isCell_0 2 rfl rfl)
theorem dX1_isCell_3 : decode cX1_isCell 3 = .ok (.ldc2_w 45, 3) := dk_20 0 45 (dk_at dksX1_isCell_0 3 rfl rfl)
theorem dX1_isCell_6 : decode cX1_isCell 6 = .ok (.invokestatic 38, 3) := dk_184 0 38 (dk_at dksX1_isCell_0 6 rfl rfl)
theorem dX1_isCell_9 : decode cX1_isCell 9 = .ok (.ireturn, 1) := dk_172 (dk_at dksX1_isCell_0 9 rfl rfl)
def dkwX1_remember_1 : List UInt8 := [42, 180, 0, 10, 182, 0, 55, 182, 0, 59, 177]
abbrev dktX1_remember_1 : List UInt8 := dkwX1_remember_1 ++ []
def dkwX1_remember_0 : List UInt8 := [42, 180, 0, 19, 182, 0, 47, 16, 10, 160, 0, 11, 42, 180, 0, 19, 182, 0, 51, 87, 42, 180, 0, 19]
abbrev dktX1_remember_0 : List UInt8 := dkwX1_remember_0 ++ dktX1_remember_1
theorem dksX1_remember_0 : cX1_remember.data.toList.drop 0 = dktX1_remember_0 := by decide +kernel
theorem dksX1_remember_1 : cX1_remember.data.toList.drop 24 = dktX1_remember_1 := dk_seg dksX1_remember_0 24 rfl rfl
theorem dX1_remember_0 : decode cX1_remember 0 = .ok (.aload_n 0, 1) := dk_42 (dk_at dksX1_remember_0 0 rfl rfl)
theorem dX1_remember_1 : decode cX1_remember 1 = .ok (.getfield 19, 3) := dk_180 0 19 (dk_at dksX1_remember_0 1 rfl rfl)
theorem dX1_remember_4 : decode cX1_remember 4 = .ok (.invokevirtual 47, 3) := dk_182 0 47 (dk_at dksX1_remember_0 4 rfl rfl)
theorem dX1_remember_7 : decode cX1_remember 7 = .ok (.bipush 10, 2) := dk_16 10 (dk_at dksX1_remember_0 7 rfl rfl)
theorem dX1_remember_9 : decode cX1_remember 9 = .ok (.if_icmp .ne 11, 3) := dk_160 0 11 (dk_at dksX1_remember_0 9 rfl rfl)
theorem dX1_remember_12 : decode cX1_remember 12 = .ok (.aload_n 0, 1) := dk_42 (dk_at dksX1_remember_0 12 rfl rfl)
theorem dX1_remember_13 : decode cX1_remember 13 = .ok (.getfield 19, 3) := dk_180 0 19 (dk_at dksX1_remember_0 13 rfl rfl)
theorem dX1_remember_16 : decode cX1_remember 16 = .ok (.invokevirtual 51, 3) := dk_182 0 51 (dk_at dksX1_remember_0 16 rfl rfl)
theorem dX1_remember_19 : decode cX1_remember 19 = .ok (.pop, 1) := dk_87 (dk_at dksX1_remember_0 19 rfl rfl)
theorem dX1_remember_20 : decode cX1_remember 20 = .ok (.aload_n 0, 1) := dk_42 (dk_at dksX1_remember_0 20 rfl rfl)
theorem dX1_remember_21 : decode cX1_remember 21 = .ok (.getfield 19, 3) := dk_180 0 19 (dk_at dksX1_remember_0 21 rfl rfl)
theorem dX1_remember_24 : decode cX1_remember 24 = .ok (.aload_n 0, 1) := dk_42 (dk_at dksX1_remember_1 0 rfl rfl)
theorem dX1_remember_25 : decode cX1_remember 25 = .ok (.getfield 10, 3) := dk_180 0 10 (dk_at dksX1_remember_1 1 rfl rfl)
theorem dX1_remember_28 : decode cX1_remember 28 = .ok (.invokevirtual 55, 3) := dk_182 0 55 (dk_at dksX1_remember_1 4 rfl rfl)
theorem dX1_remember_31 : decode cX1_remember 31 = .ok (.invokevirtual 59, 3) := dk_182 0 59 (dk_at dksX1_remember_1 7 rfl rfl)
theorem dX1_remember_34 : decode cX1_remember 34 = .ok (.return_, 1) := dk_177 (dk_at dksX1_remember_1 10 rfl rfl)
def dkwX1_seal_1 : List UInt8 := [180, 0, 10, 182, 1, 55, 172]
abbrev dktX1_seal_1 : List UInt8 := dkwX1_seal_1 ++ []
def dkwX1_seal_0 : List UInt8 := [42, 180, 0, 10, 180, 0, 112, 182, 0, 99, 16, 40, 160, 0, 6, 16, 253, 172, 42, 182, 1, 48, 42]
abbrev dktX1_seal_0 : List UInt8 := dkwX1_seal_0 ++ dktX1_seal_1
theorem dksX1_seal_0 : cX1_seal.data.toList.drop 0 = dktX1_seal_0 := by decide +kernel
theorem dksX1_seal_1 : cX1_seal.data.toList.drop 23 = dktX1_seal_1 := dk_seg dksX1_seal_0 23 rfl rfl
theorem dX1_seal_0 : decode cX1_seal 0 = .ok (.aload_n 0, 1) := dk_42 (dk_at dksX1_seal_0 0 rfl rfl)
theorem dX1_seal_1 : decode cX1_seal 1 = .ok (.getfield 10, 3) := dk_180 0 10 (dk_at dksX1_seal_0 1 rfl rfl)
theorem dX1_seal_4 : decode cX1_seal 4 = .ok (.getfield 112, 3) := dk_180 0 112 (dk_at dksX1_seal_0 4 rfl rfl)
theorem dX1_seal_7 : decode cX1_seal 7 = .ok (.invokevirtual 99, 3) := dk_182 0 99 (dk_at dksX1_seal_0 7 rfl rfl)
theorem dX1_seal_10 : decode cX1_seal 10 = .ok (.bipush 40, 2) := dk_16 40 (dk_at dksX1_seal_0 10 rfl rfl)
theorem dX1_seal_12 : decode cX1_seal 12 = .ok (.if_icmp .ne 6, 3) := dk_160 0 6 (dk_at dksX1_seal_0 12 rfl rfl)
theorem dX1_seal_15 : decode cX1_seal 15 = .ok (.bipush (-3), 2) := dk_16 253 (dk_at dksX1_seal_0 15 rfl rfl)
theorem dX1_seal_17 : decode cX1_seal 17 = .ok (.ireturn, 1) := dk_172 (dk_at dksX1_seal_0 17 rfl rfl)
theorem dX1_seal_18 : decode cX1_seal 18 = .ok (.aload_n 0, 1) := dk_42 (dk_at dksX1_seal_0 18 rfl rfl)
theorem dX1_seal_19 : decode cX1_seal 19 = .ok (.invokevirtual 304, 3) := dk_182 1 48 (dk_at dksX1_seal_0 19 rfl rfl)
theorem dX1_seal_22 : decode cX1_seal 22 = .ok (.aload_n 0, 1) := dk_42 (dk_at dksX1_seal_0 22 rfl rfl)
theorem dX1_seal_23 : decode cX1_seal 23 = .ok (.getfield 10, 3) := dk_180 0 10 (dk_at dksX1_seal_1 0 rfl rfl)
theorem dX1_seal_26 : decode cX1_seal 26 = .ok (.invokevirtual 311, 3) := dk_182 1 55 (dk_at dksX1_seal_1 3 rfl rfl)
theorem dX1_seal_29 : decode cX1_seal 29 = .ok (.ireturn, 1) := dk_172 (dk_at dksX1_seal_1 6 rfl rfl)
def dkwX1_run_3 : List UInt8 := [182, 1, 15, 182, 1, 18, 184, 1, 60, 182, 1, 65, 172]
abbrev dktX1_run_3 : List UInt8 := dkwX1_run_3 ++ []
def dkwX1_run_2 : List UInt8 := [180, 0, 10, 27, 182, 0, 108, 78, 42, 180, 0, 10, 45, 28, 42, 180, 0, 10, 45, 42, 180, 0, 10]
abbrev dktX1_run_2 : List UInt8 := dkwX1_run_2 ++ dktX1_run_3
def dkwX1_run_1 : List UInt8 := [172, 42, 180, 0, 10, 27, 182, 0, 108, 180, 0, 145, 154, 0, 6, 16, 252, 172, 42, 182, 1, 48, 42]
abbrev dktX1_run_1 : List UInt8 := dkwX1_run_1 ++ dktX1_run_2
def dkwX1_run_0 : List UInt8 := [42, 27, 182, 1, 36, 154, 0, 5, 2, 172, 28, 133, 10, 20, 1, 58, 184, 0, 38, 154, 0, 6, 16, 254]
abbrev dktX1_run_0 : List UInt8 := dkwX1_run_0 ++ dktX1_run_1
theorem dksX1_run_0 : cX1_run.data.toList.drop 0 = dktX1_run_0 := by decide +kernel
theorem dksX1_run_1 : cX1_run.data.toList.drop 24 = dktX1_run_1 := dk_seg dksX1_run_0 24 rfl rfl
theorem dksX1_run_2 : cX1_run.data.toList.drop 47 = dktX1_run_2 := dk_seg dksX1_run_1 23 rfl rfl
theorem dksX1_run_3 : cX1_run.data.toList.drop 70 = dktX1_run_3 := dk_seg dksX1_run_2 23 rfl rfl
theorem dX1_run_0 : decode cX1_run 0 = .ok (.aload_n 0, 1) := dk_42 (dk_at dksX1_run_0 0 rfl rfl)
theorem dX1_run_1 : decode cX1_run 1 = .ok (.iload_n 1, 1) := dk_27 (dk_at dksX1_run_0 1 rfl rfl)
theorem dX1_run_2 : decode cX1_run 2 = .ok (.invokevirtual 292, 3) := dk_182 1 36 (dk_at dksX1_run_0 2 rfl rfl)
theorem dX1_run_5 : decode cX1_run 5 = .ok (.ifCond .ne 5, 3) := dk_154 0 5 (dk_at dksX1_run_0 5 rfl rfl)
theorem dX1_run_8 : decode cX1_run 8 = .ok (.iconst (-1), 1) := dk_2 (dk_at dksX1_run_0 8 rfl rfl)
theorem dX1_run_9 : decode cX1_run 9 = .ok (.ireturn, 1) := dk_172 (dk_at dksX1_run_0 9 rfl rfl)
theorem dX1_run_10 : decode cX1_run 10 = .ok (.iload_n 2, 1) := dk_28 (dk_at dksX1_run_0 10 rfl rfl)
theorem dX1_run_11 : decode cX1_run 11 = .ok (.i2l, 1) := dk_133 (dk_at dksX1_run_0 11 rfl rfl)
theorem dX1_run_12 : decode cX1_run 12 = .ok (.lconst 1, 1) := dk_10 (dk_at dksX1_run_0 12 rfl rfl)
theorem dX1_run_13 : decode cX1_run 13 = .ok (.ldc2_w 314, 3) := dk_20 1 58 (dk_at dksX1_run_0 13 rfl rfl)
theorem dX1_run_16 : decode cX1_run 16 = .ok (.invokestatic 38, 3) := dk_184 0 38 (dk_at dksX1_run_0 16 rfl rfl)
theorem dX1_run_19 : decode cX1_run 19 = .ok (.ifCond .ne 6, 3) := dk_154 0 6 (dk_at dksX1_run_0 19 rfl rfl)
theorem dX1_run_22 : decode cX1_run 22 = .ok (.bipush (-2), 2) := dk_16 254 (dk_at dksX1_run_0 22 rfl rfl)
theorem dX1_run_24 : decode cX1_run 24 = .ok (.ireturn, 1) := dk_172 (dk_at dksX1_run_1 0 rfl rfl)
theorem dX1_run_25 : decode cX1_run 25 = .ok (.aload_n 0, 1) := dk_42 (dk_at dksX1_run_1 1 rfl rfl)
theorem dX1_run_26 : decode cX1_run 26 = .ok (.getfield 10, 3) := dk_180 0 10 (dk_at dksX1_run_1 2 rfl rfl)
theorem dX1_run_29 : decode cX1_run 29 = .ok (.iload_n 1, 1) := dk_27 (dk_at dksX1_run_1 5 rfl rfl)
theorem dX1_run_30 : decode cX1_run 30 = .ok (.invokevirtual 108, 3) := dk_182 0 108 (dk_at dksX1_run_1 6 rfl rfl)
theorem dX1_run_33 : decode cX1_run 33 = .ok (.getfield 145, 3) := dk_180 0 145 (dk_at dksX1_run_1 9 rfl rfl)
theorem dX1_run_36 : decode cX1_run 36 = .ok (.ifCond .ne 6, 3) := dk_154 0 6 (dk_at dksX1_run_1 12 rfl rfl)
theorem dX1_run_39 : decode cX1_run 39 = .ok (.bipush (-4), 2) := dk_16 252 (dk_at dksX1_run_1 15 rfl rfl)
theorem dX1_run_41 : decode cX1_run 41 = .ok (.ireturn, 1) := dk_172 (dk_at dksX1_run_1 17 rfl rfl)
theorem dX1_run_42 : decode cX1_run 42 = .ok (.aload_n 0, 1) := dk_42 (dk_at dksX1_run_1 18 rfl rfl)
theorem dX1_run_43 : decode cX1_run 43 = .ok (.invokevirtual 304, 3) := dk_182 1 48 (dk_at dksX1_run_1 19 rfl rfl)
theorem dX1_run_46 : decode cX1_run 46 = .ok (.aload_n 0, 1) := dk_42 (dk_at dksX1_run_1 22 rfl rfl)
theorem dX1_run_47 : decode cX1_run 47 = .ok (.getfield 10, 3) := dk_180 0 10 (dk_at dksX1_run_2 0 rfl rfl)
theorem dX1_run_50 : decode cX1_run 50 = .ok (.iload_n 1, 1) := dk_27 (dk_at dksX1_run_2 3 rfl rfl)
theorem dX1_run_51 : decode cX1_run 51 = .ok (.invokevirtual 108, 3) := dk_182 0 108 (dk_at dksX1_run_2 4 rfl rfl)
theorem dX1_run_54 : decode cX1_run 54 = .ok (.astore_n 3, 1) := dk_78 (dk_at dksX1_run_2 7 rfl rfl)
theorem dX1_run_55 : decode cX1_run 55 = .ok (.aload_n 0, 1) := dk_42 (dk_at dksX1_run_2 8 rfl rfl)
theorem dX1_run_56 : decode cX1_run 56 = .ok (.getfield 10, 3) := dk_180 0 10 (dk_at dksX1_run_2 9 rfl rfl)
theorem dX1_run_59 : decode cX1_run 59 = .ok (.aload_n 3, 1) := dk_45 (dk_at dksX1_run_2 12 rfl rfl)
theorem dX1_run_60 : decode cX1_run 60 = .ok (.iload_n 2, 1) := dk_28 (dk_at dksX1_run_2 13 rfl rfl)
theorem dX1_run_61 : decode cX1_run 61 = .ok (.aload_n 0, 1) := dk_42 (dk_at dksX1_run_2 14 rfl rfl)
theorem dX1_run_62 : decode cX1_run 62 = .ok (.getfield 10, 3) := dk_180 0 10 (dk_at dksX1_run_2 15 rfl rfl)
theorem dX1_run_65 : decode cX1_run 65 = .ok (.aload_n 3, 1) := dk_45 (dk_at dksX1_run_2 18 rfl rfl)
theorem dX1_run_66 : decode cX1_run 66 = .ok (.aload_n 0, 1) := dk_42 (dk_at dksX1_run_2 19 rfl rfl)
theorem dX1_run_67 : decode cX1_run 67 = .ok (.getfield 10, 3) := dk_180 0 10 (dk_at dksX1_run_2 20 rfl rfl)
theorem dX1_run_70 : decode cX1_run 70 = .ok (.invokevirtual 271, 3) := dk_182 1 15 (dk_at dksX1_run_3 0 rfl rfl)
theorem dX1_run_73 : decode cX1_run 73 = .ok (.invokevirtual 274, 3) := dk_182 1 18 (dk_at dksX1_run_3 3 rfl rfl)
theorem dX1_run_76 : decode cX1_run 76 = .ok (.invokestatic 316, 3) := dk_184 1 60 (dk_at dksX1_run_3 6 rfl rfl)
theorem dX1_run_79 : decode cX1_run 79 = .ok (.invokevirtual 321, 3) := dk_182 1 65 (dk_at dksX1_run_3 9 rfl rfl)
theorem dX1_run_82 : decode cX1_run 82 = .ok (.ireturn, 1) := dk_172 (dk_at dksX1_run_3 12 rfl rfl)
def dkwX1_tick_3 : List UInt8 := [172]
abbrev dktX1_tick_3 : List UInt8 := dkwX1_tick_3 ++ []
def dkwX1_tick_2 : List UInt8 := [180, 0, 10, 25, 4, 27, 182, 1, 18, 184, 1, 60, 182, 1, 65, 96, 61, 132, 3, 1, 167, 255, 205, 28]
abbrev dktX1_tick_2 : List UInt8 := dkwX1_tick_2 ++ dktX1_tick_3
def dkwX1_tick_1 : List UInt8 := [42, 180, 0, 10, 29, 182, 0, 108, 58, 4, 28, 42, 180, 0, 10, 25, 4, 25, 4, 180, 0, 139, 42]
abbrev dktX1_tick_1 : List UInt8 := dkwX1_tick_1 ++ dktX1_tick_2
def dkwX1_tick_0 : List UInt8 := [42, 182, 1, 48, 42, 180, 0, 10, 182, 1, 15, 60, 3, 61, 3, 62, 29, 42, 182, 0, 102, 162, 0, 49]
abbrev dktX1_tick_0 : List UInt8 := dkwX1_tick_0 ++ dktX1_tick_1
theorem dksX1_tick_0 : cX1_tick.data.toList.drop 0 = dktX1_tick_0 := by decide +kernel
theorem dksX1_tick_1 : cX1_tick.data.toList.drop 24 = dktX1_tick_1 := dk_seg dksX1_tick_0 24 rfl rfl
theorem dksX1_tick_2 : cX1_tick.data.toList.drop 47 = dktX1_tick_2 := dk_seg dksX1_tick_1 23 rfl rfl
theorem dksX1_tick_3 : cX1_tick.data.toList.drop 71 = dktX1_tick_3 := dk_seg dksX1_tick_2 24 rfl rfl
theorem dX1_tick_0 : decode cX1_tick 0 = .ok (.aload_n 0, 1) := dk_42 (dk_at dksX1_tick_0 0 rfl rfl)
theorem dX1_tick_1 : decode cX1_tick 1 = .ok (.invokevirtual 304, 3) := dk_182 1 48 (dk_at dksX1_tick_0 1 rfl rfl)
theorem dX1_tick_4 : decode cX1_tick 4 = .ok (.aload_n 0, 1) := dk_42 (dk_at dksX1_tick_0 4 rfl rfl)
theorem dX1_tick_5 : decode cX1_tick 5 = .ok (.getfield 10, 3) := dk_180 0 10 (dk_at dksX1_tick_0 5 rfl rfl)
theorem dX1_tick_8 : decode cX1_tick 8 = .ok (.invokevirtual 271, 3) := dk_182 1 15 (dk_at dksX1_tick_0 8 rfl rfl)
theorem dX1_tick_11 : decode cX1_tick 11 = .ok (.istore_n 1, 1) := dk_60 (dk_at dksX1_tick_0 11 rfl rfl)
theorem dX1_tick_12 : decode cX1_tick 12 = .ok (.iconst 0, 1) := dk_3 (dk_at dksX1_tick_0 12 rfl rfl)
theorem dX1_tick_13 : decode cX1_tick 13 = .ok (.istore_n 2, 1) := dk_61 (dk_at dksX1_tick_0 13 rfl rfl)
theorem dX1_tick_14 : decode cX1_tick 14 = .ok (.iconst 0, 1) := dk_3 (dk_at dksX1_tick_0 14 rfl rfl)
theorem dX1_tick_15 : decode cX1_tick 15 = .ok (.istore_n 3, 1) := dk_62 (dk_at dksX1_tick_0 15 rfl rfl)
theorem dX1_tick_16 : decode cX1_tick 16 = .ok (.iload_n 3, 1) := dk_29 (dk_at dksX1_tick_0 16 rfl rfl)
theorem dX1_tick_17 : decode cX1_tick 17 = .ok (.aload_n 0, 1) := dk_42 (dk_at dksX1_tick_0 17 rfl rfl)
theorem dX1_tick_18 : decode cX1_tick 18 = .ok (.invokevirtual 102, 3) := dk_182 0 102 (dk_at dksX1_tick_0 18 rfl rfl)
theorem dX1_tick_21 : decode cX1_tick 21 = .ok (.if_icmp .ge 49, 3) := dk_162 0 49 (dk_at dksX1_tick_0 21 rfl rfl)
theorem dX1_tick_24 : decode cX1_tick 24 = .ok (.aload_n 0, 1) := dk_42 (dk_at dksX1_tick_1 0 rfl rfl)
theorem dX1_tick_25 : decode cX1_tick 25 = .ok (.getfield 10, 3) := dk_180 0 10 (dk_at dksX1_tick_1 1 rfl rfl)
theorem dX1_tick_28 : decode cX1_tick 28 = .ok (.iload_n 3, 1) := dk_29 (dk_at dksX1_tick_1 4 rfl rfl)
theorem dX1_tick_29 : decode cX1_tick 29 = .ok (.invokevirtual 108, 3) := dk_182 0 108 (dk_at dksX1_tick_1 5 rfl rfl)
theorem dX1_tick_32 : decode cX1_tick 32 = .ok (.astore 4, 2) := dk_58 4 (dk_at dksX1_tick_1 8 rfl rfl)
theorem dX1_tick_34 : decode cX1_tick 34 = .ok (.iload_n 2, 1) := dk_28 (dk_at dksX1_tick_1 10 rfl rfl)
theorem dX1_tick_35 : decode cX1_tick 35 = .ok (.aload_n 0, 1) := dk_42 (dk_at dksX1_tick_1 11 rfl rfl)
theorem dX1_tick_36 : decode cX1_tick 36 = .ok (.getfield 10, 3) := dk_180 0 10 (dk_at dksX1_tick_1 12 rfl rfl)
theorem dX1_tick_39 : decode cX1_tick 39 = .ok (.aload 4, 2) := dk_25 4 (dk_at dksX1_tick_1 15 rfl rfl)
theorem dX1_tick_41 : decode cX1_tick 41 = .ok (.aload 4, 2) := dk_25 4 (dk_at dksX1_tick_1 17 rfl rfl)
theorem dX1_tick_43 : decode cX1_tick 43 = .ok (.getfield 139, 3) := dk_180 0 139 (dk_at dksX1_tick_1 19 rfl rfl)
theorem dX1_tick_46 : decode cX1_tick 46 = .ok (.aload_n 0, 1) := dk_42 (dk_at dksX1_tick_1 22 rfl rfl)
theorem dX1_tick_47 : decode cX1_tick 47 = .ok (.getfield 10, 3) := dk_180 0 10 (dk_at dksX1_tick_2 0 rfl rfl)
theorem dX1_tick_50 : decode cX1_tick 50 = .ok (.aload 4, 2) := dk_25 4 (dk_at dksX1_tick_2 3 rfl rfl)
theorem dX1_tick_52 : decode cX1_tick 52 = .ok (.iload_n 1, 1) := dk_27 (dk_at dksX1_tick_2 5 rfl rfl)
theorem dX1_tick_53 : decode cX1_tick 53 = .ok (.invokevirtual 274, 3) := dk_182 1 18 (dk_at dksX1_tick_2 6 rfl rfl)
theorem dX1_tick_56 : decode cX1_tick 56 = .ok (.invokestatic 316, 3) := dk_184 1 60 (dk_at dksX1_tick_2 9 rfl rfl)
theorem dX1_tick_59 : decode cX1_tick 59 = .ok (.invokevirtual 321, 3) := dk_182 1 65 (dk_at dksX1_tick_2 12 rfl rfl)
theorem dX1_tick_62 : decode cX1_tick 62 = .ok (.iadd, 1) := dk_96 (dk_at dksX1_tick_2 15 rfl rfl)
theorem dX1_tick_63 : decode cX1_tick 63 = .ok (.istore_n 2, 1) := dk_61 (dk_at dksX1_tick_2 16 rfl rfl)
theorem dX1_tick_64 : decode cX1_tick 64 = .ok (.iinc 3 1, 3) := dk_132 3 1 (dk_at dksX1_tick_2 17 rfl rfl)
theorem dX1_tick_67 : decode cX1_tick 67 = .ok (.goto (-51), 3) := dk_167 255 205 (dk_at dksX1_tick_2 20 rfl rfl)
theorem dX1_tick_70 : decode cX1_tick 70 = .ok (.iload_n 2, 1) := dk_28 (dk_at dksX1_tick_2 23 rfl rfl)
theorem dX1_tick_71 : decode cX1_tick 71 = .ok (.ireturn, 1) := dk_172 (dk_at dksX1_tick_3 0 rfl rfl)
def dkwX1_fault_5 : List UInt8 := [183, 1, 72, 182, 1, 75, 87, 42, 180, 0, 10, 180, 0, 128, 182, 0, 99, 172]
abbrev dktX1_fault_5 : List UInt8 := dkwX1_fault_5 ++ []
def dkwX1_fault_4 : List UInt8 := [16, 253, 172, 42, 182, 1, 48, 42, 180, 0, 10, 180, 0, 128, 187, 0, 187, 89, 27, 28, 29, 21, 4]
abbrev dktX1_fault_4 : List UInt8 := dkwX1_fault_4 ++ dktX1_fault_5
def dkwX1_fault_3 : List UInt8 := [180, 0, 142, 162, 0, 6, 16, 252, 172, 42, 180, 0, 10, 180, 0, 128, 182, 0, 99, 16, 10, 160, 0, 6]
abbrev dktX1_fault_3 : List UInt8 := dkwX1_fault_3 ++ dktX1_fault_4
def dkwX1_fault_2 : List UInt8 := [180, 0, 10, 27, 182, 0, 108, 180, 0, 145, 153, 0, 18, 28, 42, 180, 0, 10, 27, 182, 0, 108]
abbrev dktX1_fault_2 : List UInt8 := dkwX1_fault_2 ++ dktX1_fault_3
def dkwX1_fault_1 : List UInt8 := [184, 1, 41, 153, 0, 16, 21, 4, 133, 10, 20, 1, 70, 184, 0, 38, 154, 0, 6, 16, 254, 172, 42]
abbrev dktX1_fault_1 : List UInt8 := dkwX1_fault_1 ++ dktX1_fault_2
def dkwX1_fault_0 : List UInt8 := [42, 27, 182, 1, 36, 154, 0, 5, 2, 172, 28, 133, 9, 20, 1, 68, 184, 0, 38, 153, 0, 23, 29]
abbrev dktX1_fault_0 : List UInt8 := dkwX1_fault_0 ++ dktX1_fault_1
theorem dksX1_fault_0 : cX1_fault.data.toList.drop 0 = dktX1_fault_0 := by decide +kernel
theorem dksX1_fault_1 : cX1_fault.data.toList.drop 23 = dktX1_fault_1 := dk_seg dksX1_fault_0 23 rfl rfl
theorem dksX1_fault_2 : cX1_fault.data.toList.drop 46 = dktX1_fault_2 := dk_seg dksX1_fault_1 23 rfl rfl
theorem dksX1_fault_3 : cX1_fault.data.toList.drop 68 = dktX1_fault_3 := dk_seg dksX1_fault_2 22 rfl rfl
theorem dksX1_fault_4 : cX1_fault.data.toList.drop 92 = dktX1_fault_4 := dk_seg dksX1_fault_3 24 rfl rfl
theorem dksX1_fault_5 : cX1_fault.data.toList.drop 115 = dktX1_fault_5 := dk_seg dksX1_fault_4 23 rfl rfl
theorem dX1_fault_0 : decode cX1_fault 0 = .ok (.aload_n 0, 1) := dk_42 (dk_at dksX1_fault_0 0 rfl rfl)
theorem dX1_fault_1 : decode cX1_fault 1 = .ok (.iload_n 1, 1) := dk_27 (dk_at dksX1_fault_0 1 rfl rfl)
theorem dX1_fault_2 : decode cX1_fault 2 = .ok (.invokevirtual 292, 3) := dk_182 1 36 (dk_at dksX1_fault_0 2 rfl rfl)
theorem dX1_fault_5 : decode cX1_fault 5 = .ok (.ifCond .ne 5, 3) := dk_154 0 5 (dk_at dksX1_fault_0 5 rfl rfl)
theorem dX1_fault_8 : decode cX1_fault 8 = .ok (.iconst (-1), 1) := dk_2 (dk_at dksX1_fault_0 8 rfl rfl)
theorem dX1_fault_9 : decode cX1_fault 9 = .ok (.ireturn, 1) := dk_172 (dk_at dksX1_fault_0 9 rfl rfl)
theorem dX1_fault_10 : decode cX1_fault 10 = .ok (.iload_n 2, 1) := dk_28 (dk_at dksX1_fault_0 10 rfl rfl)
theorem dX1_fault_11 : decode cX1_fault 11 = .ok (.i2l, 1) := dk_133 (dk_at dksX1_fault_0 11 rfl rfl)
theorem dX1_fault_12 : decode cX1_fault 12 = .ok (.lconst 0, 1) := dk_9 (dk_at dksX1_fault_0 12 rfl rfl)
theorem dX1_fault_13 : decode cX1_fault 13 = .ok (.ldc2_w 324, 3) := dk_20 1 68 (dk_at dksX1_fault_0 13 rfl rfl)
theorem dX1_fault_16 : decode cX1_fault 16 = .ok (.invokestatic 38, 3) := dk_184 0 38 (dk_at dksX1_fault_0 16 rfl rfl)
theorem dX1_fault_19 : decode cX1_fault 19 = .ok (.ifCond .eq 23, 3) := dk_153 0 23 (dk_at dksX1_fault_0 19 rfl rfl)
theorem dX1_fault_22 : decode cX1_fault 22 = .ok (.iload_n 3, 1) := dk_29 (dk_at dksX1_fault_0 22 rfl rfl)
theorem dX1_fault_23 : decode cX1_fault 23 = .ok (.invokestatic 297, 3) := dk_184 1 41 (dk_at dksX1_fault_1 0 rfl rfl)
theorem dX1_fault_26 : decode cX1_fault 26 = .ok (.ifCond .eq 16, 3) := dk_153 0 16 (dk_at dksX1_fault_1 3 rfl rfl)
theorem dX1_fault_29 : decode cX1_fault 29 = .ok (.iload 4, 2) := dk_21 4 (dk_at dksX1_fault_1 6 rfl rfl)
theorem dX1_fault_31 : decode cX1_fault 31 = .ok (.i2l, 1) := dk_133 (dk_at dksX1_fault_1 8 rfl rfl)
theorem dX1_fault_32 : decode cX1_fault 32 = .ok (.lconst 1, 1) := dk_10 (dk_at dksX1_fault_1 9 rfl rfl)
theorem dX1_fault_33 : decode cX1_fault 33 = .ok (.ldc2_w 326, 3) := dk_20 1 70 (dk_at dksX1_fault_1 10 rfl rfl)
theorem dX1_fault_36 : decode cX1_fault 36 = .ok (.invokestatic 38, 3) := dk_184 0 38 (dk_at dksX1_fault_1 13 rfl rfl)
theorem dX1_fault_39 : decode cX1_fault 39 = .ok (.ifCond .ne 6, 3) := dk_154 0 6 (dk_at dksX1_fault_1 16 rfl rfl)
theorem dX1_fault_42 : decode cX1_fault 42 = .ok (.bipush (-2), 2) := dk_16 254 (dk_at dksX1_fault_1 19 rfl rfl)
theorem dX1_fault_44 : decode cX1_fault 44 = .ok (.ireturn, 1) := dk_172 (dk_at dksX1_fault_1 21 rfl rfl)
theorem dX1_fault_45 : decode cX1_fault 45 = .ok (.aload_n 0, 1) := dk_42 (dk_at dksX1_fault_1 22 rfl rfl)
theorem dX1_fault_46 : decode cX1_fault 46 = .ok (.getfield 10, 3) := dk_180 0 10 (dk_at dksX1_fault_2 0 rfl rfl)
theorem dX1_fault_49 : decode cX1_fault 49 = .ok (.iload_n 1, 1) := dk_27 (dk_at dksX1_fault_2 3 rfl rfl)
theorem dX1_fault_50 : decode cX1_fault 50 = .ok (.invokevirtual 108, 3) := dk_182 0 108 (dk_at dksX1_fault_2 4 rfl rfl)
theorem dX1_fault_53 : decode cX1_fault 53 = .ok (.getfield 145, 3) := dk_180 0 145 (dk_at dksX1_fault_2 7 rfl rfl)
theorem dX1_fault_56 : decode cX1_fault 56 = .ok (.ifCond .eq 18, 3) := dk_153 0 18 (dk_at dksX1_fault_2 10 rfl rfl)
theorem dX1_fault_59 : decode cX1_fault 59 = .ok (.iload_n 2, 1) := dk_28 (dk_at dksX1_fault_2 13 rfl rfl)
theorem dX1_fault_60 : decode cX1_fault 60 = .ok (.aload_n 0, 1) := dk_42 (dk_at dksX1_fault_2 14 rfl rfl)
theorem dX1_fault_61 : decode cX1_fault 61 = .ok (.getfield 10, 3) := dk_180 0 10 (dk_at dksX1_fault_2 15 rfl rfl)
theorem dX1_fault_64 : decode cX1_fault 64 = .ok (.iload_n 1, 1) := dk_27 (dk_at dksX1_fault_2 18 rfl rfl)
theorem dX1_fault_65 : decode cX1_fault 65 = .ok (.invokevirtual 108, 3) := dk_182 0 108 (dk_at dksX1_fault_2 19 rfl rfl)
theorem dX1_fault_68 : decode cX1_fault 68 = .ok (.getfield 142, 3) := dk_180 0 142 (dk_at dksX1_fault_3 0 rfl rfl)
theorem dX1_fault_71 : decode cX1_fault 71 = .ok (.if_icmp .ge 6, 3) := dk_162 0 6 (dk_at dksX1_fault_3 3 rfl rfl)
theorem dX1_fault_74 : decode cX1_fault 74 = .ok (.bipush (-4), 2) := dk_16 252 (dk_at dksX1_fault_3 6 rfl rfl)
theorem dX1_fault_76 : decode cX1_fault 76 = .ok (.ireturn, 1) := dk_172 (dk_at dksX1_fault_3 8 rfl rfl)
theorem dX1_fault_77 : decode cX1_fault 77 = .ok (.aload_n 0, 1) := dk_42 (dk_at dksX1_fault_3 9 rfl rfl)
theorem dX1_fault_78 : decode cX1_fault 78 = .ok (.getfield 10, 3) := dk_180 0 10 (dk_at dksX1_fault_3 10 rfl rfl)
theorem dX1_fault_81 : decode cX1_fault 81 = .ok (.getfield 128, 3) := dk_180 0 128 (dk_at dksX1_fault_3 13 rfl rfl)
theorem dX1_fault_84 : decode cX1_fault 84 = .ok (.invokevirtual 99, 3) := dk_182 0 99 (dk_at dksX1_fault_3 16 rfl rfl)
theorem dX1_fault_87 : decode cX1_fault 87 = .ok (.bipush 10, 2) := dk_16 10 (dk_at dksX1_fault_3 19 rfl rfl)
theorem dX1_fault_89 : decode cX1_fault 89 = .ok (.if_icmp .ne 6, 3) := dk_160 0 6 (dk_at dksX1_fault_3 21 rfl rfl)
theorem dX1_fault_92 : decode cX1_fault 92 = .ok (.bipush (-3), 2) := dk_16 253 (dk_at dksX1_fault_4 0 rfl rfl)
theorem dX1_fault_94 : decode cX1_fault 94 = .ok (.ireturn, 1) := dk_172 (dk_at dksX1_fault_4 2 rfl rfl)
theorem dX1_fault_95 : decode cX1_fault 95 = .ok (.aload_n 0, 1) := dk_42 (dk_at dksX1_fault_4 3 rfl rfl)
theorem dX1_fault_96 : decode cX1_fault 96 = .ok (.invokevirtual 304, 3) := dk_182 1 48 (dk_at dksX1_fault_4 4 rfl rfl)
theorem dX1_fault_99 : decode cX1_fault 99 = .ok (.aload_n 0, 1) := dk_42 (dk_at dksX1_fault_4 7 rfl rfl)
theorem dX1_fault_100 : decode cX1_fault 100 = .ok (.getfield 10, 3) := dk_180 0 10 (dk_at dksX1_fault_4 8 rfl rfl)
theorem dX1_fault_103 : decode cX1_fault 103 = .ok (.getfield 128, 3) := dk_180 0 128 (dk_at dksX1_fault_4 11 rfl rfl)
theorem dX1_fault_106 : decode cX1_fault 106 = .ok (.new 187, 3) := dk_187 0 187 (dk_at dksX1_fault_4 14 rfl rfl)
theorem dX1_fault_109 : decode cX1_fault 109 = .ok (.dup, 1) := dk_89 (dk_at dksX1_fault_4 17 rfl rfl)
theorem dX1_fault_110 : decode cX1_fault 110 = .ok (.iload_n 1, 1) := dk_27 (dk_at dksX1_fault_4 18 rfl rfl)
theorem dX1_fault_111 : decode cX1_fault 111 = .ok (.iload_n 2, 1) := dk_28 (dk_at dksX1_fault_4 19 rfl rfl)
theorem dX1_fault_112 : decode cX1_fault 112 = .ok (.iload_n 3, 1) := dk_29 (dk_at dksX1_fault_4 20 rfl rfl)
theorem dX1_fault_113 : decode cX1_fault 113 = .ok (.iload 4, 2) := dk_21 4 (dk_at dksX1_fault_4 21 rfl rfl)
theorem dX1_fault_115 : decode cX1_fault 115 = .ok (.invokespecial 328, 3) := dk_183 1 72 (dk_at dksX1_fault_5 0 rfl rfl)
theorem dX1_fault_118 : decode cX1_fault 118 = .ok (.invokevirtual 331, 3) := dk_182 1 75 (dk_at dksX1_fault_5 3 rfl rfl)
theorem dX1_fault_121 : decode cX1_fault 121 = .ok (.pop, 1) := dk_87 (dk_at dksX1_fault_5 6 rfl rfl)
theorem dX1_fault_122 : decode cX1_fault 122 = .ok (.aload_n 0, 1) := dk_42 (dk_at dksX1_fault_5 7 rfl rfl)
theorem dX1_fault_123 : decode cX1_fault 123 = .ok (.getfield 10, 3) := dk_180 0 10 (dk_at dksX1_fault_5 8 rfl rfl)
theorem dX1_fault_126 : decode cX1_fault 126 = .ok (.getfield 128, 3) := dk_180 0 128 (dk_at dksX1_fault_5 11 rfl rfl)
theorem dX1_fault_129 : decode cX1_fault 129 = .ok (.invokevirtual 99, 3) := dk_182 0 99 (dk_at dksX1_fault_5 14 rfl rfl)
theorem dX1_fault_132 : decode cX1_fault 132 = .ok (.ireturn, 1) := dk_172 (dk_at dksX1_fault_5 17 rfl rfl)
def dkwX1_heal_2 : List UInt8 := [182, 0, 108, 182, 1, 79, 172]
abbrev dktX1_heal_2 : List UInt8 := dkwX1_heal_2 ++ []
def dkwX1_heal_1 : List UInt8 := [182, 1, 8, 153, 0, 6, 16, 252, 172, 42, 182, 1, 48, 42, 180, 0, 10, 42, 180, 0, 10, 27]
abbrev dktX1_heal_1 : List UInt8 := dkwX1_heal_1 ++ dktX1_heal_2
def dkwX1_heal_0 : List UInt8 := [42, 27, 182, 1, 36, 154, 0, 5, 2, 172, 42, 180, 0, 10, 42, 180, 0, 10, 27, 182, 0, 108]
abbrev dktX1_heal_0 : List UInt8 := dkwX1_heal_0 ++ dktX1_heal_1
theorem dksX1_heal_0 : cX1_heal.data.toList.drop 0 = dktX1_heal_0 := by decide +kernel
theorem dksX1_heal_1 : cX1_heal.data.toList.drop 22 = dktX1_heal_1 := dk_seg dksX1_heal_0 22 rfl rfl
theorem dksX1_heal_2 : cX1_heal.data.toList.drop 44 = dktX1_heal_2 := dk_seg dksX1_heal_1 22 rfl rfl
theorem dX1_heal_0 : decode cX1_heal 0 = .ok (.aload_n 0, 1) := dk_42 (dk_at dksX1_heal_0 0 rfl rfl)
theorem dX1_heal_1 : decode cX1_heal 1 = .ok (.iload_n 1, 1) := dk_27 (dk_at dksX1_heal_0 1 rfl rfl)
theorem dX1_heal_2 : decode cX1_heal 2 = .ok (.invokevirtual 292, 3) := dk_182 1 36 (dk_at dksX1_heal_0 2 rfl rfl)
theorem dX1_heal_5 : decode cX1_heal 5 = .ok (.ifCond .ne 5, 3) := dk_154 0 5 (dk_at dksX1_heal_0 5 rfl rfl)
theorem dX1_heal_8 : decode cX1_heal 8 = .ok (.iconst (-1), 1) := dk_2 (dk_at dksX1_heal_0 8 rfl rfl)
theorem dX1_heal_9 : decode cX1_heal 9 = .ok (.ireturn, 1) := dk_172 (dk_at dksX1_heal_0 9 rfl rfl)
theorem dX1_heal_10 : decode cX1_heal 10 = .ok (.aload_n 0, 1) := dk_42 (dk_at dksX1_heal_0 10 rfl rfl)
theorem dX1_heal_11 : decode cX1_heal 11 = .ok (.getfield 10, 3) := dk_180 0 10 (dk_at dksX1_heal_0 11 rfl rfl)
theorem dX1_heal_14 : decode cX1_heal 14 = .ok (.aload_n 0, 1) := dk_42 (dk_at dksX1_heal_0 14 rfl rfl)
theorem dX1_heal_15 : decode cX1_heal 15 = .ok (.getfield 10, 3) := dk_180 0 10 (dk_at dksX1_heal_0 15 rfl rfl)
theorem dX1_heal_18 : decode cX1_heal 18 = .ok (.iload_n 1, 1) := dk_27 (dk_at dksX1_heal_0 18 rfl rfl)
theorem dX1_heal_19 : decode cX1_heal 19 = .ok (.invokevirtual 108, 3) := dk_182 0 108 (dk_at dksX1_heal_0 19 rfl rfl)
theorem dX1_heal_22 : decode cX1_heal 22 = .ok (.invokevirtual 264, 3) := dk_182 1 8 (dk_at dksX1_heal_1 0 rfl rfl)
theorem dX1_heal_25 : decode cX1_heal 25 = .ok (.ifCond .eq 6, 3) := dk_153 0 6 (dk_at dksX1_heal_1 3 rfl rfl)
theorem dX1_heal_28 : decode cX1_heal 28 = .ok (.bipush (-4), 2) := dk_16 252 (dk_at dksX1_heal_1 6 rfl rfl)
theorem dX1_heal_30 : decode cX1_heal 30 = .ok (.ireturn, 1) := dk_172 (dk_at dksX1_heal_1 8 rfl rfl)
theorem dX1_heal_31 : decode cX1_heal 31 = .ok (.aload_n 0, 1) := dk_42 (dk_at dksX1_heal_1 9 rfl rfl)
theorem dX1_heal_32 : decode cX1_heal 32 = .ok (.invokevirtual 304, 3) := dk_182 1 48 (dk_at dksX1_heal_1 10 rfl rfl)
theorem dX1_heal_35 : decode cX1_heal 35 = .ok (.aload_n 0, 1) := dk_42 (dk_at dksX1_heal_1 13 rfl rfl)
theorem dX1_heal_36 : decode cX1_heal 36 = .ok (.getfield 10, 3) := dk_180 0 10 (dk_at dksX1_heal_1 14 rfl rfl)
theorem dX1_heal_39 : decode cX1_heal 39 = .ok (.aload_n 0, 1) := dk_42 (dk_at dksX1_heal_1 17 rfl rfl)
theorem dX1_heal_40 : decode cX1_heal 40 = .ok (.getfield 10, 3) := dk_180 0 10 (dk_at dksX1_heal_1 18 rfl rfl)
theorem dX1_heal_43 : decode cX1_heal 43 = .ok (.iload_n 1, 1) := dk_27 (dk_at dksX1_heal_1 21 rfl rfl)
theorem dX1_heal_44 : decode cX1_heal 44 = .ok (.invokevirtual 108, 3) := dk_182 0 108 (dk_at dksX1_heal_2 0 rfl rfl)
theorem dX1_heal_47 : decode cX1_heal 47 = .ok (.invokevirtual 335, 3) := dk_182 1 79 (dk_at dksX1_heal_2 3 rfl rfl)
theorem dX1_heal_50 : decode cX1_heal 50 = .ok (.ireturn, 1) := dk_172 (dk_at dksX1_heal_2 6 rfl rfl)
def dkwX1_healAll_1 : List UInt8 := [180, 0, 10, 78, 42, 43, 181, 0, 10, 42, 182, 1, 48, 42, 45, 181, 0, 10, 28, 172]
abbrev dktX1_healAll_1 : List UInt8 := dkwX1_healAll_1 ++ []
def dkwX1_healAll_0 : List UInt8 := [42, 180, 0, 10, 182, 0, 55, 76, 42, 180, 0, 10, 182, 1, 82, 61, 28, 154, 0, 5, 2, 172, 42]
abbrev dktX1_healAll_0 : List UInt8 := dkwX1_healAll_0 ++ dktX1_healAll_1
theorem dksX1_healAll_0 : cX1_healAll.data.toList.drop 0 = dktX1_healAll_0 := by decide +kernel
theorem dksX1_healAll_1 : cX1_healAll.data.toList.drop 23 = dktX1_healAll_1 := dk_seg dksX1_healAll_0 23 rfl rfl
theorem dX1_healAll_0 : decode cX1_healAll 0 = .ok (.aload_n 0, 1) := dk_42 (dk_at dksX1_healAll_0 0 rfl rfl)
theorem dX1_healAll_1 : decode cX1_healAll 1 = .ok (.getfield 10, 3) := dk_180 0 10 (dk_at dksX1_healAll_0 1 rfl rfl)
theorem dX1_healAll_4 : decode cX1_healAll 4 = .ok (.invokevirtual 55, 3) := dk_182 0 55 (dk_at dksX1_healAll_0 4 rfl rfl)
theorem dX1_healAll_7 : decode cX1_healAll 7 = .ok (.astore_n 1, 1) := dk_76 (dk_at dksX1_healAll_0 7 rfl rfl)
theorem dX1_healAll_8 : decode cX1_healAll 8 = .ok (.aload_n 0, 1) := dk_42 (dk_at dksX1_healAll_0 8 rfl rfl)
theorem dX1_healAll_9 : decode cX1_healAll 9 = .ok (.getfield 10, 3) := dk_180 0 10 (dk_at dksX1_healAll_0 9 rfl rfl)
theorem dX1_healAll_12 : decode cX1_healAll 12 = .ok (.invokevirtual 338, 3) := dk_182 1 82 (dk_at dksX1_healAll_0 12 rfl rfl)
theorem dX1_healAll_15 : decode cX1_healAll 15 = .ok (.istore_n 2, 1) := dk_61 (dk_at dksX1_healAll_0 15 rfl rfl)
theorem dX1_healAll_16 : decode cX1_healAll 16 = .ok (.iload_n 2, 1) := dk_28 (dk_at dksX1_healAll_0 16 rfl rfl)
theorem dX1_healAll_17 : decode cX1_healAll 17 = .ok (.ifCond .ne 5, 3) := dk_154 0 5 (dk_at dksX1_healAll_0 17 rfl rfl)
theorem dX1_healAll_20 : decode cX1_healAll 20 = .ok (.iconst (-1), 1) := dk_2 (dk_at dksX1_healAll_0 20 rfl rfl)
theorem dX1_healAll_21 : decode cX1_healAll 21 = .ok (.ireturn, 1) := dk_172 (dk_at dksX1_healAll_0 21 rfl rfl)
theorem dX1_healAll_22 : decode cX1_healAll 22 = .ok (.aload_n 0, 1) := dk_42 (dk_at dksX1_healAll_0 22 rfl rfl)
theorem dX1_healAll_23 : decode cX1_healAll 23 = .ok (.getfield 10, 3) := dk_180 0 10 (dk_at dksX1_healAll_1 0 rfl rfl)
theorem dX1_healAll_26 : decode cX1_healAll 26 = .ok (.astore_n 3, 1) := dk_78 (dk_at dksX1_healAll_1 3 rfl rfl)
theorem dX1_healAll_27 : decode cX1_healAll 27 = .ok (.aload_n 0, 1) := dk_42 (dk_at dksX1_healAll_1 4 rfl rfl)
theorem dX1_healAll_28 : decode cX1_healAll 28 = .ok (.aload_n 1, 1) := dk_43 (dk_at dksX1_healAll_1 5 rfl rfl)
theorem dX1_healAll_29 : decode cX1_healAll 29 = .ok (.putfield 10, 3) := dk_181 0 10 (dk_at dksX1_healAll_1 6 rfl rfl)
theorem dX1_healAll_32 : decode cX1_healAll 32 = .ok (.aload_n 0, 1) := dk_42 (dk_at dksX1_healAll_1 9 rfl rfl)
theorem dX1_healAll_33 : decode cX1_healAll 33 = .ok (.invokevirtual 304, 3) := dk_182 1 48 (dk_at dksX1_healAll_1 10 rfl rfl)
theorem dX1_healAll_36 : decode cX1_healAll 36 = .ok (.aload_n 0, 1) := dk_42 (dk_at dksX1_healAll_1 13 rfl rfl)
theorem dX1_healAll_37 : decode cX1_healAll 37 = .ok (.aload_n 3, 1) := dk_45 (dk_at dksX1_healAll_1 14 rfl rfl)
theorem dX1_healAll_38 : decode cX1_healAll 38 = .ok (.putfield 10, 3) := dk_181 0 10 (dk_at dksX1_healAll_1 15 rfl rfl)
theorem dX1_healAll_41 : decode cX1_healAll 41 = .ok (.iload_n 2, 1) := dk_28 (dk_at dksX1_healAll_1 18 rfl rfl)
theorem dX1_healAll_42 : decode cX1_healAll 42 = .ok (.ireturn, 1) := dk_172 (dk_at dksX1_healAll_1 19 rfl rfl)
def dkwX1_join_2 : List UInt8 := [16, 252, 172, 42, 182, 1, 48, 42, 180, 0, 10, 27, 28, 182, 1, 87, 172]
abbrev dktX1_join_2 : List UInt8 := dkwX1_join_2 ++ []
def dkwX1_join_1 : List UInt8 := [16, 253, 172, 42, 180, 0, 10, 42, 180, 0, 10, 182, 1, 15, 2, 182, 1, 4, 61, 28, 2, 160, 0, 6]
abbrev dktX1_join_1 : List UInt8 := dkwX1_join_1 ++ dktX1_join_2
def dkwX1_join_0 : List UInt8 := [27, 133, 10, 20, 1, 85, 184, 0, 38, 154, 0, 6, 16, 254, 172, 42, 182, 0, 102, 16, 6, 160, 0, 6]
abbrev dktX1_join_0 : List UInt8 := dkwX1_join_0 ++ dktX1_join_1
theorem dksX1_join_0 : cX1_join.data.toList.drop 0 = dktX1_join_0 := by decide +kernel
theorem dksX1_join_1 : cX1_join.data.toList.drop 24 = dktX1_join_1 := dk_seg dksX1_join_0 24 rfl rfl
theorem dksX1_join_2 : cX1_join.data.toList.drop 48 = dktX1_join_2 := dk_seg dksX1_join_1 24 rfl rfl
theorem dX1_join_0 : decode cX1_join 0 = .ok (.iload_n 1, 1) := dk_27 (dk_at dksX1_join_0 0 rfl rfl)
theorem dX1_join_1 : decode cX1_join 1 = .ok (.i2l, 1) := dk_133 (dk_at dksX1_join_0 1 rfl rfl)
theorem dX1_join_2 : decode cX1_join 2 = .ok (.lconst 1, 1) := dk_10 (dk_at dksX1_join_0 2 rfl rfl)
theorem dX1_join_3 : decode cX1_join 3 = .ok (.ldc2_w 341, 3) := dk_20 1 85 (dk_at dksX1_join_0 3 rfl rfl)
theorem dX1_join_6 : decode cX1_join 6 = .ok (.invokestatic 38, 3) := dk_184 0 38 (dk_at dksX1_join_0 6 rfl rfl)
theorem dX1_join_9 : decode cX1_join 9 = .ok (.ifCond .ne 6, 3) := dk_154 0 6 (dk_at dksX1_join_0 9 rfl rfl)
theorem dX1_join_12 : decode cX1_join 12 = .ok (.bipush (-2), 2) := dk_16 254 (dk_at dksX1_join_0 12 rfl rfl)
theorem dX1_join_14 : decode cX1_join 14 = .ok (.ireturn, 1) := dk_172 (dk_at dksX1_join_0 14 rfl rfl)
theorem dX1_join_15 : decode cX1_join 15 = .ok (.aload_n 0, 1) := dk_42 (dk_at dksX1_join_0 15 rfl rfl)
theorem dX1_join_16 : decode cX1_join 16 = .ok (.invokevirtual 102, 3) := dk_182 0 102 (dk_at dksX1_join_0 16 rfl rfl)
theorem dX1_join_19 : decode cX1_join 19 = .ok (.bipush 6, 2) := dk_16 6 (dk_at dksX1_join_0 19 rfl rfl)
theorem dX1_join_21 : decode cX1_join 21 = .ok (.if_icmp .ne 6, 3) := dk_160 0 6 (dk_at dksX1_join_0 21 rfl rfl)
theorem dX1_join_24 : decode cX1_join 24 = .ok (.bipush (-3), 2) := dk_16 253 (dk_at dksX1_join_1 0 rfl rfl)
theorem dX1_join_26 : decode cX1_join 26 = .ok (.ireturn, 1) := dk_172 (dk_at dksX1_join_1 2 rfl rfl)
theorem dX1_join_27 : decode cX1_join 27 = .ok (.aload_n 0, 1) := dk_42 (dk_at dksX1_join_1 3 rfl rfl)
theorem dX1_join_28 : decode cX1_join 28 = .ok (.getfield 10, 3) := dk_180 0 10 (dk_at dksX1_join_1 4 rfl rfl)
theorem dX1_join_31 : decode cX1_join 31 = .ok (.aload_n 0, 1) := dk_42 (dk_at dksX1_join_1 7 rfl rfl)
theorem dX1_join_32 : decode cX1_join 32 = .ok (.getfield 10, 3) := dk_180 0 10 (dk_at dksX1_join_1 8 rfl rfl)
theorem dX1_join_35 : decode cX1_join 35 = .ok (.invokevirtual 271, 3) := dk_182 1 15 (dk_at dksX1_join_1 11 rfl rfl)
theorem dX1_join_38 : decode cX1_join 38 = .ok (.iconst (-1), 1) := dk_2 (dk_at dksX1_join_1 14 rfl rfl)
theorem dX1_join_39 : decode cX1_join 39 = .ok (.invokevirtual 260, 3) := dk_182 1 4 (dk_at dksX1_join_1 15 rfl rfl)
theorem dX1_join_42 : decode cX1_join 42 = .ok (.istore_n 2, 1) := dk_61 (dk_at dksX1_join_1 18 rfl rfl)
theorem dX1_join_43 : decode cX1_join 43 = .ok (.iload_n 2, 1) := dk_28 (dk_at dksX1_join_1 19 rfl rfl)
theorem dX1_join_44 : decode cX1_join 44 = .ok (.iconst (-1), 1) := dk_2 (dk_at dksX1_join_1 20 rfl rfl)
theorem dX1_join_45 : decode cX1_join 45 = .ok (.if_icmp .ne 6, 3) := dk_160 0 6 (dk_at dksX1_join_1 21 rfl rfl)
theorem dX1_join_48 : decode cX1_join 48 = .ok (.bipush (-4), 2) := dk_16 252 (dk_at dksX1_join_2 0 rfl rfl)
theorem dX1_join_50 : decode cX1_join 50 = .ok (.ireturn, 1) := dk_172 (dk_at dksX1_join_2 2 rfl rfl)
theorem dX1_join_51 : decode cX1_join 51 = .ok (.aload_n 0, 1) := dk_42 (dk_at dksX1_join_2 3 rfl rfl)
theorem dX1_join_52 : decode cX1_join 52 = .ok (.invokevirtual 304, 3) := dk_182 1 48 (dk_at dksX1_join_2 4 rfl rfl)
theorem dX1_join_55 : decode cX1_join 55 = .ok (.aload_n 0, 1) := dk_42 (dk_at dksX1_join_2 7 rfl rfl)
theorem dX1_join_56 : decode cX1_join 56 = .ok (.getfield 10, 3) := dk_180 0 10 (dk_at dksX1_join_2 8 rfl rfl)
theorem dX1_join_59 : decode cX1_join 59 = .ok (.iload_n 1, 1) := dk_27 (dk_at dksX1_join_2 11 rfl rfl)
theorem dX1_join_60 : decode cX1_join 60 = .ok (.iload_n 2, 1) := dk_28 (dk_at dksX1_join_2 12 rfl rfl)
theorem dX1_join_61 : decode cX1_join 61 = .ok (.invokevirtual 343, 3) := dk_182 1 87 (dk_at dksX1_join_2 13 rfl rfl)
theorem dX1_join_64 : decode cX1_join 64 = .ok (.ireturn, 1) := dk_172 (dk_at dksX1_join_2 16 rfl rfl)
def dkwX1_leave_2 : List UInt8 := [180, 0, 10, 182, 1, 22, 172]
abbrev dktX1_leave_2 : List UInt8 := dkwX1_leave_2 ++ []
def dkwX1_leave_1 : List UInt8 := [16, 252, 172, 42, 182, 1, 48, 42, 180, 0, 10, 42, 180, 0, 10, 27, 182, 0, 108, 182, 1, 90, 42]
abbrev dktX1_leave_1 : List UInt8 := dkwX1_leave_1 ++ dktX1_leave_2
def dkwX1_leave_0 : List UInt8 := [42, 27, 182, 1, 36, 154, 0, 5, 2, 172, 42, 180, 0, 10, 27, 182, 0, 108, 180, 0, 145, 154, 0, 6]
abbrev dktX1_leave_0 : List UInt8 := dkwX1_leave_0 ++ dktX1_leave_1
theorem dksX1_leave_0 : cX1_leave.data.toList.drop 0 = dktX1_leave_0 := by decide +kernel
theorem dksX1_leave_1 : cX1_leave.data.toList.drop 24 = dktX1_leave_1 := dk_seg dksX1_leave_0 24 rfl rfl
theorem dksX1_leave_2 : cX1_leave.data.toList.drop 47 = dktX1_leave_2 := dk_seg dksX1_leave_1 23 rfl rfl
theorem dX1_leave_0 : decode cX1_leave 0 = .ok (.aload_n 0, 1) := dk_42 (dk_at dksX1_leave_0 0 rfl rfl)
theorem dX1_leave_1 : decode cX1_leave 1 = .ok (.iload_n 1, 1) := dk_27 (dk_at dksX1_leave_0 1 rfl rfl)
theorem dX1_leave_2 : decode cX1_leave 2 = .ok (.invokevirtual 292, 3) := dk_182 1 36 (dk_at dksX1_leave_0 2 rfl rfl)
theorem dX1_leave_5 : decode cX1_leave 5 = .ok (.ifCond .ne 5, 3) := dk_154 0 5 (dk_at dksX1_leave_0 5 rfl rfl)
theorem dX1_leave_8 : decode cX1_leave 8 = .ok (.iconst (-1), 1) := dk_2 (dk_at dksX1_leave_0 8 rfl rfl)
theorem dX1_leave_9 : decode cX1_leave 9 = .ok (.ireturn, 1) := dk_172 (dk_at dksX1_leave_0 9 rfl rfl)
theorem dX1_leave_10 : decode cX1_leave 10 = .ok (.aload_n 0, 1) := dk_42 (dk_at dksX1_leave_0 10 rfl rfl)
theorem dX1_leave_11 : decode cX1_leave 11 = .ok (.getfield 10, 3) := dk_180 0 10 (dk_at dksX1_leave_0 11 rfl rfl)
theorem dX1_leave_14 : decode cX1_leave 14 = .ok (.iload_n 1, 1) := dk_27 (dk_at dksX1_leave_0 14 rfl rfl)
theorem dX1_leave_15 : decode cX1_leave 15 = .ok (.invokevirtual 108, 3) := dk_182 0 108 (dk_at dksX1_leave_0 15 rfl rfl)
theorem dX1_leave_18 : decode cX1_leave 18 = .ok (.getfield 145, 3) := dk_180 0 145 (dk_at dksX1_leave_0 18 rfl rfl)
theorem dX1_leave_21 : decode cX1_leave 21 = .ok (.ifCond .ne 6, 3) := dk_154 0 6 (dk_at dksX1_leave_0 21 rfl rfl)
theorem dX1_leave_24 : decode cX1_leave 24 = .ok (.bipush (-4), 2) := dk_16 252 (dk_at dksX1_leave_1 0 rfl rfl)
theorem dX1_leave_26 : decode cX1_leave 26 = .ok (.ireturn, 1) := dk_172 (dk_at dksX1_leave_1 2 rfl rfl)
theorem dX1_leave_27 : decode cX1_leave 27 = .ok (.aload_n 0, 1) := dk_42 (dk_at dksX1_leave_1 3 rfl rfl)
theorem dX1_leave_28 : decode cX1_leave 28 = .ok (.invokevirtual 304, 3) := dk_182 1 48 (dk_at dksX1_leave_1 4 rfl rfl)
theorem dX1_leave_31 : decode cX1_leave 31 = .ok (.aload_n 0, 1) := dk_42 (dk_at dksX1_leave_1 7 rfl rfl)
theorem dX1_leave_32 : decode cX1_leave 32 = .ok (.getfield 10, 3) := dk_180 0 10 (dk_at dksX1_leave_1 8 rfl rfl)
theorem dX1_leave_35 : decode cX1_leave 35 = .ok (.aload_n 0, 1) := dk_42 (dk_at dksX1_leave_1 11 rfl rfl)
theorem dX1_leave_36 : decode cX1_leave 36 = .ok (.getfield 10, 3) := dk_180 0 10 (dk_at dksX1_leave_1 12 rfl rfl)
theorem dX1_leave_39 : decode cX1_leave 39 = .ok (.iload_n 1, 1) := dk_27 (dk_at dksX1_leave_1 15 rfl rfl)
theorem dX1_leave_40 : decode cX1_leave 40 = .ok (.invokevirtual 108, 3) := dk_182 0 108 (dk_at dksX1_leave_1 16 rfl rfl)
theorem dX1_leave_43 : decode cX1_leave 43 = .ok (.invokevirtual 346, 3) := dk_182 1 90 (dk_at dksX1_leave_1 19 rfl rfl)
theorem dX1_leave_46 : decode cX1_leave 46 = .ok (.aload_n 0, 1) := dk_42 (dk_at dksX1_leave_1 22 rfl rfl)
theorem dX1_leave_47 : decode cX1_leave 47 = .ok (.getfield 10, 3) := dk_180 0 10 (dk_at dksX1_leave_2 0 rfl rfl)
theorem dX1_leave_50 : decode cX1_leave 50 = .ok (.invokevirtual 278, 3) := dk_182 1 22 (dk_at dksX1_leave_2 3 rfl rfl)
theorem dX1_leave_53 : decode cX1_leave 53 = .ok (.ireturn, 1) := dk_172 (dk_at dksX1_leave_2 6 rfl rfl)
def dkwX1_setSetting_2 : List UInt8 := [79, 29, 172]
abbrev dktX1_setSetting_2 : List UInt8 := dkwX1_setSetting_2 ++ []
def dkwX1_setSetting_1 : List UInt8 := [172, 42, 182, 1, 48, 42, 180, 0, 10, 180, 0, 162, 27, 46, 62, 42, 180, 0, 10, 180, 0, 162, 27, 28]
abbrev dktX1_setSetting_1 : List UInt8 := dkwX1_setSetting_1 ++ dktX1_setSetting_2
def dkwX1_setSetting_0 : List UInt8 := [27, 184, 0, 158, 153, 0, 18, 28, 133, 10, 178, 1, 94, 27, 46, 133, 184, 0, 38, 154, 0, 6, 16, 254]
abbrev dktX1_setSetting_0 : List UInt8 := dkwX1_setSetting_0 ++ dktX1_setSetting_1
theorem dksX1_setSetting_0 : cX1_setSetting.data.toList.drop 0 = dktX1_setSetting_0 := by decide +kernel
theorem dksX1_setSetting_1 : cX1_setSetting.data.toList.drop 24 = dktX1_setSetting_1 := dk_seg dksX1_setSetting_0 24 rfl rfl
theorem dksX1_setSetting_2 : cX1_setSetting.data.toList.drop 48 = dktX1_setSetting_2 := dk_seg dksX1_setSetting_1 24 rfl rfl
theorem dX1_setSetting_0 : decode cX1_setSetting 0 = .ok (.iload_n 1, 1) := dk_27 (dk_at dksX1_setSetting_0 0 rfl rfl)
theorem dX1_setSetting_1 : decode cX1_setSetting 1 = .ok (.invokestatic 158, 3) := dk_184 0 158 (dk_at dksX1_setSetting_0 1 rfl rfl)
theorem dX1_setSetting_4 : decode cX1_setSetting 4 = .ok (.ifCond .eq 18, 3) := dk_153 0 18 (dk_at dksX1_setSetting_0 4 rfl rfl)
theorem dX1_setSetting_7 : decode cX1_setSetting 7 = .ok (.iload_n 2, 1) := dk_28 (dk_at dksX1_setSetting_0 7 rfl rfl)
theorem dX1_setSetting_8 : decode cX1_setSetting 8 = .ok (.i2l, 1) := dk_133 (dk_at dksX1_setSetting_0 8 rfl rfl)
theorem dX1_setSetting_9 : decode cX1_setSetting 9 = .ok (.lconst 1, 1) := dk_10 (dk_at dksX1_setSetting_0 9 rfl rfl)
theorem dX1_setSetting_10 : decode cX1_setSetting 10 = .ok (.getstatic 350, 3) := dk_178 1 94 (dk_at dksX1_setSetting_0 10 rfl rfl)
theorem dX1_setSetting_13 : decode cX1_setSetting 13 = .ok (.iload_n 1, 1) := dk_27 (dk_at dksX1_setSetting_0 13 rfl rfl)
theorem dX1_setSetting_14 : decode cX1_setSetting 14 = .ok (.iaload, 1) := dk_46 (dk_at dksX1_setSetting_0 14 rfl rfl)
theorem dX1_setSetting_15 : decode cX1_setSetting 15 = .ok (.i2l, 1) := dk_133 (dk_at dksX1_setSetting_0 15 rfl rfl)
theorem dX1_setSetting_16 : decode cX1_setSetting 16 = .ok (.invokestatic 38, 3) := dk_184 0 38 (dk_at dksX1_setSetting_0 16 rfl rfl)
theorem dX1_setSetting_19 : decode cX1_setSetting 19 = .ok (.ifCond .ne 6, 3) := dk_154 0 6 (dk_at dksX1_setSetting_0 19 rfl rfl)
theorem dX1_setSetting_22 : decode cX1_setSetting 22 = .ok (.bipush (-2), 2) := dk_16 254 (dk_at dksX1_setSetting_0 22 rfl rfl)
theorem dX1_setSetting_24 : decode cX1_setSetting 24 = .ok (.ireturn, 1) := dk_172 (dk_at dksX1_setSetting_1 0 rfl rfl)
theorem dX1_setSetting_25 : decode cX1_setSetting 25 = .ok (.aload_n 0, 1) := dk_42 (dk_at dksX1_setSetting_1 1 rfl rfl)
theorem dX1_setSetting_26 : decode cX1_setSetting 26 = .ok (.invokevirtual 304, 3) := dk_182 1 48 (dk_at dksX1_setSetting_1 2 rfl rfl)
theorem dX1_setSetting_29 : decode cX1_setSetting 29 = .ok (.aload_n 0, 1) := dk_42 (dk_at dksX1_setSetting_1 5 rfl rfl)
theorem dX1_setSetting_30 : decode cX1_setSetting 30 = .ok (.getfield 10, 3) := dk_180 0 10 (dk_at dksX1_setSetting_1 6 rfl rfl)
theorem dX1_setSetting_33 : decode cX1_setSetting 33 = .ok (.getfield 162, 3) := dk_180 0 162 (dk_at dksX1_setSetting_1 9 rfl rfl)
theorem dX1_setSetting_36 : decode cX1_setSetting 36 = .ok (.iload_n 1, 1) := dk_27 (dk_at dksX1_setSetting_1 12 rfl rfl)
theorem dX1_setSetting_37 : decode cX1_setSetting 37 = .ok (.iaload, 1) := dk_46 (dk_at dksX1_setSetting_1 13 rfl rfl)
theorem dX1_setSetting_38 : decode cX1_setSetting 38 = .ok (.istore_n 3, 1) := dk_62 (dk_at dksX1_setSetting_1 14 rfl rfl)
theorem dX1_setSetting_39 : decode cX1_setSetting 39 = .ok (.aload_n 0, 1) := dk_42 (dk_at dksX1_setSetting_1 15 rfl rfl)
theorem dX1_setSetting_40 : decode cX1_setSetting 40 = .ok (.getfield 10, 3) := dk_180 0 10 (dk_at dksX1_setSetting_1 16 rfl rfl)
theorem dX1_setSetting_43 : decode cX1_setSetting 43 = .ok (.getfield 162, 3) := dk_180 0 162 (dk_at dksX1_setSetting_1 19 rfl rfl)
theorem dX1_setSetting_46 : decode cX1_setSetting 46 = .ok (.iload_n 1, 1) := dk_27 (dk_at dksX1_setSetting_1 22 rfl rfl)
theorem dX1_setSetting_47 : decode cX1_setSetting 47 = .ok (.iload_n 2, 1) := dk_28 (dk_at dksX1_setSetting_1 23 rfl rfl)
theorem dX1_setSetting_48 : decode cX1_setSetting 48 = .ok (.iastore, 1) := dk_79 (dk_at dksX1_setSetting_2 0 rfl rfl)
theorem dX1_setSetting_49 : decode cX1_setSetting 49 = .ok (.iload_n 3, 1) := dk_29 (dk_at dksX1_setSetting_2 1 rfl rfl)
theorem dX1_setSetting_50 : decode cX1_setSetting 50 = .ok (.ireturn, 1) := dk_172 (dk_at dksX1_setSetting_2 2 rfl rfl)
def dkwX1_outputAt_1 : List UInt8 := [182, 1, 114, 167, 0, 4, 2, 172]
abbrev dktX1_outputAt_1 : List UInt8 := dkwX1_outputAt_1 ++ []
def dkwX1_outputAt_0 : List UInt8 := [27, 133, 9, 42, 180, 0, 34, 182, 1, 111, 4, 100, 133, 184, 0, 38, 153, 0, 14, 42, 180, 0, 34, 27]
abbrev dktX1_outputAt_0 : List UInt8 := dkwX1_outputAt_0 ++ dktX1_outputAt_1
theorem dksX1_outputAt_0 : cX1_outputAt.data.toList.drop 0 = dktX1_outputAt_0 := by decide +kernel
theorem dksX1_outputAt_1 : cX1_outputAt.data.toList.drop 24 = dktX1_outputAt_1 := dk_seg dksX1_outputAt_0 24 rfl rfl
theorem dX1_outputAt_0 : decode cX1_outputAt 0 = .ok (.iload_n 1, 1) := dk_27 (dk_at dksX1_outputAt_0 0 rfl rfl)
theorem dX1_outputAt_1 : decode cX1_outputAt 1 = .ok (.i2l, 1) := dk_133 (dk_at dksX1_outputAt_0 1 rfl rfl)
theorem dX1_outputAt_2 : decode cX1_outputAt 2 = .ok (.lconst 0, 1) := dk_9 (dk_at dksX1_outputAt_0 2 rfl rfl)
theorem dX1_outputAt_3 : decode cX1_outputAt 3 = .ok (.aload_n 0, 1) := dk_42 (dk_at dksX1_outputAt_0 3 rfl rfl)
theorem dX1_outputAt_4 : decode cX1_outputAt 4 = .ok (.getfield 34, 3) := dk_180 0 34 (dk_at dksX1_outputAt_0 4 rfl rfl)
theorem dX1_outputAt_7 : decode cX1_outputAt 7 = .ok (.invokevirtual 367, 3) := dk_182 1 111 (dk_at dksX1_outputAt_0 7 rfl rfl)
theorem dX1_outputAt_10 : decode cX1_outputAt 10 = .ok (.iconst 1, 1) := dk_4 (dk_at dksX1_outputAt_0 10 rfl rfl)
theorem dX1_outputAt_11 : decode cX1_outputAt 11 = .ok (.isub, 1) := dk_100 (dk_at dksX1_outputAt_0 11 rfl rfl)
theorem dX1_outputAt_12 : decode cX1_outputAt 12 = .ok (.i2l, 1) := dk_133 (dk_at dksX1_outputAt_0 12 rfl rfl)
theorem dX1_outputAt_13 : decode cX1_outputAt 13 = .ok (.invokestatic 38, 3) := dk_184 0 38 (dk_at dksX1_outputAt_0 13 rfl rfl)
theorem dX1_outputAt_16 : decode cX1_outputAt 16 = .ok (.ifCond .eq 14, 3) := dk_153 0 14 (dk_at dksX1_outputAt_0 16 rfl rfl)
theorem dX1_outputAt_19 : decode cX1_outputAt 19 = .ok (.aload_n 0, 1) := dk_42 (dk_at dksX1_outputAt_0 19 rfl rfl)
theorem dX1_outputAt_20 : decode cX1_outputAt 20 = .ok (.getfield 34, 3) := dk_180 0 34 (dk_at dksX1_outputAt_0 20 rfl rfl)
theorem dX1_outputAt_23 : decode cX1_outputAt 23 = .ok (.iload_n 1, 1) := dk_27 (dk_at dksX1_outputAt_0 23 rfl rfl)
theorem dX1_outputAt_24 : decode cX1_outputAt 24 = .ok (.invokevirtual 370, 3) := dk_182 1 114 (dk_at dksX1_outputAt_1 0 rfl rfl)
theorem dX1_outputAt_27 : decode cX1_outputAt 27 = .ok (.goto 4, 3) := dk_167 0 4 (dk_at dksX1_outputAt_1 3 rfl rfl)
theorem dX1_outputAt_30 : decode cX1_outputAt 30 = .ok (.iconst (-1), 1) := dk_2 (dk_at dksX1_outputAt_1 6 rfl rfl)
theorem dX1_outputAt_31 : decode cX1_outputAt 31 = .ok (.ireturn, 1) := dk_172 (dk_at dksX1_outputAt_1 7 rfl rfl)
def dkwX1_memberNumber_4 : List UInt8 := [180, 0, 155, 167, 0, 5, 16, 254, 172]
abbrev dktX1_memberNumber_4 : List UInt8 := dkwX1_memberNumber_4 ++ []
def dkwX1_memberNumber_3 : List UInt8 := [167, 0, 30, 3, 167, 0, 26, 45, 180, 0, 149, 167, 0, 19, 45, 180, 0, 152, 167, 0, 12, 45]
abbrev dktX1_memberNumber_3 : List UInt8 := dkwX1_memberNumber_3 ++ dktX1_memberNumber_4
def dkwX1_memberNumber_2 : List UInt8 := [45, 180, 0, 139, 167, 0, 48, 45, 180, 0, 142, 167, 0, 41, 45, 180, 0, 145, 153, 0, 7, 4]
abbrev dktX1_memberNumber_2 : List UInt8 := dkwX1_memberNumber_2 ++ dktX1_memberNumber_3
def dkwX1_memberNumber_1 : List UInt8 := [170, 0, 0, 0, 87, 0, 0, 0, 0, 0, 0, 0, 5, 0, 0, 0, 37, 0, 0, 0, 44, 0, 0, 0, 51, 0, 0, 0, 66, 0, 0, 0, 73, 0, 0, 0, 80]
abbrev dktX1_memberNumber_1 : List UInt8 := dkwX1_memberNumber_1 ++ dktX1_memberNumber_2
def dkwX1_memberNumber_0 : List UInt8 := [42, 27, 182, 0, 136, 78, 28]
abbrev dktX1_memberNumber_0 : List UInt8 := dkwX1_memberNumber_0 ++ dktX1_memberNumber_1
theorem dksX1_memberNumber_0 : cX1_memberNumber.data.toList.drop 0 = dktX1_memberNumber_0 := by decide +kernel
theorem dksX1_memberNumber_1 : cX1_memberNumber.data.toList.drop 7 = dktX1_memberNumber_1 := dk_seg dksX1_memberNumber_0 7 rfl rfl
theorem dksX1_memberNumber_2 : cX1_memberNumber.data.toList.drop 44 = dktX1_memberNumber_2 := dk_seg dksX1_memberNumber_1 37 rfl rfl
theorem dksX1_memberNumber_3 : cX1_memberNumber.data.toList.drop 66 = dktX1_memberNumber_3 := dk_seg dksX1_memberNumber_2 22 rfl rfl
theorem dksX1_memberNumber_4 : cX1_memberNumber.data.toList.drop 88 = dktX1_memberNumber_4 := dk_seg dksX1_memberNumber_3 22 rfl rfl
theorem dX1_memberNumber_0 : decode cX1_memberNumber 0 = .ok (.aload_n 0, 1) := dk_42 (dk_at dksX1_memberNumber_0 0 rfl rfl)
theorem dX1_memberNumber_1 : decode cX1_memberNumber 1 = .ok (.iload_n 1, 1) := dk_27 (dk_at dksX1_memberNumber_0 1 rfl rfl)
theorem dX1_memberNumber_2 : decode cX1_memberNumber 2 = .ok (.invokevirtual 136, 3) := dk_182 0 136 (dk_at dksX1_memberNumber_0 2 rfl rfl)
theorem dX1_memberNumber_5 : decode cX1_memberNumber 5 = .ok (.astore_n 3, 1) := dk_78 (dk_at dksX1_memberNumber_0 5 rfl rfl)
theorem dX1_memberNumber_6 : decode cX1_memberNumber 6 = .ok (.iload_n 2, 1) := dk_28 (dk_at dksX1_memberNumber_0 6 rfl rfl)
theorem dX1_memberNumber_7 : decode cX1_memberNumber 7 = .ok (.tableswitch 87 0 5 #[37, 44, 51, 66, 73, 80], 37) := by decide +kernel
theorem dX1_memberNumber_44 : decode cX1_memberNumber 44 = .ok (.aload_n 3, 1) := dk_45 (dk_at dksX1_memberNumber_2 0 rfl rfl)
theorem dX1_memberNumber_45 : decode cX1_memberNumber 45 = .ok (.getfield 139, 3) := dk_180 0 139 (dk_at dksX1_memberNumber_2 1 rfl rfl)
theorem dX1_memberNumber_48 : decode cX1_memberNumber 48 = .ok (.goto 48, 3) := dk_167 0 48 (dk_at dksX1_memberNumber_2 4 rfl rfl)
theorem dX1_memberNumber_51 : decode cX1_memberNumber 51 = .ok (.aload_n 3, 1) := dk_45 (dk_at dksX1_memberNumber_2 7 rfl rfl)
theorem dX1_memberNumber_52 : decode cX1_memberNumber 52 = .ok (.getfield 142, 3) := dk_180 0 142 (dk_at dksX1_memberNumber_2 8 rfl rfl)
theorem dX1_memberNumber_55 : decode cX1_memberNumber 55 = .ok (.goto 41, 3) := dk_167 0 41 (dk_at dksX1_memberNumber_2 11 rfl rfl)
theorem dX1_memberNumber_58 : decode cX1_memberNumber 58 = .ok (.aload_n 3, 1) := dk_45 (dk_at dksX1_memberNumber_2 14 rfl rfl)
theorem dX1_memberNumber_59 : decode cX1_memberNumber 59 = .ok (.getfield 145, 3) := dk_180 0 145 (dk_at dksX1_memberNumber_2 15 rfl rfl)
theorem dX1_memberNumber_62 : decode cX1_memberNumber 62 = .ok (.ifCond .eq 7, 3) := dk_153 0 7 (dk_at dksX1_memberNumber_2 18 rfl rfl)
theorem dX1_memberNumber_65 : decode cX1_memberNumber 65 = .ok (.iconst 1, 1) := dk_4 (dk_at dksX1_memberNumber_2 21 rfl rfl)
theorem dX1_memberNumber_66 : decode cX1_memberNumber 66 = .ok (.goto 30, 3) := dk_167 0 30 (dk_at dksX1_memberNumber_3 0 rfl rfl)
theorem dX1_memberNumber_69 : decode cX1_memberNumber 69 = .ok (.iconst 0, 1) := dk_3 (dk_at dksX1_memberNumber_3 3 rfl rfl)
theorem dX1_memberNumber_70 : decode cX1_memberNumber 70 = .ok (.goto 26, 3) := dk_167 0 26 (dk_at dksX1_memberNumber_3 4 rfl rfl)
theorem dX1_memberNumber_73 : decode cX1_memberNumber 73 = .ok (.aload_n 3, 1) := dk_45 (dk_at dksX1_memberNumber_3 7 rfl rfl)
theorem dX1_memberNumber_74 : decode cX1_memberNumber 74 = .ok (.getfield 149, 3) := dk_180 0 149 (dk_at dksX1_memberNumber_3 8 rfl rfl)
theorem dX1_memberNumber_77 : decode cX1_memberNumber 77 = .ok (.goto 19, 3) := dk_167 0 19 (dk_at dksX1_memberNumber_3 11 rfl rfl)
theorem dX1_memberNumber_80 : decode cX1_memberNumber 80 = .ok (.aload_n 3, 1) := dk_45 (dk_at dksX1_memberNumber_3 14 rfl rfl)
theorem dX1_memberNumber_81 : decode cX1_memberNumber 81 = .ok (.getfield 152, 3) := dk_180 0 152 (dk_at dksX1_memberNumber_3 15 rfl rfl)
theorem dX1_memberNumber_84 : decode cX1_memberNumber 84 = .ok (.goto 12, 3) := dk_167 0 12 (dk_at dksX1_memberNumber_3 18 rfl rfl)
theorem dX1_memberNumber_87 : decode cX1_memberNumber 87 = .ok (.aload_n 3, 1) := dk_45 (dk_at dksX1_memberNumber_3 21 rfl rfl)
theorem dX1_memberNumber_88 : decode cX1_memberNumber 88 = .ok (.getfield 155, 3) := dk_180 0 155 (dk_at dksX1_memberNumber_4 0 rfl rfl)
theorem dX1_memberNumber_91 : decode cX1_memberNumber 91 = .ok (.goto 5, 3) := dk_167 0 5 (dk_at dksX1_memberNumber_4 3 rfl rfl)
theorem dX1_memberNumber_94 : decode cX1_memberNumber 94 = .ok (.bipush (-2), 2) := dk_16 254 (dk_at dksX1_memberNumber_4 6 rfl rfl)
theorem dX1_memberNumber_96 : decode cX1_memberNumber 96 = .ok (.ireturn, 1) := dk_172 (dk_at dksX1_memberNumber_4 8 rfl rfl)
def dkwX1_memberAt_0 : List UInt8 := [27, 42, 182, 0, 102, 184, 0, 104, 42, 180, 0, 10, 27, 182, 0, 108, 176]
abbrev dktX1_memberAt_0 : List UInt8 := dkwX1_memberAt_0 ++ []
theorem dksX1_memberAt_0 : cX1_memberAt.data.toList.drop 0 = dktX1_memberAt_0 := by decide +kernel
theorem dX1_memberAt_0 : decode cX1_memberAt 0 = .ok (.iload_n 1, 1) := dk_27 (dk_at dksX1_memberAt_0 0 rfl rfl)
theorem dX1_memberAt_1 : decode cX1_memberAt 1 = .ok (.aload_n 0, 1) := dk_42 (dk_at dksX1_memberAt_0 1 rfl rfl)
theorem dX1_memberAt_2 : decode cX1_memberAt 2 = .ok (.invokevirtual 102, 3) := dk_182 0 102 (dk_at dksX1_memberAt_0 2 rfl rfl)
theorem dX1_memberAt_5 : decode cX1_memberAt 5 = .ok (.invokestatic 104, 3) := dk_184 0 104 (dk_at dksX1_memberAt_0 5 rfl rfl)
theorem dX1_memberAt_8 : decode cX1_memberAt 8 = .ok (.aload_n 0, 1) := dk_42 (dk_at dksX1_memberAt_0 8 rfl rfl)
theorem dX1_memberAt_9 : decode cX1_memberAt 9 = .ok (.getfield 10, 3) := dk_180 0 10 (dk_at dksX1_memberAt_0 9 rfl rfl)
theorem dX1_memberAt_12 : decode cX1_memberAt 12 = .ok (.iload_n 1, 1) := dk_27 (dk_at dksX1_memberAt_0 12 rfl rfl)
theorem dX1_memberAt_13 : decode cX1_memberAt 13 = .ok (.invokevirtual 108, 3) := dk_182 0 108 (dk_at dksX1_memberAt_0 13 rfl rfl)
theorem dX1_memberAt_16 : decode cX1_memberAt 16 = .ok (.areturn, 1) := dk_176 (dk_at dksX1_memberAt_0 16 rfl rfl)
def dkwX1_requireIndex_0 : List UInt8 := [26, 133, 9, 27, 4, 100, 133, 184, 0, 38, 154, 0, 11, 187, 0, 42, 89, 183, 0, 44, 191, 177]
abbrev dktX1_requireIndex_0 : List UInt8 := dkwX1_requireIndex_0 ++ []
theorem dksX1_requireIndex_0 : cX1_requireIndex.data.toList.drop 0 = dktX1_requireIndex_0 := by decide +kernel
theorem dX1_requireIndex_0 : decode cX1_requireIndex 0 = .ok (.iload_n 0, 1) := dk_26 (dk_at dksX1_requireIndex_0 0 rfl rfl)
theorem dX1_requireIndex_1 : decode cX1_requireIndex 1 = .ok (.i2l, 1) := dk_133 (dk_at dksX1_requireIndex_0 1 rfl rfl)
theorem dX1_requireIndex_2 : decode cX1_requireIndex 2 = .ok (.lconst 0, 1) := dk_9 (dk_at dksX1_requireIndex_0 2 rfl rfl)
theorem dX1_requireIndex_3 : decode cX1_requireIndex 3 = .ok (.iload_n 1, 1) := dk_27 (dk_at dksX1_requireIndex_0 3 rfl rfl)
theorem dX1_requireIndex_4 : decode cX1_requireIndex 4 = .ok (.iconst 1, 1) := dk_4 (dk_at dksX1_requireIndex_0 4 rfl rfl)
theorem dX1_requireIndex_5 : decode cX1_requireIndex 5 = .ok (.isub, 1) := dk_100 (dk_at dksX1_requireIndex_0 5 rfl rfl)
theorem dX1_requireIndex_6 : decode cX1_requireIndex 6 = .ok (.i2l, 1) := dk_133 (dk_at dksX1_requireIndex_0 6 rfl rfl)
theorem dX1_requireIndex_7 : decode cX1_requireIndex 7 = .ok (.invokestatic 38, 3) := dk_184 0 38 (dk_at dksX1_requireIndex_0 7 rfl rfl)
theorem dX1_requireIndex_10 : decode cX1_requireIndex 10 = .ok (.ifCond .ne 11, 3) := dk_154 0 11 (dk_at dksX1_requireIndex_0 10 rfl rfl)
theorem dX1_requireIndex_13 : decode cX1_requireIndex 13 = .ok (.new 42, 3) := dk_187 0 42 (dk_at dksX1_requireIndex_0 13 rfl rfl)
theorem dX1_requireIndex_16 : decode cX1_requireIndex 16 = .ok (.dup, 1) := dk_89 (dk_at dksX1_requireIndex_0 16 rfl rfl)
theorem dX1_requireIndex_17 : decode cX1_requireIndex 17 = .ok (.invokespecial 44, 3) := dk_183 0 44 (dk_at dksX1_requireIndex_0 17 rfl rfl)
theorem dX1_requireIndex_20 : decode cX1_requireIndex 20 = .ok (.athrow, 1) := dk_191 (dk_at dksX1_requireIndex_0 20 rfl rfl)
theorem dX1_requireIndex_21 : decode cX1_requireIndex 21 = .ok (.return_, 1) := dk_177 (dk_at dksX1_requireIndex_0 21 rfl rfl)
def dkwX1_cellOf_0 : List UInt8 := [42, 27, 182, 0, 136, 78, 28, 16, 16, 184, 0, 104, 45, 180, 0, 166, 28, 46, 172]
abbrev dktX1_cellOf_0 : List UInt8 := dkwX1_cellOf_0 ++ []
theorem dksX1_cellOf_0 : cX1_cellOf.data.toList.drop 0 = dktX1_cellOf_0 := by decide +kernel
theorem dX1_cellOf_0 : decode cX1_cellOf 0 = .ok (.aload_n 0, 1) := dk_42 (dk_at dksX1_cellOf_0 0 rfl rfl)
theorem dX1_cellOf_1 : decode cX1_cellOf 1 = .ok (.iload_n 1, 1) := dk_27 (dk_at dksX1_cellOf_0 1 rfl rfl)
theorem dX1_cellOf_2 : decode cX1_cellOf 2 = .ok (.invokevirtual 136, 3) := dk_182 0 136 (dk_at dksX1_cellOf_0 2 rfl rfl)
theorem dX1_cellOf_5 : decode cX1_cellOf 5 = .ok (.astore_n 3, 1) := dk_78 (dk_at dksX1_cellOf_0 5 rfl rfl)
theorem dX1_cellOf_6 : decode cX1_cellOf 6 = .ok (.iload_n 2, 1) := dk_28 (dk_at dksX1_cellOf_0 6 rfl rfl)
theorem dX1_cellOf_7 : decode cX1_cellOf 7 = .ok (.bipush 16, 2) := dk_16 16 (dk_at dksX1_cellOf_0 7 rfl rfl)
theorem dX1_cellOf_9 : decode cX1_cellOf 9 = .ok (.invokestatic 104, 3) := dk_184 0 104 (dk_at dksX1_cellOf_0 9 rfl rfl)
theorem dX1_cellOf_12 : decode cX1_cellOf 12 = .ok (.aload_n 3, 1) := dk_45 (dk_at dksX1_cellOf_0 12 rfl rfl)
theorem dX1_cellOf_13 : decode cX1_cellOf 13 = .ok (.getfield 166, 3) := dk_180 0 166 (dk_at dksX1_cellOf_0 13 rfl rfl)
theorem dX1_cellOf_16 : decode cX1_cellOf 16 = .ok (.iload_n 2, 1) := dk_28 (dk_at dksX1_cellOf_0 16 rfl rfl)
theorem dX1_cellOf_17 : decode cX1_cellOf 17 = .ok (.iaload, 1) := dk_46 (dk_at dksX1_cellOf_0 17 rfl rfl)
theorem dX1_cellOf_18 : decode cX1_cellOf 18 = .ok (.ireturn, 1) := dk_172 (dk_at dksX1_cellOf_0 18 rfl rfl)
def dkwX1_commandCount_0 : List UInt8 := [42, 27, 182, 0, 169, 190, 172]
abbrev dktX1_commandCount_0 : List UInt8 := dkwX1_commandCount_0 ++ []
theorem dksX1_commandCount_0 : cX1_commandCount.data.toList.drop 0 = dktX1_commandCount_0 := by decide +kernel
theorem dX1_commandCount_0 : decode cX1_commandCount 0 = .ok (.aload_n 0, 1) := dk_42 (dk_at dksX1_commandCount_0 0 rfl rfl)
theorem dX1_commandCount_1 : decode cX1_commandCount 1 = .ok (.iload_n 1, 1) := dk_27 (dk_at dksX1_commandCount_0 1 rfl rfl)
theorem dX1_commandCount_2 : decode cX1_commandCount 2 = .ok (.invokevirtual 169, 3) := dk_182 0 169 (dk_at dksX1_commandCount_0 2 rfl rfl)
theorem dX1_commandCount_5 : decode cX1_commandCount 5 = .ok (.arraylength, 1) := dk_190 (dk_at dksX1_commandCount_0 5 rfl rfl)
theorem dX1_commandCount_6 : decode cX1_commandCount 6 = .ok (.ireturn, 1) := dk_172 (dk_at dksX1_commandCount_0 6 rfl rfl)
def dkwX1_turnAt_1 : List UInt8 := [182, 0, 115, 192, 0, 119, 176]
abbrev dktX1_turnAt_1 : List UInt8 := dkwX1_turnAt_1 ++ []
def dkwX1_turnAt_0 : List UInt8 := [27, 42, 180, 0, 10, 180, 0, 112, 182, 0, 99, 184, 0, 104, 42, 180, 0, 10, 180, 0, 112, 27]
abbrev dktX1_turnAt_0 : List UInt8 := dkwX1_turnAt_0 ++ dktX1_turnAt_1
theorem dksX1_turnAt_0 : cX1_turnAt.data.toList.drop 0 = dktX1_turnAt_0 := by decide +kernel
theorem dksX1_turnAt_1 : cX1_turnAt.data.toList.drop 22 = dktX1_turnAt_1 := dk_seg dksX1_turnAt_0 22 rfl rfl
theorem dX1_turnAt_0 : decode cX1_turnAt 0 = .ok (.iload_n 1, 1) := dk_27 (dk_at dksX1_turnAt_0 0 rfl rfl)
theorem dX1_turnAt_1 : decode cX1_turnAt 1 = .ok (.aload_n 0, 1) := dk_42 (dk_at dksX1_turnAt_0 1 rfl rfl)
theorem dX1_turnAt_2 : decode cX1_turnAt 2 = .ok (.getfield 10, 3) := dk_180 0 10 (dk_at dksX1_turnAt_0 2 rfl rfl)
theorem dX1_turnAt_5 : decode cX1_turnAt 5 = .ok (.getfield 112, 3) := dk_180 0 112 (dk_at dksX1_turnAt_0 5 rfl rfl)
theorem dX1_turnAt_8 : decode cX1_turnAt 8 = .ok (.invokevirtual 99, 3) := dk_182 0 99 (dk_at dksX1_turnAt_0 8 rfl rfl)
theorem dX1_turnAt_11 : decode cX1_turnAt 11 = .ok (.invokestatic 104, 3) := dk_184 0 104 (dk_at dksX1_turnAt_0 11 rfl rfl)
theorem dX1_turnAt_14 : decode cX1_turnAt 14 = .ok (.aload_n 0, 1) := dk_42 (dk_at dksX1_turnAt_0 14 rfl rfl)
theorem dX1_turnAt_15 : decode cX1_turnAt 15 = .ok (.getfield 10, 3) := dk_180 0 10 (dk_at dksX1_turnAt_0 15 rfl rfl)
theorem dX1_turnAt_18 : decode cX1_turnAt 18 = .ok (.getfield 112, 3) := dk_180 0 112 (dk_at dksX1_turnAt_0 18 rfl rfl)
theorem dX1_turnAt_21 : decode cX1_turnAt 21 = .ok (.iload_n 1, 1) := dk_27 (dk_at dksX1_turnAt_0 21 rfl rfl)
theorem dX1_turnAt_22 : decode cX1_turnAt 22 = .ok (.invokevirtual 115, 3) := dk_182 0 115 (dk_at dksX1_turnAt_1 0 rfl rfl)
theorem dX1_turnAt_25 : decode cX1_turnAt 25 = .ok (.checkcast 119, 3) := dk_192 0 119 (dk_at dksX1_turnAt_1 3 rfl rfl)
theorem dX1_turnAt_28 : decode cX1_turnAt 28 = .ok (.areturn, 1) := dk_176 (dk_at dksX1_turnAt_1 6 rfl rfl)
def dkwX1_command_4 : List UInt8 := [180, 0, 181, 167, 0, 15, 25, 4, 28, 50, 180, 0, 184, 167, 0, 5, 16, 254, 172]
abbrev dktX1_command_4 : List UInt8 := dkwX1_command_4 ++ []
def dkwX1_command_3 : List UInt8 := [25, 4, 28, 50, 180, 0, 173, 167, 0, 35, 25, 4, 28, 50, 180, 0, 178, 167, 0, 25, 25, 4, 28, 50]
abbrev dktX1_command_3 : List UInt8 := dkwX1_command_3 ++ dktX1_command_4
def dkwX1_command_2 : List UInt8 := [170, 0, 0, 0, 0, 0, 71, 0, 0, 0, 0, 0, 0, 0, 3, 0, 0, 0, 31, 0, 0, 0, 41, 0, 0, 0, 51, 0, 0, 0, 61]
abbrev dktX1_command_2 : List UInt8 := dkwX1_command_2 ++ dktX1_command_3
def dkwX1_command_1 : List UInt8 := [29]
abbrev dktX1_command_1 : List UInt8 := dkwX1_command_1 ++ dktX1_command_2
def dkwX1_command_0 : List UInt8 := [42, 27, 182, 0, 169, 58, 4, 28, 133, 9, 25, 4, 190, 4, 100, 133, 184, 0, 38, 154, 0, 5, 2, 172]
abbrev dktX1_command_0 : List UInt8 := dkwX1_command_0 ++ dktX1_command_1
theorem dksX1_command_0 : cX1_command.data.toList.drop 0 = dktX1_command_0 := by decide +kernel
theorem dksX1_command_1 : cX1_command.data.toList.drop 24 = dktX1_command_1 := dk_seg dksX1_command_0 24 rfl rfl
theorem dksX1_command_2 : cX1_command.data.toList.drop 25 = dktX1_command_2 := dk_seg dksX1_command_1 1 rfl rfl
theorem dksX1_command_3 : cX1_command.data.toList.drop 56 = dktX1_command_3 := dk_seg dksX1_command_2 31 rfl rfl
theorem dksX1_command_4 : cX1_command.data.toList.drop 80 = dktX1_command_4 := dk_seg dksX1_command_3 24 rfl rfl
theorem dX1_command_0 : decode cX1_command 0 = .ok (.aload_n 0, 1) := dk_42 (dk_at dksX1_command_0 0 rfl rfl)
theorem dX1_command_1 : decode cX1_command 1 = .ok (.iload_n 1, 1) := dk_27 (dk_at dksX1_command_0 1 rfl rfl)
theorem dX1_command_2 : decode cX1_command 2 = .ok (.invokevirtual 169, 3) := dk_182 0 169 (dk_at dksX1_command_0 2 rfl rfl)
theorem dX1_command_5 : decode cX1_command 5 = .ok (.astore 4, 2) := dk_58 4 (dk_at dksX1_command_0 5 rfl rfl)
theorem dX1_command_7 : decode cX1_command 7 = .ok (.iload_n 2, 1) := dk_28 (dk_at dksX1_command_0 7 rfl rfl)
theorem dX1_command_8 : decode cX1_command 8 = .ok (.i2l, 1) := dk_133 (dk_at dksX1_command_0 8 rfl rfl)
theorem dX1_command_9 : decode cX1_command 9 = .ok (.lconst 0, 1) := dk_9 (dk_at dksX1_command_0 9 rfl rfl)
theorem dX1_command_10 : decode cX1_command 10 = .ok (.aload 4, 2) := dk_25 4 (dk_at dksX1_command_0 10 rfl rfl)
theorem dX1_command_12 : decode cX1_command 12 = .ok (.arraylength, 1) := dk_190 (dk_at dksX1_command_0 12 rfl rfl)
theorem dX1_command_13 : decode cX1_command 13 = .ok (.iconst 1, 1) := dk_4 (dk_at dksX1_command_0 13 rfl rfl)
theorem dX1_command_14 : decode cX1_command 14 = .ok (.isub, 1) := dk_100 (dk_at dksX1_command_0 14 rfl rfl)
theorem dX1_command_15 : decode cX1_command 15 = .ok (.i2l, 1) := dk_133 (dk_at dksX1_command_0 15 rfl rfl)
theorem dX1_command_16 : decode cX1_command 16 = .ok (.invokestatic 38, 3) := dk_184 0 38 (dk_at dksX1_command_0 16 rfl rfl)
theorem dX1_command_19 : decode cX1_command 19 = .ok (.ifCond .ne 5, 3) := dk_154 0 5 (dk_at dksX1_command_0 19 rfl rfl)
theorem dX1_command_22 : decode cX1_command 22 = .ok (.iconst (-1), 1) := dk_2 (dk_at dksX1_command_0 22 rfl rfl)
theorem dX1_command_23 : decode cX1_command 23 = .ok (.ireturn, 1) := dk_172 (dk_at dksX1_command_0 23 rfl rfl)
theorem dX1_command_24 : decode cX1_command 24 = .ok (.iload_n 3, 1) := dk_29 (dk_at dksX1_command_1 0 rfl rfl)
theorem dX1_command_25 : decode cX1_command 25 = .ok (.tableswitch 71 0 3 #[31, 41, 51, 61], 31) := by decide +kernel
theorem dX1_command_56 : decode cX1_command 56 = .ok (.aload 4, 2) := dk_25 4 (dk_at dksX1_command_3 0 rfl rfl)
theorem dX1_command_58 : decode cX1_command 58 = .ok (.iload_n 2, 1) := dk_28 (dk_at dksX1_command_3 2 rfl rfl)
theorem dX1_command_59 : decode cX1_command 59 = .ok (.aaload, 1) := dk_50 (dk_at dksX1_command_3 3 rfl rfl)
theorem dX1_command_60 : decode cX1_command 60 = .ok (.getfield 173, 3) := dk_180 0 173 (dk_at dksX1_command_3 4 rfl rfl)
theorem dX1_command_63 : decode cX1_command 63 = .ok (.goto 35, 3) := dk_167 0 35 (dk_at dksX1_command_3 7 rfl rfl)
theorem dX1_command_66 : decode cX1_command 66 = .ok (.aload 4, 2) := dk_25 4 (dk_at dksX1_command_3 10 rfl rfl)
theorem dX1_command_68 : decode cX1_command 68 = .ok (.iload_n 2, 1) := dk_28 (dk_at dksX1_command_3 12 rfl rfl)
theorem dX1_command_69 : decode cX1_command 69 = .ok (.aaload, 1) := dk_50 (dk_at dksX1_command_3 13 rfl rfl)
theorem dX1_command_70 : decode cX1_command 70 = .ok (.getfield 178, 3) := dk_180 0 178 (dk_at dksX1_command_3 14 rfl rfl)
theorem dX1_command_73 : decode cX1_command 73 = .ok (.goto 25, 3) := dk_167 0 25 (dk_at dksX1_command_3 17 rfl rfl)
theorem dX1_command_76 : decode cX1_command 76 = .ok (.aload 4, 2) := dk_25 4 (dk_at dksX1_command_3 20 rfl rfl)
theorem dX1_command_78 : decode cX1_command 78 = .ok (.iload_n 2, 1) := dk_28 (dk_at dksX1_command_3 22 rfl rfl)
theorem dX1_command_79 : decode cX1_command 79 = .ok (.aaload, 1) := dk_50 (dk_at dksX1_command_3 23 rfl rfl)
theorem dX1_command_80 : decode cX1_command 80 = .ok (.getfield 181, 3) := dk_180 0 181 (dk_at dksX1_command_4 0 rfl rfl)
theorem dX1_command_83 : decode cX1_command 83 = .ok (.goto 15, 3) := dk_167 0 15 (dk_at dksX1_command_4 3 rfl rfl)
theorem dX1_command_86 : decode cX1_command 86 = .ok (.aload 4, 2) := dk_25 4 (dk_at dksX1_command_4 6 rfl rfl)
theorem dX1_command_88 : decode cX1_command 88 = .ok (.iload_n 2, 1) := dk_28 (dk_at dksX1_command_4 8 rfl rfl)
theorem dX1_command_89 : decode cX1_command 89 = .ok (.aaload, 1) := dk_50 (dk_at dksX1_command_4 9 rfl rfl)
theorem dX1_command_90 : decode cX1_command 90 = .ok (.getfield 184, 3) := dk_180 0 184 (dk_at dksX1_command_4 10 rfl rfl)
theorem dX1_command_93 : decode cX1_command 93 = .ok (.goto 5, 3) := dk_167 0 5 (dk_at dksX1_command_4 13 rfl rfl)
theorem dX1_command_96 : decode cX1_command 96 = .ok (.bipush (-2), 2) := dk_16 254 (dk_at dksX1_command_4 16 rfl rfl)
theorem dX1_command_98 : decode cX1_command 98 = .ok (.ireturn, 1) := dk_172 (dk_at dksX1_command_4 18 rfl rfl)
def dkwX1_faultNumber_4 : List UInt8 := [180, 0, 195, 167, 0, 5, 16, 254, 172]
abbrev dktX1_faultNumber_4 : List UInt8 := dkwX1_faultNumber_4 ++ []
def dkwX1_faultNumber_3 : List UInt8 := [45, 180, 0, 189, 167, 0, 26, 45, 180, 0, 191, 167, 0, 19, 45, 180, 0, 194, 167, 0, 12, 45]
abbrev dktX1_faultNumber_3 : List UInt8 := dkwX1_faultNumber_3 ++ dktX1_faultNumber_4
def dkwX1_faultNumber_2 : List UInt8 := [170, 0, 0, 0, 0, 58, 0, 0, 0, 0, 0, 0, 0, 3, 0, 0, 0, 30, 0, 0, 0, 37, 0, 0, 0, 44, 0, 0, 0, 51]
abbrev dktX1_faultNumber_2 : List UInt8 := dkwX1_faultNumber_2 ++ dktX1_faultNumber_3
def dkwX1_faultNumber_1 : List UInt8 := [182, 0, 115, 192, 0, 187, 78, 28]
abbrev dktX1_faultNumber_1 : List UInt8 := dkwX1_faultNumber_1 ++ dktX1_faultNumber_2
def dkwX1_faultNumber_0 : List UInt8 := [27, 42, 180, 0, 10, 180, 0, 128, 182, 0, 99, 184, 0, 104, 42, 180, 0, 10, 180, 0, 128, 27]
abbrev dktX1_faultNumber_0 : List UInt8 := dkwX1_faultNumber_0 ++ dktX1_faultNumber_1
theorem dksX1_faultNumber_0 : cX1_faultNumber.data.toList.drop 0 = dktX1_faultNumber_0 := by decide +kernel
theorem dksX1_faultNumber_1 : cX1_faultNumber.data.toList.drop 22 = dktX1_faultNumber_1 := dk_seg dksX1_faultNumber_0 22 rfl rfl
theorem dksX1_faultNumber_2 : cX1_faultNumber.data.toList.drop 30 = dktX1_faultNumber_2 := dk_seg dksX1_faultNumber_1 8 rfl rfl
theorem dksX1_faultNumber_3 : cX1_faultNumber.data.toList.drop 60 = dktX1_faultNumber_3 := dk_seg dksX1_faultNumber_2 30 rfl rfl
theorem dksX1_faultNumber_4 : cX1_faultNumber.data.toList.drop 82 = dktX1_faultNumber_4 := dk_seg dksX1_faultNumber_3 22 rfl rfl
theorem dX1_faultNumber_0 : decode cX1_faultNumber 0 = .ok (.iload_n 1, 1) := dk_27 (dk_at dksX1_faultNumber_0 0 rfl rfl)
theorem dX1_faultNumber_1 : decode cX1_faultNumber 1 = .ok (.aload_n 0, 1) := dk_42 (dk_at dksX1_faultNumber_0 1 rfl rfl)
theorem dX1_faultNumber_2 : decode cX1_faultNumber 2 = .ok (.getfield 10, 3) := dk_180 0 10 (dk_at dksX1_faultNumber_0 2 rfl rfl)
theorem dX1_faultNumber_5 : decode cX1_faultNumber 5 = .ok (.getfield 128, 3) := dk_180 0 128 (dk_at dksX1_faultNumber_0 5 rfl rfl)
theorem dX1_faultNumber_8 : decode cX1_faultNumber 8 = .ok (.invokevirtual 99, 3) := dk_182 0 99 (dk_at dksX1_faultNumber_0 8 rfl rfl)
theorem dX1_faultNumber_11 : decode cX1_faultNumber 11 = .ok (.invokestatic 104, 3) := dk_184 0 104 (dk_at dksX1_faultNumber_0 11 rfl rfl)
theorem dX1_faultNumber_14 : decode cX1_faultNumber 14 = .ok (.aload_n 0, 1) := dk_42 (dk_at dksX1_faultNumber_0 14 rfl rfl)
theorem dX1_faultNumber_15 : decode cX1_faultNumber 15 = .ok (.getfield 10, 3) := dk_180 0 10 (dk_at dksX1_faultNumber_0 15 rfl rfl)
theorem dX1_faultNumber_18 : decode cX1_faultNumber 18 = .ok (.getfield 128, 3) := dk_180 0 128 (dk_at dksX1_faultNumber_0 18 rfl rfl)
theorem dX1_faultNumber_21 : decode cX1_faultNumber 21 = .ok (.iload_n 1, 1) := dk_27 (dk_at dksX1_faultNumber_0 21 rfl rfl)
theorem dX1_faultNumber_22 : decode cX1_faultNumber 22 = .ok (.invokevirtual 115, 3) := dk_182 0 115 (dk_at dksX1_faultNumber_1 0 rfl rfl)
theorem dX1_faultNumber_25 : decode cX1_faultNumber 25 = .ok (.checkcast 187, 3) := dk_192 0 187 (dk_at dksX1_faultNumber_1 3 rfl rfl)
theorem dX1_faultNumber_28 : decode cX1_faultNumber 28 = .ok (.astore_n 3, 1) := dk_78 (dk_at dksX1_faultNumber_1 6 rfl rfl)
theorem dX1_faultNumber_29 : decode cX1_faultNumber 29 = .ok (.iload_n 2, 1) := dk_28 (dk_at dksX1_faultNumber_1 7 rfl rfl)
theorem dX1_faultNumber_30 : decode cX1_faultNumber 30 = .ok (.tableswitch 58 0 3 #[30, 37, 44, 51], 30) := by decide +kernel
theorem dX1_faultNumber_60 : decode cX1_faultNumber 60 = .ok (.aload_n 3, 1) := dk_45 (dk_at dksX1_faultNumber_3 0 rfl rfl)
theorem dX1_faultNumber_61 : decode cX1_faultNumber 61 = .ok (.getfield 189, 3) := dk_180 0 189 (dk_at dksX1_faultNumber_3 1 rfl rfl)
theorem dX1_faultNumber_64 : decode cX1_faultNumber 64 = .ok (.goto 26, 3) := dk_167 0 26 (dk_at dksX1_faultNumber_3 4 rfl rfl)
theorem dX1_faultNumber_67 : decode cX1_faultNumber 67 = .ok (.aload_n 3, 1) := dk_45 (dk_at dksX1_faultNumber_3 7 rfl rfl)
theorem dX1_faultNumber_68 : decode cX1_faultNumber 68 = .ok (.getfield 191, 3) := dk_180 0 191 (dk_at dksX1_faultNumber_3 8 rfl rfl)
theorem dX1_faultNumber_71 : decode cX1_faultNumber 71 = .ok (.goto 19, 3) := dk_167 0 19 (dk_at dksX1_faultNumber_3 11 rfl rfl)
theorem dX1_faultNumber_74 : decode cX1_faultNumber 74 = .ok (.aload_n 3, 1) := dk_45 (dk_at dksX1_faultNumber_3 14 rfl rfl)
theorem dX1_faultNumber_75 : decode cX1_faultNumber 75 = .ok (.getfield 194, 3) := dk_180 0 194 (dk_at dksX1_faultNumber_3 15 rfl rfl)
theorem dX1_faultNumber_78 : decode cX1_faultNumber 78 = .ok (.goto 12, 3) := dk_167 0 12 (dk_at dksX1_faultNumber_3 18 rfl rfl)
theorem dX1_faultNumber_81 : decode cX1_faultNumber 81 = .ok (.aload_n 3, 1) := dk_45 (dk_at dksX1_faultNumber_3 21 rfl rfl)
theorem dX1_faultNumber_82 : decode cX1_faultNumber 82 = .ok (.getfield 195, 3) := dk_180 0 195 (dk_at dksX1_faultNumber_4 0 rfl rfl)
theorem dX1_faultNumber_85 : decode cX1_faultNumber 85 = .ok (.goto 5, 3) := dk_167 0 5 (dk_at dksX1_faultNumber_4 3 rfl rfl)
theorem dX1_faultNumber_88 : decode cX1_faultNumber 88 = .ok (.bipush (-2), 2) := dk_16 254 (dk_at dksX1_faultNumber_4 6 rfl rfl)
theorem dX1_faultNumber_90 : decode cX1_faultNumber 90 = .ok (.ireturn, 1) := dk_172 (dk_at dksX1_faultNumber_4 8 rfl rfl)
def dkwX1_checksum_1 : List UInt8 := [180, 0, 204, 28, 46, 167, 0, 5, 16, 254, 172]
abbrev dktX1_checksum_1 : List UInt8 := dkwX1_checksum_1 ++ []
def dkwX1_checksum_0 : List UInt8 := [42, 27, 182, 0, 136, 78, 28, 133, 10, 20, 0, 198, 184, 0, 38, 153, 0, 15, 45, 182, 0, 200]
abbrev dktX1_checksum_0 : List UInt8 := dkwX1_checksum_0 ++ dktX1_checksum_1
theorem dksX1_checksum_0 : cX1_checksum.data.toList.drop 0 = dktX1_checksum_0 := by decide +kernel
theorem dksX1_checksum_1 : cX1_checksum.data.toList.drop 22 = dktX1_checksum_1 := dk_seg dksX1_checksum_0 22 rfl rfl
theorem dX1_checksum_0 : decode cX1_checksum 0 = .ok (.aload_n 0, 1) := dk_42 (dk_at dksX1_checksum_0 0 rfl rfl)
theorem dX1_checksum_1 : decode cX1_checksum 1 = .ok (.iload_n 1, 1) := dk_27 (dk_at dksX1_checksum_0 1 rfl rfl)
theorem dX1_checksum_2 : decode cX1_checksum 2 = .ok (.invokevirtual 136, 3) := dk_182 0 136 (dk_at dksX1_checksum_0 2 rfl rfl)
theorem dX1_checksum_5 : decode cX1_checksum 5 = .ok (.astore_n 3, 1) := dk_78 (dk_at dksX1_checksum_0 5 rfl rfl)
theorem dX1_checksum_6 : decode cX1_checksum 6 = .ok (.iload_n 2, 1) := dk_28 (dk_at dksX1_checksum_0 6 rfl rfl)
theorem dX1_checksum_7 : decode cX1_checksum 7 = .ok (.i2l, 1) := dk_133 (dk_at dksX1_checksum_0 7 rfl rfl)
theorem dX1_checksum_8 : decode cX1_checksum 8 = .ok (.lconst 1, 1) := dk_10 (dk_at dksX1_checksum_0 8 rfl rfl)
theorem dX1_checksum_9 : decode cX1_checksum 9 = .ok (.ldc2_w 198, 3) := dk_20 0 198 (dk_at dksX1_checksum_0 9 rfl rfl)
theorem dX1_checksum_12 : decode cX1_checksum 12 = .ok (.invokestatic 38, 3) := dk_184 0 38 (dk_at dksX1_checksum_0 12 rfl rfl)
theorem dX1_checksum_15 : decode cX1_checksum 15 = .ok (.ifCond .eq 15, 3) := dk_153 0 15 (dk_at dksX1_checksum_0 15 rfl rfl)
theorem dX1_checksum_18 : decode cX1_checksum 18 = .ok (.aload_n 3, 1) := dk_45 (dk_at dksX1_checksum_0 18 rfl rfl)
theorem dX1_checksum_19 : decode cX1_checksum 19 = .ok (.invokevirtual 200, 3) := dk_182 0 200 (dk_at dksX1_checksum_0 19 rfl rfl)
theorem dX1_checksum_22 : decode cX1_checksum 22 = .ok (.getfield 204, 3) := dk_180 0 204 (dk_at dksX1_checksum_1 0 rfl rfl)
theorem dX1_checksum_25 : decode cX1_checksum 25 = .ok (.iload_n 2, 1) := dk_28 (dk_at dksX1_checksum_1 3 rfl rfl)
theorem dX1_checksum_26 : decode cX1_checksum 26 = .ok (.iaload, 1) := dk_46 (dk_at dksX1_checksum_1 4 rfl rfl)
theorem dX1_checksum_27 : decode cX1_checksum 27 = .ok (.goto 5, 3) := dk_167 0 5 (dk_at dksX1_checksum_1 5 rfl rfl)
theorem dX1_checksum_30 : decode cX1_checksum 30 = .ok (.bipush (-2), 2) := dk_16 254 (dk_at dksX1_checksum_1 8 rfl rfl)
theorem dX1_checksum_32 : decode cX1_checksum 32 = .ok (.ireturn, 1) := dk_172 (dk_at dksX1_checksum_1 10 rfl rfl)
def dkwX1_rootAt_0 : List UInt8 := [42, 27, 182, 0, 136, 28, 182, 0, 209, 172]
abbrev dktX1_rootAt_0 : List UInt8 := dkwX1_rootAt_0 ++ []
theorem dksX1_rootAt_0 : cX1_rootAt.data.toList.drop 0 = dktX1_rootAt_0 := by decide +kernel
theorem dX1_rootAt_0 : decode cX1_rootAt 0 = .ok (.aload_n 0, 1) := dk_42 (dk_at dksX1_rootAt_0 0 rfl rfl)
theorem dX1_rootAt_1 : decode cX1_rootAt 1 = .ok (.iload_n 1, 1) := dk_27 (dk_at dksX1_rootAt_0 1 rfl rfl)
theorem dX1_rootAt_2 : decode cX1_rootAt 2 = .ok (.invokevirtual 136, 3) := dk_182 0 136 (dk_at dksX1_rootAt_0 2 rfl rfl)
theorem dX1_rootAt_5 : decode cX1_rootAt 5 = .ok (.iload_n 2, 1) := dk_28 (dk_at dksX1_rootAt_0 5 rfl rfl)
theorem dX1_rootAt_6 : decode cX1_rootAt 6 = .ok (.invokevirtual 209, 3) := dk_182 0 209 (dk_at dksX1_rootAt_0 6 rfl rfl)
theorem dX1_rootAt_9 : decode cX1_rootAt 9 = .ok (.ireturn, 1) := dk_172 (dk_at dksX1_rootAt_0 9 rfl rfl)
def dkwX1_firstWrongTurn_0 : List UInt8 := [187, 0, 213, 89, 42, 27, 28, 183, 0, 215, 182, 0, 218, 172]
abbrev dktX1_firstWrongTurn_0 : List UInt8 := dkwX1_firstWrongTurn_0 ++ []
theorem dksX1_firstWrongTurn_0 : cX1_firstWrongTurn.data.toList.drop 0 = dktX1_firstWrongTurn_0 := by decide +kernel
theorem dX1_firstWrongTurn_0 : decode cX1_firstWrongTurn 0 = .ok (.new 213, 3) := dk_187 0 213 (dk_at dksX1_firstWrongTurn_0 0 rfl rfl)
theorem dX1_firstWrongTurn_3 : decode cX1_firstWrongTurn 3 = .ok (.dup, 1) := dk_89 (dk_at dksX1_firstWrongTurn_0 3 rfl rfl)
theorem dX1_firstWrongTurn_4 : decode cX1_firstWrongTurn 4 = .ok (.aload_n 0, 1) := dk_42 (dk_at dksX1_firstWrongTurn_0 4 rfl rfl)
theorem dX1_firstWrongTurn_5 : decode cX1_firstWrongTurn 5 = .ok (.iload_n 1, 1) := dk_27 (dk_at dksX1_firstWrongTurn_0 5 rfl rfl)
theorem dX1_firstWrongTurn_6 : decode cX1_firstWrongTurn 6 = .ok (.iload_n 2, 1) := dk_28 (dk_at dksX1_firstWrongTurn_0 6 rfl rfl)
theorem dX1_firstWrongTurn_7 : decode cX1_firstWrongTurn 7 = .ok (.invokespecial 215, 3) := dk_183 0 215 (dk_at dksX1_firstWrongTurn_0 7 rfl rfl)
theorem dX1_firstWrongTurn_10 : decode cX1_firstWrongTurn 10 = .ok (.invokevirtual 218, 3) := dk_182 0 218 (dk_at dksX1_firstWrongTurn_0 10 rfl rfl)
theorem dX1_firstWrongTurn_13 : decode cX1_firstWrongTurn 13 = .ok (.ireturn, 1) := dk_172 (dk_at dksX1_firstWrongTurn_0 13 rfl rfl)
def dkwX1_halvedTurn_0 : List UInt8 := [187, 0, 213, 89, 42, 27, 28, 183, 0, 215, 182, 0, 221, 172]
abbrev dktX1_halvedTurn_0 : List UInt8 := dkwX1_halvedTurn_0 ++ []
theorem dksX1_halvedTurn_0 : cX1_halvedTurn.data.toList.drop 0 = dktX1_halvedTurn_0 := by decide +kernel
theorem dX1_halvedTurn_0 : decode cX1_halvedTurn 0 = .ok (.new 213, 3) := dk_187 0 213 (dk_at dksX1_halvedTurn_0 0 rfl rfl)
theorem dX1_halvedTurn_3 : decode cX1_halvedTurn 3 = .ok (.dup, 1) := dk_89 (dk_at dksX1_halvedTurn_0 3 rfl rfl)
theorem dX1_halvedTurn_4 : decode cX1_halvedTurn 4 = .ok (.aload_n 0, 1) := dk_42 (dk_at dksX1_halvedTurn_0 4 rfl rfl)
theorem dX1_halvedTurn_5 : decode cX1_halvedTurn 5 = .ok (.iload_n 1, 1) := dk_27 (dk_at dksX1_halvedTurn_0 5 rfl rfl)
theorem dX1_halvedTurn_6 : decode cX1_halvedTurn 6 = .ok (.iload_n 2, 1) := dk_28 (dk_at dksX1_halvedTurn_0 6 rfl rfl)
theorem dX1_halvedTurn_7 : decode cX1_halvedTurn 7 = .ok (.invokespecial 215, 3) := dk_183 0 215 (dk_at dksX1_halvedTurn_0 7 rfl rfl)
theorem dX1_halvedTurn_10 : decode cX1_halvedTurn 10 = .ok (.invokevirtual 221, 3) := dk_182 0 221 (dk_at dksX1_halvedTurn_0 10 rfl rfl)
theorem dX1_halvedTurn_13 : decode cX1_halvedTurn 13 = .ok (.ireturn, 1) := dk_172 (dk_at dksX1_halvedTurn_0 13 rfl rfl)
def dkwX1_isHalvingRight_1 : List UInt8 := [182, 0, 221, 160, 0, 7, 4, 167, 0, 4, 3, 172]
abbrev dktX1_isHalvingRight_1 : List UInt8 := dkwX1_isHalvingRight_1 ++ []
def dkwX1_isHalvingRight_0 : List UInt8 := [187, 0, 213, 89, 42, 27, 28, 183, 0, 215, 182, 0, 218, 187, 0, 213, 89, 42, 27, 28, 183, 0, 215]
abbrev dktX1_isHalvingRight_0 : List UInt8 := dkwX1_isHalvingRight_0 ++ dktX1_isHalvingRight_1
theorem dksX1_isHalvingRight_0 : cX1_isHalvingRight.data.toList.drop 0 = dktX1_isHalvingRight_0 := by decide +kernel
theorem dksX1_isHalvingRight_1 : cX1_isHalvingRight.data.toList.drop 23 = dktX1_isHalvingRight_1 := dk_seg dksX1_isHalvingRight_0 23 rfl rfl
theorem dX1_isHalvingRight_0 : decode cX1_isHalvingRight 0 = .ok (.new 213, 3) := dk_187 0 213 (dk_at dksX1_isHalvingRight_0 0 rfl rfl)
theorem dX1_isHalvingRight_3 : decode cX1_isHalvingRight 3 = .ok (.dup, 1) := dk_89 (dk_at dksX1_isHalvingRight_0 3 rfl rfl)
theorem dX1_isHalvingRight_4 : decode cX1_isHalvingRight 4 = .ok (.aload_n 0, 1) := dk_42 (dk_at dksX1_isHalvingRight_0 4 rfl rfl)
theorem dX1_isHalvingRight_5 : decode cX1_isHalvingRight 5 = .ok (.iload_n 1, 1) := dk_27 (dk_at dksX1_isHalvingRight_0 5 rfl rfl)
theorem dX1_isHalvingRight_6 : decode cX1_isHalvingRight 6 = .ok (.iload_n 2, 1) := dk_28 (dk_at dksX1_isHalvingRight_0 6 rfl rfl)
theorem dX1_isHalvingRight_7 : decode cX1_isHalvingRight 7 = .ok (.invokespecial 215, 3) := dk_183 0 215 (dk_at dksX1_isHalvingRight_0 7 rfl rfl)
theorem dX1_isHalvingRight_10 : decode cX1_isHalvingRight 10 = .ok (.invokevirtual 218, 3) := dk_182 0 218 (dk_at dksX1_isHalvingRight_0 10 rfl rfl)
theorem dX1_isHalvingRight_13 : decode cX1_isHalvingRight 13 = .ok (.new 213, 3) := dk_187 0 213 (dk_at dksX1_isHalvingRight_0 13 rfl rfl)
theorem dX1_isHalvingRight_16 : decode cX1_isHalvingRight 16 = .ok (.dup, 1) := dk_89 (dk_at dksX1_isHalvingRight_0 16 rfl rfl)
theorem dX1_isHalvingRight_17 : decode cX1_isHalvingRight 17 = .ok (.aload_n 0, 1) := dk_42 (dk_at dksX1_isHalvingRight_0 17 rfl rfl)
theorem dX1_isHalvingRight_18 : decode cX1_isHalvingRight 18 = .ok (.iload_n 1, 1) := dk_27 (dk_at dksX1_isHalvingRight_0 18 rfl rfl)
theorem dX1_isHalvingRight_19 : decode cX1_isHalvingRight 19 = .ok (.iload_n 2, 1) := dk_28 (dk_at dksX1_isHalvingRight_0 19 rfl rfl)
theorem dX1_isHalvingRight_20 : decode cX1_isHalvingRight 20 = .ok (.invokespecial 215, 3) := dk_183 0 215 (dk_at dksX1_isHalvingRight_0 20 rfl rfl)
theorem dX1_isHalvingRight_23 : decode cX1_isHalvingRight 23 = .ok (.invokevirtual 221, 3) := dk_182 0 221 (dk_at dksX1_isHalvingRight_1 0 rfl rfl)
theorem dX1_isHalvingRight_26 : decode cX1_isHalvingRight 26 = .ok (.if_icmp .ne 7, 3) := dk_160 0 7 (dk_at dksX1_isHalvingRight_1 3 rfl rfl)
theorem dX1_isHalvingRight_29 : decode cX1_isHalvingRight 29 = .ok (.iconst 1, 1) := dk_4 (dk_at dksX1_isHalvingRight_1 6 rfl rfl)
theorem dX1_isHalvingRight_30 : decode cX1_isHalvingRight 30 = .ok (.goto 4, 3) := dk_167 0 4 (dk_at dksX1_isHalvingRight_1 7 rfl rfl)
theorem dX1_isHalvingRight_33 : decode cX1_isHalvingRight 33 = .ok (.iconst 0, 1) := dk_3 (dk_at dksX1_isHalvingRight_1 10 rfl rfl)
theorem dX1_isHalvingRight_34 : decode cX1_isHalvingRight 34 = .ok (.ireturn, 1) := dk_172 (dk_at dksX1_isHalvingRight_1 11 rfl rfl)
def dkwX1_firstWrongCell_3 : List UInt8 := [2, 172]
abbrev dktX1_firstWrongCell_3 : List UInt8 := dkwX1_firstWrongCell_3 ++ []
def dkwX1_firstWrongCell_2 : List UInt8 := [185, 0, 237, 1, 0, 153, 0, 19, 25, 4, 185, 0, 242, 1, 0, 192, 0, 245, 182, 0, 247, 167, 0, 4]
abbrev dktX1_firstWrongCell_2 : List UInt8 := dkwX1_firstWrongCell_2 ++ dktX1_firstWrongCell_3
def dkwX1_firstWrongCell_1 : List UInt8 := [182, 0, 108, 180, 0, 142, 159, 0, 6, 16, 252, 172, 45, 182, 0, 233, 58, 4, 25, 4]
abbrev dktX1_firstWrongCell_1 : List UInt8 := dkwX1_firstWrongCell_1 ++ dktX1_firstWrongCell_2
def dkwX1_firstWrongCell_0 : List UInt8 := [42, 27, 28, 182, 0, 229, 78, 42, 180, 0, 10, 27, 182, 0, 108, 180, 0, 142, 42, 180, 0, 10, 28]
abbrev dktX1_firstWrongCell_0 : List UInt8 := dkwX1_firstWrongCell_0 ++ dktX1_firstWrongCell_1
theorem dksX1_firstWrongCell_0 : cX1_firstWrongCell.data.toList.drop 0 = dktX1_firstWrongCell_0 := by decide +kernel
theorem dksX1_firstWrongCell_1 : cX1_firstWrongCell.data.toList.drop 23 = dktX1_firstWrongCell_1 := dk_seg dksX1_firstWrongCell_0 23 rfl rfl
theorem dksX1_firstWrongCell_2 : cX1_firstWrongCell.data.toList.drop 43 = dktX1_firstWrongCell_2 := dk_seg dksX1_firstWrongCell_1 20 rfl rfl
theorem dksX1_firstWrongCell_3 : cX1_firstWrongCell.data.toList.drop 67 = dktX1_firstWrongCell_3 := dk_seg dksX1_firstWrongCell_2 24 rfl rfl
theorem dX1_firstWrongCell_0 : decode cX1_firstWrongCell 0 = .ok (.aload_n 0, 1) := dk_42 (dk_at dksX1_firstWrongCell_0 0 rfl rfl)
theorem dX1_firstWrongCell_1 : decode cX1_firstWrongCell 1 = .ok (.iload_n 1, 1) := dk_27 (dk_at dksX1_firstWrongCell_0 1 rfl rfl)
theorem dX1_firstWrongCell_2 : decode cX1_firstWrongCell 2 = .ok (.iload_n 2, 1) := dk_28 (dk_at dksX1_firstWrongCell_0 2 rfl rfl)
theorem dX1_firstWrongCell_3 : decode cX1_firstWrongCell 3 = .ok (.invokevirtual 229, 3) := dk_182 0 229 (dk_at dksX1_firstWrongCell_0 3 rfl rfl)
theorem dX1_firstWrongCell_6 : decode cX1_firstWrongCell 6 = .ok (.astore_n 3, 1) := dk_78 (dk_at dksX1_firstWrongCell_0 6 rfl rfl)
theorem dX1_firstWrongCell_7 : decode cX1_firstWrongCell 7 = .ok (.aload_n 0, 1) := dk_42 (dk_at dksX1_firstWrongCell_0 7 rfl rfl)
theorem dX1_firstWrongCell_8 : decode cX1_firstWrongCell 8 = .ok (.getfield 10, 3) := dk_180 0 10 (dk_at dksX1_firstWrongCell_0 8 rfl rfl)
theorem dX1_firstWrongCell_11 : decode cX1_firstWrongCell 11 = .ok (.iload_n 1, 1) := dk_27 (dk_at dksX1_firstWrongCell_0 11 rfl rfl)
theorem dX1_firstWrongCell_12 : decode cX1_firstWrongCell 12 = .ok (.invokevirtual 108, 3) := dk_182 0 108 (dk_at dksX1_firstWrongCell_0 12 rfl rfl)
theorem dX1_firstWrongCell_15 : decode cX1_firstWrongCell 15 = .ok (.getfield 142, 3) := dk_180 0 142 (dk_at dksX1_firstWrongCell_0 15 rfl rfl)
theorem dX1_firstWrongCell_18 : decode cX1_firstWrongCell 18 = .ok (.aload_n 0, 1) := dk_42 (dk_at dksX1_firstWrongCell_0 18 rfl rfl)
theorem dX1_firstWrongCell_19 : decode cX1_firstWrongCell 19 = .ok (.getfield 10, 3) := dk_180 0 10 (dk_at dksX1_firstWrongCell_0 19 rfl rfl)
theorem dX1_firstWrongCell_22 : decode cX1_firstWrongCell 22 = .ok (.iload_n 2, 1) := dk_28 (dk_at dksX1_firstWrongCell_0 22 rfl rfl)
theorem dX1_firstWrongCell_23 : decode cX1_firstWrongCell 23 = .ok (.invokevirtual 108, 3) := dk_182 0 108 (dk_at dksX1_firstWrongCell_1 0 rfl rfl)
theorem dX1_firstWrongCell_26 : decode cX1_firstWrongCell 26 = .ok (.getfield 142, 3) := dk_180 0 142 (dk_at dksX1_firstWrongCell_1 3 rfl rfl)
theorem dX1_firstWrongCell_29 : decode cX1_firstWrongCell 29 = .ok (.if_icmp .eq 6, 3) := dk_159 0 6 (dk_at dksX1_firstWrongCell_1 6 rfl rfl)
theorem dX1_firstWrongCell_32 : decode cX1_firstWrongCell 32 = .ok (.bipush (-4), 2) := dk_16 252 (dk_at dksX1_firstWrongCell_1 9 rfl rfl)
theorem dX1_firstWrongCell_34 : decode cX1_firstWrongCell 34 = .ok (.ireturn, 1) := dk_172 (dk_at dksX1_firstWrongCell_1 11 rfl rfl)
theorem dX1_firstWrongCell_35 : decode cX1_firstWrongCell 35 = .ok (.aload_n 3, 1) := dk_45 (dk_at dksX1_firstWrongCell_1 12 rfl rfl)
theorem dX1_firstWrongCell_36 : decode cX1_firstWrongCell 36 = .ok (.invokevirtual 233, 3) := dk_182 0 233 (dk_at dksX1_firstWrongCell_1 13 rfl rfl)
theorem dX1_firstWrongCell_39 : decode cX1_firstWrongCell 39 = .ok (.astore 4, 2) := dk_58 4 (dk_at dksX1_firstWrongCell_1 16 rfl rfl)
theorem dX1_firstWrongCell_41 : decode cX1_firstWrongCell 41 = .ok (.aload 4, 2) := dk_25 4 (dk_at dksX1_firstWrongCell_1 18 rfl rfl)
theorem dX1_firstWrongCell_43 : decode cX1_firstWrongCell 43 = .ok (.invokeinterface 237 1, 5) := by decide +kernel
theorem dX1_firstWrongCell_48 : decode cX1_firstWrongCell 48 = .ok (.ifCond .eq 19, 3) := dk_153 0 19 (dk_at dksX1_firstWrongCell_2 5 rfl rfl)
theorem dX1_firstWrongCell_51 : decode cX1_firstWrongCell 51 = .ok (.aload 4, 2) := dk_25 4 (dk_at dksX1_firstWrongCell_2 8 rfl rfl)
theorem dX1_firstWrongCell_53 : decode cX1_firstWrongCell 53 = .ok (.invokeinterface 242 1, 5) := by decide +kernel
theorem dX1_firstWrongCell_58 : decode cX1_firstWrongCell 58 = .ok (.checkcast 245, 3) := dk_192 0 245 (dk_at dksX1_firstWrongCell_2 15 rfl rfl)
theorem dX1_firstWrongCell_61 : decode cX1_firstWrongCell 61 = .ok (.invokevirtual 247, 3) := dk_182 0 247 (dk_at dksX1_firstWrongCell_2 18 rfl rfl)
theorem dX1_firstWrongCell_64 : decode cX1_firstWrongCell 64 = .ok (.goto 4, 3) := dk_167 0 4 (dk_at dksX1_firstWrongCell_2 21 rfl rfl)
theorem dX1_firstWrongCell_67 : decode cX1_firstWrongCell 67 = .ok (.iconst (-1), 1) := dk_2 (dk_at dksX1_firstWrongCell_3 0 rfl rfl)
theorem dX1_firstWrongCell_68 : decode cX1_firstWrongCell 68 = .ok (.ireturn, 1) := dk_172 (dk_at dksX1_firstWrongCell_3 1 rfl rfl)
def dkwX1_descent_0 : List UInt8 := [187, 0, 224, 89, 42, 27, 182, 0, 136, 182, 0, 200, 42, 28, 182, 0, 136, 182, 0, 200, 183, 0, 226, 176]
abbrev dktX1_descent_0 : List UInt8 := dkwX1_descent_0 ++ []
theorem dksX1_descent_0 : cX1_descent.data.toList.drop 0 = dktX1_descent_0 := by decide +kernel
theorem dX1_descent_0 : decode cX1_descent 0 = .ok (.new 224, 3) := dk_187 0 224 (dk_at dksX1_descent_0 0 rfl rfl)
theorem dX1_descent_3 : decode cX1_descent 3 = .ok (.dup, 1) := dk_89 (dk_at dksX1_descent_0 3 rfl rfl)
theorem dX1_descent_4 : decode cX1_descent 4 = .ok (.aload_n 0, 1) := dk_42 (dk_at dksX1_descent_0 4 rfl rfl)
theorem dX1_descent_5 : decode cX1_descent 5 = .ok (.iload_n 1, 1) := dk_27 (dk_at dksX1_descent_0 5 rfl rfl)
theorem dX1_descent_6 : decode cX1_descent 6 = .ok (.invokevirtual 136, 3) := dk_182 0 136 (dk_at dksX1_descent_0 6 rfl rfl)
theorem dX1_descent_9 : decode cX1_descent 9 = .ok (.invokevirtual 200, 3) := dk_182 0 200 (dk_at dksX1_descent_0 9 rfl rfl)
theorem dX1_descent_12 : decode cX1_descent 12 = .ok (.aload_n 0, 1) := dk_42 (dk_at dksX1_descent_0 12 rfl rfl)
theorem dX1_descent_13 : decode cX1_descent 13 = .ok (.iload_n 2, 1) := dk_28 (dk_at dksX1_descent_0 13 rfl rfl)
theorem dX1_descent_14 : decode cX1_descent 14 = .ok (.invokevirtual 136, 3) := dk_182 0 136 (dk_at dksX1_descent_0 14 rfl rfl)
theorem dX1_descent_17 : decode cX1_descent 17 = .ok (.invokevirtual 200, 3) := dk_182 0 200 (dk_at dksX1_descent_0 17 rfl rfl)
theorem dX1_descent_20 : decode cX1_descent 20 = .ok (.invokespecial 226, 3) := dk_183 0 226 (dk_at dksX1_descent_0 20 rfl rfl)
theorem dX1_descent_23 : decode cX1_descent 23 = .ok (.areturn, 1) := dk_176 (dk_at dksX1_descent_0 23 rfl rfl)
def dkwX1_wrongCells_2 : List UInt8 := [167, 255, 224, 29, 172]
abbrev dktX1_wrongCells_2 : List UInt8 := dkwX1_wrongCells_2 ++ []
def dkwX1_wrongCells_1 : List UInt8 := [25, 4, 185, 0, 242, 1, 0, 192, 0, 245, 58, 5, 29, 4, 25, 5, 182, 0, 247, 120, 128, 62]
abbrev dktX1_wrongCells_1 : List UInt8 := dkwX1_wrongCells_1 ++ dktX1_wrongCells_2
def dkwX1_wrongCells_0 : List UInt8 := [3, 62, 42, 27, 28, 182, 0, 229, 182, 0, 233, 58, 4, 25, 4, 185, 0, 237, 1, 0, 153, 0, 28]
abbrev dktX1_wrongCells_0 : List UInt8 := dkwX1_wrongCells_0 ++ dktX1_wrongCells_1
theorem dksX1_wrongCells_0 : cX1_wrongCells.data.toList.drop 0 = dktX1_wrongCells_0 := by decide +kernel
theorem dksX1_wrongCells_1 : cX1_wrongCells.data.toList.drop 23 = dktX1_wrongCells_1 := dk_seg dksX1_wrongCells_0 23 rfl rfl
theorem dksX1_wrongCells_2 : cX1_wrongCells.data.toList.drop 45 = dktX1_wrongCells_2 := dk_seg dksX1_wrongCells_1 22 rfl rfl
theorem dX1_wrongCells_0 : decode cX1_wrongCells 0 = .ok (.iconst 0, 1) := dk_3 (dk_at dksX1_wrongCells_0 0 rfl rfl)
theorem dX1_wrongCells_1 : decode cX1_wrongCells 1 = .ok (.istore_n 3, 1) := dk_62 (dk_at dksX1_wrongCells_0 1 rfl rfl)
theorem dX1_wrongCells_2 : decode cX1_wrongCells 2 = .ok (.aload_n 0, 1) := dk_42 (dk_at dksX1_wrongCells_0 2 rfl rfl)
theorem dX1_wrongCells_3 : decode cX1_wrongCells 3 = .ok (.iload_n 1, 1) := dk_27 (dk_at dksX1_wrongCells_0 3 rfl rfl)
theorem dX1_wrongCells_4 : decode cX1_wrongCells 4 = .ok (.iload_n 2, 1) := dk_28 (dk_at dksX1_wrongCells_0 4 rfl rfl)
theorem dX1_wrongCells_5 : decode cX1_wrongCells 5 = .ok (.invokevirtual 229, 3) := dk_182 0 229 (dk_at dksX1_wrongCells_0 5 rfl rfl)
theorem dX1_wrongCells_8 : decode cX1_wrongCells 8 = .ok (.invokevirtual 233, 3) := dk_182 0 233 (dk_at dksX1_wrongCells_0 8 rfl rfl)
theorem dX1_wrongCells_11 : decode cX1_wrongCells 11 = .ok (.astore 4, 2) := dk_58 4 (dk_at dksX1_wrongCells_0 11 rfl rfl)
theorem dX1_wrongCells_13 : decode cX1_wrongCells 13 = .ok (.aload 4, 2) := dk_25 4 (dk_at dksX1_wrongCells_0 13 rfl rfl)
theorem dX1_wrongCells_15 : decode cX1_wrongCells 15 = .ok (.invokeinterface 237 1, 5) := by decide +kernel
theorem dX1_wrongCells_20 : decode cX1_wrongCells 20 = .ok (.ifCond .eq 28, 3) := dk_153 0 28 (dk_at dksX1_wrongCells_0 20 rfl rfl)
theorem dX1_wrongCells_23 : decode cX1_wrongCells 23 = .ok (.aload 4, 2) := dk_25 4 (dk_at dksX1_wrongCells_1 0 rfl rfl)
theorem dX1_wrongCells_25 : decode cX1_wrongCells 25 = .ok (.invokeinterface 242 1, 5) := by decide +kernel
theorem dX1_wrongCells_30 : decode cX1_wrongCells 30 = .ok (.checkcast 245, 3) := dk_192 0 245 (dk_at dksX1_wrongCells_1 7 rfl rfl)
theorem dX1_wrongCells_33 : decode cX1_wrongCells 33 = .ok (.astore 5, 2) := dk_58 5 (dk_at dksX1_wrongCells_1 10 rfl rfl)
theorem dX1_wrongCells_35 : decode cX1_wrongCells 35 = .ok (.iload_n 3, 1) := dk_29 (dk_at dksX1_wrongCells_1 12 rfl rfl)
theorem dX1_wrongCells_36 : decode cX1_wrongCells 36 = .ok (.iconst 1, 1) := dk_4 (dk_at dksX1_wrongCells_1 13 rfl rfl)
theorem dX1_wrongCells_37 : decode cX1_wrongCells 37 = .ok (.aload 5, 2) := dk_25 5 (dk_at dksX1_wrongCells_1 14 rfl rfl)
theorem dX1_wrongCells_39 : decode cX1_wrongCells 39 = .ok (.invokevirtual 247, 3) := dk_182 0 247 (dk_at dksX1_wrongCells_1 16 rfl rfl)
theorem dX1_wrongCells_42 : decode cX1_wrongCells 42 = .ok (.ishl, 1) := dk_120 (dk_at dksX1_wrongCells_1 19 rfl rfl)
theorem dX1_wrongCells_43 : decode cX1_wrongCells 43 = .ok (.ior, 1) := dk_128 (dk_at dksX1_wrongCells_1 20 rfl rfl)
theorem dX1_wrongCells_44 : decode cX1_wrongCells 44 = .ok (.istore_n 3, 1) := dk_62 (dk_at dksX1_wrongCells_1 21 rfl rfl)
theorem dX1_wrongCells_45 : decode cX1_wrongCells 45 = .ok (.goto (-32), 3) := dk_167 255 224 (dk_at dksX1_wrongCells_2 0 rfl rfl)
theorem dX1_wrongCells_48 : decode cX1_wrongCells 48 = .ok (.iload_n 3, 1) := dk_29 (dk_at dksX1_wrongCells_2 3 rfl rfl)
theorem dX1_wrongCells_49 : decode cX1_wrongCells 49 = .ok (.ireturn, 1) := dk_172 (dk_at dksX1_wrongCells_2 4 rfl rfl)
def dkwX1_comparisons_2 : List UInt8 := [180, 0, 250, 172]
abbrev dktX1_comparisons_2 : List UInt8 := dkwX1_comparisons_2 ++ []
def dkwX1_comparisons_1 : List UInt8 := [153, 0, 21, 25, 5, 185, 0, 242, 1, 0, 192, 0, 245, 58, 6, 132, 4, 1, 167, 255, 231, 45]
abbrev dktX1_comparisons_1 : List UInt8 := dkwX1_comparisons_1 ++ dktX1_comparisons_2
def dkwX1_comparisons_0 : List UInt8 := [42, 27, 28, 182, 0, 229, 78, 3, 54, 4, 45, 182, 0, 233, 58, 5, 25, 5, 185, 0, 237, 1, 0]
abbrev dktX1_comparisons_0 : List UInt8 := dkwX1_comparisons_0 ++ dktX1_comparisons_1
theorem dksX1_comparisons_0 : cX1_comparisons.data.toList.drop 0 = dktX1_comparisons_0 := by decide +kernel
theorem dksX1_comparisons_1 : cX1_comparisons.data.toList.drop 23 = dktX1_comparisons_1 := dk_seg dksX1_comparisons_0 23 rfl rfl
theorem dksX1_comparisons_2 : cX1_comparisons.data.toList.drop 45 = dktX1_comparisons_2 := dk_seg dksX1_comparisons_1 22 rfl rfl
theorem dX1_comparisons_0 : decode cX1_comparisons 0 = .ok (.aload_n 0, 1) := dk_42 (dk_at dksX1_comparisons_0 0 rfl rfl)
theorem dX1_comparisons_1 : decode cX1_comparisons 1 = .ok (.iload_n 1, 1) := dk_27 (dk_at dksX1_comparisons_0 1 rfl rfl)
theorem dX1_comparisons_2 : decode cX1_comparisons 2 = .ok (.iload_n 2, 1) := dk_28 (dk_at dksX1_comparisons_0 2 rfl rfl)
theorem dX1_comparisons_3 : decode cX1_comparisons 3 = .ok (.invokevirtual 229, 3) := dk_182 0 229 (dk_at dksX1_comparisons_0 3 rfl rfl)
theorem dX1_comparisons_6 : decode cX1_comparisons 6 = .ok (.astore_n 3, 1) := dk_78 (dk_at dksX1_comparisons_0 6 rfl rfl)
theorem dX1_comparisons_7 : decode cX1_comparisons 7 = .ok (.iconst 0, 1) := dk_3 (dk_at dksX1_comparisons_0 7 rfl rfl)
theorem dX1_comparisons_8 : decode cX1_comparisons 8 = .ok (.istore 4, 2) := dk_54 4 (dk_at dksX1_comparisons_0 8 rfl rfl)
theorem dX1_comparisons_10 : decode cX1_comparisons 10 = .ok (.aload_n 3, 1) := dk_45 (dk_at dksX1_comparisons_0 10 rfl rfl)
theorem dX1_comparisons_11 : decode cX1_comparisons 11 = .ok (.invokevirtual 233, 3) := dk_182 0 233 (dk_at dksX1_comparisons_0 11 rfl rfl)
theorem dX1_comparisons_14 : decode cX1_comparisons 14 = .ok (.astore 5, 2) := dk_58 5 (dk_at dksX1_comparisons_0 14 rfl rfl)
theorem dX1_comparisons_16 : decode cX1_comparisons 16 = .ok (.aload 5, 2) := dk_25 5 (dk_at dksX1_comparisons_0 16 rfl rfl)
theorem dX1_comparisons_18 : decode cX1_comparisons 18 = .ok (.invokeinterface 237 1, 5) := by decide +kernel
theorem dX1_comparisons_23 : decode cX1_comparisons 23 = .ok (.ifCond .eq 21, 3) := dk_153 0 21 (dk_at dksX1_comparisons_1 0 rfl rfl)
theorem dX1_comparisons_26 : decode cX1_comparisons 26 = .ok (.aload 5, 2) := dk_25 5 (dk_at dksX1_comparisons_1 3 rfl rfl)
theorem dX1_comparisons_28 : decode cX1_comparisons 28 = .ok (.invokeinterface 242 1, 5) := by decide +kernel
theorem dX1_comparisons_33 : decode cX1_comparisons 33 = .ok (.checkcast 245, 3) := dk_192 0 245 (dk_at dksX1_comparisons_1 10 rfl rfl)
theorem dX1_comparisons_36 : decode cX1_comparisons 36 = .ok (.astore 6, 2) := dk_58 6 (dk_at dksX1_comparisons_1 13 rfl rfl)
theorem dX1_comparisons_38 : decode cX1_comparisons 38 = .ok (.iinc 4 1, 3) := dk_132 4 1 (dk_at dksX1_comparisons_1 15 rfl rfl)
theorem dX1_comparisons_41 : decode cX1_comparisons 41 = .ok (.goto (-25), 3) := dk_167 255 231 (dk_at dksX1_comparisons_1 18 rfl rfl)
theorem dX1_comparisons_44 : decode cX1_comparisons 44 = .ok (.aload_n 3, 1) := dk_45 (dk_at dksX1_comparisons_1 21 rfl rfl)
theorem dX1_comparisons_45 : decode cX1_comparisons 45 = .ok (.getfield 250, 3) := dk_180 0 250 (dk_at dksX1_comparisons_2 0 rfl rfl)
theorem dX1_comparisons_48 : decode cX1_comparisons 48 = .ok (.ireturn, 1) := dk_172 (dk_at dksX1_comparisons_2 3 rfl rfl)
def dkwX1_votes_3 : List UInt8 := [3, 96, 54, 4, 132, 5, 1, 167, 255, 202, 21, 4, 172]
abbrev dktX1_votes_3 : List UInt8 := dkwX1_votes_3 ++ []
def dkwX1_votes_2 : List UInt8 := [153, 0, 24, 42, 180, 0, 10, 21, 5, 182, 0, 108, 28, 182, 0, 209, 29, 160, 0, 7, 4, 167, 0, 4]
abbrev dktX1_votes_2 : List UInt8 := dkwX1_votes_2 ++ dktX1_votes_3
def dkwX1_votes_1 : List UInt8 := [21, 5, 42, 182, 0, 102, 162, 0, 51, 21, 4, 42, 180, 0, 10, 21, 5, 182, 0, 108, 180, 0, 145]
abbrev dktX1_votes_1 : List UInt8 := dkwX1_votes_1 ++ dktX1_votes_2
def dkwX1_votes_0 : List UInt8 := [42, 27, 182, 0, 136, 28, 182, 0, 209, 62, 29, 2, 160, 0, 5, 2, 172, 3, 54, 4, 3, 54, 5]
abbrev dktX1_votes_0 : List UInt8 := dkwX1_votes_0 ++ dktX1_votes_1
theorem dksX1_votes_0 : cX1_votes.data.toList.drop 0 = dktX1_votes_0 := by decide +kernel
theorem dksX1_votes_1 : cX1_votes.data.toList.drop 23 = dktX1_votes_1 := dk_seg dksX1_votes_0 23 rfl rfl
theorem dksX1_votes_2 : cX1_votes.data.toList.drop 46 = dktX1_votes_2 := dk_seg dksX1_votes_1 23 rfl rfl
theorem dksX1_votes_3 : cX1_votes.data.toList.drop 70 = dktX1_votes_3 := dk_seg dksX1_votes_2 24 rfl rfl
theorem dX1_votes_0 : decode cX1_votes 0 = .ok (.aload_n 0, 1) := dk_42 (dk_at dksX1_votes_0 0 rfl rfl)
theorem dX1_votes_1 : decode cX1_votes 1 = .ok (.iload_n 1, 1) := dk_27 (dk_at dksX1_votes_0 1 rfl rfl)
theorem dX1_votes_2 : decode cX1_votes 2 = .ok (.invokevirtual 136, 3) := dk_182 0 136 (dk_at dksX1_votes_0 2 rfl rfl)
theorem dX1_votes_5 : decode cX1_votes 5 = .ok (.iload_n 2, 1) := dk_28 (dk_at dksX1_votes_0 5 rfl rfl)
theorem dX1_votes_6 : decode cX1_votes 6 = .ok (.invokevirtual 209, 3) := dk_182 0 209 (dk_at dksX1_votes_0 6 rfl rfl)
theorem dX1_votes_9 : decode cX1_votes 9 = .ok (.istore_n 3, 1) := dk_62 (dk_at dksX1_votes_0 9 rfl rfl)
theorem dX1_votes_10 : decode cX1_votes 10 = .ok (.iload_n 3, 1) := dk_29 (dk_at dksX1_votes_0 10 rfl rfl)
theorem dX1_votes_11 : decode cX1_votes 11 = .ok (.iconst (-1), 1) := dk_2 (dk_at dksX1_votes_0 11 rfl rfl)
theorem dX1_votes_12 : decode cX1_votes 12 = .ok (.if_icmp .ne 5, 3) := dk_160 0 5 (dk_at dksX1_votes_0 12 rfl rfl)
theorem dX1_votes_15 : decode cX1_votes 15 = .ok (.iconst (-1), 1) := dk_2 (dk_at dksX1_votes_0 15 rfl rfl)
theorem dX1_votes_16 : decode cX1_votes 16 = .ok (.ireturn, 1) := dk_172 (dk_at dksX1_votes_0 16 rfl rfl)
theorem dX1_votes_17 : decode cX1_votes 17 = .ok (.iconst 0, 1) := dk_3 (dk_at dksX1_votes_0 17 rfl rfl)
theorem dX1_votes_18 : decode cX1_votes 18 = .ok (.istore 4, 2) := dk_54 4 (dk_at dksX1_votes_0 18 rfl rfl)
theorem dX1_votes_20 : decode cX1_votes 20 = .ok (.iconst 0, 1) := dk_3 (dk_at dksX1_votes_0 20 rfl rfl)
theorem dX1_votes_21 : decode cX1_votes 21 = .ok (.istore 5, 2) := dk_54 5 (dk_at dksX1_votes_0 21 rfl rfl)
theorem dX1_votes_23 : decode cX1_votes 23 = .ok (.iload 5, 2) := dk_21 5 (dk_at dksX1_votes_1 0 rfl rfl)
theorem dX1_votes_25 : decode cX1_votes 25 = .ok (.aload_n 0, 1) := dk_42 (dk_at dksX1_votes_1 2 rfl rfl)
theorem dX1_votes_26 : decode cX1_votes 26 = .ok (.invokevirtual 102, 3) := dk_182 0 102 (dk_at dksX1_votes_1 3 rfl rfl)
theorem dX1_votes_29 : decode cX1_votes 29 = .ok (.if_icmp .ge 51, 3) := dk_162 0 51 (dk_at dksX1_votes_1 6 rfl rfl)
theorem dX1_votes_32 : decode cX1_votes 32 = .ok (.iload 4, 2) := dk_21 4 (dk_at dksX1_votes_1 9 rfl rfl)
theorem dX1_votes_34 : decode cX1_votes 34 = .ok (.aload_n 0, 1) := dk_42 (dk_at dksX1_votes_1 11 rfl rfl)
theorem dX1_votes_35 : decode cX1_votes 35 = .ok (.getfield 10, 3) := dk_180 0 10 (dk_at dksX1_votes_1 12 rfl rfl)
theorem dX1_votes_38 : decode cX1_votes 38 = .ok (.iload 5, 2) := dk_21 5 (dk_at dksX1_votes_1 15 rfl rfl)
theorem dX1_votes_40 : decode cX1_votes 40 = .ok (.invokevirtual 108, 3) := dk_182 0 108 (dk_at dksX1_votes_1 17 rfl rfl)
theorem dX1_votes_43 : decode cX1_votes 43 = .ok (.getfield 145, 3) := dk_180 0 145 (dk_at dksX1_votes_1 20 rfl rfl)
theorem dX1_votes_46 : decode cX1_votes 46 = .ok (.ifCond .eq 24, 3) := dk_153 0 24 (dk_at dksX1_votes_2 0 rfl rfl)
theorem dX1_votes_49 : decode cX1_votes 49 = .ok (.aload_n 0, 1) := dk_42 (dk_at dksX1_votes_2 3 rfl rfl)
theorem dX1_votes_50 : decode cX1_votes 50 = .ok (.getfield 10, 3) := dk_180 0 10 (dk_at dksX1_votes_2 4 rfl rfl)
theorem dX1_votes_53 : decode cX1_votes 53 = .ok (.iload 5, 2) := dk_21 5 (dk_at dksX1_votes_2 7 rfl rfl)
theorem dX1_votes_55 : decode cX1_votes 55 = .ok (.invokevirtual 108, 3) := dk_182 0 108 (dk_at dksX1_votes_2 9 rfl rfl)
theorem dX1_votes_58 : decode cX1_votes 58 = .ok (.iload_n 2, 1) := dk_28 (dk_at dksX1_votes_2 12 rfl rfl)
theorem dX1_votes_59 : decode cX1_votes 59 = .ok (.invokevirtual 209, 3) := dk_182 0 209 (dk_at dksX1_votes_2 13 rfl rfl)
theorem dX1_votes_62 : decode cX1_votes 62 = .ok (.iload_n 3, 1) := dk_29 (dk_at dksX1_votes_2 16 rfl rfl)
theorem dX1_votes_63 : decode cX1_votes 63 = .ok (.if_icmp .ne 7, 3) := dk_160 0 7 (dk_at dksX1_votes_2 17 rfl rfl)
theorem dX1_votes_66 : decode cX1_votes 66 = .ok (.iconst 1, 1) := dk_4 (dk_at dksX1_votes_2 20 rfl rfl)
theorem dX1_votes_67 : decode cX1_votes 67 = .ok (.goto 4, 3) := dk_167 0 4 (dk_at dksX1_votes_2 21 rfl rfl)
theorem dX1_votes_70 : decode cX1_votes 70 = .ok (.iconst 0, 1) := dk_3 (dk_at dksX1_votes_3 0 rfl rfl)
theorem dX1_votes_71 : decode cX1_votes 71 = .ok (.iadd, 1) := dk_96 (dk_at dksX1_votes_3 1 rfl rfl)
theorem dX1_votes_72 : decode cX1_votes 72 = .ok (.istore 4, 2) := dk_54 4 (dk_at dksX1_votes_3 2 rfl rfl)
theorem dX1_votes_74 : decode cX1_votes 74 = .ok (.iinc 5 1, 3) := dk_132 5 1 (dk_at dksX1_votes_3 4 rfl rfl)
theorem dX1_votes_77 : decode cX1_votes 77 = .ok (.goto (-54), 3) := dk_167 255 202 (dk_at dksX1_votes_3 7 rfl rfl)
theorem dX1_votes_80 : decode cX1_votes 80 = .ok (.iload 4, 2) := dk_21 4 (dk_at dksX1_votes_3 10 rfl rfl)
theorem dX1_votes_82 : decode cX1_votes 82 = .ok (.ireturn, 1) := dk_172 (dk_at dksX1_votes_3 12 rfl rfl)
def dkwX1_isWrong_0 : List UInt8 := [42, 180, 0, 10, 42, 27, 182, 0, 136, 182, 1, 0, 172]
abbrev dktX1_isWrong_0 : List UInt8 := dkwX1_isWrong_0 ++ []
theorem dksX1_isWrong_0 : cX1_isWrong.data.toList.drop 0 = dktX1_isWrong_0 := by decide +kernel
theorem dX1_isWrong_0 : decode cX1_isWrong 0 = .ok (.aload_n 0, 1) := dk_42 (dk_at dksX1_isWrong_0 0 rfl rfl)
theorem dX1_isWrong_1 : decode cX1_isWrong 1 = .ok (.getfield 10, 3) := dk_180 0 10 (dk_at dksX1_isWrong_0 1 rfl rfl)
theorem dX1_isWrong_4 : decode cX1_isWrong 4 = .ok (.aload_n 0, 1) := dk_42 (dk_at dksX1_isWrong_0 4 rfl rfl)
theorem dX1_isWrong_5 : decode cX1_isWrong 5 = .ok (.iload_n 1, 1) := dk_27 (dk_at dksX1_isWrong_0 5 rfl rfl)
theorem dX1_isWrong_6 : decode cX1_isWrong 6 = .ok (.invokevirtual 136, 3) := dk_182 0 136 (dk_at dksX1_isWrong_0 6 rfl rfl)
theorem dX1_isWrong_9 : decode cX1_isWrong 9 = .ok (.invokevirtual 256, 3) := dk_182 1 0 (dk_at dksX1_isWrong_0 9 rfl rfl)
theorem dX1_isWrong_12 : decode cX1_isWrong 12 = .ok (.ireturn, 1) := dk_172 (dk_at dksX1_isWrong_0 12 rfl rfl)
def dkwX1_donorFor_0 : List UInt8 := [42, 180, 0, 10, 42, 27, 182, 0, 136, 180, 0, 142, 27, 182, 1, 4, 172]
abbrev dktX1_donorFor_0 : List UInt8 := dkwX1_donorFor_0 ++ []
theorem dksX1_donorFor_0 : cX1_donorFor.data.toList.drop 0 = dktX1_donorFor_0 := by decide +kernel
theorem dX1_donorFor_0 : decode cX1_donorFor 0 = .ok (.aload_n 0, 1) := dk_42 (dk_at dksX1_donorFor_0 0 rfl rfl)
theorem dX1_donorFor_1 : decode cX1_donorFor 1 = .ok (.getfield 10, 3) := dk_180 0 10 (dk_at dksX1_donorFor_0 1 rfl rfl)
theorem dX1_donorFor_4 : decode cX1_donorFor 4 = .ok (.aload_n 0, 1) := dk_42 (dk_at dksX1_donorFor_0 4 rfl rfl)
theorem dX1_donorFor_5 : decode cX1_donorFor 5 = .ok (.iload_n 1, 1) := dk_27 (dk_at dksX1_donorFor_0 5 rfl rfl)
theorem dX1_donorFor_6 : decode cX1_donorFor 6 = .ok (.invokevirtual 136, 3) := dk_182 0 136 (dk_at dksX1_donorFor_0 6 rfl rfl)
theorem dX1_donorFor_9 : decode cX1_donorFor 9 = .ok (.getfield 142, 3) := dk_180 0 142 (dk_at dksX1_donorFor_0 9 rfl rfl)
theorem dX1_donorFor_12 : decode cX1_donorFor 12 = .ok (.iload_n 1, 1) := dk_27 (dk_at dksX1_donorFor_0 12 rfl rfl)
theorem dX1_donorFor_13 : decode cX1_donorFor 13 = .ok (.invokevirtual 260, 3) := dk_182 1 4 (dk_at dksX1_donorFor_0 13 rfl rfl)
theorem dX1_donorFor_16 : decode cX1_donorFor 16 = .ok (.ireturn, 1) := dk_172 (dk_at dksX1_donorFor_0 16 rfl rfl)
def dkwX1_whyNot_0 : List UInt8 := [42, 180, 0, 10, 42, 27, 182, 0, 136, 182, 1, 8, 172]
abbrev dktX1_whyNot_0 : List UInt8 := dkwX1_whyNot_0 ++ []
theorem dksX1_whyNot_0 : cX1_whyNot.data.toList.drop 0 = dktX1_whyNot_0 := by decide +kernel
theorem dX1_whyNot_0 : decode cX1_whyNot 0 = .ok (.aload_n 0, 1) := dk_42 (dk_at dksX1_whyNot_0 0 rfl rfl)
theorem dX1_whyNot_1 : decode cX1_whyNot 1 = .ok (.getfield 10, 3) := dk_180 0 10 (dk_at dksX1_whyNot_0 1 rfl rfl)
theorem dX1_whyNot_4 : decode cX1_whyNot 4 = .ok (.aload_n 0, 1) := dk_42 (dk_at dksX1_whyNot_0 4 rfl rfl)
theorem dX1_whyNot_5 : decode cX1_whyNot 5 = .ok (.iload_n 1, 1) := dk_27 (dk_at dksX1_whyNot_0 5 rfl rfl)
theorem dX1_whyNot_6 : decode cX1_whyNot 6 = .ok (.invokevirtual 136, 3) := dk_182 0 136 (dk_at dksX1_whyNot_0 6 rfl rfl)
theorem dX1_whyNot_9 : decode cX1_whyNot 9 = .ok (.invokevirtual 264, 3) := dk_182 1 8 (dk_at dksX1_whyNot_0 9 rfl rfl)
theorem dX1_whyNot_12 : decode cX1_whyNot 12 = .ok (.ireturn, 1) := dk_172 (dk_at dksX1_whyNot_0 12 rfl rfl)
def dkwX1_mayRun_0 : List UInt8 := [42, 180, 0, 10, 42, 27, 182, 0, 136, 42, 180, 0, 10, 182, 1, 15, 182, 1, 18, 172]
abbrev dktX1_mayRun_0 : List UInt8 := dkwX1_mayRun_0 ++ []
theorem dksX1_mayRun_0 : cX1_mayRun.data.toList.drop 0 = dktX1_mayRun_0 := by decide +kernel
theorem dX1_mayRun_0 : decode cX1_mayRun 0 = .ok (.aload_n 0, 1) := dk_42 (dk_at dksX1_mayRun_0 0 rfl rfl)
theorem dX1_mayRun_1 : decode cX1_mayRun 1 = .ok (.getfield 10, 3) := dk_180 0 10 (dk_at dksX1_mayRun_0 1 rfl rfl)
theorem dX1_mayRun_4 : decode cX1_mayRun 4 = .ok (.aload_n 0, 1) := dk_42 (dk_at dksX1_mayRun_0 4 rfl rfl)
theorem dX1_mayRun_5 : decode cX1_mayRun 5 = .ok (.iload_n 1, 1) := dk_27 (dk_at dksX1_mayRun_0 5 rfl rfl)
theorem dX1_mayRun_6 : decode cX1_mayRun 6 = .ok (.invokevirtual 136, 3) := dk_182 0 136 (dk_at dksX1_mayRun_0 6 rfl rfl)
theorem dX1_mayRun_9 : decode cX1_mayRun 9 = .ok (.aload_n 0, 1) := dk_42 (dk_at dksX1_mayRun_0 9 rfl rfl)
theorem dX1_mayRun_10 : decode cX1_mayRun 10 = .ok (.getfield 10, 3) := dk_180 0 10 (dk_at dksX1_mayRun_0 10 rfl rfl)
theorem dX1_mayRun_13 : decode cX1_mayRun 13 = .ok (.invokevirtual 271, 3) := dk_182 1 15 (dk_at dksX1_mayRun_0 13 rfl rfl)
theorem dX1_mayRun_16 : decode cX1_mayRun 16 = .ok (.invokevirtual 274, 3) := dk_182 1 18 (dk_at dksX1_mayRun_0 16 rfl rfl)
theorem dX1_mayRun_19 : decode cX1_mayRun 19 = .ok (.ireturn, 1) := dk_172 (dk_at dksX1_mayRun_0 19 rfl rfl)
def dkwX1_truth_1 : List UInt8 := [153, 0, 16, 42, 180, 0, 10, 27, 182, 1, 25, 28, 46, 167, 0, 4, 2, 172]
abbrev dktX1_truth_1 : List UInt8 := dkwX1_truth_1 ++ []
def dkwX1_truth_0 : List UInt8 := [28, 16, 16, 184, 0, 104, 27, 133, 9, 42, 180, 0, 10, 180, 0, 112, 182, 0, 99, 133, 184, 0, 38]
abbrev dktX1_truth_0 : List UInt8 := dkwX1_truth_0 ++ dktX1_truth_1
theorem dksX1_truth_0 : cX1_truth.data.toList.drop 0 = dktX1_truth_0 := by decide +kernel
theorem dksX1_truth_1 : cX1_truth.data.toList.drop 23 = dktX1_truth_1 := dk_seg dksX1_truth_0 23 rfl rfl
theorem dX1_truth_0 : decode cX1_truth 0 = .ok (.iload_n 2, 1) := dk_28 (dk_at dksX1_truth_0 0 rfl rfl)
theorem dX1_truth_1 : decode cX1_truth 1 = .ok (.bipush 16, 2) := dk_16 16 (dk_at dksX1_truth_0 1 rfl rfl)
theorem dX1_truth_3 : decode cX1_truth 3 = .ok (.invokestatic 104, 3) := dk_184 0 104 (dk_at dksX1_truth_0 3 rfl rfl)
theorem dX1_truth_6 : decode cX1_truth 6 = .ok (.iload_n 1, 1) := dk_27 (dk_at dksX1_truth_0 6 rfl rfl)
theorem dX1_truth_7 : decode cX1_truth 7 = .ok (.i2l, 1) := dk_133 (dk_at dksX1_truth_0 7 rfl rfl)
theorem dX1_truth_8 : decode cX1_truth 8 = .ok (.lconst 0, 1) := dk_9 (dk_at dksX1_truth_0 8 rfl rfl)
theorem dX1_truth_9 : decode cX1_truth 9 = .ok (.aload_n 0, 1) := dk_42 (dk_at dksX1_truth_0 9 rfl rfl)
theorem dX1_truth_10 : decode cX1_truth 10 = .ok (.getfield 10, 3) := dk_180 0 10 (dk_at dksX1_truth_0 10 rfl rfl)
theorem dX1_truth_13 : decode cX1_truth 13 = .ok (.getfield 112, 3) := dk_180 0 112 (dk_at dksX1_truth_0 13 rfl rfl)
theorem dX1_truth_16 : decode cX1_truth 16 = .ok (.invokevirtual 99, 3) := dk_182 0 99 (dk_at dksX1_truth_0 16 rfl rfl)
theorem dX1_truth_19 : decode cX1_truth 19 = .ok (.i2l, 1) := dk_133 (dk_at dksX1_truth_0 19 rfl rfl)
theorem dX1_truth_20 : decode cX1_truth 20 = .ok (.invokestatic 38, 3) := dk_184 0 38 (dk_at dksX1_truth_0 20 rfl rfl)
theorem dX1_truth_23 : decode cX1_truth 23 = .ok (.ifCond .eq 16, 3) := dk_153 0 16 (dk_at dksX1_truth_1 0 rfl rfl)
theorem dX1_truth_26 : decode cX1_truth 26 = .ok (.aload_n 0, 1) := dk_42 (dk_at dksX1_truth_1 3 rfl rfl)
theorem dX1_truth_27 : decode cX1_truth 27 = .ok (.getfield 10, 3) := dk_180 0 10 (dk_at dksX1_truth_1 4 rfl rfl)
theorem dX1_truth_30 : decode cX1_truth 30 = .ok (.iload_n 1, 1) := dk_27 (dk_at dksX1_truth_1 7 rfl rfl)
theorem dX1_truth_31 : decode cX1_truth 31 = .ok (.invokevirtual 281, 3) := dk_182 1 25 (dk_at dksX1_truth_1 8 rfl rfl)
theorem dX1_truth_34 : decode cX1_truth 34 = .ok (.iload_n 2, 1) := dk_28 (dk_at dksX1_truth_1 11 rfl rfl)
theorem dX1_truth_35 : decode cX1_truth 35 = .ok (.iaload, 1) := dk_46 (dk_at dksX1_truth_1 12 rfl rfl)
theorem dX1_truth_36 : decode cX1_truth 36 = .ok (.goto 4, 3) := dk_167 0 4 (dk_at dksX1_truth_1 13 rfl rfl)
theorem dX1_truth_39 : decode cX1_truth 39 = .ok (.iconst (-1), 1) := dk_2 (dk_at dksX1_truth_1 16 rfl rfl)
theorem dX1_truth_40 : decode cX1_truth 40 = .ok (.ireturn, 1) := dk_172 (dk_at dksX1_truth_1 17 rfl rfl)
def dkwX1_foreseen_1 : List UInt8 := [182, 0, 108, 29, 182, 1, 29, 28, 46, 172]
abbrev dktX1_foreseen_1 : List UInt8 := dkwX1_foreseen_1 ++ []
def dkwX1_foreseen_0 : List UInt8 := [42, 27, 182, 0, 136, 180, 0, 142, 62, 28, 16, 16, 184, 0, 104, 42, 180, 0, 10, 42, 180, 0, 10, 27]
abbrev dktX1_foreseen_0 : List UInt8 := dkwX1_foreseen_0 ++ dktX1_foreseen_1
theorem dksX1_foreseen_0 : cX1_foreseen.data.toList.drop 0 = dktX1_foreseen_0 := by decide +kernel
theorem dksX1_foreseen_1 : cX1_foreseen.data.toList.drop 24 = dktX1_foreseen_1 := dk_seg dksX1_foreseen_0 24 rfl rfl
theorem dX1_foreseen_0 : decode cX1_foreseen 0 = .ok (.aload_n 0, 1) := dk_42 (dk_at dksX1_foreseen_0 0 rfl rfl)
theorem dX1_foreseen_1 : decode cX1_foreseen 1 = .ok (.iload_n 1, 1) := dk_27 (dk_at dksX1_foreseen_0 1 rfl rfl)
theorem dX1_foreseen_2 : decode cX1_foreseen 2 = .ok (.invokevirtual 136, 3) := dk_182 0 136 (dk_at dksX1_foreseen_0 2 rfl rfl)
theorem dX1_foreseen_5 : decode cX1_foreseen 5 = .ok (.getfield 142, 3) := dk_180 0 142 (dk_at dksX1_foreseen_0 5 rfl rfl)
theorem dX1_foreseen_8 : decode cX1_foreseen 8 = .ok (.istore_n 3, 1) := dk_62 (dk_at dksX1_foreseen_0 8 rfl rfl)
theorem dX1_foreseen_9 : decode cX1_foreseen 9 = .ok (.iload_n 2, 1) := dk_28 (dk_at dksX1_foreseen_0 9 rfl rfl)
theorem dX1_foreseen_10 : decode cX1_foreseen 10 = .ok (.bipush 16, 2) := dk_16 16 (dk_at dksX1_foreseen_0 10 rfl rfl)
theorem dX1_foreseen_12 : decode cX1_foreseen 12 = .ok (.invokestatic 104, 3) := dk_184 0 104 (dk_at dksX1_foreseen_0 12 rfl rfl)
theorem dX1_foreseen_15 : decode cX1_foreseen 15 = .ok (.aload_n 0, 1) := dk_42 (dk_at dksX1_foreseen_0 15 rfl rfl)
theorem dX1_foreseen_16 : decode cX1_foreseen 16 = .ok (.getfield 10, 3) := dk_180 0 10 (dk_at dksX1_foreseen_0 16 rfl rfl)
theorem dX1_foreseen_19 : decode cX1_foreseen 19 = .ok (.aload_n 0, 1) := dk_42 (dk_at dksX1_foreseen_0 19 rfl rfl)
theorem dX1_foreseen_20 : decode cX1_foreseen 20 = .ok (.getfield 10, 3) := dk_180 0 10 (dk_at dksX1_foreseen_0 20 rfl rfl)
theorem dX1_foreseen_23 : decode cX1_foreseen 23 = .ok (.iload_n 1, 1) := dk_27 (dk_at dksX1_foreseen_0 23 rfl rfl)
theorem dX1_foreseen_24 : decode cX1_foreseen 24 = .ok (.invokevirtual 108, 3) := dk_182 0 108 (dk_at dksX1_foreseen_1 0 rfl rfl)
theorem dX1_foreseen_27 : decode cX1_foreseen 27 = .ok (.iload_n 3, 1) := dk_29 (dk_at dksX1_foreseen_1 3 rfl rfl)
theorem dX1_foreseen_28 : decode cX1_foreseen 28 = .ok (.invokevirtual 285, 3) := dk_182 1 29 (dk_at dksX1_foreseen_1 4 rfl rfl)
theorem dX1_foreseen_31 : decode cX1_foreseen 31 = .ok (.iload_n 2, 1) := dk_28 (dk_at dksX1_foreseen_1 7 rfl rfl)
theorem dX1_foreseen_32 : decode cX1_foreseen 32 = .ok (.iaload, 1) := dk_46 (dk_at dksX1_foreseen_1 8 rfl rfl)
theorem dX1_foreseen_33 : decode cX1_foreseen 33 = .ok (.ireturn, 1) := dk_172 (dk_at dksX1_foreseen_1 9 rfl rfl)
def dkwX1_lastWrite_3 : List UInt8 := [182, 1, 33, 153, 0, 6, 21, 4, 172, 132, 7, 1, 167, 255, 227, 132, 4, 255, 167, 255, 191, 2, 172]
abbrev dktX1_lastWrite_3 : List UInt8 := dkwX1_lastWrite_3 ++ []
def dkwX1_lastWrite_2 : List UInt8 := [54, 6, 3, 54, 7, 21, 7, 21, 6, 162, 0, 28, 25, 5, 21, 7, 50, 58, 8, 25, 8, 28]
abbrev dktX1_lastWrite_2 : List UInt8 := dkwX1_lastWrite_2 ++ dktX1_lastWrite_3
def dkwX1_lastWrite_1 : List UInt8 := [155, 0, 66, 42, 180, 0, 10, 180, 0, 112, 21, 4, 182, 0, 115, 192, 0, 119, 58, 5, 25, 5, 190]
abbrev dktX1_lastWrite_1 : List UInt8 := dkwX1_lastWrite_1 ++ dktX1_lastWrite_2
def dkwX1_lastWrite_0 : List UInt8 := [42, 27, 182, 0, 136, 180, 0, 142, 62, 28, 16, 16, 184, 0, 104, 29, 4, 100, 54, 4, 21, 4]
abbrev dktX1_lastWrite_0 : List UInt8 := dkwX1_lastWrite_0 ++ dktX1_lastWrite_1
theorem dksX1_lastWrite_0 : cX1_lastWrite.data.toList.drop 0 = dktX1_lastWrite_0 := by decide +kernel
theorem dksX1_lastWrite_1 : cX1_lastWrite.data.toList.drop 22 = dktX1_lastWrite_1 := dk_seg dksX1_lastWrite_0 22 rfl rfl
theorem dksX1_lastWrite_2 : cX1_lastWrite.data.toList.drop 45 = dktX1_lastWrite_2 := dk_seg dksX1_lastWrite_1 23 rfl rfl
theorem dksX1_lastWrite_3 : cX1_lastWrite.data.toList.drop 67 = dktX1_lastWrite_3 := dk_seg dksX1_lastWrite_2 22 rfl rfl
theorem dX1_lastWrite_0 : decode cX1_lastWrite 0 = .ok (.aload_n 0, 1) := dk_42 (dk_at dksX1_lastWrite_0 0 rfl rfl)
theorem dX1_lastWrite_1 : decode cX1_lastWrite 1 = .ok (.iload_n 1, 1) := dk_27 (dk_at dksX1_lastWrite_0 1 rfl rfl)
theorem dX1_lastWrite_2 : decode cX1_lastWrite 2 = .ok (.invokevirtual 136, 3) := dk_182 0 136 (dk_at dksX1_lastWrite_0 2 rfl rfl)
theorem dX1_lastWrite_5 : decode cX1_lastWrite 5 = .ok (.getfield 142, 3) := dk_180 0 142 (dk_at dksX1_lastWrite_0 5 rfl rfl)
theorem dX1_lastWrite_8 : decode cX1_lastWrite 8 = .ok (.istore_n 3, 1) := dk_62 (dk_at dksX1_lastWrite_0 8 rfl rfl)
theorem dX1_lastWrite_9 : decode cX1_lastWrite 9 = .ok (.iload_n 2, 1) := dk_28 (dk_at dksX1_lastWrite_0 9 rfl rfl)
theorem dX1_lastWrite_10 : decode cX1_lastWrite 10 = .ok (.bipush 16, 2) := dk_16 16 (dk_at dksX1_lastWrite_0 10 rfl rfl)
theorem dX1_lastWrite_12 : decode cX1_lastWrite 12 = .ok (.invokestatic 104, 3) := dk_184 0 104 (dk_at dksX1_lastWrite_0 12 rfl rfl)
theorem dX1_lastWrite_15 : decode cX1_lastWrite 15 = .ok (.iload_n 3, 1) := dk_29 (dk_at dksX1_lastWrite_0 15 rfl rfl)
theorem dX1_lastWrite_16 : decode cX1_lastWrite 16 = .ok (.iconst 1, 1) := dk_4 (dk_at dksX1_lastWrite_0 16 rfl rfl)
theorem dX1_lastWrite_17 : decode cX1_lastWrite 17 = .ok (.isub, 1) := dk_100 (dk_at dksX1_lastWrite_0 17 rfl rfl)
theorem dX1_lastWrite_18 : decode cX1_lastWrite 18 = .ok (.istore 4, 2) := dk_54 4 (dk_at dksX1_lastWrite_0 18 rfl rfl)
theorem dX1_lastWrite_20 : decode cX1_lastWrite 20 = .ok (.iload 4, 2) := dk_21 4 (dk_at dksX1_lastWrite_0 20 rfl rfl)
theorem dX1_lastWrite_22 : decode cX1_lastWrite 22 = .ok (.ifCond .lt 66, 3) := dk_155 0 66 (dk_at dksX1_lastWrite_1 0 rfl rfl)
theorem dX1_lastWrite_25 : decode cX1_lastWrite 25 = .ok (.aload_n 0, 1) := dk_42 (dk_at dksX1_lastWrite_1 3 rfl rfl)
theorem dX1_lastWrite_26 : decode cX1_lastWrite 26 = .ok (.getfield 10, 3) := dk_180 0 10 (dk_at dksX1_lastWrite_1 4 rfl rfl)
theorem dX1_lastWrite_29 : decode cX1_lastWrite 29 = .ok (.getfield 112, 3) := dk_180 0 112 (dk_at dksX1_lastWrite_1 7 rfl rfl)
theorem dX1_lastWrite_32 : decode cX1_lastWrite 32 = .ok (.iload 4, 2) := dk_21 4 (dk_at dksX1_lastWrite_1 10 rfl rfl)
theorem dX1_lastWrite_34 : decode cX1_lastWrite 34 = .ok (.invokevirtual 115, 3) := dk_182 0 115 (dk_at dksX1_lastWrite_1 12 rfl rfl)
theorem dX1_lastWrite_37 : decode cX1_lastWrite 37 = .ok (.checkcast 119, 3) := dk_192 0 119 (dk_at dksX1_lastWrite_1 15 rfl rfl)
theorem dX1_lastWrite_40 : decode cX1_lastWrite 40 = .ok (.astore 5, 2) := dk_58 5 (dk_at dksX1_lastWrite_1 18 rfl rfl)
theorem dX1_lastWrite_42 : decode cX1_lastWrite 42 = .ok (.aload 5, 2) := dk_25 5 (dk_at dksX1_lastWrite_1 20 rfl rfl)
theorem dX1_lastWrite_44 : decode cX1_lastWrite 44 = .ok (.arraylength, 1) := dk_190 (dk_at dksX1_lastWrite_1 22 rfl rfl)
theorem dX1_lastWrite_45 : decode cX1_lastWrite 45 = .ok (.istore 6, 2) := dk_54 6 (dk_at dksX1_lastWrite_2 0 rfl rfl)
theorem dX1_lastWrite_47 : decode cX1_lastWrite 47 = .ok (.iconst 0, 1) := dk_3 (dk_at dksX1_lastWrite_2 2 rfl rfl)
theorem dX1_lastWrite_48 : decode cX1_lastWrite 48 = .ok (.istore 7, 2) := dk_54 7 (dk_at dksX1_lastWrite_2 3 rfl rfl)
theorem dX1_lastWrite_50 : decode cX1_lastWrite 50 = .ok (.iload 7, 2) := dk_21 7 (dk_at dksX1_lastWrite_2 5 rfl rfl)
theorem dX1_lastWrite_52 : decode cX1_lastWrite 52 = .ok (.iload 6, 2) := dk_21 6 (dk_at dksX1_lastWrite_2 7 rfl rfl)
theorem dX1_lastWrite_54 : decode cX1_lastWrite 54 = .ok (.if_icmp .ge 28, 3) := dk_162 0 28 (dk_at dksX1_lastWrite_2 9 rfl rfl)
theorem dX1_lastWrite_57 : decode cX1_lastWrite 57 = .ok (.aload 5, 2) := dk_25 5 (dk_at dksX1_lastWrite_2 12 rfl rfl)
theorem dX1_lastWrite_59 : decode cX1_lastWrite 59 = .ok (.iload 7, 2) := dk_21 7 (dk_at dksX1_lastWrite_2 14 rfl rfl)
theorem dX1_lastWrite_61 : decode cX1_lastWrite 61 = .ok (.aaload, 1) := dk_50 (dk_at dksX1_lastWrite_2 16 rfl rfl)
theorem dX1_lastWrite_62 : decode cX1_lastWrite 62 = .ok (.astore 8, 2) := dk_58 8 (dk_at dksX1_lastWrite_2 17 rfl rfl)
theorem dX1_lastWrite_64 : decode cX1_lastWrite 64 = .ok (.aload 8, 2) := dk_25 8 (dk_at dksX1_lastWrite_2 19 rfl rfl)
theorem dX1_lastWrite_66 : decode cX1_lastWrite 66 = .ok (.iload_n 2, 1) := dk_28 (dk_at dksX1_lastWrite_2 21 rfl rfl)
theorem dX1_lastWrite_67 : decode cX1_lastWrite 67 = .ok (.invokevirtual 289, 3) := dk_182 1 33 (dk_at dksX1_lastWrite_3 0 rfl rfl)
theorem dX1_lastWrite_70 : decode cX1_lastWrite 70 = .ok (.ifCond .eq 6, 3) := dk_153 0 6 (dk_at dksX1_lastWrite_3 3 rfl rfl)
theorem dX1_lastWrite_73 : decode cX1_lastWrite 73 = .ok (.iload 4, 2) := dk_21 4 (dk_at dksX1_lastWrite_3 6 rfl rfl)
theorem dX1_lastWrite_75 : decode cX1_lastWrite 75 = .ok (.ireturn, 1) := dk_172 (dk_at dksX1_lastWrite_3 8 rfl rfl)
theorem dX1_lastWrite_76 : decode cX1_lastWrite 76 = .ok (.iinc 7 1, 3) := dk_132 7 1 (dk_at dksX1_lastWrite_3 9 rfl rfl)
theorem dX1_lastWrite_79 : decode cX1_lastWrite 79 = .ok (.goto (-29), 3) := dk_167 255 227 (dk_at dksX1_lastWrite_3 12 rfl rfl)
theorem dX1_lastWrite_82 : decode cX1_lastWrite 82 = .ok (.iinc 4 (-1), 3) := dk_132 4 255 (dk_at dksX1_lastWrite_3 15 rfl rfl)
theorem dX1_lastWrite_85 : decode cX1_lastWrite 85 = .ok (.goto (-65), 3) := dk_167 255 191 (dk_at dksX1_lastWrite_3 18 rfl rfl)
theorem dX1_lastWrite_88 : decode cX1_lastWrite 88 = .ok (.iconst (-1), 1) := dk_2 (dk_at dksX1_lastWrite_3 21 rfl rfl)
theorem dX1_lastWrite_89 : decode cX1_lastWrite 89 = .ok (.ireturn, 1) := dk_172 (dk_at dksX1_lastWrite_3 22 rfl rfl)
def dkwX12_init_2 : List UInt8 := [42, 42, 180, 0, 19, 180, 0, 42, 42, 180, 0, 23, 180, 0, 42, 184, 0, 45, 181, 0, 48, 177]
abbrev dktX12_init_2 : List UInt8 := dkwX12_init_2 ++ []
def dkwX12_init_1 : List UInt8 := [181, 0, 23, 42, 42, 180, 0, 19, 182, 0, 26, 42, 180, 0, 23, 182, 0, 26, 184, 0, 32, 181, 0, 38]
abbrev dktX12_init_1 : List UInt8 := dkwX12_init_1 ++ dktX12_init_2
def dkwX12_init_0 : List UInt8 := [42, 43, 181, 0, 3, 42, 183, 0, 9, 42, 43, 28, 182, 0, 15, 181, 0, 19, 42, 43, 29, 182, 0, 15]
abbrev dktX12_init_0 : List UInt8 := dkwX12_init_0 ++ dktX12_init_1
theorem dksX12_init_0 : cX12_init.data.toList.drop 0 = dktX12_init_0 := by decide +kernel
theorem dksX12_init_1 : cX12_init.data.toList.drop 24 = dktX12_init_1 := dk_seg dksX12_init_0 24 rfl rfl
theorem dksX12_init_2 : cX12_init.data.toList.drop 48 = dktX12_init_2 := dk_seg dksX12_init_1 24 rfl rfl
theorem dX12_init_0 : decode cX12_init 0 = .ok (.aload_n 0, 1) := dk_42 (dk_at dksX12_init_0 0 rfl rfl)
theorem dX12_init_1 : decode cX12_init 1 = .ok (.aload_n 1, 1) := dk_43 (dk_at dksX12_init_0 1 rfl rfl)
theorem dX12_init_2 : decode cX12_init 2 = .ok (.putfield 3, 3) := dk_181 0 3 (dk_at dksX12_init_0 2 rfl rfl)
theorem dX12_init_5 : decode cX12_init 5 = .ok (.aload_n 0, 1) := dk_42 (dk_at dksX12_init_0 5 rfl rfl)
theorem dX12_init_6 : decode cX12_init 6 = .ok (.invokespecial 9, 3) := dk_183 0 9 (dk_at dksX12_init_0 6 rfl rfl)
theorem dX12_init_9 : decode cX12_init 9 = .ok (.aload_n 0, 1) := dk_42 (dk_at dksX12_init_0 9 rfl rfl)
theorem dX12_init_10 : decode cX12_init 10 = .ok (.aload_n 1, 1) := dk_43 (dk_at dksX12_init_0 10 rfl rfl)
theorem dX12_init_11 : decode cX12_init 11 = .ok (.iload_n 2, 1) := dk_28 (dk_at dksX12_init_0 11 rfl rfl)
theorem dX12_init_12 : decode cX12_init 12 = .ok (.invokevirtual 15, 3) := dk_182 0 15 (dk_at dksX12_init_0 12 rfl rfl)
theorem dX12_init_15 : decode cX12_init 15 = .ok (.putfield 19, 3) := dk_181 0 19 (dk_at dksX12_init_0 15 rfl rfl)
theorem dX12_init_18 : decode cX12_init 18 = .ok (.aload_n 0, 1) := dk_42 (dk_at dksX12_init_0 18 rfl rfl)
theorem dX12_init_19 : decode cX12_init 19 = .ok (.aload_n 1, 1) := dk_43 (dk_at dksX12_init_0 19 rfl rfl)
theorem dX12_init_20 : decode cX12_init 20 = .ok (.iload_n 3, 1) := dk_29 (dk_at dksX12_init_0 20 rfl rfl)
theorem dX12_init_21 : decode cX12_init 21 = .ok (.invokevirtual 15, 3) := dk_182 0 15 (dk_at dksX12_init_0 21 rfl rfl)
theorem dX12_init_24 : decode cX12_init 24 = .ok (.putfield 23, 3) := dk_181 0 23 (dk_at dksX12_init_1 0 rfl rfl)
theorem dX12_init_27 : decode cX12_init 27 = .ok (.aload_n 0, 1) := dk_42 (dk_at dksX12_init_1 3 rfl rfl)
theorem dX12_init_28 : decode cX12_init 28 = .ok (.aload_n 0, 1) := dk_42 (dk_at dksX12_init_1 4 rfl rfl)
theorem dX12_init_29 : decode cX12_init 29 = .ok (.getfield 19, 3) := dk_180 0 19 (dk_at dksX12_init_1 5 rfl rfl)
theorem dX12_init_32 : decode cX12_init 32 = .ok (.invokevirtual 26, 3) := dk_182 0 26 (dk_at dksX12_init_1 8 rfl rfl)
theorem dX12_init_35 : decode cX12_init 35 = .ok (.aload_n 0, 1) := dk_42 (dk_at dksX12_init_1 11 rfl rfl)
theorem dX12_init_36 : decode cX12_init 36 = .ok (.getfield 23, 3) := dk_180 0 23 (dk_at dksX12_init_1 12 rfl rfl)
theorem dX12_init_39 : decode cX12_init 39 = .ok (.invokevirtual 26, 3) := dk_182 0 26 (dk_at dksX12_init_1 15 rfl rfl)
theorem dX12_init_42 : decode cX12_init 42 = .ok (.invokestatic 32, 3) := dk_184 0 32 (dk_at dksX12_init_1 18 rfl rfl)
theorem dX12_init_45 : decode cX12_init 45 = .ok (.putfield 38, 3) := dk_181 0 38 (dk_at dksX12_init_1 21 rfl rfl)
theorem dX12_init_48 : decode cX12_init 48 = .ok (.aload_n 0, 1) := dk_42 (dk_at dksX12_init_2 0 rfl rfl)
theorem dX12_init_49 : decode cX12_init 49 = .ok (.aload_n 0, 1) := dk_42 (dk_at dksX12_init_2 1 rfl rfl)
theorem dX12_init_50 : decode cX12_init 50 = .ok (.getfield 19, 3) := dk_180 0 19 (dk_at dksX12_init_2 2 rfl rfl)
theorem dX12_init_53 : decode cX12_init 53 = .ok (.getfield 42, 3) := dk_180 0 42 (dk_at dksX12_init_2 5 rfl rfl)
theorem dX12_init_56 : decode cX12_init 56 = .ok (.aload_n 0, 1) := dk_42 (dk_at dksX12_init_2 8 rfl rfl)
theorem dX12_init_57 : decode cX12_init 57 = .ok (.getfield 23, 3) := dk_180 0 23 (dk_at dksX12_init_2 9 rfl rfl)
theorem dX12_init_60 : decode cX12_init 60 = .ok (.getfield 42, 3) := dk_180 0 42 (dk_at dksX12_init_2 12 rfl rfl)
theorem dX12_init_63 : decode cX12_init 63 = .ok (.invokestatic 45, 3) := dk_184 0 45 (dk_at dksX12_init_2 15 rfl rfl)
theorem dX12_init_66 : decode cX12_init 66 = .ok (.putfield 48, 3) := dk_181 0 48 (dk_at dksX12_init_2 18 rfl rfl)
theorem dX12_init_69 : decode cX12_init 69 = .ok (.return_, 1) := dk_177 (dk_at dksX12_init_2 21 rfl rfl)
def dkwX12_first_1 : List UInt8 := [132, 1, 1, 167, 255, 235, 2, 172]
abbrev dktX12_first_1 : List UInt8 := dkwX12_first_1 ++ []
def dkwX12_first_0 : List UInt8 := [42, 180, 0, 38, 60, 27, 42, 180, 0, 48, 163, 0, 19, 42, 27, 182, 0, 55, 153, 0, 5, 27, 172]
abbrev dktX12_first_0 : List UInt8 := dkwX12_first_0 ++ dktX12_first_1
theorem dksX12_first_0 : cX12_first.data.toList.drop 0 = dktX12_first_0 := by decide +kernel
theorem dksX12_first_1 : cX12_first.data.toList.drop 23 = dktX12_first_1 := dk_seg dksX12_first_0 23 rfl rfl
theorem dX12_first_0 : decode cX12_first 0 = .ok (.aload_n 0, 1) := dk_42 (dk_at dksX12_first_0 0 rfl rfl)
theorem dX12_first_1 : decode cX12_first 1 = .ok (.getfield 38, 3) := dk_180 0 38 (dk_at dksX12_first_0 1 rfl rfl)
theorem dX12_first_4 : decode cX12_first 4 = .ok (.istore_n 1, 1) := dk_60 (dk_at dksX12_first_0 4 rfl rfl)
theorem dX12_first_5 : decode cX12_first 5 = .ok (.iload_n 1, 1) := dk_27 (dk_at dksX12_first_0 5 rfl rfl)
theorem dX12_first_6 : decode cX12_first 6 = .ok (.aload_n 0, 1) := dk_42 (dk_at dksX12_first_0 6 rfl rfl)
theorem dX12_first_7 : decode cX12_first 7 = .ok (.getfield 48, 3) := dk_180 0 48 (dk_at dksX12_first_0 7 rfl rfl)
theorem dX12_first_10 : decode cX12_first 10 = .ok (.if_icmp .gt 19, 3) := dk_163 0 19 (dk_at dksX12_first_0 10 rfl rfl)
theorem dX12_first_13 : decode cX12_first 13 = .ok (.aload_n 0, 1) := dk_42 (dk_at dksX12_first_0 13 rfl rfl)
theorem dX12_first_14 : decode cX12_first 14 = .ok (.iload_n 1, 1) := dk_27 (dk_at dksX12_first_0 14 rfl rfl)
theorem dX12_first_15 : decode cX12_first 15 = .ok (.invokevirtual 55, 3) := dk_182 0 55 (dk_at dksX12_first_0 15 rfl rfl)
theorem dX12_first_18 : decode cX12_first 18 = .ok (.ifCond .eq 5, 3) := dk_153 0 5 (dk_at dksX12_first_0 18 rfl rfl)
theorem dX12_first_21 : decode cX12_first 21 = .ok (.iload_n 1, 1) := dk_27 (dk_at dksX12_first_0 21 rfl rfl)
theorem dX12_first_22 : decode cX12_first 22 = .ok (.ireturn, 1) := dk_172 (dk_at dksX12_first_0 22 rfl rfl)
theorem dX12_first_23 : decode cX12_first 23 = .ok (.iinc 1 1, 3) := dk_132 1 1 (dk_at dksX12_first_1 0 rfl rfl)
theorem dX12_first_26 : decode cX12_first 26 = .ok (.goto (-21), 3) := dk_167 255 235 (dk_at dksX12_first_1 3 rfl rfl)
theorem dX12_first_29 : decode cX12_first 29 = .ok (.iconst (-1), 1) := dk_2 (dk_at dksX12_first_1 6 rfl rfl)
theorem dX12_first_30 : decode cX12_first 30 = .ok (.ireturn, 1) := dk_172 (dk_at dksX12_first_1 7 rfl rfl)
def dkwX12_differsAt_1 : List UInt8 := [172]
abbrev dktX12_differsAt_1 : List UInt8 := dkwX12_differsAt_1 ++ []
def dkwX12_differsAt_0 : List UInt8 := [42, 180, 0, 19, 27, 182, 0, 51, 42, 180, 0, 23, 27, 182, 0, 51, 159, 0, 7, 4, 167, 0, 4, 3]
abbrev dktX12_differsAt_0 : List UInt8 := dkwX12_differsAt_0 ++ dktX12_differsAt_1
theorem dksX12_differsAt_0 : cX12_differsAt.data.toList.drop 0 = dktX12_differsAt_0 := by decide +kernel
theorem dksX12_differsAt_1 : cX12_differsAt.data.toList.drop 24 = dktX12_differsAt_1 := dk_seg dksX12_differsAt_0 24 rfl rfl
theorem dX12_differsAt_0 : decode cX12_differsAt 0 = .ok (.aload_n 0, 1) := dk_42 (dk_at dksX12_differsAt_0 0 rfl rfl)
theorem dX12_differsAt_1 : decode cX12_differsAt 1 = .ok (.getfield 19, 3) := dk_180 0 19 (dk_at dksX12_differsAt_0 1 rfl rfl)
theorem dX12_differsAt_4 : decode cX12_differsAt 4 = .ok (.iload_n 1, 1) := dk_27 (dk_at dksX12_differsAt_0 4 rfl rfl)
theorem dX12_differsAt_5 : decode cX12_differsAt 5 = .ok (.invokevirtual 51, 3) := dk_182 0 51 (dk_at dksX12_differsAt_0 5 rfl rfl)
theorem dX12_differsAt_8 : decode cX12_differsAt 8 = .ok (.aload_n 0, 1) := dk_42 (dk_at dksX12_differsAt_0 8 rfl rfl)
theorem dX12_differsAt_9 : decode cX12_differsAt 9 = .ok (.getfield 23, 3) := dk_180 0 23 (dk_at dksX12_differsAt_0 9 rfl rfl)
theorem dX12_differsAt_12 : decode cX12_differsAt 12 = .ok (.iload_n 1, 1) := dk_27 (dk_at dksX12_differsAt_0 12 rfl rfl)
theorem dX12_differsAt_13 : decode cX12_differsAt 13 = .ok (.invokevirtual 51, 3) := dk_182 0 51 (dk_at dksX12_differsAt_0 13 rfl rfl)
theorem dX12_differsAt_16 : decode cX12_differsAt 16 = .ok (.if_icmp .eq 7, 3) := dk_159 0 7 (dk_at dksX12_differsAt_0 16 rfl rfl)
theorem dX12_differsAt_19 : decode cX12_differsAt 19 = .ok (.iconst 1, 1) := dk_4 (dk_at dksX12_differsAt_0 19 rfl rfl)
theorem dX12_differsAt_20 : decode cX12_differsAt 20 = .ok (.goto 4, 3) := dk_167 0 4 (dk_at dksX12_differsAt_0 20 rfl rfl)
theorem dX12_differsAt_23 : decode cX12_differsAt 23 = .ok (.iconst 0, 1) := dk_3 (dk_at dksX12_differsAt_0 23 rfl rfl)
theorem dX12_differsAt_24 : decode cX12_differsAt 24 = .ok (.ireturn, 1) := dk_172 (dk_at dksX12_differsAt_1 0 rfl rfl)
def dkwX12_halve_3 : List UInt8 := [167, 255, 210, 42, 180, 0, 38, 172]
abbrev dktX12_halve_3 : List UInt8 := dkwX12_halve_3 ++ []
def dkwX12_halve_2 : List UInt8 := [27, 182, 0, 55, 153, 0, 11, 42, 27, 181, 0, 48, 167, 0, 10, 42, 27, 4, 96, 181, 0, 38]
abbrev dktX12_halve_2 : List UInt8 := dkwX12_halve_2 ++ dktX12_halve_3
def dkwX12_halve_1 : List UInt8 := [42, 180, 0, 38, 42, 180, 0, 48, 162, 0, 41, 42, 180, 0, 38, 42, 180, 0, 48, 96, 5, 108, 60, 42]
abbrev dktX12_halve_1 : List UInt8 := dkwX12_halve_1 ++ dktX12_halve_2
def dkwX12_halve_0 : List UInt8 := [42, 180, 0, 38, 42, 180, 0, 48, 163, 0, 14, 42, 42, 180, 0, 48, 182, 0, 55, 154, 0, 5, 2, 172]
abbrev dktX12_halve_0 : List UInt8 := dkwX12_halve_0 ++ dktX12_halve_1
theorem dksX12_halve_0 : cX12_halve.data.toList.drop 0 = dktX12_halve_0 := by decide +kernel
theorem dksX12_halve_1 : cX12_halve.data.toList.drop 24 = dktX12_halve_1 := dk_seg dksX12_halve_0 24 rfl rfl
theorem dksX12_halve_2 : cX12_halve.data.toList.drop 48 = dktX12_halve_2 := dk_seg dksX12_halve_1 24 rfl rfl
theorem dksX12_halve_3 : cX12_halve.data.toList.drop 70 = dktX12_halve_3 := dk_seg dksX12_halve_2 22 rfl rfl
theorem dX12_halve_0 : decode cX12_halve 0 = .ok (.aload_n 0, 1) := dk_42 (dk_at dksX12_halve_0 0 rfl rfl)
theorem dX12_halve_1 : decode cX12_halve 1 = .ok (.getfield 38, 3) := dk_180 0 38 (dk_at dksX12_halve_0 1 rfl rfl)
theorem dX12_halve_4 : decode cX12_halve 4 = .ok (.aload_n 0, 1) := dk_42 (dk_at dksX12_halve_0 4 rfl rfl)
theorem dX12_halve_5 : decode cX12_halve 5 = .ok (.getfield 48, 3) := dk_180 0 48 (dk_at dksX12_halve_0 5 rfl rfl)
theorem dX12_halve_8 : decode cX12_halve 8 = .ok (.if_icmp .gt 14, 3) := dk_163 0 14 (dk_at dksX12_halve_0 8 rfl rfl)
theorem dX12_halve_11 : decode cX12_halve 11 = .ok (.aload_n 0, 1) := dk_42 (dk_at dksX12_halve_0 11 rfl rfl)
theorem dX12_halve_12 : decode cX12_halve 12 = .ok (.aload_n 0, 1) := dk_42 (dk_at dksX12_halve_0 12 rfl rfl)
theorem dX12_halve_13 : decode cX12_halve 13 = .ok (.getfield 48, 3) := dk_180 0 48 (dk_at dksX12_halve_0 13 rfl rfl)
theorem dX12_halve_16 : decode cX12_halve 16 = .ok (.invokevirtual 55, 3) := dk_182 0 55 (dk_at dksX12_halve_0 16 rfl rfl)
theorem dX12_halve_19 : decode cX12_halve 19 = .ok (.ifCond .ne 5, 3) := dk_154 0 5 (dk_at dksX12_halve_0 19 rfl rfl)
theorem dX12_halve_22 : decode cX12_halve 22 = .ok (.iconst (-1), 1) := dk_2 (dk_at dksX12_halve_0 22 rfl rfl)
theorem dX12_halve_23 : decode cX12_halve 23 = .ok (.ireturn, 1) := dk_172 (dk_at dksX12_halve_0 23 rfl rfl)
theorem dX12_halve_24 : decode cX12_halve 24 = .ok (.aload_n 0, 1) := dk_42 (dk_at dksX12_halve_1 0 rfl rfl)
theorem dX12_halve_25 : decode cX12_halve 25 = .ok (.getfield 38, 3) := dk_180 0 38 (dk_at dksX12_halve_1 1 rfl rfl)
theorem dX12_halve_28 : decode cX12_halve 28 = .ok (.aload_n 0, 1) := dk_42 (dk_at dksX12_halve_1 4 rfl rfl)
theorem dX12_halve_29 : decode cX12_halve 29 = .ok (.getfield 48, 3) := dk_180 0 48 (dk_at dksX12_halve_1 5 rfl rfl)
theorem dX12_halve_32 : decode cX12_halve 32 = .ok (.if_icmp .ge 41, 3) := dk_162 0 41 (dk_at dksX12_halve_1 8 rfl rfl)
theorem dX12_halve_35 : decode cX12_halve 35 = .ok (.aload_n 0, 1) := dk_42 (dk_at dksX12_halve_1 11 rfl rfl)
theorem dX12_halve_36 : decode cX12_halve 36 = .ok (.getfield 38, 3) := dk_180 0 38 (dk_at dksX12_halve_1 12 rfl rfl)
theorem dX12_halve_39 : decode cX12_halve 39 = .ok (.aload_n 0, 1) := dk_42 (dk_at dksX12_halve_1 15 rfl rfl)
theorem dX12_halve_40 : decode cX12_halve 40 = .ok (.getfield 48, 3) := dk_180 0 48 (dk_at dksX12_halve_1 16 rfl rfl)
theorem dX12_halve_43 : decode cX12_halve 43 = .ok (.iadd, 1) := dk_96 (dk_at dksX12_halve_1 19 rfl rfl)
theorem dX12_halve_44 : decode cX12_halve 44 = .ok (.iconst 2, 1) := dk_5 (dk_at dksX12_halve_1 20 rfl rfl)
theorem dX12_halve_45 : decode cX12_halve 45 = .ok (.idiv, 1) := dk_108 (dk_at dksX12_halve_1 21 rfl rfl)
theorem dX12_halve_46 : decode cX12_halve 46 = .ok (.istore_n 1, 1) := dk_60 (dk_at dksX12_halve_1 22 rfl rfl)
theorem dX12_halve_47 : decode cX12_halve 47 = .ok (.aload_n 0, 1) := dk_42 (dk_at dksX12_halve_1 23 rfl rfl)
theorem dX12_halve_48 : decode cX12_halve 48 = .ok (.iload_n 1, 1) := dk_27 (dk_at dksX12_halve_2 0 rfl rfl)
theorem dX12_halve_49 : decode cX12_halve 49 = .ok (.invokevirtual 55, 3) := dk_182 0 55 (dk_at dksX12_halve_2 1 rfl rfl)
theorem dX12_halve_52 : decode cX12_halve 52 = .ok (.ifCond .eq 11, 3) := dk_153 0 11 (dk_at dksX12_halve_2 4 rfl rfl)
theorem dX12_halve_55 : decode cX12_halve 55 = .ok (.aload_n 0, 1) := dk_42 (dk_at dksX12_halve_2 7 rfl rfl)
theorem dX12_halve_56 : decode cX12_halve 56 = .ok (.iload_n 1, 1) := dk_27 (dk_at dksX12_halve_2 8 rfl rfl)
theorem dX12_halve_57 : decode cX12_halve 57 = .ok (.putfield 48, 3) := dk_181 0 48 (dk_at dksX12_halve_2 9 rfl rfl)
theorem dX12_halve_60 : decode cX12_halve 60 = .ok (.goto 10, 3) := dk_167 0 10 (dk_at dksX12_halve_2 12 rfl rfl)
theorem dX12_halve_63 : decode cX12_halve 63 = .ok (.aload_n 0, 1) := dk_42 (dk_at dksX12_halve_2 15 rfl rfl)
theorem dX12_halve_64 : decode cX12_halve 64 = .ok (.iload_n 1, 1) := dk_27 (dk_at dksX12_halve_2 16 rfl rfl)
theorem dX12_halve_65 : decode cX12_halve 65 = .ok (.iconst 1, 1) := dk_4 (dk_at dksX12_halve_2 17 rfl rfl)
theorem dX12_halve_66 : decode cX12_halve 66 = .ok (.iadd, 1) := dk_96 (dk_at dksX12_halve_2 18 rfl rfl)
theorem dX12_halve_67 : decode cX12_halve 67 = .ok (.putfield 38, 3) := dk_181 0 38 (dk_at dksX12_halve_2 19 rfl rfl)
theorem dX12_halve_70 : decode cX12_halve 70 = .ok (.goto (-46), 3) := dk_167 255 210 (dk_at dksX12_halve_3 0 rfl rfl)
theorem dX12_halve_73 : decode cX12_halve 73 = .ok (.aload_n 0, 1) := dk_42 (dk_at dksX12_halve_3 3 rfl rfl)
theorem dX12_halve_74 : decode cX12_halve 74 = .ok (.getfield 38, 3) := dk_180 0 38 (dk_at dksX12_halve_3 4 rfl rfl)
theorem dX12_halve_77 : decode cX12_halve 77 = .ok (.ireturn, 1) := dk_172 (dk_at dksX12_halve_3 7 rfl rfl)
def dkwX1_write_3 : List UInt8 := [182, 1, 108, 87, 132, 5, 1, 167, 255, 225, 42, 180, 0, 34, 182, 1, 111, 172]
abbrev dktX1_write_3 : List UInt8 := dkwX1_write_3 ++ []
def dkwX1_write_2 : List UInt8 := [21, 4, 162, 0, 30, 45, 21, 5, 46, 54, 6, 42, 180, 0, 34, 16, 32, 182, 1, 97, 21, 6]
abbrev dktX1_write_2 : List UInt8 := dkwX1_write_2 ++ dktX1_write_3
def dkwX1_write_1 : List UInt8 := [180, 0, 34, 16, 58, 182, 1, 97, 87, 44, 180, 0, 166, 78, 45, 190, 54, 4, 3, 54, 5, 21, 5]
abbrev dktX1_write_1 : List UInt8 := dkwX1_write_1 ++ dktX1_write_2
def dkwX1_write_0 : List UInt8 := [42, 27, 182, 0, 136, 77, 42, 180, 0, 34, 3, 182, 1, 101, 42, 44, 180, 0, 131, 182, 1, 105, 42]
abbrev dktX1_write_0 : List UInt8 := dkwX1_write_0 ++ dktX1_write_1
theorem dksX1_write_0 : cX1_write.data.toList.drop 0 = dktX1_write_0 := by decide +kernel
theorem dksX1_write_1 : cX1_write.data.toList.drop 23 = dktX1_write_1 := dk_seg dksX1_write_0 23 rfl rfl
theorem dksX1_write_2 : cX1_write.data.toList.drop 46 = dktX1_write_2 := dk_seg dksX1_write_1 23 rfl rfl
theorem dksX1_write_3 : cX1_write.data.toList.drop 68 = dktX1_write_3 := dk_seg dksX1_write_2 22 rfl rfl
theorem dX1_write_0 : decode cX1_write 0 = .ok (.aload_n 0, 1) := dk_42 (dk_at dksX1_write_0 0 rfl rfl)
theorem dX1_write_1 : decode cX1_write 1 = .ok (.iload_n 1, 1) := dk_27 (dk_at dksX1_write_0 1 rfl rfl)
theorem dX1_write_2 : decode cX1_write 2 = .ok (.invokevirtual 136, 3) := dk_182 0 136 (dk_at dksX1_write_0 2 rfl rfl)
theorem dX1_write_5 : decode cX1_write 5 = .ok (.astore_n 2, 1) := dk_77 (dk_at dksX1_write_0 5 rfl rfl)
theorem dX1_write_6 : decode cX1_write 6 = .ok (.aload_n 0, 1) := dk_42 (dk_at dksX1_write_0 6 rfl rfl)
theorem dX1_write_7 : decode cX1_write 7 = .ok (.getfield 34, 3) := dk_180 0 34 (dk_at dksX1_write_0 7 rfl rfl)
theorem dX1_write_10 : decode cX1_write 10 = .ok (.iconst 0, 1) := dk_3 (dk_at dksX1_write_0 10 rfl rfl)
theorem dX1_write_11 : decode cX1_write 11 = .ok (.invokevirtual 357, 3) := dk_182 1 101 (dk_at dksX1_write_0 11 rfl rfl)
theorem dX1_write_14 : decode cX1_write 14 = .ok (.aload_n 0, 1) := dk_42 (dk_at dksX1_write_0 14 rfl rfl)
theorem dX1_write_15 : decode cX1_write 15 = .ok (.aload_n 2, 1) := dk_44 (dk_at dksX1_write_0 15 rfl rfl)
theorem dX1_write_16 : decode cX1_write 16 = .ok (.getfield 131, 3) := dk_180 0 131 (dk_at dksX1_write_0 16 rfl rfl)
theorem dX1_write_19 : decode cX1_write 19 = .ok (.invokevirtual 361, 3) := dk_182 1 105 (dk_at dksX1_write_0 19 rfl rfl)
theorem dX1_write_22 : decode cX1_write 22 = .ok (.aload_n 0, 1) := dk_42 (dk_at dksX1_write_0 22 rfl rfl)
theorem dX1_write_23 : decode cX1_write 23 = .ok (.getfield 34, 3) := dk_180 0 34 (dk_at dksX1_write_1 0 rfl rfl)
theorem dX1_write_26 : decode cX1_write 26 = .ok (.bipush 58, 2) := dk_16 58 (dk_at dksX1_write_1 3 rfl rfl)
theorem dX1_write_28 : decode cX1_write 28 = .ok (.invokevirtual 353, 3) := dk_182 1 97 (dk_at dksX1_write_1 5 rfl rfl)
theorem dX1_write_31 : decode cX1_write 31 = .ok (.pop, 1) := dk_87 (dk_at dksX1_write_1 8 rfl rfl)
theorem dX1_write_32 : decode cX1_write 32 = .ok (.aload_n 2, 1) := dk_44 (dk_at dksX1_write_1 9 rfl rfl)
theorem dX1_write_33 : decode cX1_write 33 = .ok (.getfield 166, 3) := dk_180 0 166 (dk_at dksX1_write_1 10 rfl rfl)
theorem dX1_write_36 : decode cX1_write 36 = .ok (.astore_n 3, 1) := dk_78 (dk_at dksX1_write_1 13 rfl rfl)
theorem dX1_write_37 : decode cX1_write 37 = .ok (.aload_n 3, 1) := dk_45 (dk_at dksX1_write_1 14 rfl rfl)
theorem dX1_write_38 : decode cX1_write 38 = .ok (.arraylength, 1) := dk_190 (dk_at dksX1_write_1 15 rfl rfl)
theorem dX1_write_39 : decode cX1_write 39 = .ok (.istore 4, 2) := dk_54 4 (dk_at dksX1_write_1 16 rfl rfl)
theorem dX1_write_41 : decode cX1_write 41 = .ok (.iconst 0, 1) := dk_3 (dk_at dksX1_write_1 18 rfl rfl)
theorem dX1_write_42 : decode cX1_write 42 = .ok (.istore 5, 2) := dk_54 5 (dk_at dksX1_write_1 19 rfl rfl)
theorem dX1_write_44 : decode cX1_write 44 = .ok (.iload 5, 2) := dk_21 5 (dk_at dksX1_write_1 21 rfl rfl)
theorem dX1_write_46 : decode cX1_write 46 = .ok (.iload 4, 2) := dk_21 4 (dk_at dksX1_write_2 0 rfl rfl)
theorem dX1_write_48 : decode cX1_write 48 = .ok (.if_icmp .ge 30, 3) := dk_162 0 30 (dk_at dksX1_write_2 2 rfl rfl)
theorem dX1_write_51 : decode cX1_write 51 = .ok (.aload_n 3, 1) := dk_45 (dk_at dksX1_write_2 5 rfl rfl)
theorem dX1_write_52 : decode cX1_write 52 = .ok (.iload 5, 2) := dk_21 5 (dk_at dksX1_write_2 6 rfl rfl)
theorem dX1_write_54 : decode cX1_write 54 = .ok (.iaload, 1) := dk_46 (dk_at dksX1_write_2 8 rfl rfl)
theorem dX1_write_55 : decode cX1_write 55 = .ok (.istore 6, 2) := dk_54 6 (dk_at dksX1_write_2 9 rfl rfl)
theorem dX1_write_57 : decode cX1_write 57 = .ok (.aload_n 0, 1) := dk_42 (dk_at dksX1_write_2 11 rfl rfl)
theorem dX1_write_58 : decode cX1_write 58 = .ok (.getfield 34, 3) := dk_180 0 34 (dk_at dksX1_write_2 12 rfl rfl)
theorem dX1_write_61 : decode cX1_write 61 = .ok (.bipush 32, 2) := dk_16 32 (dk_at dksX1_write_2 15 rfl rfl)
theorem dX1_write_63 : decode cX1_write 63 = .ok (.invokevirtual 353, 3) := dk_182 1 97 (dk_at dksX1_write_2 17 rfl rfl)
theorem dX1_write_66 : decode cX1_write 66 = .ok (.iload 6, 2) := dk_21 6 (dk_at dksX1_write_2 20 rfl rfl)
theorem dX1_write_68 : decode cX1_write 68 = .ok (.invokevirtual 364, 3) := dk_182 1 108 (dk_at dksX1_write_3 0 rfl rfl)
theorem dX1_write_71 : decode cX1_write 71 = .ok (.pop, 1) := dk_87 (dk_at dksX1_write_3 3 rfl rfl)
theorem dX1_write_72 : decode cX1_write 72 = .ok (.iinc 5 1, 3) := dk_132 5 1 (dk_at dksX1_write_3 4 rfl rfl)
theorem dX1_write_75 : decode cX1_write 75 = .ok (.goto (-31), 3) := dk_167 255 225 (dk_at dksX1_write_3 7 rfl rfl)
theorem dX1_write_78 : decode cX1_write 78 = .ok (.aload_n 0, 1) := dk_42 (dk_at dksX1_write_3 10 rfl rfl)
theorem dX1_write_79 : decode cX1_write 79 = .ok (.getfield 34, 3) := dk_180 0 34 (dk_at dksX1_write_3 11 rfl rfl)
theorem dX1_write_82 : decode cX1_write 82 = .ok (.invokevirtual 367, 3) := dk_182 1 111 (dk_at dksX1_write_3 14 rfl rfl)
theorem dX1_write_85 : decode cX1_write 85 = .ok (.ireturn, 1) := dk_172 (dk_at dksX1_write_3 17 rfl rfl)
def dkwX1_printName_2 : List UInt8 := [132, 2, 251, 167, 255, 223, 177]
abbrev dktX1_printName_2 : List UInt8 := dkwX1_printName_2 ++ []
def dkwX1_printName_1 : List UInt8 := [16, 31, 126, 62, 29, 158, 0, 18, 42, 180, 0, 34, 16, 97, 29, 96, 4, 100, 146, 182, 1, 97, 87]
abbrev dktX1_printName_1 : List UInt8 := dkwX1_printName_1 ++ dktX1_printName_2
def dkwX1_printName_0 : List UInt8 := [27, 154, 0, 13, 42, 180, 0, 34, 16, 42, 182, 1, 97, 87, 16, 25, 61, 28, 155, 0, 35, 27, 28, 122]
abbrev dktX1_printName_0 : List UInt8 := dkwX1_printName_0 ++ dktX1_printName_1
theorem dksX1_printName_0 : cX1_printName.data.toList.drop 0 = dktX1_printName_0 := by decide +kernel
theorem dksX1_printName_1 : cX1_printName.data.toList.drop 24 = dktX1_printName_1 := dk_seg dksX1_printName_0 24 rfl rfl
theorem dksX1_printName_2 : cX1_printName.data.toList.drop 47 = dktX1_printName_2 := dk_seg dksX1_printName_1 23 rfl rfl
theorem dX1_printName_0 : decode cX1_printName 0 = .ok (.iload_n 1, 1) := dk_27 (dk_at dksX1_printName_0 0 rfl rfl)
theorem dX1_printName_1 : decode cX1_printName 1 = .ok (.ifCond .ne 13, 3) := dk_154 0 13 (dk_at dksX1_printName_0 1 rfl rfl)
theorem dX1_printName_4 : decode cX1_printName 4 = .ok (.aload_n 0, 1) := dk_42 (dk_at dksX1_printName_0 4 rfl rfl)
theorem dX1_printName_5 : decode cX1_printName 5 = .ok (.getfield 34, 3) := dk_180 0 34 (dk_at dksX1_printName_0 5 rfl rfl)
theorem dX1_printName_8 : decode cX1_printName 8 = .ok (.bipush 42, 2) := dk_16 42 (dk_at dksX1_printName_0 8 rfl rfl)
theorem dX1_printName_10 : decode cX1_printName 10 = .ok (.invokevirtual 353, 3) := dk_182 1 97 (dk_at dksX1_printName_0 10 rfl rfl)
theorem dX1_printName_13 : decode cX1_printName 13 = .ok (.pop, 1) := dk_87 (dk_at dksX1_printName_0 13 rfl rfl)
theorem dX1_printName_14 : decode cX1_printName 14 = .ok (.bipush 25, 2) := dk_16 25 (dk_at dksX1_printName_0 14 rfl rfl)
theorem dX1_printName_16 : decode cX1_printName 16 = .ok (.istore_n 2, 1) := dk_61 (dk_at dksX1_printName_0 16 rfl rfl)
theorem dX1_printName_17 : decode cX1_printName 17 = .ok (.iload_n 2, 1) := dk_28 (dk_at dksX1_printName_0 17 rfl rfl)
theorem dX1_printName_18 : decode cX1_printName 18 = .ok (.ifCond .lt 35, 3) := dk_155 0 35 (dk_at dksX1_printName_0 18 rfl rfl)
theorem dX1_printName_21 : decode cX1_printName 21 = .ok (.iload_n 1, 1) := dk_27 (dk_at dksX1_printName_0 21 rfl rfl)
theorem dX1_printName_22 : decode cX1_printName 22 = .ok (.iload_n 2, 1) := dk_28 (dk_at dksX1_printName_0 22 rfl rfl)
theorem dX1_printName_23 : decode cX1_printName 23 = .ok (.ishr, 1) := dk_122 (dk_at dksX1_printName_0 23 rfl rfl)
theorem dX1_printName_24 : decode cX1_printName 24 = .ok (.bipush 31, 2) := dk_16 31 (dk_at dksX1_printName_1 0 rfl rfl)
theorem dX1_printName_26 : decode cX1_printName 26 = .ok (.iand, 1) := dk_126 (dk_at dksX1_printName_1 2 rfl rfl)
theorem dX1_printName_27 : decode cX1_printName 27 = .ok (.istore_n 3, 1) := dk_62 (dk_at dksX1_printName_1 3 rfl rfl)
theorem dX1_printName_28 : decode cX1_printName 28 = .ok (.iload_n 3, 1) := dk_29 (dk_at dksX1_printName_1 4 rfl rfl)
theorem dX1_printName_29 : decode cX1_printName 29 = .ok (.ifCond .le 18, 3) := dk_158 0 18 (dk_at dksX1_printName_1 5 rfl rfl)
theorem dX1_printName_32 : decode cX1_printName 32 = .ok (.aload_n 0, 1) := dk_42 (dk_at dksX1_printName_1 8 rfl rfl)
theorem dX1_printName_33 : decode cX1_printName 33 = .ok (.getfield 34, 3) := dk_180 0 34 (dk_at dksX1_printName_1 9 rfl rfl)
theorem dX1_printName_36 : decode cX1_printName 36 = .ok (.bipush 97, 2) := dk_16 97 (dk_at dksX1_printName_1 12 rfl rfl)
theorem dX1_printName_38 : decode cX1_printName 38 = .ok (.iload_n 3, 1) := dk_29 (dk_at dksX1_printName_1 14 rfl rfl)
theorem dX1_printName_39 : decode cX1_printName 39 = .ok (.iadd, 1) := dk_96 (dk_at dksX1_printName_1 15 rfl rfl)
theorem dX1_printName_40 : decode cX1_printName 40 = .ok (.iconst 1, 1) := dk_4 (dk_at dksX1_printName_1 16 rfl rfl)
theorem dX1_printName_41 : decode cX1_printName 41 = .ok (.isub, 1) := dk_100 (dk_at dksX1_printName_1 17 rfl rfl)
theorem dX1_printName_42 : decode cX1_printName 42 = .ok (.i2c, 1) := dk_146 (dk_at dksX1_printName_1 18 rfl rfl)
theorem dX1_printName_43 : decode cX1_printName 43 = .ok (.invokevirtual 353, 3) := dk_182 1 97 (dk_at dksX1_printName_1 19 rfl rfl)
theorem dX1_printName_46 : decode cX1_printName 46 = .ok (.pop, 1) := dk_87 (dk_at dksX1_printName_1 22 rfl rfl)
theorem dX1_printName_47 : decode cX1_printName 47 = .ok (.iinc 2 (-5), 3) := dk_132 2 251 (dk_at dksX1_printName_2 0 rfl rfl)
theorem dX1_printName_50 : decode cX1_printName 50 = .ok (.goto (-33), 3) := dk_167 255 223 (dk_at dksX1_printName_2 3 rfl rfl)
theorem dX1_printName_53 : decode cX1_printName 53 = .ok (.return_, 1) := dk_177 (dk_at dksX1_printName_2 6 rfl rfl)
