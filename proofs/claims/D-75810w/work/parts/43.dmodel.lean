set_option maxRecDepth 100000
def dkwX5_init_4 : List UInt8 := [182, 0, 44, 177]
abbrev dktX5_init_4 : List UInt8 := dkwX5_init_4 ++ []
def dkwX5_init_3 : List UInt8 := [42, 16, 32, 188, 10, 181, 0, 34, 42, 2, 181, 0, 37, 42, 16, 90, 188, 10, 181, 0, 41, 42]
abbrev dktX5_init_3 : List UInt8 := dkwX5_init_3 ++ dktX5_init_4
def dkwX5_init_2 : List UInt8 := [17, 69, 156, 188, 10, 181, 0, 25, 42, 16, 16, 188, 10, 181, 0, 28, 42, 16, 32, 188, 10, 181, 0, 31]
abbrev dktX5_init_2 : List UInt8 := dkwX5_init_2 ++ dktX5_init_3
def dkwX5_init_1 : List UInt8 := [188, 10, 181, 0, 16, 42, 17, 6, 246, 188, 10, 181, 0, 19, 42, 17, 6, 246, 188, 10, 181, 0, 22, 42]
abbrev dktX5_init_1 : List UInt8 := dkwX5_init_1 ++ dktX5_init_2
def dkwX5_init_0 : List UInt8 := [42, 183, 0, 1, 42, 17, 3, 132, 188, 10, 181, 0, 7, 42, 16, 22, 188, 10, 181, 0, 13, 42, 16, 22]
abbrev dktX5_init_0 : List UInt8 := dkwX5_init_0 ++ dktX5_init_1
theorem dksX5_init_0 : cX5_init.data.toList.drop 0 = dktX5_init_0 := by decide +kernel
theorem dksX5_init_1 : cX5_init.data.toList.drop 24 = dktX5_init_1 := dk_seg dksX5_init_0 24 rfl rfl
theorem dksX5_init_2 : cX5_init.data.toList.drop 48 = dktX5_init_2 := dk_seg dksX5_init_1 24 rfl rfl
theorem dksX5_init_3 : cX5_init.data.toList.drop 72 = dktX5_init_3 := dk_seg dksX5_init_2 24 rfl rfl
theorem dksX5_init_4 : cX5_init.data.toList.drop 94 = dktX5_init_4 := dk_seg dksX5_init_3 22 rfl rfl
theorem dX5_init_0 : decode cX5_init 0 = .ok (.aload_n 0, 1) := dk_42 (dk_at dksX5_init_0 0 rfl rfl)
theorem dX5_init_1 : decode cX5_init 1 = .ok (.invokespecial 1, 3) := dk_183 0 1 (dk_at dksX5_init_0 1 rfl rfl)
theorem dX5_init_4 : decode cX5_init 4 = .ok (.aload_n 0, 1) := dk_42 (dk_at dksX5_init_0 4 rfl rfl)
theorem dX5_init_5 : decode cX5_init 5 = .ok (.sipush 900, 3) := dk_17 3 132 (dk_at dksX5_init_0 5 rfl rfl)
theorem dX5_init_8 : decode cX5_init 8 = .ok (.newarray .int, 2) := dk_188_10 (dk_at dksX5_init_0 8 rfl rfl)
theorem dX5_init_10 : decode cX5_init 10 = .ok (.putfield 7, 3) := dk_181 0 7 (dk_at dksX5_init_0 10 rfl rfl)
theorem dX5_init_13 : decode cX5_init 13 = .ok (.aload_n 0, 1) := dk_42 (dk_at dksX5_init_0 13 rfl rfl)
theorem dX5_init_14 : decode cX5_init 14 = .ok (.bipush 22, 2) := dk_16 22 (dk_at dksX5_init_0 14 rfl rfl)
theorem dX5_init_16 : decode cX5_init 16 = .ok (.newarray .int, 2) := dk_188_10 (dk_at dksX5_init_0 16 rfl rfl)
theorem dX5_init_18 : decode cX5_init 18 = .ok (.putfield 13, 3) := dk_181 0 13 (dk_at dksX5_init_0 18 rfl rfl)
theorem dX5_init_21 : decode cX5_init 21 = .ok (.aload_n 0, 1) := dk_42 (dk_at dksX5_init_0 21 rfl rfl)
theorem dX5_init_22 : decode cX5_init 22 = .ok (.bipush 22, 2) := dk_16 22 (dk_at dksX5_init_0 22 rfl rfl)
theorem dX5_init_24 : decode cX5_init 24 = .ok (.newarray .int, 2) := dk_188_10 (dk_at dksX5_init_1 0 rfl rfl)
theorem dX5_init_26 : decode cX5_init 26 = .ok (.putfield 16, 3) := dk_181 0 16 (dk_at dksX5_init_1 2 rfl rfl)
theorem dX5_init_29 : decode cX5_init 29 = .ok (.aload_n 0, 1) := dk_42 (dk_at dksX5_init_1 5 rfl rfl)
theorem dX5_init_30 : decode cX5_init 30 = .ok (.sipush 1782, 3) := dk_17 6 246 (dk_at dksX5_init_1 6 rfl rfl)
theorem dX5_init_33 : decode cX5_init 33 = .ok (.newarray .int, 2) := dk_188_10 (dk_at dksX5_init_1 9 rfl rfl)
theorem dX5_init_35 : decode cX5_init 35 = .ok (.putfield 19, 3) := dk_181 0 19 (dk_at dksX5_init_1 11 rfl rfl)
theorem dX5_init_38 : decode cX5_init 38 = .ok (.aload_n 0, 1) := dk_42 (dk_at dksX5_init_1 14 rfl rfl)
theorem dX5_init_39 : decode cX5_init 39 = .ok (.sipush 1782, 3) := dk_17 6 246 (dk_at dksX5_init_1 15 rfl rfl)
theorem dX5_init_42 : decode cX5_init 42 = .ok (.newarray .int, 2) := dk_188_10 (dk_at dksX5_init_1 18 rfl rfl)
theorem dX5_init_44 : decode cX5_init 44 = .ok (.putfield 22, 3) := dk_181 0 22 (dk_at dksX5_init_1 20 rfl rfl)
theorem dX5_init_47 : decode cX5_init 47 = .ok (.aload_n 0, 1) := dk_42 (dk_at dksX5_init_1 23 rfl rfl)
theorem dX5_init_48 : decode cX5_init 48 = .ok (.sipush 17820, 3) := dk_17 69 156 (dk_at dksX5_init_2 0 rfl rfl)
theorem dX5_init_51 : decode cX5_init 51 = .ok (.newarray .int, 2) := dk_188_10 (dk_at dksX5_init_2 3 rfl rfl)
theorem dX5_init_53 : decode cX5_init 53 = .ok (.putfield 25, 3) := dk_181 0 25 (dk_at dksX5_init_2 5 rfl rfl)
theorem dX5_init_56 : decode cX5_init 56 = .ok (.aload_n 0, 1) := dk_42 (dk_at dksX5_init_2 8 rfl rfl)
theorem dX5_init_57 : decode cX5_init 57 = .ok (.bipush 16, 2) := dk_16 16 (dk_at dksX5_init_2 9 rfl rfl)
theorem dX5_init_59 : decode cX5_init 59 = .ok (.newarray .int, 2) := dk_188_10 (dk_at dksX5_init_2 11 rfl rfl)
theorem dX5_init_61 : decode cX5_init 61 = .ok (.putfield 28, 3) := dk_181 0 28 (dk_at dksX5_init_2 13 rfl rfl)
theorem dX5_init_64 : decode cX5_init 64 = .ok (.aload_n 0, 1) := dk_42 (dk_at dksX5_init_2 16 rfl rfl)
theorem dX5_init_65 : decode cX5_init 65 = .ok (.bipush 32, 2) := dk_16 32 (dk_at dksX5_init_2 17 rfl rfl)
theorem dX5_init_67 : decode cX5_init 67 = .ok (.newarray .int, 2) := dk_188_10 (dk_at dksX5_init_2 19 rfl rfl)
theorem dX5_init_69 : decode cX5_init 69 = .ok (.putfield 31, 3) := dk_181 0 31 (dk_at dksX5_init_2 21 rfl rfl)
theorem dX5_init_72 : decode cX5_init 72 = .ok (.aload_n 0, 1) := dk_42 (dk_at dksX5_init_3 0 rfl rfl)
theorem dX5_init_73 : decode cX5_init 73 = .ok (.bipush 32, 2) := dk_16 32 (dk_at dksX5_init_3 1 rfl rfl)
theorem dX5_init_75 : decode cX5_init 75 = .ok (.newarray .int, 2) := dk_188_10 (dk_at dksX5_init_3 3 rfl rfl)
theorem dX5_init_77 : decode cX5_init 77 = .ok (.putfield 34, 3) := dk_181 0 34 (dk_at dksX5_init_3 5 rfl rfl)
theorem dX5_init_80 : decode cX5_init 80 = .ok (.aload_n 0, 1) := dk_42 (dk_at dksX5_init_3 8 rfl rfl)
theorem dX5_init_81 : decode cX5_init 81 = .ok (.iconst (-1), 1) := dk_2 (dk_at dksX5_init_3 9 rfl rfl)
theorem dX5_init_82 : decode cX5_init 82 = .ok (.putfield 37, 3) := dk_181 0 37 (dk_at dksX5_init_3 10 rfl rfl)
theorem dX5_init_85 : decode cX5_init 85 = .ok (.aload_n 0, 1) := dk_42 (dk_at dksX5_init_3 13 rfl rfl)
theorem dX5_init_86 : decode cX5_init 86 = .ok (.bipush 90, 2) := dk_16 90 (dk_at dksX5_init_3 14 rfl rfl)
theorem dX5_init_88 : decode cX5_init 88 = .ok (.newarray .int, 2) := dk_188_10 (dk_at dksX5_init_3 16 rfl rfl)
theorem dX5_init_90 : decode cX5_init 90 = .ok (.putfield 41, 3) := dk_181 0 41 (dk_at dksX5_init_3 18 rfl rfl)
theorem dX5_init_93 : decode cX5_init 93 = .ok (.aload_n 0, 1) := dk_42 (dk_at dksX5_init_3 21 rfl rfl)
theorem dX5_init_94 : decode cX5_init 94 = .ok (.invokevirtual 44, 3) := dk_182 0 44 (dk_at dksX5_init_4 0 rfl rfl)
theorem dX5_init_97 : decode cX5_init 97 = .ok (.return_, 1) := dk_177 (dk_at dksX5_init_4 3 rfl rfl)
def dkwX5_newRoom_2 : List UInt8 := [180, 0, 19, 3, 16, 40, 79, 42, 180, 0, 19, 4, 5, 79, 177]
abbrev dktX5_newRoom_2 : List UInt8 := dkwX5_newRoom_2 ++ []
def dkwX5_newRoom_1 : List UInt8 := [3, 60, 27, 17, 6, 246, 162, 0, 16, 42, 180, 0, 19, 27, 3, 79, 132, 1, 1, 167, 255, 239, 42]
abbrev dktX5_newRoom_1 : List UInt8 := dkwX5_newRoom_1 ++ dktX5_newRoom_2
def dkwX5_newRoom_0 : List UInt8 := [3, 60, 27, 42, 180, 0, 13, 190, 162, 0, 16, 42, 180, 0, 13, 27, 3, 79, 132, 1, 1, 167, 255, 237]
abbrev dktX5_newRoom_0 : List UInt8 := dkwX5_newRoom_0 ++ dktX5_newRoom_1
theorem dksX5_newRoom_0 : cX5_newRoom.data.toList.drop 0 = dktX5_newRoom_0 := by decide +kernel
theorem dksX5_newRoom_1 : cX5_newRoom.data.toList.drop 24 = dktX5_newRoom_1 := dk_seg dksX5_newRoom_0 24 rfl rfl
theorem dksX5_newRoom_2 : cX5_newRoom.data.toList.drop 47 = dktX5_newRoom_2 := dk_seg dksX5_newRoom_1 23 rfl rfl
theorem dX5_newRoom_0 : decode cX5_newRoom 0 = .ok (.iconst 0, 1) := dk_3 (dk_at dksX5_newRoom_0 0 rfl rfl)
theorem dX5_newRoom_1 : decode cX5_newRoom 1 = .ok (.istore_n 1, 1) := dk_60 (dk_at dksX5_newRoom_0 1 rfl rfl)
theorem dX5_newRoom_2 : decode cX5_newRoom 2 = .ok (.iload_n 1, 1) := dk_27 (dk_at dksX5_newRoom_0 2 rfl rfl)
theorem dX5_newRoom_3 : decode cX5_newRoom 3 = .ok (.aload_n 0, 1) := dk_42 (dk_at dksX5_newRoom_0 3 rfl rfl)
theorem dX5_newRoom_4 : decode cX5_newRoom 4 = .ok (.getfield 13, 3) := dk_180 0 13 (dk_at dksX5_newRoom_0 4 rfl rfl)
theorem dX5_newRoom_7 : decode cX5_newRoom 7 = .ok (.arraylength, 1) := dk_190 (dk_at dksX5_newRoom_0 7 rfl rfl)
theorem dX5_newRoom_8 : decode cX5_newRoom 8 = .ok (.if_icmp .ge 16, 3) := dk_162 0 16 (dk_at dksX5_newRoom_0 8 rfl rfl)
theorem dX5_newRoom_11 : decode cX5_newRoom 11 = .ok (.aload_n 0, 1) := dk_42 (dk_at dksX5_newRoom_0 11 rfl rfl)
theorem dX5_newRoom_12 : decode cX5_newRoom 12 = .ok (.getfield 13, 3) := dk_180 0 13 (dk_at dksX5_newRoom_0 12 rfl rfl)
theorem dX5_newRoom_15 : decode cX5_newRoom 15 = .ok (.iload_n 1, 1) := dk_27 (dk_at dksX5_newRoom_0 15 rfl rfl)
theorem dX5_newRoom_16 : decode cX5_newRoom 16 = .ok (.iconst 0, 1) := dk_3 (dk_at dksX5_newRoom_0 16 rfl rfl)
theorem dX5_newRoom_17 : decode cX5_newRoom 17 = .ok (.iastore, 1) := dk_79 (dk_at dksX5_newRoom_0 17 rfl rfl)
theorem dX5_newRoom_18 : decode cX5_newRoom 18 = .ok (.iinc 1 1, 3) := dk_132 1 1 (dk_at dksX5_newRoom_0 18 rfl rfl)
theorem dX5_newRoom_21 : decode cX5_newRoom 21 = .ok (.goto (-19), 3) := dk_167 255 237 (dk_at dksX5_newRoom_0 21 rfl rfl)
theorem dX5_newRoom_24 : decode cX5_newRoom 24 = .ok (.iconst 0, 1) := dk_3 (dk_at dksX5_newRoom_1 0 rfl rfl)
theorem dX5_newRoom_25 : decode cX5_newRoom 25 = .ok (.istore_n 1, 1) := dk_60 (dk_at dksX5_newRoom_1 1 rfl rfl)
theorem dX5_newRoom_26 : decode cX5_newRoom 26 = .ok (.iload_n 1, 1) := dk_27 (dk_at dksX5_newRoom_1 2 rfl rfl)
theorem dX5_newRoom_27 : decode cX5_newRoom 27 = .ok (.sipush 1782, 3) := dk_17 6 246 (dk_at dksX5_newRoom_1 3 rfl rfl)
theorem dX5_newRoom_30 : decode cX5_newRoom 30 = .ok (.if_icmp .ge 16, 3) := dk_162 0 16 (dk_at dksX5_newRoom_1 6 rfl rfl)
theorem dX5_newRoom_33 : decode cX5_newRoom 33 = .ok (.aload_n 0, 1) := dk_42 (dk_at dksX5_newRoom_1 9 rfl rfl)
theorem dX5_newRoom_34 : decode cX5_newRoom 34 = .ok (.getfield 19, 3) := dk_180 0 19 (dk_at dksX5_newRoom_1 10 rfl rfl)
theorem dX5_newRoom_37 : decode cX5_newRoom 37 = .ok (.iload_n 1, 1) := dk_27 (dk_at dksX5_newRoom_1 13 rfl rfl)
theorem dX5_newRoom_38 : decode cX5_newRoom 38 = .ok (.iconst 0, 1) := dk_3 (dk_at dksX5_newRoom_1 14 rfl rfl)
theorem dX5_newRoom_39 : decode cX5_newRoom 39 = .ok (.iastore, 1) := dk_79 (dk_at dksX5_newRoom_1 15 rfl rfl)
theorem dX5_newRoom_40 : decode cX5_newRoom 40 = .ok (.iinc 1 1, 3) := dk_132 1 1 (dk_at dksX5_newRoom_1 16 rfl rfl)
theorem dX5_newRoom_43 : decode cX5_newRoom 43 = .ok (.goto (-17), 3) := dk_167 255 239 (dk_at dksX5_newRoom_1 19 rfl rfl)
theorem dX5_newRoom_46 : decode cX5_newRoom 46 = .ok (.aload_n 0, 1) := dk_42 (dk_at dksX5_newRoom_1 22 rfl rfl)
theorem dX5_newRoom_47 : decode cX5_newRoom 47 = .ok (.getfield 19, 3) := dk_180 0 19 (dk_at dksX5_newRoom_2 0 rfl rfl)
theorem dX5_newRoom_50 : decode cX5_newRoom 50 = .ok (.iconst 0, 1) := dk_3 (dk_at dksX5_newRoom_2 3 rfl rfl)
theorem dX5_newRoom_51 : decode cX5_newRoom 51 = .ok (.bipush 40, 2) := dk_16 40 (dk_at dksX5_newRoom_2 4 rfl rfl)
theorem dX5_newRoom_53 : decode cX5_newRoom 53 = .ok (.iastore, 1) := dk_79 (dk_at dksX5_newRoom_2 6 rfl rfl)
theorem dX5_newRoom_54 : decode cX5_newRoom 54 = .ok (.aload_n 0, 1) := dk_42 (dk_at dksX5_newRoom_2 7 rfl rfl)
theorem dX5_newRoom_55 : decode cX5_newRoom 55 = .ok (.getfield 19, 3) := dk_180 0 19 (dk_at dksX5_newRoom_2 8 rfl rfl)
theorem dX5_newRoom_58 : decode cX5_newRoom 58 = .ok (.iconst 1, 1) := dk_4 (dk_at dksX5_newRoom_2 11 rfl rfl)
theorem dX5_newRoom_59 : decode cX5_newRoom 59 = .ok (.iconst 2, 1) := dk_5 (dk_at dksX5_newRoom_2 12 rfl rfl)
theorem dX5_newRoom_60 : decode cX5_newRoom 60 = .ok (.iastore, 1) := dk_79 (dk_at dksX5_newRoom_2 13 rfl rfl)
theorem dX5_newRoom_61 : decode cX5_newRoom 61 = .ok (.return_, 1) := dk_177 (dk_at dksX5_newRoom_2 14 rfl rfl)
theorem dX5_thrown_0 : decode cX5_thrown 0 = .ok (.aload_n 0, 1) := by decide +kernel
theorem dX5_thrown_1 : decode cX5_thrown 1 = .ok (.getfield 47, 3) := by decide +kernel
theorem dX5_thrown_4 : decode cX5_thrown 4 = .ok (.ireturn, 1) := by decide +kernel
def dkwX5_feed_5 : List UInt8 := [16, 20, 96, 181, 0, 50, 42, 180, 0, 50, 172]
abbrev dktX5_feed_5 : List UInt8 := dkwX5_feed_5 ++ []
def dkwX5_feed_4 : List UInt8 := [21, 6, 7, 112, 104, 100, 122, 17, 0, 255, 126, 79, 132, 6, 1, 167, 255, 169, 42, 89, 180, 0, 50]
abbrev dktX5_feed_4 : List UInt8 := dkwX5_feed_4 ++ dktX5_feed_5
def dkwX5_feed_3 : List UInt8 := [167, 0, 5, 21, 5, 54, 7, 42, 180, 0, 7, 42, 180, 0, 50, 21, 6, 96, 21, 7, 16, 24, 16, 8]
abbrev dktX5_feed_3 : List UInt8 := dkwX5_feed_3 ++ dktX5_feed_4
def dkwX5_feed_2 : List UInt8 := [28, 167, 0, 28, 21, 6, 16, 12, 162, 0, 7, 29, 167, 0, 17, 21, 6, 16, 16, 162, 0, 8, 21, 4]
abbrev dktX5_feed_2 : List UInt8 := dkwX5_feed_2 ++ dktX5_feed_3
def dkwX5_feed_1 : List UInt8 := [21, 6, 16, 20, 162, 0, 86, 21, 6, 7, 162, 0, 7, 27, 167, 0, 39, 21, 6, 16, 8, 162, 0, 7]
abbrev dktX5_feed_1 : List UInt8 := dkwX5_feed_1 ++ dktX5_feed_2
def dkwX5_feed_0 : List UInt8 := [42, 3, 181, 0, 47, 42, 180, 0, 50, 16, 20, 96, 17, 3, 132, 164, 0, 6, 16, 253, 172, 3, 54, 6]
abbrev dktX5_feed_0 : List UInt8 := dkwX5_feed_0 ++ dktX5_feed_1
theorem dksX5_feed_0 : cX5_feed.data.toList.drop 0 = dktX5_feed_0 := by decide +kernel
theorem dksX5_feed_1 : cX5_feed.data.toList.drop 24 = dktX5_feed_1 := dk_seg dksX5_feed_0 24 rfl rfl
theorem dksX5_feed_2 : cX5_feed.data.toList.drop 48 = dktX5_feed_2 := dk_seg dksX5_feed_1 24 rfl rfl
theorem dksX5_feed_3 : cX5_feed.data.toList.drop 72 = dktX5_feed_3 := dk_seg dksX5_feed_2 24 rfl rfl
theorem dksX5_feed_4 : cX5_feed.data.toList.drop 96 = dktX5_feed_4 := dk_seg dksX5_feed_3 24 rfl rfl
theorem dksX5_feed_5 : cX5_feed.data.toList.drop 119 = dktX5_feed_5 := dk_seg dksX5_feed_4 23 rfl rfl
theorem dX5_feed_0 : decode cX5_feed 0 = .ok (.aload_n 0, 1) := dk_42 (dk_at dksX5_feed_0 0 rfl rfl)
theorem dX5_feed_1 : decode cX5_feed 1 = .ok (.iconst 0, 1) := dk_3 (dk_at dksX5_feed_0 1 rfl rfl)
theorem dX5_feed_2 : decode cX5_feed 2 = .ok (.putfield 47, 3) := dk_181 0 47 (dk_at dksX5_feed_0 2 rfl rfl)
theorem dX5_feed_5 : decode cX5_feed 5 = .ok (.aload_n 0, 1) := dk_42 (dk_at dksX5_feed_0 5 rfl rfl)
theorem dX5_feed_6 : decode cX5_feed 6 = .ok (.getfield 50, 3) := dk_180 0 50 (dk_at dksX5_feed_0 6 rfl rfl)
theorem dX5_feed_9 : decode cX5_feed 9 = .ok (.bipush 20, 2) := dk_16 20 (dk_at dksX5_feed_0 9 rfl rfl)
theorem dX5_feed_11 : decode cX5_feed 11 = .ok (.iadd, 1) := dk_96 (dk_at dksX5_feed_0 11 rfl rfl)
theorem dX5_feed_12 : decode cX5_feed 12 = .ok (.sipush 900, 3) := dk_17 3 132 (dk_at dksX5_feed_0 12 rfl rfl)
theorem dX5_feed_15 : decode cX5_feed 15 = .ok (.if_icmp .le 6, 3) := dk_164 0 6 (dk_at dksX5_feed_0 15 rfl rfl)
theorem dX5_feed_18 : decode cX5_feed 18 = .ok (.bipush (-3), 2) := dk_16 253 (dk_at dksX5_feed_0 18 rfl rfl)
theorem dX5_feed_20 : decode cX5_feed 20 = .ok (.ireturn, 1) := dk_172 (dk_at dksX5_feed_0 20 rfl rfl)
theorem dX5_feed_21 : decode cX5_feed 21 = .ok (.iconst 0, 1) := dk_3 (dk_at dksX5_feed_0 21 rfl rfl)
theorem dX5_feed_22 : decode cX5_feed 22 = .ok (.istore 6, 2) := dk_54 6 (dk_at dksX5_feed_0 22 rfl rfl)
theorem dX5_feed_24 : decode cX5_feed 24 = .ok (.iload 6, 2) := dk_21 6 (dk_at dksX5_feed_1 0 rfl rfl)
theorem dX5_feed_26 : decode cX5_feed 26 = .ok (.bipush 20, 2) := dk_16 20 (dk_at dksX5_feed_1 2 rfl rfl)
theorem dX5_feed_28 : decode cX5_feed 28 = .ok (.if_icmp .ge 86, 3) := dk_162 0 86 (dk_at dksX5_feed_1 4 rfl rfl)
theorem dX5_feed_31 : decode cX5_feed 31 = .ok (.iload 6, 2) := dk_21 6 (dk_at dksX5_feed_1 7 rfl rfl)
theorem dX5_feed_33 : decode cX5_feed 33 = .ok (.iconst 4, 1) := dk_7 (dk_at dksX5_feed_1 9 rfl rfl)
theorem dX5_feed_34 : decode cX5_feed 34 = .ok (.if_icmp .ge 7, 3) := dk_162 0 7 (dk_at dksX5_feed_1 10 rfl rfl)
theorem dX5_feed_37 : decode cX5_feed 37 = .ok (.iload_n 1, 1) := dk_27 (dk_at dksX5_feed_1 13 rfl rfl)
theorem dX5_feed_38 : decode cX5_feed 38 = .ok (.goto 39, 3) := dk_167 0 39 (dk_at dksX5_feed_1 14 rfl rfl)
theorem dX5_feed_41 : decode cX5_feed 41 = .ok (.iload 6, 2) := dk_21 6 (dk_at dksX5_feed_1 17 rfl rfl)
theorem dX5_feed_43 : decode cX5_feed 43 = .ok (.bipush 8, 2) := dk_16 8 (dk_at dksX5_feed_1 19 rfl rfl)
theorem dX5_feed_45 : decode cX5_feed 45 = .ok (.if_icmp .ge 7, 3) := dk_162 0 7 (dk_at dksX5_feed_1 21 rfl rfl)
theorem dX5_feed_48 : decode cX5_feed 48 = .ok (.iload_n 2, 1) := dk_28 (dk_at dksX5_feed_2 0 rfl rfl)
theorem dX5_feed_49 : decode cX5_feed 49 = .ok (.goto 28, 3) := dk_167 0 28 (dk_at dksX5_feed_2 1 rfl rfl)
theorem dX5_feed_52 : decode cX5_feed 52 = .ok (.iload 6, 2) := dk_21 6 (dk_at dksX5_feed_2 4 rfl rfl)
theorem dX5_feed_54 : decode cX5_feed 54 = .ok (.bipush 12, 2) := dk_16 12 (dk_at dksX5_feed_2 6 rfl rfl)
theorem dX5_feed_56 : decode cX5_feed 56 = .ok (.if_icmp .ge 7, 3) := dk_162 0 7 (dk_at dksX5_feed_2 8 rfl rfl)
theorem dX5_feed_59 : decode cX5_feed 59 = .ok (.iload_n 3, 1) := dk_29 (dk_at dksX5_feed_2 11 rfl rfl)
theorem dX5_feed_60 : decode cX5_feed 60 = .ok (.goto 17, 3) := dk_167 0 17 (dk_at dksX5_feed_2 12 rfl rfl)
theorem dX5_feed_63 : decode cX5_feed 63 = .ok (.iload 6, 2) := dk_21 6 (dk_at dksX5_feed_2 15 rfl rfl)
theorem dX5_feed_65 : decode cX5_feed 65 = .ok (.bipush 16, 2) := dk_16 16 (dk_at dksX5_feed_2 17 rfl rfl)
theorem dX5_feed_67 : decode cX5_feed 67 = .ok (.if_icmp .ge 8, 3) := dk_162 0 8 (dk_at dksX5_feed_2 19 rfl rfl)
theorem dX5_feed_70 : decode cX5_feed 70 = .ok (.iload 4, 2) := dk_21 4 (dk_at dksX5_feed_2 22 rfl rfl)
theorem dX5_feed_72 : decode cX5_feed 72 = .ok (.goto 5, 3) := dk_167 0 5 (dk_at dksX5_feed_3 0 rfl rfl)
theorem dX5_feed_75 : decode cX5_feed 75 = .ok (.iload 5, 2) := dk_21 5 (dk_at dksX5_feed_3 3 rfl rfl)
theorem dX5_feed_77 : decode cX5_feed 77 = .ok (.istore 7, 2) := dk_54 7 (dk_at dksX5_feed_3 5 rfl rfl)
theorem dX5_feed_79 : decode cX5_feed 79 = .ok (.aload_n 0, 1) := dk_42 (dk_at dksX5_feed_3 7 rfl rfl)
theorem dX5_feed_80 : decode cX5_feed 80 = .ok (.getfield 7, 3) := dk_180 0 7 (dk_at dksX5_feed_3 8 rfl rfl)
theorem dX5_feed_83 : decode cX5_feed 83 = .ok (.aload_n 0, 1) := dk_42 (dk_at dksX5_feed_3 11 rfl rfl)
theorem dX5_feed_84 : decode cX5_feed 84 = .ok (.getfield 50, 3) := dk_180 0 50 (dk_at dksX5_feed_3 12 rfl rfl)
theorem dX5_feed_87 : decode cX5_feed 87 = .ok (.iload 6, 2) := dk_21 6 (dk_at dksX5_feed_3 15 rfl rfl)
theorem dX5_feed_89 : decode cX5_feed 89 = .ok (.iadd, 1) := dk_96 (dk_at dksX5_feed_3 17 rfl rfl)
theorem dX5_feed_90 : decode cX5_feed 90 = .ok (.iload 7, 2) := dk_21 7 (dk_at dksX5_feed_3 18 rfl rfl)
theorem dX5_feed_92 : decode cX5_feed 92 = .ok (.bipush 24, 2) := dk_16 24 (dk_at dksX5_feed_3 20 rfl rfl)
theorem dX5_feed_94 : decode cX5_feed 94 = .ok (.bipush 8, 2) := dk_16 8 (dk_at dksX5_feed_3 22 rfl rfl)
theorem dX5_feed_96 : decode cX5_feed 96 = .ok (.iload 6, 2) := dk_21 6 (dk_at dksX5_feed_4 0 rfl rfl)
theorem dX5_feed_98 : decode cX5_feed 98 = .ok (.iconst 4, 1) := dk_7 (dk_at dksX5_feed_4 2 rfl rfl)
theorem dX5_feed_99 : decode cX5_feed 99 = .ok (.irem, 1) := dk_112 (dk_at dksX5_feed_4 3 rfl rfl)
theorem dX5_feed_100 : decode cX5_feed 100 = .ok (.imul, 1) := dk_104 (dk_at dksX5_feed_4 4 rfl rfl)
theorem dX5_feed_101 : decode cX5_feed 101 = .ok (.isub, 1) := dk_100 (dk_at dksX5_feed_4 5 rfl rfl)
theorem dX5_feed_102 : decode cX5_feed 102 = .ok (.ishr, 1) := dk_122 (dk_at dksX5_feed_4 6 rfl rfl)
theorem dX5_feed_103 : decode cX5_feed 103 = .ok (.sipush 255, 3) := dk_17 0 255 (dk_at dksX5_feed_4 7 rfl rfl)
theorem dX5_feed_106 : decode cX5_feed 106 = .ok (.iand, 1) := dk_126 (dk_at dksX5_feed_4 10 rfl rfl)
theorem dX5_feed_107 : decode cX5_feed 107 = .ok (.iastore, 1) := dk_79 (dk_at dksX5_feed_4 11 rfl rfl)
theorem dX5_feed_108 : decode cX5_feed 108 = .ok (.iinc 6 1, 3) := dk_132 6 1 (dk_at dksX5_feed_4 12 rfl rfl)
theorem dX5_feed_111 : decode cX5_feed 111 = .ok (.goto (-87), 3) := dk_167 255 169 (dk_at dksX5_feed_4 15 rfl rfl)
theorem dX5_feed_114 : decode cX5_feed 114 = .ok (.aload_n 0, 1) := dk_42 (dk_at dksX5_feed_4 18 rfl rfl)
theorem dX5_feed_115 : decode cX5_feed 115 = .ok (.dup, 1) := dk_89 (dk_at dksX5_feed_4 19 rfl rfl)
theorem dX5_feed_116 : decode cX5_feed 116 = .ok (.getfield 50, 3) := dk_180 0 50 (dk_at dksX5_feed_4 20 rfl rfl)
theorem dX5_feed_119 : decode cX5_feed 119 = .ok (.bipush 20, 2) := dk_16 20 (dk_at dksX5_feed_5 0 rfl rfl)
theorem dX5_feed_121 : decode cX5_feed 121 = .ok (.iadd, 1) := dk_96 (dk_at dksX5_feed_5 2 rfl rfl)
theorem dX5_feed_122 : decode cX5_feed 122 = .ok (.putfield 50, 3) := dk_181 0 50 (dk_at dksX5_feed_5 3 rfl rfl)
theorem dX5_feed_125 : decode cX5_feed 125 = .ok (.aload_n 0, 1) := dk_42 (dk_at dksX5_feed_5 6 rfl rfl)
theorem dX5_feed_126 : decode cX5_feed 126 = .ok (.getfield 50, 3) := dk_180 0 50 (dk_at dksX5_feed_5 7 rfl rfl)
theorem dX5_feed_129 : decode cX5_feed 129 = .ok (.ireturn, 1) := dk_172 (dk_at dksX5_feed_5 10 rfl rfl)
def dkwX5_load_9 : List UInt8 := [181, 1, 30, 42, 180, 1, 20, 172]
abbrev dktX5_load_9 : List UInt8 := dkwX5_load_9 ++ []
def dkwX5_load_8 : List UInt8 := [182, 0, 99, 132, 3, 1, 167, 255, 232, 42, 28, 182, 0, 111, 132, 2, 1, 167, 255, 211, 42, 3]
abbrev dktX5_load_8 : List UInt8 := dkwX5_load_8 ++ dktX5_load_9
def dkwX5_load_7 : List UInt8 := [162, 0, 43, 3, 62, 29, 16, 16, 162, 0, 24, 42, 28, 16, 7, 29, 96, 42, 180, 0, 13, 29, 46]
abbrev dktX5_load_7 : List UInt8 := dkwX5_load_7 ++ dktX5_load_8
def dkwX5_load_6 : List UInt8 := [42, 180, 0, 22, 42, 180, 0, 19, 184, 1, 23, 42, 180, 0, 194, 172, 3, 61, 28, 42, 182, 0, 114]
abbrev dktX5_load_6 : List UInt8 := dkwX5_load_6 ++ dktX5_load_7
def dkwX5_load_5 : List UInt8 := [180, 0, 197, 181, 0, 37, 42, 180, 0, 194, 153, 0, 30, 42, 180, 0, 16, 42, 180, 0, 13, 184, 1, 23]
abbrev dktX5_load_5 : List UInt8 := dkwX5_load_5 ++ dktX5_load_6
def dkwX5_load_4 : List UInt8 := [182, 1, 27, 167, 255, 237, 42, 3, 181, 0, 50, 42, 42, 180, 0, 194, 154, 0, 7, 2, 167, 0, 7, 42]
abbrev dktX5_load_4 : List UInt8 := dkwX5_load_4 ++ dktX5_load_5
def dkwX5_load_3 : List UInt8 := [3, 181, 0, 216, 42, 182, 0, 200, 42, 180, 0, 194, 154, 0, 18, 42, 180, 0, 173, 6, 159, 0, 10, 42]
abbrev dktX5_load_3 : List UInt8 := dkwX5_load_3 ++ dktX5_load_4
def dkwX5_load_2 : List UInt8 := [181, 0, 164, 42, 3, 181, 0, 161, 42, 3, 181, 0, 194, 42, 3, 181, 1, 20, 42, 3, 181, 0, 247, 42]
abbrev dktX5_load_2 : List UInt8 := dkwX5_load_2 ++ dktX5_load_3
def dkwX5_load_1 : List UInt8 := [42, 180, 0, 16, 184, 1, 23, 42, 180, 0, 19, 42, 180, 0, 22, 184, 1, 23, 42, 182, 0, 44, 42, 27]
abbrev dktX5_load_1 : List UInt8 := dkwX5_load_1 ++ dktX5_load_2
def dkwX5_load_0 : List UInt8 := [42, 3, 181, 0, 47, 27, 155, 0, 11, 27, 42, 180, 0, 50, 164, 0, 6, 16, 254, 172, 42, 180, 0, 13]
abbrev dktX5_load_0 : List UInt8 := dkwX5_load_0 ++ dktX5_load_1
theorem dksX5_load_0 : cX5_load.data.toList.drop 0 = dktX5_load_0 := by decide +kernel
theorem dksX5_load_1 : cX5_load.data.toList.drop 24 = dktX5_load_1 := dk_seg dksX5_load_0 24 rfl rfl
theorem dksX5_load_2 : cX5_load.data.toList.drop 48 = dktX5_load_2 := dk_seg dksX5_load_1 24 rfl rfl
theorem dksX5_load_3 : cX5_load.data.toList.drop 72 = dktX5_load_3 := dk_seg dksX5_load_2 24 rfl rfl
theorem dksX5_load_4 : cX5_load.data.toList.drop 96 = dktX5_load_4 := dk_seg dksX5_load_3 24 rfl rfl
theorem dksX5_load_5 : cX5_load.data.toList.drop 120 = dktX5_load_5 := dk_seg dksX5_load_4 24 rfl rfl
theorem dksX5_load_6 : cX5_load.data.toList.drop 144 = dktX5_load_6 := dk_seg dksX5_load_5 24 rfl rfl
theorem dksX5_load_7 : cX5_load.data.toList.drop 167 = dktX5_load_7 := dk_seg dksX5_load_6 23 rfl rfl
theorem dksX5_load_8 : cX5_load.data.toList.drop 190 = dktX5_load_8 := dk_seg dksX5_load_7 23 rfl rfl
theorem dksX5_load_9 : cX5_load.data.toList.drop 212 = dktX5_load_9 := dk_seg dksX5_load_8 22 rfl rfl
theorem dX5_load_0 : decode cX5_load 0 = .ok (.aload_n 0, 1) := dk_42 (dk_at dksX5_load_0 0 rfl rfl)
theorem dX5_load_1 : decode cX5_load 1 = .ok (.iconst 0, 1) := dk_3 (dk_at dksX5_load_0 1 rfl rfl)
theorem dX5_load_2 : decode cX5_load 2 = .ok (.putfield 47, 3) := dk_181 0 47 (dk_at dksX5_load_0 2 rfl rfl)
theorem dX5_load_5 : decode cX5_load 5 = .ok (.iload_n 1, 1) := dk_27 (dk_at dksX5_load_0 5 rfl rfl)
theorem dX5_load_6 : decode cX5_load 6 = .ok (.ifCond .lt 11, 3) := dk_155 0 11 (dk_at dksX5_load_0 6 rfl rfl)
theorem dX5_load_9 : decode cX5_load 9 = .ok (.iload_n 1, 1) := dk_27 (dk_at dksX5_load_0 9 rfl rfl)
theorem dX5_load_10 : decode cX5_load 10 = .ok (.aload_n 0, 1) := dk_42 (dk_at dksX5_load_0 10 rfl rfl)
theorem dX5_load_11 : decode cX5_load 11 = .ok (.getfield 50, 3) := dk_180 0 50 (dk_at dksX5_load_0 11 rfl rfl)
theorem dX5_load_14 : decode cX5_load 14 = .ok (.if_icmp .le 6, 3) := dk_164 0 6 (dk_at dksX5_load_0 14 rfl rfl)
theorem dX5_load_17 : decode cX5_load 17 = .ok (.bipush (-2), 2) := dk_16 254 (dk_at dksX5_load_0 17 rfl rfl)
theorem dX5_load_19 : decode cX5_load 19 = .ok (.ireturn, 1) := dk_172 (dk_at dksX5_load_0 19 rfl rfl)
theorem dX5_load_20 : decode cX5_load 20 = .ok (.aload_n 0, 1) := dk_42 (dk_at dksX5_load_0 20 rfl rfl)
theorem dX5_load_21 : decode cX5_load 21 = .ok (.getfield 13, 3) := dk_180 0 13 (dk_at dksX5_load_0 21 rfl rfl)
theorem dX5_load_24 : decode cX5_load 24 = .ok (.aload_n 0, 1) := dk_42 (dk_at dksX5_load_1 0 rfl rfl)
theorem dX5_load_25 : decode cX5_load 25 = .ok (.getfield 16, 3) := dk_180 0 16 (dk_at dksX5_load_1 1 rfl rfl)
theorem dX5_load_28 : decode cX5_load 28 = .ok (.invokestatic 279, 3) := dk_184 1 23 (dk_at dksX5_load_1 4 rfl rfl)
theorem dX5_load_31 : decode cX5_load 31 = .ok (.aload_n 0, 1) := dk_42 (dk_at dksX5_load_1 7 rfl rfl)
theorem dX5_load_32 : decode cX5_load 32 = .ok (.getfield 19, 3) := dk_180 0 19 (dk_at dksX5_load_1 8 rfl rfl)
theorem dX5_load_35 : decode cX5_load 35 = .ok (.aload_n 0, 1) := dk_42 (dk_at dksX5_load_1 11 rfl rfl)
theorem dX5_load_36 : decode cX5_load 36 = .ok (.getfield 22, 3) := dk_180 0 22 (dk_at dksX5_load_1 12 rfl rfl)
theorem dX5_load_39 : decode cX5_load 39 = .ok (.invokestatic 279, 3) := dk_184 1 23 (dk_at dksX5_load_1 15 rfl rfl)
theorem dX5_load_42 : decode cX5_load 42 = .ok (.aload_n 0, 1) := dk_42 (dk_at dksX5_load_1 18 rfl rfl)
theorem dX5_load_43 : decode cX5_load 43 = .ok (.invokevirtual 44, 3) := dk_182 0 44 (dk_at dksX5_load_1 19 rfl rfl)
theorem dX5_load_46 : decode cX5_load 46 = .ok (.aload_n 0, 1) := dk_42 (dk_at dksX5_load_1 22 rfl rfl)
theorem dX5_load_47 : decode cX5_load 47 = .ok (.iload_n 1, 1) := dk_27 (dk_at dksX5_load_1 23 rfl rfl)
theorem dX5_load_48 : decode cX5_load 48 = .ok (.putfield 164, 3) := dk_181 0 164 (dk_at dksX5_load_2 0 rfl rfl)
theorem dX5_load_51 : decode cX5_load 51 = .ok (.aload_n 0, 1) := dk_42 (dk_at dksX5_load_2 3 rfl rfl)
theorem dX5_load_52 : decode cX5_load 52 = .ok (.iconst 0, 1) := dk_3 (dk_at dksX5_load_2 4 rfl rfl)
theorem dX5_load_53 : decode cX5_load 53 = .ok (.putfield 161, 3) := dk_181 0 161 (dk_at dksX5_load_2 5 rfl rfl)
theorem dX5_load_56 : decode cX5_load 56 = .ok (.aload_n 0, 1) := dk_42 (dk_at dksX5_load_2 8 rfl rfl)
theorem dX5_load_57 : decode cX5_load 57 = .ok (.iconst 0, 1) := dk_3 (dk_at dksX5_load_2 9 rfl rfl)
theorem dX5_load_58 : decode cX5_load 58 = .ok (.putfield 194, 3) := dk_181 0 194 (dk_at dksX5_load_2 10 rfl rfl)
theorem dX5_load_61 : decode cX5_load 61 = .ok (.aload_n 0, 1) := dk_42 (dk_at dksX5_load_2 13 rfl rfl)
theorem dX5_load_62 : decode cX5_load 62 = .ok (.iconst 0, 1) := dk_3 (dk_at dksX5_load_2 14 rfl rfl)
theorem dX5_load_63 : decode cX5_load 63 = .ok (.putfield 276, 3) := dk_181 1 20 (dk_at dksX5_load_2 15 rfl rfl)
theorem dX5_load_66 : decode cX5_load 66 = .ok (.aload_n 0, 1) := dk_42 (dk_at dksX5_load_2 18 rfl rfl)
theorem dX5_load_67 : decode cX5_load 67 = .ok (.iconst 0, 1) := dk_3 (dk_at dksX5_load_2 19 rfl rfl)
theorem dX5_load_68 : decode cX5_load 68 = .ok (.putfield 247, 3) := dk_181 0 247 (dk_at dksX5_load_2 20 rfl rfl)
theorem dX5_load_71 : decode cX5_load 71 = .ok (.aload_n 0, 1) := dk_42 (dk_at dksX5_load_2 23 rfl rfl)
theorem dX5_load_72 : decode cX5_load 72 = .ok (.iconst 0, 1) := dk_3 (dk_at dksX5_load_3 0 rfl rfl)
theorem dX5_load_73 : decode cX5_load 73 = .ok (.putfield 216, 3) := dk_181 0 216 (dk_at dksX5_load_3 1 rfl rfl)
theorem dX5_load_76 : decode cX5_load 76 = .ok (.aload_n 0, 1) := dk_42 (dk_at dksX5_load_3 4 rfl rfl)
theorem dX5_load_77 : decode cX5_load 77 = .ok (.invokevirtual 200, 3) := dk_182 0 200 (dk_at dksX5_load_3 5 rfl rfl)
theorem dX5_load_80 : decode cX5_load 80 = .ok (.aload_n 0, 1) := dk_42 (dk_at dksX5_load_3 8 rfl rfl)
theorem dX5_load_81 : decode cX5_load 81 = .ok (.getfield 194, 3) := dk_180 0 194 (dk_at dksX5_load_3 9 rfl rfl)
theorem dX5_load_84 : decode cX5_load 84 = .ok (.ifCond .ne 18, 3) := dk_154 0 18 (dk_at dksX5_load_3 12 rfl rfl)
theorem dX5_load_87 : decode cX5_load 87 = .ok (.aload_n 0, 1) := dk_42 (dk_at dksX5_load_3 15 rfl rfl)
theorem dX5_load_88 : decode cX5_load 88 = .ok (.getfield 173, 3) := dk_180 0 173 (dk_at dksX5_load_3 16 rfl rfl)
theorem dX5_load_91 : decode cX5_load 91 = .ok (.iconst 3, 1) := dk_6 (dk_at dksX5_load_3 19 rfl rfl)
theorem dX5_load_92 : decode cX5_load 92 = .ok (.if_icmp .eq 10, 3) := dk_159 0 10 (dk_at dksX5_load_3 20 rfl rfl)
theorem dX5_load_95 : decode cX5_load 95 = .ok (.aload_n 0, 1) := dk_42 (dk_at dksX5_load_3 23 rfl rfl)
theorem dX5_load_96 : decode cX5_load 96 = .ok (.invokevirtual 283, 3) := dk_182 1 27 (dk_at dksX5_load_4 0 rfl rfl)
theorem dX5_load_99 : decode cX5_load 99 = .ok (.goto (-19), 3) := dk_167 255 237 (dk_at dksX5_load_4 3 rfl rfl)
theorem dX5_load_102 : decode cX5_load 102 = .ok (.aload_n 0, 1) := dk_42 (dk_at dksX5_load_4 6 rfl rfl)
theorem dX5_load_103 : decode cX5_load 103 = .ok (.iconst 0, 1) := dk_3 (dk_at dksX5_load_4 7 rfl rfl)
theorem dX5_load_104 : decode cX5_load 104 = .ok (.putfield 50, 3) := dk_181 0 50 (dk_at dksX5_load_4 8 rfl rfl)
theorem dX5_load_107 : decode cX5_load 107 = .ok (.aload_n 0, 1) := dk_42 (dk_at dksX5_load_4 11 rfl rfl)
theorem dX5_load_108 : decode cX5_load 108 = .ok (.aload_n 0, 1) := dk_42 (dk_at dksX5_load_4 12 rfl rfl)
theorem dX5_load_109 : decode cX5_load 109 = .ok (.getfield 194, 3) := dk_180 0 194 (dk_at dksX5_load_4 13 rfl rfl)
theorem dX5_load_112 : decode cX5_load 112 = .ok (.ifCond .ne 7, 3) := dk_154 0 7 (dk_at dksX5_load_4 16 rfl rfl)
theorem dX5_load_115 : decode cX5_load 115 = .ok (.iconst (-1), 1) := dk_2 (dk_at dksX5_load_4 19 rfl rfl)
theorem dX5_load_116 : decode cX5_load 116 = .ok (.goto 7, 3) := dk_167 0 7 (dk_at dksX5_load_4 20 rfl rfl)
theorem dX5_load_119 : decode cX5_load 119 = .ok (.aload_n 0, 1) := dk_42 (dk_at dksX5_load_4 23 rfl rfl)
theorem dX5_load_120 : decode cX5_load 120 = .ok (.getfield 197, 3) := dk_180 0 197 (dk_at dksX5_load_5 0 rfl rfl)
theorem dX5_load_123 : decode cX5_load 123 = .ok (.putfield 37, 3) := dk_181 0 37 (dk_at dksX5_load_5 3 rfl rfl)
theorem dX5_load_126 : decode cX5_load 126 = .ok (.aload_n 0, 1) := dk_42 (dk_at dksX5_load_5 6 rfl rfl)
theorem dX5_load_127 : decode cX5_load 127 = .ok (.getfield 194, 3) := dk_180 0 194 (dk_at dksX5_load_5 7 rfl rfl)
theorem dX5_load_130 : decode cX5_load 130 = .ok (.ifCond .eq 30, 3) := dk_153 0 30 (dk_at dksX5_load_5 10 rfl rfl)
theorem dX5_load_133 : decode cX5_load 133 = .ok (.aload_n 0, 1) := dk_42 (dk_at dksX5_load_5 13 rfl rfl)
theorem dX5_load_134 : decode cX5_load 134 = .ok (.getfield 16, 3) := dk_180 0 16 (dk_at dksX5_load_5 14 rfl rfl)
theorem dX5_load_137 : decode cX5_load 137 = .ok (.aload_n 0, 1) := dk_42 (dk_at dksX5_load_5 17 rfl rfl)
theorem dX5_load_138 : decode cX5_load 138 = .ok (.getfield 13, 3) := dk_180 0 13 (dk_at dksX5_load_5 18 rfl rfl)
theorem dX5_load_141 : decode cX5_load 141 = .ok (.invokestatic 279, 3) := dk_184 1 23 (dk_at dksX5_load_5 21 rfl rfl)
theorem dX5_load_144 : decode cX5_load 144 = .ok (.aload_n 0, 1) := dk_42 (dk_at dksX5_load_6 0 rfl rfl)
theorem dX5_load_145 : decode cX5_load 145 = .ok (.getfield 22, 3) := dk_180 0 22 (dk_at dksX5_load_6 1 rfl rfl)
theorem dX5_load_148 : decode cX5_load 148 = .ok (.aload_n 0, 1) := dk_42 (dk_at dksX5_load_6 4 rfl rfl)
theorem dX5_load_149 : decode cX5_load 149 = .ok (.getfield 19, 3) := dk_180 0 19 (dk_at dksX5_load_6 5 rfl rfl)
theorem dX5_load_152 : decode cX5_load 152 = .ok (.invokestatic 279, 3) := dk_184 1 23 (dk_at dksX5_load_6 8 rfl rfl)
theorem dX5_load_155 : decode cX5_load 155 = .ok (.aload_n 0, 1) := dk_42 (dk_at dksX5_load_6 11 rfl rfl)
theorem dX5_load_156 : decode cX5_load 156 = .ok (.getfield 194, 3) := dk_180 0 194 (dk_at dksX5_load_6 12 rfl rfl)
theorem dX5_load_159 : decode cX5_load 159 = .ok (.ireturn, 1) := dk_172 (dk_at dksX5_load_6 15 rfl rfl)
theorem dX5_load_160 : decode cX5_load 160 = .ok (.iconst 0, 1) := dk_3 (dk_at dksX5_load_6 16 rfl rfl)
theorem dX5_load_161 : decode cX5_load 161 = .ok (.istore_n 2, 1) := dk_61 (dk_at dksX5_load_6 17 rfl rfl)
theorem dX5_load_162 : decode cX5_load 162 = .ok (.iload_n 2, 1) := dk_28 (dk_at dksX5_load_6 18 rfl rfl)
theorem dX5_load_163 : decode cX5_load 163 = .ok (.aload_n 0, 1) := dk_42 (dk_at dksX5_load_6 19 rfl rfl)
theorem dX5_load_164 : decode cX5_load 164 = .ok (.invokevirtual 114, 3) := dk_182 0 114 (dk_at dksX5_load_6 20 rfl rfl)
theorem dX5_load_167 : decode cX5_load 167 = .ok (.if_icmp .ge 43, 3) := dk_162 0 43 (dk_at dksX5_load_7 0 rfl rfl)
theorem dX5_load_170 : decode cX5_load 170 = .ok (.iconst 0, 1) := dk_3 (dk_at dksX5_load_7 3 rfl rfl)
theorem dX5_load_171 : decode cX5_load 171 = .ok (.istore_n 3, 1) := dk_62 (dk_at dksX5_load_7 4 rfl rfl)
theorem dX5_load_172 : decode cX5_load 172 = .ok (.iload_n 3, 1) := dk_29 (dk_at dksX5_load_7 5 rfl rfl)
theorem dX5_load_173 : decode cX5_load 173 = .ok (.bipush 16, 2) := dk_16 16 (dk_at dksX5_load_7 6 rfl rfl)
theorem dX5_load_175 : decode cX5_load 175 = .ok (.if_icmp .ge 24, 3) := dk_162 0 24 (dk_at dksX5_load_7 8 rfl rfl)
theorem dX5_load_178 : decode cX5_load 178 = .ok (.aload_n 0, 1) := dk_42 (dk_at dksX5_load_7 11 rfl rfl)
theorem dX5_load_179 : decode cX5_load 179 = .ok (.iload_n 2, 1) := dk_28 (dk_at dksX5_load_7 12 rfl rfl)
theorem dX5_load_180 : decode cX5_load 180 = .ok (.bipush 7, 2) := dk_16 7 (dk_at dksX5_load_7 13 rfl rfl)
theorem dX5_load_182 : decode cX5_load 182 = .ok (.iload_n 3, 1) := dk_29 (dk_at dksX5_load_7 15 rfl rfl)
theorem dX5_load_183 : decode cX5_load 183 = .ok (.iadd, 1) := dk_96 (dk_at dksX5_load_7 16 rfl rfl)
theorem dX5_load_184 : decode cX5_load 184 = .ok (.aload_n 0, 1) := dk_42 (dk_at dksX5_load_7 17 rfl rfl)
theorem dX5_load_185 : decode cX5_load 185 = .ok (.getfield 13, 3) := dk_180 0 13 (dk_at dksX5_load_7 18 rfl rfl)
theorem dX5_load_188 : decode cX5_load 188 = .ok (.iload_n 3, 1) := dk_29 (dk_at dksX5_load_7 21 rfl rfl)
theorem dX5_load_189 : decode cX5_load 189 = .ok (.iaload, 1) := dk_46 (dk_at dksX5_load_7 22 rfl rfl)
theorem dX5_load_190 : decode cX5_load 190 = .ok (.invokevirtual 99, 3) := dk_182 0 99 (dk_at dksX5_load_8 0 rfl rfl)
theorem dX5_load_193 : decode cX5_load 193 = .ok (.iinc 3 1, 3) := dk_132 3 1 (dk_at dksX5_load_8 3 rfl rfl)
theorem dX5_load_196 : decode cX5_load 196 = .ok (.goto (-24), 3) := dk_167 255 232 (dk_at dksX5_load_8 6 rfl rfl)
theorem dX5_load_199 : decode cX5_load 199 = .ok (.aload_n 0, 1) := dk_42 (dk_at dksX5_load_8 9 rfl rfl)
theorem dX5_load_200 : decode cX5_load 200 = .ok (.iload_n 2, 1) := dk_28 (dk_at dksX5_load_8 10 rfl rfl)
theorem dX5_load_201 : decode cX5_load 201 = .ok (.invokevirtual 111, 3) := dk_182 0 111 (dk_at dksX5_load_8 11 rfl rfl)
theorem dX5_load_204 : decode cX5_load 204 = .ok (.iinc 2 1, 3) := dk_132 2 1 (dk_at dksX5_load_8 14 rfl rfl)
theorem dX5_load_207 : decode cX5_load 207 = .ok (.goto (-45), 3) := dk_167 255 211 (dk_at dksX5_load_8 17 rfl rfl)
theorem dX5_load_210 : decode cX5_load 210 = .ok (.aload_n 0, 1) := dk_42 (dk_at dksX5_load_8 20 rfl rfl)
theorem dX5_load_211 : decode cX5_load 211 = .ok (.iconst 0, 1) := dk_3 (dk_at dksX5_load_8 21 rfl rfl)
theorem dX5_load_212 : decode cX5_load 212 = .ok (.putfield 286, 3) := dk_181 1 30 (dk_at dksX5_load_9 0 rfl rfl)
theorem dX5_load_215 : decode cX5_load 215 = .ok (.aload_n 0, 1) := dk_42 (dk_at dksX5_load_9 3 rfl rfl)
theorem dX5_load_216 : decode cX5_load 216 = .ok (.getfield 276, 3) := dk_180 1 20 (dk_at dksX5_load_9 4 rfl rfl)
theorem dX5_load_219 : decode cX5_load 219 = .ok (.ireturn, 1) := dk_172 (dk_at dksX5_load_9 7 rfl rfl)
def dkwX5_copies_0 : List UInt8 := [3, 61, 28, 42, 190, 162, 0, 15, 43, 28, 42, 28, 46, 79, 132, 2, 1, 167, 255, 241, 177]
abbrev dktX5_copies_0 : List UInt8 := dkwX5_copies_0 ++ []
theorem dksX5_copies_0 : cX5_copies.data.toList.drop 0 = dktX5_copies_0 := by decide +kernel
theorem dX5_copies_0 : decode cX5_copies 0 = .ok (.iconst 0, 1) := dk_3 (dk_at dksX5_copies_0 0 rfl rfl)
theorem dX5_copies_1 : decode cX5_copies 1 = .ok (.istore_n 2, 1) := dk_61 (dk_at dksX5_copies_0 1 rfl rfl)
theorem dX5_copies_2 : decode cX5_copies 2 = .ok (.iload_n 2, 1) := dk_28 (dk_at dksX5_copies_0 2 rfl rfl)
theorem dX5_copies_3 : decode cX5_copies 3 = .ok (.aload_n 0, 1) := dk_42 (dk_at dksX5_copies_0 3 rfl rfl)
theorem dX5_copies_4 : decode cX5_copies 4 = .ok (.arraylength, 1) := dk_190 (dk_at dksX5_copies_0 4 rfl rfl)
theorem dX5_copies_5 : decode cX5_copies 5 = .ok (.if_icmp .ge 15, 3) := dk_162 0 15 (dk_at dksX5_copies_0 5 rfl rfl)
theorem dX5_copies_8 : decode cX5_copies 8 = .ok (.aload_n 1, 1) := dk_43 (dk_at dksX5_copies_0 8 rfl rfl)
theorem dX5_copies_9 : decode cX5_copies 9 = .ok (.iload_n 2, 1) := dk_28 (dk_at dksX5_copies_0 9 rfl rfl)
theorem dX5_copies_10 : decode cX5_copies 10 = .ok (.aload_n 0, 1) := dk_42 (dk_at dksX5_copies_0 10 rfl rfl)
theorem dX5_copies_11 : decode cX5_copies 11 = .ok (.iload_n 2, 1) := dk_28 (dk_at dksX5_copies_0 11 rfl rfl)
theorem dX5_copies_12 : decode cX5_copies 12 = .ok (.iaload, 1) := dk_46 (dk_at dksX5_copies_0 12 rfl rfl)
theorem dX5_copies_13 : decode cX5_copies 13 = .ok (.iastore, 1) := dk_79 (dk_at dksX5_copies_0 13 rfl rfl)
theorem dX5_copies_14 : decode cX5_copies 14 = .ok (.iinc 2 1, 3) := dk_132 2 1 (dk_at dksX5_copies_0 14 rfl rfl)
theorem dX5_copies_17 : decode cX5_copies 17 = .ok (.goto (-15), 3) := dk_167 255 241 (dk_at dksX5_copies_0 17 rfl rfl)
theorem dX5_copies_20 : decode cX5_copies 20 = .ok (.return_, 1) := dk_177 (dk_at dksX5_copies_0 20 rfl rfl)
def dkwX5_next_8 : List UInt8 := [180, 0, 161, 4, 96, 181, 0, 161, 177]
abbrev dktX5_next_8 : List UInt8 := dkwX5_next_8 ++ []
def dkwX5_next_7 : List UInt8 := [96, 181, 0, 161, 167, 255, 201, 42, 27, 16, 59, 160, 0, 7, 5, 167, 0, 4, 7, 181, 0, 173, 42, 89]
abbrev dktX5_next_7 : List UInt8 := dkwX5_next_7 ++ dktX5_next_8
def dkwX5_next_6 : List UInt8 := [16, 10, 42, 180, 0, 182, 104, 42, 182, 0, 167, 96, 16, 48, 100, 181, 0, 182, 42, 89, 180, 0, 161, 4]
abbrev dktX5_next_6 : List UInt8 := dkwX5_next_6 ++ dktX5_next_7
def dkwX5_next_5 : List UInt8 := [184, 0, 179, 153, 0, 76, 42, 42, 180, 0, 182, 18, 185, 164, 0, 10, 42, 180, 0, 182, 167, 0, 18]
abbrev dktX5_next_5 : List UInt8 := dkwX5_next_5 ++ dktX5_next_6
def dkwX5_next_4 : List UInt8 := [167, 0, 103, 27, 184, 0, 179, 153, 0, 71, 42, 4, 181, 0, 173, 42, 3, 181, 0, 182, 42, 182, 0, 167]
abbrev dktX5_next_4 : List UInt8 := dkwX5_next_4 ++ dktX5_next_5
def dkwX5_next_3 : List UInt8 := [184, 0, 176, 153, 0, 16, 42, 89, 180, 0, 161, 4, 96, 181, 0, 161, 167, 255, 236, 42, 3, 181, 0, 173]
abbrev dktX5_next_3 : List UInt8 := dkwX5_next_3 ++ dktX5_next_4
def dkwX5_next_2 : List UInt8 := [160, 0, 11, 42, 6, 181, 0, 173, 167, 0, 141, 27, 184, 0, 176, 153, 0, 34, 42, 182, 0, 167]
abbrev dktX5_next_2 : List UInt8 := dkwX5_next_2 ++ dktX5_next_3
def dkwX5_next_1 : List UInt8 := [96, 181, 0, 161, 167, 255, 228, 42, 42, 180, 0, 161, 181, 0, 170, 42, 182, 0, 167, 60, 27, 2]
abbrev dktX5_next_1 : List UInt8 := dkwX5_next_1 ++ dktX5_next_2
def dkwX5_next_0 : List UInt8 := [42, 182, 0, 167, 16, 10, 159, 0, 12, 42, 182, 0, 167, 16, 32, 160, 0, 16, 42, 89, 180, 0, 161, 4]
abbrev dktX5_next_0 : List UInt8 := dkwX5_next_0 ++ dktX5_next_1
theorem dksX5_next_0 : cX5_next.data.toList.drop 0 = dktX5_next_0 := by decide +kernel
theorem dksX5_next_1 : cX5_next.data.toList.drop 24 = dktX5_next_1 := dk_seg dksX5_next_0 24 rfl rfl
theorem dksX5_next_2 : cX5_next.data.toList.drop 46 = dktX5_next_2 := dk_seg dksX5_next_1 22 rfl rfl
theorem dksX5_next_3 : cX5_next.data.toList.drop 68 = dktX5_next_3 := dk_seg dksX5_next_2 22 rfl rfl
theorem dksX5_next_4 : cX5_next.data.toList.drop 92 = dktX5_next_4 := dk_seg dksX5_next_3 24 rfl rfl
theorem dksX5_next_5 : cX5_next.data.toList.drop 116 = dktX5_next_5 := dk_seg dksX5_next_4 24 rfl rfl
theorem dksX5_next_6 : cX5_next.data.toList.drop 139 = dktX5_next_6 := dk_seg dksX5_next_5 23 rfl rfl
theorem dksX5_next_7 : cX5_next.data.toList.drop 163 = dktX5_next_7 := dk_seg dksX5_next_6 24 rfl rfl
theorem dksX5_next_8 : cX5_next.data.toList.drop 187 = dktX5_next_8 := dk_seg dksX5_next_7 24 rfl rfl
theorem dX5_next_0 : decode cX5_next 0 = .ok (.aload_n 0, 1) := dk_42 (dk_at dksX5_next_0 0 rfl rfl)
theorem dX5_next_1 : decode cX5_next 1 = .ok (.invokevirtual 167, 3) := dk_182 0 167 (dk_at dksX5_next_0 1 rfl rfl)
theorem dX5_next_4 : decode cX5_next 4 = .ok (.bipush 10, 2) := dk_16 10 (dk_at dksX5_next_0 4 rfl rfl)
theorem dX5_next_6 : decode cX5_next 6 = .ok (.if_icmp .eq 12, 3) := dk_159 0 12 (dk_at dksX5_next_0 6 rfl rfl)
theorem dX5_next_9 : decode cX5_next 9 = .ok (.aload_n 0, 1) := dk_42 (dk_at dksX5_next_0 9 rfl rfl)
theorem dX5_next_10 : decode cX5_next 10 = .ok (.invokevirtual 167, 3) := dk_182 0 167 (dk_at dksX5_next_0 10 rfl rfl)
theorem dX5_next_13 : decode cX5_next 13 = .ok (.bipush 32, 2) := dk_16 32 (dk_at dksX5_next_0 13 rfl rfl)
theorem dX5_next_15 : decode cX5_next 15 = .ok (.if_icmp .ne 16, 3) := dk_160 0 16 (dk_at dksX5_next_0 15 rfl rfl)
theorem dX5_next_18 : decode cX5_next 18 = .ok (.aload_n 0, 1) := dk_42 (dk_at dksX5_next_0 18 rfl rfl)
theorem dX5_next_19 : decode cX5_next 19 = .ok (.dup, 1) := dk_89 (dk_at dksX5_next_0 19 rfl rfl)
theorem dX5_next_20 : decode cX5_next 20 = .ok (.getfield 161, 3) := dk_180 0 161 (dk_at dksX5_next_0 20 rfl rfl)
theorem dX5_next_23 : decode cX5_next 23 = .ok (.iconst 1, 1) := dk_4 (dk_at dksX5_next_0 23 rfl rfl)
theorem dX5_next_24 : decode cX5_next 24 = .ok (.iadd, 1) := dk_96 (dk_at dksX5_next_1 0 rfl rfl)
theorem dX5_next_25 : decode cX5_next 25 = .ok (.putfield 161, 3) := dk_181 0 161 (dk_at dksX5_next_1 1 rfl rfl)
theorem dX5_next_28 : decode cX5_next 28 = .ok (.goto (-28), 3) := dk_167 255 228 (dk_at dksX5_next_1 4 rfl rfl)
theorem dX5_next_31 : decode cX5_next 31 = .ok (.aload_n 0, 1) := dk_42 (dk_at dksX5_next_1 7 rfl rfl)
theorem dX5_next_32 : decode cX5_next 32 = .ok (.aload_n 0, 1) := dk_42 (dk_at dksX5_next_1 8 rfl rfl)
theorem dX5_next_33 : decode cX5_next 33 = .ok (.getfield 161, 3) := dk_180 0 161 (dk_at dksX5_next_1 9 rfl rfl)
theorem dX5_next_36 : decode cX5_next 36 = .ok (.putfield 170, 3) := dk_181 0 170 (dk_at dksX5_next_1 12 rfl rfl)
theorem dX5_next_39 : decode cX5_next 39 = .ok (.aload_n 0, 1) := dk_42 (dk_at dksX5_next_1 15 rfl rfl)
theorem dX5_next_40 : decode cX5_next 40 = .ok (.invokevirtual 167, 3) := dk_182 0 167 (dk_at dksX5_next_1 16 rfl rfl)
theorem dX5_next_43 : decode cX5_next 43 = .ok (.istore_n 1, 1) := dk_60 (dk_at dksX5_next_1 19 rfl rfl)
theorem dX5_next_44 : decode cX5_next 44 = .ok (.iload_n 1, 1) := dk_27 (dk_at dksX5_next_1 20 rfl rfl)
theorem dX5_next_45 : decode cX5_next 45 = .ok (.iconst (-1), 1) := dk_2 (dk_at dksX5_next_1 21 rfl rfl)
theorem dX5_next_46 : decode cX5_next 46 = .ok (.if_icmp .ne 11, 3) := dk_160 0 11 (dk_at dksX5_next_2 0 rfl rfl)
theorem dX5_next_49 : decode cX5_next 49 = .ok (.aload_n 0, 1) := dk_42 (dk_at dksX5_next_2 3 rfl rfl)
theorem dX5_next_50 : decode cX5_next 50 = .ok (.iconst 3, 1) := dk_6 (dk_at dksX5_next_2 4 rfl rfl)
theorem dX5_next_51 : decode cX5_next 51 = .ok (.putfield 173, 3) := dk_181 0 173 (dk_at dksX5_next_2 5 rfl rfl)
theorem dX5_next_54 : decode cX5_next 54 = .ok (.goto 141, 3) := dk_167 0 141 (dk_at dksX5_next_2 8 rfl rfl)
theorem dX5_next_57 : decode cX5_next 57 = .ok (.iload_n 1, 1) := dk_27 (dk_at dksX5_next_2 11 rfl rfl)
theorem dX5_next_58 : decode cX5_next 58 = .ok (.invokestatic 176, 3) := dk_184 0 176 (dk_at dksX5_next_2 12 rfl rfl)
theorem dX5_next_61 : decode cX5_next 61 = .ok (.ifCond .eq 34, 3) := dk_153 0 34 (dk_at dksX5_next_2 15 rfl rfl)
theorem dX5_next_64 : decode cX5_next 64 = .ok (.aload_n 0, 1) := dk_42 (dk_at dksX5_next_2 18 rfl rfl)
theorem dX5_next_65 : decode cX5_next 65 = .ok (.invokevirtual 167, 3) := dk_182 0 167 (dk_at dksX5_next_2 19 rfl rfl)
theorem dX5_next_68 : decode cX5_next 68 = .ok (.invokestatic 176, 3) := dk_184 0 176 (dk_at dksX5_next_3 0 rfl rfl)
theorem dX5_next_71 : decode cX5_next 71 = .ok (.ifCond .eq 16, 3) := dk_153 0 16 (dk_at dksX5_next_3 3 rfl rfl)
theorem dX5_next_74 : decode cX5_next 74 = .ok (.aload_n 0, 1) := dk_42 (dk_at dksX5_next_3 6 rfl rfl)
theorem dX5_next_75 : decode cX5_next 75 = .ok (.dup, 1) := dk_89 (dk_at dksX5_next_3 7 rfl rfl)
theorem dX5_next_76 : decode cX5_next 76 = .ok (.getfield 161, 3) := dk_180 0 161 (dk_at dksX5_next_3 8 rfl rfl)
theorem dX5_next_79 : decode cX5_next 79 = .ok (.iconst 1, 1) := dk_4 (dk_at dksX5_next_3 11 rfl rfl)
theorem dX5_next_80 : decode cX5_next 80 = .ok (.iadd, 1) := dk_96 (dk_at dksX5_next_3 12 rfl rfl)
theorem dX5_next_81 : decode cX5_next 81 = .ok (.putfield 161, 3) := dk_181 0 161 (dk_at dksX5_next_3 13 rfl rfl)
theorem dX5_next_84 : decode cX5_next 84 = .ok (.goto (-20), 3) := dk_167 255 236 (dk_at dksX5_next_3 16 rfl rfl)
theorem dX5_next_87 : decode cX5_next 87 = .ok (.aload_n 0, 1) := dk_42 (dk_at dksX5_next_3 19 rfl rfl)
theorem dX5_next_88 : decode cX5_next 88 = .ok (.iconst 0, 1) := dk_3 (dk_at dksX5_next_3 20 rfl rfl)
theorem dX5_next_89 : decode cX5_next 89 = .ok (.putfield 173, 3) := dk_181 0 173 (dk_at dksX5_next_3 21 rfl rfl)
theorem dX5_next_92 : decode cX5_next 92 = .ok (.goto 103, 3) := dk_167 0 103 (dk_at dksX5_next_4 0 rfl rfl)
theorem dX5_next_95 : decode cX5_next 95 = .ok (.iload_n 1, 1) := dk_27 (dk_at dksX5_next_4 3 rfl rfl)
theorem dX5_next_96 : decode cX5_next 96 = .ok (.invokestatic 179, 3) := dk_184 0 179 (dk_at dksX5_next_4 4 rfl rfl)
theorem dX5_next_99 : decode cX5_next 99 = .ok (.ifCond .eq 71, 3) := dk_153 0 71 (dk_at dksX5_next_4 7 rfl rfl)
theorem dX5_next_102 : decode cX5_next 102 = .ok (.aload_n 0, 1) := dk_42 (dk_at dksX5_next_4 10 rfl rfl)
theorem dX5_next_103 : decode cX5_next 103 = .ok (.iconst 1, 1) := dk_4 (dk_at dksX5_next_4 11 rfl rfl)
theorem dX5_next_104 : decode cX5_next 104 = .ok (.putfield 173, 3) := dk_181 0 173 (dk_at dksX5_next_4 12 rfl rfl)
theorem dX5_next_107 : decode cX5_next 107 = .ok (.aload_n 0, 1) := dk_42 (dk_at dksX5_next_4 15 rfl rfl)
theorem dX5_next_108 : decode cX5_next 108 = .ok (.iconst 0, 1) := dk_3 (dk_at dksX5_next_4 16 rfl rfl)
theorem dX5_next_109 : decode cX5_next 109 = .ok (.putfield 182, 3) := dk_181 0 182 (dk_at dksX5_next_4 17 rfl rfl)
theorem dX5_next_112 : decode cX5_next 112 = .ok (.aload_n 0, 1) := dk_42 (dk_at dksX5_next_4 20 rfl rfl)
theorem dX5_next_113 : decode cX5_next 113 = .ok (.invokevirtual 167, 3) := dk_182 0 167 (dk_at dksX5_next_4 21 rfl rfl)
theorem dX5_next_116 : decode cX5_next 116 = .ok (.invokestatic 179, 3) := dk_184 0 179 (dk_at dksX5_next_5 0 rfl rfl)
theorem dX5_next_119 : decode cX5_next 119 = .ok (.ifCond .eq 76, 3) := dk_153 0 76 (dk_at dksX5_next_5 3 rfl rfl)
theorem dX5_next_122 : decode cX5_next 122 = .ok (.aload_n 0, 1) := dk_42 (dk_at dksX5_next_5 6 rfl rfl)
theorem dX5_next_123 : decode cX5_next 123 = .ok (.aload_n 0, 1) := dk_42 (dk_at dksX5_next_5 7 rfl rfl)
theorem dX5_next_124 : decode cX5_next 124 = .ok (.getfield 182, 3) := dk_180 0 182 (dk_at dksX5_next_5 8 rfl rfl)
theorem dX5_next_127 : decode cX5_next 127 = .ok (.ldc 185, 2) := dk_18 185 (dk_at dksX5_next_5 11 rfl rfl)
theorem dX5_next_129 : decode cX5_next 129 = .ok (.if_icmp .le 10, 3) := dk_164 0 10 (dk_at dksX5_next_5 13 rfl rfl)
theorem dX5_next_132 : decode cX5_next 132 = .ok (.aload_n 0, 1) := dk_42 (dk_at dksX5_next_5 16 rfl rfl)
theorem dX5_next_133 : decode cX5_next 133 = .ok (.getfield 182, 3) := dk_180 0 182 (dk_at dksX5_next_5 17 rfl rfl)
theorem dX5_next_136 : decode cX5_next 136 = .ok (.goto 18, 3) := dk_167 0 18 (dk_at dksX5_next_5 20 rfl rfl)
theorem dX5_next_139 : decode cX5_next 139 = .ok (.bipush 10, 2) := dk_16 10 (dk_at dksX5_next_6 0 rfl rfl)
theorem dX5_next_141 : decode cX5_next 141 = .ok (.aload_n 0, 1) := dk_42 (dk_at dksX5_next_6 2 rfl rfl)
theorem dX5_next_142 : decode cX5_next 142 = .ok (.getfield 182, 3) := dk_180 0 182 (dk_at dksX5_next_6 3 rfl rfl)
theorem dX5_next_145 : decode cX5_next 145 = .ok (.imul, 1) := dk_104 (dk_at dksX5_next_6 6 rfl rfl)
theorem dX5_next_146 : decode cX5_next 146 = .ok (.aload_n 0, 1) := dk_42 (dk_at dksX5_next_6 7 rfl rfl)
theorem dX5_next_147 : decode cX5_next 147 = .ok (.invokevirtual 167, 3) := dk_182 0 167 (dk_at dksX5_next_6 8 rfl rfl)
theorem dX5_next_150 : decode cX5_next 150 = .ok (.iadd, 1) := dk_96 (dk_at dksX5_next_6 11 rfl rfl)
theorem dX5_next_151 : decode cX5_next 151 = .ok (.bipush 48, 2) := dk_16 48 (dk_at dksX5_next_6 12 rfl rfl)
theorem dX5_next_153 : decode cX5_next 153 = .ok (.isub, 1) := dk_100 (dk_at dksX5_next_6 14 rfl rfl)
theorem dX5_next_154 : decode cX5_next 154 = .ok (.putfield 182, 3) := dk_181 0 182 (dk_at dksX5_next_6 15 rfl rfl)
theorem dX5_next_157 : decode cX5_next 157 = .ok (.aload_n 0, 1) := dk_42 (dk_at dksX5_next_6 18 rfl rfl)
theorem dX5_next_158 : decode cX5_next 158 = .ok (.dup, 1) := dk_89 (dk_at dksX5_next_6 19 rfl rfl)
theorem dX5_next_159 : decode cX5_next 159 = .ok (.getfield 161, 3) := dk_180 0 161 (dk_at dksX5_next_6 20 rfl rfl)
theorem dX5_next_162 : decode cX5_next 162 = .ok (.iconst 1, 1) := dk_4 (dk_at dksX5_next_6 23 rfl rfl)
theorem dX5_next_163 : decode cX5_next 163 = .ok (.iadd, 1) := dk_96 (dk_at dksX5_next_7 0 rfl rfl)
theorem dX5_next_164 : decode cX5_next 164 = .ok (.putfield 161, 3) := dk_181 0 161 (dk_at dksX5_next_7 1 rfl rfl)
theorem dX5_next_167 : decode cX5_next 167 = .ok (.goto (-55), 3) := dk_167 255 201 (dk_at dksX5_next_7 4 rfl rfl)
theorem dX5_next_170 : decode cX5_next 170 = .ok (.aload_n 0, 1) := dk_42 (dk_at dksX5_next_7 7 rfl rfl)
theorem dX5_next_171 : decode cX5_next 171 = .ok (.iload_n 1, 1) := dk_27 (dk_at dksX5_next_7 8 rfl rfl)
theorem dX5_next_172 : decode cX5_next 172 = .ok (.bipush 59, 2) := dk_16 59 (dk_at dksX5_next_7 9 rfl rfl)
theorem dX5_next_174 : decode cX5_next 174 = .ok (.if_icmp .ne 7, 3) := dk_160 0 7 (dk_at dksX5_next_7 11 rfl rfl)
theorem dX5_next_177 : decode cX5_next 177 = .ok (.iconst 2, 1) := dk_5 (dk_at dksX5_next_7 14 rfl rfl)
theorem dX5_next_178 : decode cX5_next 178 = .ok (.goto 4, 3) := dk_167 0 4 (dk_at dksX5_next_7 15 rfl rfl)
theorem dX5_next_181 : decode cX5_next 181 = .ok (.iconst 4, 1) := dk_7 (dk_at dksX5_next_7 18 rfl rfl)
theorem dX5_next_182 : decode cX5_next 182 = .ok (.putfield 173, 3) := dk_181 0 173 (dk_at dksX5_next_7 19 rfl rfl)
theorem dX5_next_185 : decode cX5_next 185 = .ok (.aload_n 0, 1) := dk_42 (dk_at dksX5_next_7 22 rfl rfl)
theorem dX5_next_186 : decode cX5_next 186 = .ok (.dup, 1) := dk_89 (dk_at dksX5_next_7 23 rfl rfl)
theorem dX5_next_187 : decode cX5_next 187 = .ok (.getfield 161, 3) := dk_180 0 161 (dk_at dksX5_next_8 0 rfl rfl)
theorem dX5_next_190 : decode cX5_next 190 = .ok (.iconst 1, 1) := dk_4 (dk_at dksX5_next_8 3 rfl rfl)
theorem dX5_next_191 : decode cX5_next 191 = .ok (.iadd, 1) := dk_96 (dk_at dksX5_next_8 4 rfl rfl)
theorem dX5_next_192 : decode cX5_next 192 = .ok (.putfield 161, 3) := dk_181 0 161 (dk_at dksX5_next_8 5 rfl rfl)
theorem dX5_next_195 : decode cX5_next 195 = .ok (.return_, 1) := dk_177 (dk_at dksX5_next_8 8 rfl rfl)
def dkwX5_here_1 : List UInt8 := [172]
abbrev dktX5_here_1 : List UInt8 := dkwX5_here_1 ++ []
def dkwX5_here_0 : List UInt8 := [42, 180, 0, 161, 42, 180, 0, 164, 162, 0, 15, 42, 180, 0, 7, 42, 180, 0, 161, 46, 167, 0, 4, 2]
abbrev dktX5_here_0 : List UInt8 := dkwX5_here_0 ++ dktX5_here_1
theorem dksX5_here_0 : cX5_here.data.toList.drop 0 = dktX5_here_0 := by decide +kernel
theorem dksX5_here_1 : cX5_here.data.toList.drop 24 = dktX5_here_1 := dk_seg dksX5_here_0 24 rfl rfl
theorem dX5_here_0 : decode cX5_here 0 = .ok (.aload_n 0, 1) := dk_42 (dk_at dksX5_here_0 0 rfl rfl)
theorem dX5_here_1 : decode cX5_here 1 = .ok (.getfield 161, 3) := dk_180 0 161 (dk_at dksX5_here_0 1 rfl rfl)
theorem dX5_here_4 : decode cX5_here 4 = .ok (.aload_n 0, 1) := dk_42 (dk_at dksX5_here_0 4 rfl rfl)
theorem dX5_here_5 : decode cX5_here 5 = .ok (.getfield 164, 3) := dk_180 0 164 (dk_at dksX5_here_0 5 rfl rfl)
theorem dX5_here_8 : decode cX5_here 8 = .ok (.if_icmp .ge 15, 3) := dk_162 0 15 (dk_at dksX5_here_0 8 rfl rfl)
theorem dX5_here_11 : decode cX5_here 11 = .ok (.aload_n 0, 1) := dk_42 (dk_at dksX5_here_0 11 rfl rfl)
theorem dX5_here_12 : decode cX5_here 12 = .ok (.getfield 7, 3) := dk_180 0 7 (dk_at dksX5_here_0 12 rfl rfl)
theorem dX5_here_15 : decode cX5_here 15 = .ok (.aload_n 0, 1) := dk_42 (dk_at dksX5_here_0 15 rfl rfl)
theorem dX5_here_16 : decode cX5_here 16 = .ok (.getfield 161, 3) := dk_180 0 161 (dk_at dksX5_here_0 16 rfl rfl)
theorem dX5_here_19 : decode cX5_here 19 = .ok (.iaload, 1) := dk_46 (dk_at dksX5_here_0 19 rfl rfl)
theorem dX5_here_20 : decode cX5_here 20 = .ok (.goto 4, 3) := dk_167 0 4 (dk_at dksX5_here_0 20 rfl rfl)
theorem dX5_here_23 : decode cX5_here 23 = .ok (.iconst (-1), 1) := dk_2 (dk_at dksX5_here_0 23 rfl rfl)
theorem dX5_here_24 : decode cX5_here 24 = .ok (.ireturn, 1) := dk_172 (dk_at dksX5_here_1 0 rfl rfl)
def dkwX5_isSmall_0 : List UInt8 := [26, 16, 97, 161, 0, 13, 26, 16, 122, 163, 0, 7, 4, 167, 0, 4, 3, 172]
abbrev dktX5_isSmall_0 : List UInt8 := dkwX5_isSmall_0 ++ []
theorem dksX5_isSmall_0 : cX5_isSmall.data.toList.drop 0 = dktX5_isSmall_0 := by decide +kernel
theorem dX5_isSmall_0 : decode cX5_isSmall 0 = .ok (.iload_n 0, 1) := dk_26 (dk_at dksX5_isSmall_0 0 rfl rfl)
theorem dX5_isSmall_1 : decode cX5_isSmall 1 = .ok (.bipush 97, 2) := dk_16 97 (dk_at dksX5_isSmall_0 1 rfl rfl)
theorem dX5_isSmall_3 : decode cX5_isSmall 3 = .ok (.if_icmp .lt 13, 3) := dk_161 0 13 (dk_at dksX5_isSmall_0 3 rfl rfl)
theorem dX5_isSmall_6 : decode cX5_isSmall 6 = .ok (.iload_n 0, 1) := dk_26 (dk_at dksX5_isSmall_0 6 rfl rfl)
theorem dX5_isSmall_7 : decode cX5_isSmall 7 = .ok (.bipush 122, 2) := dk_16 122 (dk_at dksX5_isSmall_0 7 rfl rfl)
theorem dX5_isSmall_9 : decode cX5_isSmall 9 = .ok (.if_icmp .gt 7, 3) := dk_163 0 7 (dk_at dksX5_isSmall_0 9 rfl rfl)
theorem dX5_isSmall_12 : decode cX5_isSmall 12 = .ok (.iconst 1, 1) := dk_4 (dk_at dksX5_isSmall_0 12 rfl rfl)
theorem dX5_isSmall_13 : decode cX5_isSmall 13 = .ok (.goto 4, 3) := dk_167 0 4 (dk_at dksX5_isSmall_0 13 rfl rfl)
theorem dX5_isSmall_16 : decode cX5_isSmall 16 = .ok (.iconst 0, 1) := dk_3 (dk_at dksX5_isSmall_0 16 rfl rfl)
theorem dX5_isSmall_17 : decode cX5_isSmall 17 = .ok (.ireturn, 1) := dk_172 (dk_at dksX5_isSmall_0 17 rfl rfl)
def dkwX5_isDigit_0 : List UInt8 := [26, 16, 48, 161, 0, 13, 26, 16, 57, 163, 0, 7, 4, 167, 0, 4, 3, 172]
abbrev dktX5_isDigit_0 : List UInt8 := dkwX5_isDigit_0 ++ []
theorem dksX5_isDigit_0 : cX5_isDigit.data.toList.drop 0 = dktX5_isDigit_0 := by decide +kernel
theorem dX5_isDigit_0 : decode cX5_isDigit 0 = .ok (.iload_n 0, 1) := dk_26 (dk_at dksX5_isDigit_0 0 rfl rfl)
theorem dX5_isDigit_1 : decode cX5_isDigit 1 = .ok (.bipush 48, 2) := dk_16 48 (dk_at dksX5_isDigit_0 1 rfl rfl)
theorem dX5_isDigit_3 : decode cX5_isDigit 3 = .ok (.if_icmp .lt 13, 3) := dk_161 0 13 (dk_at dksX5_isDigit_0 3 rfl rfl)
theorem dX5_isDigit_6 : decode cX5_isDigit 6 = .ok (.iload_n 0, 1) := dk_26 (dk_at dksX5_isDigit_0 6 rfl rfl)
theorem dX5_isDigit_7 : decode cX5_isDigit 7 = .ok (.bipush 57, 2) := dk_16 57 (dk_at dksX5_isDigit_0 7 rfl rfl)
theorem dX5_isDigit_9 : decode cX5_isDigit 9 = .ok (.if_icmp .gt 7, 3) := dk_163 0 7 (dk_at dksX5_isDigit_0 9 rfl rfl)
theorem dX5_isDigit_12 : decode cX5_isDigit 12 = .ok (.iconst 1, 1) := dk_4 (dk_at dksX5_isDigit_0 12 rfl rfl)
theorem dX5_isDigit_13 : decode cX5_isDigit 13 = .ok (.goto 4, 3) := dk_167 0 4 (dk_at dksX5_isDigit_0 13 rfl rfl)
theorem dX5_isDigit_16 : decode cX5_isDigit 16 = .ok (.iconst 0, 1) := dk_3 (dk_at dksX5_isDigit_0 16 rfl rfl)
theorem dX5_isDigit_17 : decode cX5_isDigit 17 = .ok (.ireturn, 1) := dk_172 (dk_at dksX5_isDigit_0 17 rfl rfl)
def dkwX5_readStatement_5 : List UInt8 := [182, 0, 207, 42, 89, 180, 1, 20, 4, 96, 181, 1, 20, 177]
abbrev dktX5_readStatement_5 : List UInt8 := dkwX5_readStatement_5 ++ []
def dkwX5_readStatement_4 : List UInt8 := [182, 0, 203, 42, 42, 180, 0, 173, 5, 159, 0, 7, 4, 167, 0, 4, 3, 16, 245, 182, 0, 203, 42]
abbrev dktX5_readStatement_4 : List UInt8 := dkwX5_readStatement_4 ++ dktX5_readStatement_5
def dkwX5_readStatement_3 : List UInt8 := [182, 1, 11, 167, 0, 24, 42, 182, 1, 14, 167, 0, 17, 42, 182, 1, 17, 167, 0, 10, 42, 4, 16, 245]
abbrev dktX5_readStatement_3 : List UInt8 := dkwX5_readStatement_3 ++ dktX5_readStatement_4
def dkwX5_readStatement_2 : List UInt8 := [42, 182, 1, 2, 167, 0, 45, 42, 182, 1, 5, 167, 0, 38, 42, 182, 1, 8, 167, 0, 31, 42]
abbrev dktX5_readStatement_2 : List UInt8 := dkwX5_readStatement_2 ++ dktX5_readStatement_3
def dkwX5_readStatement_1 : List UInt8 := [170, 0, 0, 0, 79, 0, 0, 0, 0, 0, 0, 0, 5, 0, 0, 0, 37, 0, 0, 0, 44, 0, 0, 0, 51, 0, 0, 0, 58, 0, 0, 0, 65, 0, 0, 0, 72]
abbrev dktX5_readStatement_1 : List UInt8 := dkwX5_readStatement_1 ++ dktX5_readStatement_2
def dkwX5_readStatement_0 : List UInt8 := [42, 19, 1, 0, 182, 0, 231]
abbrev dktX5_readStatement_0 : List UInt8 := dkwX5_readStatement_0 ++ dktX5_readStatement_1
theorem dksX5_readStatement_0 : cX5_readStatement.data.toList.drop 0 = dktX5_readStatement_0 := by decide +kernel
theorem dksX5_readStatement_1 : cX5_readStatement.data.toList.drop 7 = dktX5_readStatement_1 := dk_seg dksX5_readStatement_0 7 rfl rfl
theorem dksX5_readStatement_2 : cX5_readStatement.data.toList.drop 44 = dktX5_readStatement_2 := dk_seg dksX5_readStatement_1 37 rfl rfl
theorem dksX5_readStatement_3 : cX5_readStatement.data.toList.drop 66 = dktX5_readStatement_3 := dk_seg dksX5_readStatement_2 22 rfl rfl
theorem dksX5_readStatement_4 : cX5_readStatement.data.toList.drop 90 = dktX5_readStatement_4 := dk_seg dksX5_readStatement_3 24 rfl rfl
theorem dksX5_readStatement_5 : cX5_readStatement.data.toList.drop 113 = dktX5_readStatement_5 := dk_seg dksX5_readStatement_4 23 rfl rfl
theorem dX5_readStatement_0 : decode cX5_readStatement 0 = .ok (.aload_n 0, 1) := dk_42 (dk_at dksX5_readStatement_0 0 rfl rfl)
theorem dX5_readStatement_1 : decode cX5_readStatement 1 = .ok (.ldc_w 256, 3) := dk_19 1 0 (dk_at dksX5_readStatement_0 1 rfl rfl)
theorem dX5_readStatement_4 : decode cX5_readStatement 4 = .ok (.invokevirtual 231, 3) := dk_182 0 231 (dk_at dksX5_readStatement_0 4 rfl rfl)
theorem dX5_readStatement_7 : decode cX5_readStatement 7 = .ok (.tableswitch 79 0 5 #[37, 44, 51, 58, 65, 72], 37) := by decide +kernel
theorem dX5_readStatement_44 : decode cX5_readStatement 44 = .ok (.aload_n 0, 1) := dk_42 (dk_at dksX5_readStatement_2 0 rfl rfl)
theorem dX5_readStatement_45 : decode cX5_readStatement 45 = .ok (.invokevirtual 258, 3) := dk_182 1 2 (dk_at dksX5_readStatement_2 1 rfl rfl)
theorem dX5_readStatement_48 : decode cX5_readStatement 48 = .ok (.goto 45, 3) := dk_167 0 45 (dk_at dksX5_readStatement_2 4 rfl rfl)
theorem dX5_readStatement_51 : decode cX5_readStatement 51 = .ok (.aload_n 0, 1) := dk_42 (dk_at dksX5_readStatement_2 7 rfl rfl)
theorem dX5_readStatement_52 : decode cX5_readStatement 52 = .ok (.invokevirtual 261, 3) := dk_182 1 5 (dk_at dksX5_readStatement_2 8 rfl rfl)
theorem dX5_readStatement_55 : decode cX5_readStatement 55 = .ok (.goto 38, 3) := dk_167 0 38 (dk_at dksX5_readStatement_2 11 rfl rfl)
theorem dX5_readStatement_58 : decode cX5_readStatement 58 = .ok (.aload_n 0, 1) := dk_42 (dk_at dksX5_readStatement_2 14 rfl rfl)
theorem dX5_readStatement_59 : decode cX5_readStatement 59 = .ok (.invokevirtual 264, 3) := dk_182 1 8 (dk_at dksX5_readStatement_2 15 rfl rfl)
theorem dX5_readStatement_62 : decode cX5_readStatement 62 = .ok (.goto 31, 3) := dk_167 0 31 (dk_at dksX5_readStatement_2 18 rfl rfl)
theorem dX5_readStatement_65 : decode cX5_readStatement 65 = .ok (.aload_n 0, 1) := dk_42 (dk_at dksX5_readStatement_2 21 rfl rfl)
theorem dX5_readStatement_66 : decode cX5_readStatement 66 = .ok (.invokevirtual 267, 3) := dk_182 1 11 (dk_at dksX5_readStatement_3 0 rfl rfl)
theorem dX5_readStatement_69 : decode cX5_readStatement 69 = .ok (.goto 24, 3) := dk_167 0 24 (dk_at dksX5_readStatement_3 3 rfl rfl)
theorem dX5_readStatement_72 : decode cX5_readStatement 72 = .ok (.aload_n 0, 1) := dk_42 (dk_at dksX5_readStatement_3 6 rfl rfl)
theorem dX5_readStatement_73 : decode cX5_readStatement 73 = .ok (.invokevirtual 270, 3) := dk_182 1 14 (dk_at dksX5_readStatement_3 7 rfl rfl)
theorem dX5_readStatement_76 : decode cX5_readStatement 76 = .ok (.goto 17, 3) := dk_167 0 17 (dk_at dksX5_readStatement_3 10 rfl rfl)
theorem dX5_readStatement_79 : decode cX5_readStatement 79 = .ok (.aload_n 0, 1) := dk_42 (dk_at dksX5_readStatement_3 13 rfl rfl)
theorem dX5_readStatement_80 : decode cX5_readStatement 80 = .ok (.invokevirtual 273, 3) := dk_182 1 17 (dk_at dksX5_readStatement_3 14 rfl rfl)
theorem dX5_readStatement_83 : decode cX5_readStatement 83 = .ok (.goto 10, 3) := dk_167 0 10 (dk_at dksX5_readStatement_3 17 rfl rfl)
theorem dX5_readStatement_86 : decode cX5_readStatement 86 = .ok (.aload_n 0, 1) := dk_42 (dk_at dksX5_readStatement_3 20 rfl rfl)
theorem dX5_readStatement_87 : decode cX5_readStatement 87 = .ok (.iconst 1, 1) := dk_4 (dk_at dksX5_readStatement_3 21 rfl rfl)
theorem dX5_readStatement_88 : decode cX5_readStatement 88 = .ok (.bipush (-11), 2) := dk_16 245 (dk_at dksX5_readStatement_3 22 rfl rfl)
theorem dX5_readStatement_90 : decode cX5_readStatement 90 = .ok (.invokevirtual 203, 3) := dk_182 0 203 (dk_at dksX5_readStatement_4 0 rfl rfl)
theorem dX5_readStatement_93 : decode cX5_readStatement 93 = .ok (.aload_n 0, 1) := dk_42 (dk_at dksX5_readStatement_4 3 rfl rfl)
theorem dX5_readStatement_94 : decode cX5_readStatement 94 = .ok (.aload_n 0, 1) := dk_42 (dk_at dksX5_readStatement_4 4 rfl rfl)
theorem dX5_readStatement_95 : decode cX5_readStatement 95 = .ok (.getfield 173, 3) := dk_180 0 173 (dk_at dksX5_readStatement_4 5 rfl rfl)
theorem dX5_readStatement_98 : decode cX5_readStatement 98 = .ok (.iconst 2, 1) := dk_5 (dk_at dksX5_readStatement_4 8 rfl rfl)
theorem dX5_readStatement_99 : decode cX5_readStatement 99 = .ok (.if_icmp .eq 7, 3) := dk_159 0 7 (dk_at dksX5_readStatement_4 9 rfl rfl)
theorem dX5_readStatement_102 : decode cX5_readStatement 102 = .ok (.iconst 1, 1) := dk_4 (dk_at dksX5_readStatement_4 12 rfl rfl)
theorem dX5_readStatement_103 : decode cX5_readStatement 103 = .ok (.goto 4, 3) := dk_167 0 4 (dk_at dksX5_readStatement_4 13 rfl rfl)
theorem dX5_readStatement_106 : decode cX5_readStatement 106 = .ok (.iconst 0, 1) := dk_3 (dk_at dksX5_readStatement_4 16 rfl rfl)
theorem dX5_readStatement_107 : decode cX5_readStatement 107 = .ok (.bipush (-11), 2) := dk_16 245 (dk_at dksX5_readStatement_4 17 rfl rfl)
theorem dX5_readStatement_109 : decode cX5_readStatement 109 = .ok (.invokevirtual 203, 3) := dk_182 0 203 (dk_at dksX5_readStatement_4 19 rfl rfl)
theorem dX5_readStatement_112 : decode cX5_readStatement 112 = .ok (.aload_n 0, 1) := dk_42 (dk_at dksX5_readStatement_4 22 rfl rfl)
theorem dX5_readStatement_113 : decode cX5_readStatement 113 = .ok (.invokevirtual 207, 3) := dk_182 0 207 (dk_at dksX5_readStatement_5 0 rfl rfl)
theorem dX5_readStatement_116 : decode cX5_readStatement 116 = .ok (.aload_n 0, 1) := dk_42 (dk_at dksX5_readStatement_5 3 rfl rfl)
theorem dX5_readStatement_117 : decode cX5_readStatement 117 = .ok (.dup, 1) := dk_89 (dk_at dksX5_readStatement_5 4 rfl rfl)
theorem dX5_readStatement_118 : decode cX5_readStatement 118 = .ok (.getfield 276, 3) := dk_180 1 20 (dk_at dksX5_readStatement_5 5 rfl rfl)
theorem dX5_readStatement_121 : decode cX5_readStatement 121 = .ok (.iconst 1, 1) := dk_4 (dk_at dksX5_readStatement_5 8 rfl rfl)
theorem dX5_readStatement_122 : decode cX5_readStatement 122 = .ok (.iadd, 1) := dk_96 (dk_at dksX5_readStatement_5 9 rfl rfl)
theorem dX5_readStatement_123 : decode cX5_readStatement 123 = .ok (.putfield 276, 3) := dk_181 1 20 (dk_at dksX5_readStatement_5 10 rfl rfl)
theorem dX5_readStatement_126 : decode cX5_readStatement 126 = .ok (.return_, 1) := dk_177 (dk_at dksX5_readStatement_5 13 rfl rfl)
def dkwX5_wordOf_5 : List UInt8 := [159, 0, 9, 132, 3, 1, 167, 255, 243, 132, 3, 1, 132, 2, 1, 167, 255, 131, 2, 172]
abbrev dktX5_wordOf_5 : List UInt8 := dkwX5_wordOf_5 ++ []
def dkwX5_wordOf_4 : List UInt8 := [180, 0, 170, 21, 4, 96, 42, 180, 0, 161, 160, 0, 5, 28, 172, 43, 29, 182, 0, 190, 16, 32]
abbrev dktX5_wordOf_4 : List UInt8 := dkwX5_wordOf_4 ++ dktX5_wordOf_5
def dkwX5_wordOf_3 : List UInt8 := [160, 0, 9, 132, 4, 1, 167, 255, 203, 43, 29, 21, 4, 96, 182, 0, 190, 16, 32, 160, 0, 19, 42]
abbrev dktX5_wordOf_3 : List UInt8 := dkwX5_wordOf_3 ++ dktX5_wordOf_4
def dkwX5_wordOf_2 : List UInt8 := [162, 0, 32, 42, 180, 0, 7, 42, 180, 0, 170, 21, 4, 96, 46, 43, 29, 21, 4, 96, 182, 0, 190]
abbrev dktX5_wordOf_2 : List UInt8 := dkwX5_wordOf_2 ++ dktX5_wordOf_3
def dkwX5_wordOf_1 : List UInt8 := [21, 4, 96, 182, 0, 190, 16, 32, 159, 0, 46, 42, 180, 0, 170, 21, 4, 96, 42, 180, 0, 161]
abbrev dktX5_wordOf_1 : List UInt8 := dkwX5_wordOf_1 ++ dktX5_wordOf_2
def dkwX5_wordOf_0 : List UInt8 := [3, 61, 3, 62, 42, 180, 0, 173, 154, 0, 124, 29, 43, 182, 0, 186, 162, 0, 116, 3, 54, 4, 43, 29]
abbrev dktX5_wordOf_0 : List UInt8 := dkwX5_wordOf_0 ++ dktX5_wordOf_1
theorem dksX5_wordOf_0 : cX5_wordOf.data.toList.drop 0 = dktX5_wordOf_0 := by decide +kernel
theorem dksX5_wordOf_1 : cX5_wordOf.data.toList.drop 24 = dktX5_wordOf_1 := dk_seg dksX5_wordOf_0 24 rfl rfl
theorem dksX5_wordOf_2 : cX5_wordOf.data.toList.drop 46 = dktX5_wordOf_2 := dk_seg dksX5_wordOf_1 22 rfl rfl
theorem dksX5_wordOf_3 : cX5_wordOf.data.toList.drop 69 = dktX5_wordOf_3 := dk_seg dksX5_wordOf_2 23 rfl rfl
theorem dksX5_wordOf_4 : cX5_wordOf.data.toList.drop 92 = dktX5_wordOf_4 := dk_seg dksX5_wordOf_3 23 rfl rfl
theorem dksX5_wordOf_5 : cX5_wordOf.data.toList.drop 114 = dktX5_wordOf_5 := dk_seg dksX5_wordOf_4 22 rfl rfl
theorem dX5_wordOf_0 : decode cX5_wordOf 0 = .ok (.iconst 0, 1) := dk_3 (dk_at dksX5_wordOf_0 0 rfl rfl)
theorem dX5_wordOf_1 : decode cX5_wordOf 1 = .ok (.istore_n 2, 1) := dk_61 (dk_at dksX5_wordOf_0 1 rfl rfl)
theorem dX5_wordOf_2 : decode cX5_wordOf 2 = .ok (.iconst 0, 1) := dk_3 (dk_at dksX5_wordOf_0 2 rfl rfl)
theorem dX5_wordOf_3 : decode cX5_wordOf 3 = .ok (.istore_n 3, 1) := dk_62 (dk_at dksX5_wordOf_0 3 rfl rfl)
theorem dX5_wordOf_4 : decode cX5_wordOf 4 = .ok (.aload_n 0, 1) := dk_42 (dk_at dksX5_wordOf_0 4 rfl rfl)
theorem dX5_wordOf_5 : decode cX5_wordOf 5 = .ok (.getfield 173, 3) := dk_180 0 173 (dk_at dksX5_wordOf_0 5 rfl rfl)
theorem dX5_wordOf_8 : decode cX5_wordOf 8 = .ok (.ifCond .ne 124, 3) := dk_154 0 124 (dk_at dksX5_wordOf_0 8 rfl rfl)
theorem dX5_wordOf_11 : decode cX5_wordOf 11 = .ok (.iload_n 3, 1) := dk_29 (dk_at dksX5_wordOf_0 11 rfl rfl)
theorem dX5_wordOf_12 : decode cX5_wordOf 12 = .ok (.aload_n 1, 1) := dk_43 (dk_at dksX5_wordOf_0 12 rfl rfl)
theorem dX5_wordOf_13 : decode cX5_wordOf 13 = .ok (.invokevirtual 186, 3) := dk_182 0 186 (dk_at dksX5_wordOf_0 13 rfl rfl)
theorem dX5_wordOf_16 : decode cX5_wordOf 16 = .ok (.if_icmp .ge 116, 3) := dk_162 0 116 (dk_at dksX5_wordOf_0 16 rfl rfl)
theorem dX5_wordOf_19 : decode cX5_wordOf 19 = .ok (.iconst 0, 1) := dk_3 (dk_at dksX5_wordOf_0 19 rfl rfl)
theorem dX5_wordOf_20 : decode cX5_wordOf 20 = .ok (.istore 4, 2) := dk_54 4 (dk_at dksX5_wordOf_0 20 rfl rfl)
theorem dX5_wordOf_22 : decode cX5_wordOf 22 = .ok (.aload_n 1, 1) := dk_43 (dk_at dksX5_wordOf_0 22 rfl rfl)
theorem dX5_wordOf_23 : decode cX5_wordOf 23 = .ok (.iload_n 3, 1) := dk_29 (dk_at dksX5_wordOf_0 23 rfl rfl)
theorem dX5_wordOf_24 : decode cX5_wordOf 24 = .ok (.iload 4, 2) := dk_21 4 (dk_at dksX5_wordOf_1 0 rfl rfl)
theorem dX5_wordOf_26 : decode cX5_wordOf 26 = .ok (.iadd, 1) := dk_96 (dk_at dksX5_wordOf_1 2 rfl rfl)
theorem dX5_wordOf_27 : decode cX5_wordOf 27 = .ok (.invokevirtual 190, 3) := dk_182 0 190 (dk_at dksX5_wordOf_1 3 rfl rfl)
theorem dX5_wordOf_30 : decode cX5_wordOf 30 = .ok (.bipush 32, 2) := dk_16 32 (dk_at dksX5_wordOf_1 6 rfl rfl)
theorem dX5_wordOf_32 : decode cX5_wordOf 32 = .ok (.if_icmp .eq 46, 3) := dk_159 0 46 (dk_at dksX5_wordOf_1 8 rfl rfl)
theorem dX5_wordOf_35 : decode cX5_wordOf 35 = .ok (.aload_n 0, 1) := dk_42 (dk_at dksX5_wordOf_1 11 rfl rfl)
theorem dX5_wordOf_36 : decode cX5_wordOf 36 = .ok (.getfield 170, 3) := dk_180 0 170 (dk_at dksX5_wordOf_1 12 rfl rfl)
theorem dX5_wordOf_39 : decode cX5_wordOf 39 = .ok (.iload 4, 2) := dk_21 4 (dk_at dksX5_wordOf_1 15 rfl rfl)
theorem dX5_wordOf_41 : decode cX5_wordOf 41 = .ok (.iadd, 1) := dk_96 (dk_at dksX5_wordOf_1 17 rfl rfl)
theorem dX5_wordOf_42 : decode cX5_wordOf 42 = .ok (.aload_n 0, 1) := dk_42 (dk_at dksX5_wordOf_1 18 rfl rfl)
theorem dX5_wordOf_43 : decode cX5_wordOf 43 = .ok (.getfield 161, 3) := dk_180 0 161 (dk_at dksX5_wordOf_1 19 rfl rfl)
theorem dX5_wordOf_46 : decode cX5_wordOf 46 = .ok (.if_icmp .ge 32, 3) := dk_162 0 32 (dk_at dksX5_wordOf_2 0 rfl rfl)
theorem dX5_wordOf_49 : decode cX5_wordOf 49 = .ok (.aload_n 0, 1) := dk_42 (dk_at dksX5_wordOf_2 3 rfl rfl)
theorem dX5_wordOf_50 : decode cX5_wordOf 50 = .ok (.getfield 7, 3) := dk_180 0 7 (dk_at dksX5_wordOf_2 4 rfl rfl)
theorem dX5_wordOf_53 : decode cX5_wordOf 53 = .ok (.aload_n 0, 1) := dk_42 (dk_at dksX5_wordOf_2 7 rfl rfl)
theorem dX5_wordOf_54 : decode cX5_wordOf 54 = .ok (.getfield 170, 3) := dk_180 0 170 (dk_at dksX5_wordOf_2 8 rfl rfl)
theorem dX5_wordOf_57 : decode cX5_wordOf 57 = .ok (.iload 4, 2) := dk_21 4 (dk_at dksX5_wordOf_2 11 rfl rfl)
theorem dX5_wordOf_59 : decode cX5_wordOf 59 = .ok (.iadd, 1) := dk_96 (dk_at dksX5_wordOf_2 13 rfl rfl)
theorem dX5_wordOf_60 : decode cX5_wordOf 60 = .ok (.iaload, 1) := dk_46 (dk_at dksX5_wordOf_2 14 rfl rfl)
theorem dX5_wordOf_61 : decode cX5_wordOf 61 = .ok (.aload_n 1, 1) := dk_43 (dk_at dksX5_wordOf_2 15 rfl rfl)
theorem dX5_wordOf_62 : decode cX5_wordOf 62 = .ok (.iload_n 3, 1) := dk_29 (dk_at dksX5_wordOf_2 16 rfl rfl)
theorem dX5_wordOf_63 : decode cX5_wordOf 63 = .ok (.iload 4, 2) := dk_21 4 (dk_at dksX5_wordOf_2 17 rfl rfl)
theorem dX5_wordOf_65 : decode cX5_wordOf 65 = .ok (.iadd, 1) := dk_96 (dk_at dksX5_wordOf_2 19 rfl rfl)
theorem dX5_wordOf_66 : decode cX5_wordOf 66 = .ok (.invokevirtual 190, 3) := dk_182 0 190 (dk_at dksX5_wordOf_2 20 rfl rfl)
theorem dX5_wordOf_69 : decode cX5_wordOf 69 = .ok (.if_icmp .ne 9, 3) := dk_160 0 9 (dk_at dksX5_wordOf_3 0 rfl rfl)
theorem dX5_wordOf_72 : decode cX5_wordOf 72 = .ok (.iinc 4 1, 3) := dk_132 4 1 (dk_at dksX5_wordOf_3 3 rfl rfl)
theorem dX5_wordOf_75 : decode cX5_wordOf 75 = .ok (.goto (-53), 3) := dk_167 255 203 (dk_at dksX5_wordOf_3 6 rfl rfl)
theorem dX5_wordOf_78 : decode cX5_wordOf 78 = .ok (.aload_n 1, 1) := dk_43 (dk_at dksX5_wordOf_3 9 rfl rfl)
theorem dX5_wordOf_79 : decode cX5_wordOf 79 = .ok (.iload_n 3, 1) := dk_29 (dk_at dksX5_wordOf_3 10 rfl rfl)
theorem dX5_wordOf_80 : decode cX5_wordOf 80 = .ok (.iload 4, 2) := dk_21 4 (dk_at dksX5_wordOf_3 11 rfl rfl)
theorem dX5_wordOf_82 : decode cX5_wordOf 82 = .ok (.iadd, 1) := dk_96 (dk_at dksX5_wordOf_3 13 rfl rfl)
theorem dX5_wordOf_83 : decode cX5_wordOf 83 = .ok (.invokevirtual 190, 3) := dk_182 0 190 (dk_at dksX5_wordOf_3 14 rfl rfl)
theorem dX5_wordOf_86 : decode cX5_wordOf 86 = .ok (.bipush 32, 2) := dk_16 32 (dk_at dksX5_wordOf_3 17 rfl rfl)
theorem dX5_wordOf_88 : decode cX5_wordOf 88 = .ok (.if_icmp .ne 19, 3) := dk_160 0 19 (dk_at dksX5_wordOf_3 19 rfl rfl)
theorem dX5_wordOf_91 : decode cX5_wordOf 91 = .ok (.aload_n 0, 1) := dk_42 (dk_at dksX5_wordOf_3 22 rfl rfl)
theorem dX5_wordOf_92 : decode cX5_wordOf 92 = .ok (.getfield 170, 3) := dk_180 0 170 (dk_at dksX5_wordOf_4 0 rfl rfl)
theorem dX5_wordOf_95 : decode cX5_wordOf 95 = .ok (.iload 4, 2) := dk_21 4 (dk_at dksX5_wordOf_4 3 rfl rfl)
theorem dX5_wordOf_97 : decode cX5_wordOf 97 = .ok (.iadd, 1) := dk_96 (dk_at dksX5_wordOf_4 5 rfl rfl)
theorem dX5_wordOf_98 : decode cX5_wordOf 98 = .ok (.aload_n 0, 1) := dk_42 (dk_at dksX5_wordOf_4 6 rfl rfl)
theorem dX5_wordOf_99 : decode cX5_wordOf 99 = .ok (.getfield 161, 3) := dk_180 0 161 (dk_at dksX5_wordOf_4 7 rfl rfl)
theorem dX5_wordOf_102 : decode cX5_wordOf 102 = .ok (.if_icmp .ne 5, 3) := dk_160 0 5 (dk_at dksX5_wordOf_4 10 rfl rfl)
theorem dX5_wordOf_105 : decode cX5_wordOf 105 = .ok (.iload_n 2, 1) := dk_28 (dk_at dksX5_wordOf_4 13 rfl rfl)
theorem dX5_wordOf_106 : decode cX5_wordOf 106 = .ok (.ireturn, 1) := dk_172 (dk_at dksX5_wordOf_4 14 rfl rfl)
theorem dX5_wordOf_107 : decode cX5_wordOf 107 = .ok (.aload_n 1, 1) := dk_43 (dk_at dksX5_wordOf_4 15 rfl rfl)
theorem dX5_wordOf_108 : decode cX5_wordOf 108 = .ok (.iload_n 3, 1) := dk_29 (dk_at dksX5_wordOf_4 16 rfl rfl)
theorem dX5_wordOf_109 : decode cX5_wordOf 109 = .ok (.invokevirtual 190, 3) := dk_182 0 190 (dk_at dksX5_wordOf_4 17 rfl rfl)
theorem dX5_wordOf_112 : decode cX5_wordOf 112 = .ok (.bipush 32, 2) := dk_16 32 (dk_at dksX5_wordOf_4 20 rfl rfl)
theorem dX5_wordOf_114 : decode cX5_wordOf 114 = .ok (.if_icmp .eq 9, 3) := dk_159 0 9 (dk_at dksX5_wordOf_5 0 rfl rfl)
theorem dX5_wordOf_117 : decode cX5_wordOf 117 = .ok (.iinc 3 1, 3) := dk_132 3 1 (dk_at dksX5_wordOf_5 3 rfl rfl)
theorem dX5_wordOf_120 : decode cX5_wordOf 120 = .ok (.goto (-13), 3) := dk_167 255 243 (dk_at dksX5_wordOf_5 6 rfl rfl)
theorem dX5_wordOf_123 : decode cX5_wordOf 123 = .ok (.iinc 3 1, 3) := dk_132 3 1 (dk_at dksX5_wordOf_5 9 rfl rfl)
theorem dX5_wordOf_126 : decode cX5_wordOf 126 = .ok (.iinc 2 1, 3) := dk_132 2 1 (dk_at dksX5_wordOf_5 12 rfl rfl)
theorem dX5_wordOf_129 : decode cX5_wordOf 129 = .ok (.goto (-125), 3) := dk_167 255 131 (dk_at dksX5_wordOf_5 15 rfl rfl)
theorem dX5_wordOf_132 : decode cX5_wordOf 132 = .ok (.iconst (-1), 1) := dk_2 (dk_at dksX5_wordOf_5 18 rfl rfl)
theorem dX5_wordOf_133 : decode cX5_wordOf 133 = .ok (.ireturn, 1) := dk_172 (dk_at dksX5_wordOf_5 19 rfl rfl)
def dkwX5_readStart_4 : List UInt8 := [4, 159, 255, 183, 177]
abbrev dktX5_readStart_4 : List UInt8 := dkwX5_readStart_4 ++ []
def dkwX5_readStart_3 : List UInt8 := [154, 0, 10, 42, 180, 0, 13, 27, 28, 79, 132, 1, 1, 42, 180, 0, 194, 154, 0, 11, 42, 180, 0, 173]
abbrev dktX5_readStart_3 : List UInt8 := dkwX5_readStart_3 ++ dktX5_readStart_4
def dkwX5_readStart_2 : List UInt8 := [167, 0, 4, 3, 16, 241, 182, 0, 203, 42, 3, 17, 39, 15, 182, 0, 220, 61, 42, 180, 0, 194]
abbrev dktX5_readStart_2 : List UInt8 := dkwX5_readStart_2 ++ dktX5_readStart_3
def dkwX5_readStart_1 : List UInt8 := [180, 0, 173, 4, 160, 0, 23, 27, 16, 16, 160, 0, 17, 42, 180, 0, 182, 17, 39, 16, 162, 0, 7, 4]
abbrev dktX5_readStart_1 : List UInt8 := dkwX5_readStart_1 ++ dktX5_readStart_2
def dkwX5_readStart_0 : List UInt8 := [42, 42, 180, 0, 216, 16, 242, 182, 0, 203, 42, 4, 181, 0, 216, 42, 182, 0, 207, 3, 60, 42, 42]
abbrev dktX5_readStart_0 : List UInt8 := dkwX5_readStart_0 ++ dktX5_readStart_1
theorem dksX5_readStart_0 : cX5_readStart.data.toList.drop 0 = dktX5_readStart_0 := by decide +kernel
theorem dksX5_readStart_1 : cX5_readStart.data.toList.drop 23 = dktX5_readStart_1 := dk_seg dksX5_readStart_0 23 rfl rfl
theorem dksX5_readStart_2 : cX5_readStart.data.toList.drop 47 = dktX5_readStart_2 := dk_seg dksX5_readStart_1 24 rfl rfl
theorem dksX5_readStart_3 : cX5_readStart.data.toList.drop 69 = dktX5_readStart_3 := dk_seg dksX5_readStart_2 22 rfl rfl
theorem dksX5_readStart_4 : cX5_readStart.data.toList.drop 93 = dktX5_readStart_4 := dk_seg dksX5_readStart_3 24 rfl rfl
theorem dX5_readStart_0 : decode cX5_readStart 0 = .ok (.aload_n 0, 1) := dk_42 (dk_at dksX5_readStart_0 0 rfl rfl)
theorem dX5_readStart_1 : decode cX5_readStart 1 = .ok (.aload_n 0, 1) := dk_42 (dk_at dksX5_readStart_0 1 rfl rfl)
theorem dX5_readStart_2 : decode cX5_readStart 2 = .ok (.getfield 216, 3) := dk_180 0 216 (dk_at dksX5_readStart_0 2 rfl rfl)
theorem dX5_readStart_5 : decode cX5_readStart 5 = .ok (.bipush (-14), 2) := dk_16 242 (dk_at dksX5_readStart_0 5 rfl rfl)
theorem dX5_readStart_7 : decode cX5_readStart 7 = .ok (.invokevirtual 203, 3) := dk_182 0 203 (dk_at dksX5_readStart_0 7 rfl rfl)
theorem dX5_readStart_10 : decode cX5_readStart 10 = .ok (.aload_n 0, 1) := dk_42 (dk_at dksX5_readStart_0 10 rfl rfl)
theorem dX5_readStart_11 : decode cX5_readStart 11 = .ok (.iconst 1, 1) := dk_4 (dk_at dksX5_readStart_0 11 rfl rfl)
theorem dX5_readStart_12 : decode cX5_readStart 12 = .ok (.putfield 216, 3) := dk_181 0 216 (dk_at dksX5_readStart_0 12 rfl rfl)
theorem dX5_readStart_15 : decode cX5_readStart 15 = .ok (.aload_n 0, 1) := dk_42 (dk_at dksX5_readStart_0 15 rfl rfl)
theorem dX5_readStart_16 : decode cX5_readStart 16 = .ok (.invokevirtual 207, 3) := dk_182 0 207 (dk_at dksX5_readStart_0 16 rfl rfl)
theorem dX5_readStart_19 : decode cX5_readStart 19 = .ok (.iconst 0, 1) := dk_3 (dk_at dksX5_readStart_0 19 rfl rfl)
theorem dX5_readStart_20 : decode cX5_readStart 20 = .ok (.istore_n 1, 1) := dk_60 (dk_at dksX5_readStart_0 20 rfl rfl)
theorem dX5_readStart_21 : decode cX5_readStart 21 = .ok (.aload_n 0, 1) := dk_42 (dk_at dksX5_readStart_0 21 rfl rfl)
theorem dX5_readStart_22 : decode cX5_readStart 22 = .ok (.aload_n 0, 1) := dk_42 (dk_at dksX5_readStart_0 22 rfl rfl)
theorem dX5_readStart_23 : decode cX5_readStart 23 = .ok (.getfield 173, 3) := dk_180 0 173 (dk_at dksX5_readStart_1 0 rfl rfl)
theorem dX5_readStart_26 : decode cX5_readStart 26 = .ok (.iconst 1, 1) := dk_4 (dk_at dksX5_readStart_1 3 rfl rfl)
theorem dX5_readStart_27 : decode cX5_readStart 27 = .ok (.if_icmp .ne 23, 3) := dk_160 0 23 (dk_at dksX5_readStart_1 4 rfl rfl)
theorem dX5_readStart_30 : decode cX5_readStart 30 = .ok (.iload_n 1, 1) := dk_27 (dk_at dksX5_readStart_1 7 rfl rfl)
theorem dX5_readStart_31 : decode cX5_readStart 31 = .ok (.bipush 16, 2) := dk_16 16 (dk_at dksX5_readStart_1 8 rfl rfl)
theorem dX5_readStart_33 : decode cX5_readStart 33 = .ok (.if_icmp .ne 17, 3) := dk_160 0 17 (dk_at dksX5_readStart_1 10 rfl rfl)
theorem dX5_readStart_36 : decode cX5_readStart 36 = .ok (.aload_n 0, 1) := dk_42 (dk_at dksX5_readStart_1 13 rfl rfl)
theorem dX5_readStart_37 : decode cX5_readStart 37 = .ok (.getfield 182, 3) := dk_180 0 182 (dk_at dksX5_readStart_1 14 rfl rfl)
theorem dX5_readStart_40 : decode cX5_readStart 40 = .ok (.sipush 10000, 3) := dk_17 39 16 (dk_at dksX5_readStart_1 17 rfl rfl)
theorem dX5_readStart_43 : decode cX5_readStart 43 = .ok (.if_icmp .ge 7, 3) := dk_162 0 7 (dk_at dksX5_readStart_1 20 rfl rfl)
theorem dX5_readStart_46 : decode cX5_readStart 46 = .ok (.iconst 1, 1) := dk_4 (dk_at dksX5_readStart_1 23 rfl rfl)
theorem dX5_readStart_47 : decode cX5_readStart 47 = .ok (.goto 4, 3) := dk_167 0 4 (dk_at dksX5_readStart_2 0 rfl rfl)
theorem dX5_readStart_50 : decode cX5_readStart 50 = .ok (.iconst 0, 1) := dk_3 (dk_at dksX5_readStart_2 3 rfl rfl)
theorem dX5_readStart_51 : decode cX5_readStart 51 = .ok (.bipush (-15), 2) := dk_16 241 (dk_at dksX5_readStart_2 4 rfl rfl)
theorem dX5_readStart_53 : decode cX5_readStart 53 = .ok (.invokevirtual 203, 3) := dk_182 0 203 (dk_at dksX5_readStart_2 6 rfl rfl)
theorem dX5_readStart_56 : decode cX5_readStart 56 = .ok (.aload_n 0, 1) := dk_42 (dk_at dksX5_readStart_2 9 rfl rfl)
theorem dX5_readStart_57 : decode cX5_readStart 57 = .ok (.iconst 0, 1) := dk_3 (dk_at dksX5_readStart_2 10 rfl rfl)
theorem dX5_readStart_58 : decode cX5_readStart 58 = .ok (.sipush 9999, 3) := dk_17 39 15 (dk_at dksX5_readStart_2 11 rfl rfl)
theorem dX5_readStart_61 : decode cX5_readStart 61 = .ok (.invokevirtual 220, 3) := dk_182 0 220 (dk_at dksX5_readStart_2 14 rfl rfl)
theorem dX5_readStart_64 : decode cX5_readStart 64 = .ok (.istore_n 2, 1) := dk_61 (dk_at dksX5_readStart_2 17 rfl rfl)
theorem dX5_readStart_65 : decode cX5_readStart 65 = .ok (.aload_n 0, 1) := dk_42 (dk_at dksX5_readStart_2 18 rfl rfl)
theorem dX5_readStart_66 : decode cX5_readStart 66 = .ok (.getfield 194, 3) := dk_180 0 194 (dk_at dksX5_readStart_2 19 rfl rfl)
theorem dX5_readStart_69 : decode cX5_readStart 69 = .ok (.ifCond .ne 10, 3) := dk_154 0 10 (dk_at dksX5_readStart_3 0 rfl rfl)
theorem dX5_readStart_72 : decode cX5_readStart 72 = .ok (.aload_n 0, 1) := dk_42 (dk_at dksX5_readStart_3 3 rfl rfl)
theorem dX5_readStart_73 : decode cX5_readStart 73 = .ok (.getfield 13, 3) := dk_180 0 13 (dk_at dksX5_readStart_3 4 rfl rfl)
theorem dX5_readStart_76 : decode cX5_readStart 76 = .ok (.iload_n 1, 1) := dk_27 (dk_at dksX5_readStart_3 7 rfl rfl)
theorem dX5_readStart_77 : decode cX5_readStart 77 = .ok (.iload_n 2, 1) := dk_28 (dk_at dksX5_readStart_3 8 rfl rfl)
theorem dX5_readStart_78 : decode cX5_readStart 78 = .ok (.iastore, 1) := dk_79 (dk_at dksX5_readStart_3 9 rfl rfl)
theorem dX5_readStart_79 : decode cX5_readStart 79 = .ok (.iinc 1 1, 3) := dk_132 1 1 (dk_at dksX5_readStart_3 10 rfl rfl)
theorem dX5_readStart_82 : decode cX5_readStart 82 = .ok (.aload_n 0, 1) := dk_42 (dk_at dksX5_readStart_3 13 rfl rfl)
theorem dX5_readStart_83 : decode cX5_readStart 83 = .ok (.getfield 194, 3) := dk_180 0 194 (dk_at dksX5_readStart_3 14 rfl rfl)
theorem dX5_readStart_86 : decode cX5_readStart 86 = .ok (.ifCond .ne 11, 3) := dk_154 0 11 (dk_at dksX5_readStart_3 17 rfl rfl)
theorem dX5_readStart_89 : decode cX5_readStart 89 = .ok (.aload_n 0, 1) := dk_42 (dk_at dksX5_readStart_3 20 rfl rfl)
theorem dX5_readStart_90 : decode cX5_readStart 90 = .ok (.getfield 173, 3) := dk_180 0 173 (dk_at dksX5_readStart_3 21 rfl rfl)
theorem dX5_readStart_93 : decode cX5_readStart 93 = .ok (.iconst 1, 1) := dk_4 (dk_at dksX5_readStart_4 0 rfl rfl)
theorem dX5_readStart_94 : decode cX5_readStart 94 = .ok (.if_icmp .eq (-73), 3) := dk_159 255 183 (dk_at dksX5_readStart_4 1 rfl rfl)
theorem dX5_readStart_97 : decode cX5_readStart 97 = .ok (.return_, 1) := dk_177 (dk_at dksX5_readStart_4 4 rfl rfl)
def dkwX5_failsIf_1 : List UInt8 := [181, 0, 197, 177]
abbrev dktX5_failsIf_1 : List UInt8 := dkwX5_failsIf_1 ++ []
def dkwX5_failsIf_0 : List UInt8 := [42, 180, 0, 194, 154, 0, 7, 27, 154, 0, 4, 177, 42, 28, 181, 0, 194, 42, 42, 180, 0, 170]
abbrev dktX5_failsIf_0 : List UInt8 := dkwX5_failsIf_0 ++ dktX5_failsIf_1
theorem dksX5_failsIf_0 : cX5_failsIf.data.toList.drop 0 = dktX5_failsIf_0 := by decide +kernel
theorem dksX5_failsIf_1 : cX5_failsIf.data.toList.drop 22 = dktX5_failsIf_1 := dk_seg dksX5_failsIf_0 22 rfl rfl
theorem dX5_failsIf_0 : decode cX5_failsIf 0 = .ok (.aload_n 0, 1) := dk_42 (dk_at dksX5_failsIf_0 0 rfl rfl)
theorem dX5_failsIf_1 : decode cX5_failsIf 1 = .ok (.getfield 194, 3) := dk_180 0 194 (dk_at dksX5_failsIf_0 1 rfl rfl)
theorem dX5_failsIf_4 : decode cX5_failsIf 4 = .ok (.ifCond .ne 7, 3) := dk_154 0 7 (dk_at dksX5_failsIf_0 4 rfl rfl)
theorem dX5_failsIf_7 : decode cX5_failsIf 7 = .ok (.iload_n 1, 1) := dk_27 (dk_at dksX5_failsIf_0 7 rfl rfl)
theorem dX5_failsIf_8 : decode cX5_failsIf 8 = .ok (.ifCond .ne 4, 3) := dk_154 0 4 (dk_at dksX5_failsIf_0 8 rfl rfl)
theorem dX5_failsIf_11 : decode cX5_failsIf 11 = .ok (.return_, 1) := dk_177 (dk_at dksX5_failsIf_0 11 rfl rfl)
theorem dX5_failsIf_12 : decode cX5_failsIf 12 = .ok (.aload_n 0, 1) := dk_42 (dk_at dksX5_failsIf_0 12 rfl rfl)
theorem dX5_failsIf_13 : decode cX5_failsIf 13 = .ok (.iload_n 2, 1) := dk_28 (dk_at dksX5_failsIf_0 13 rfl rfl)
theorem dX5_failsIf_14 : decode cX5_failsIf 14 = .ok (.putfield 194, 3) := dk_181 0 194 (dk_at dksX5_failsIf_0 14 rfl rfl)
theorem dX5_failsIf_17 : decode cX5_failsIf 17 = .ok (.aload_n 0, 1) := dk_42 (dk_at dksX5_failsIf_0 17 rfl rfl)
theorem dX5_failsIf_18 : decode cX5_failsIf 18 = .ok (.aload_n 0, 1) := dk_42 (dk_at dksX5_failsIf_0 18 rfl rfl)
theorem dX5_failsIf_19 : decode cX5_failsIf 19 = .ok (.getfield 170, 3) := dk_180 0 170 (dk_at dksX5_failsIf_0 19 rfl rfl)
theorem dX5_failsIf_22 : decode cX5_failsIf 22 = .ok (.putfield 197, 3) := dk_181 0 197 (dk_at dksX5_failsIf_1 0 rfl rfl)
theorem dX5_failsIf_25 : decode cX5_failsIf 25 = .ok (.return_, 1) := dk_177 (dk_at dksX5_failsIf_1 3 rfl rfl)
def dkwX5_goOn_0 : List UInt8 := [42, 180, 0, 194, 154, 0, 7, 42, 182, 0, 200, 177]
abbrev dktX5_goOn_0 : List UInt8 := dkwX5_goOn_0 ++ []
theorem dksX5_goOn_0 : cX5_goOn.data.toList.drop 0 = dktX5_goOn_0 := by decide +kernel
theorem dX5_goOn_0 : decode cX5_goOn 0 = .ok (.aload_n 0, 1) := dk_42 (dk_at dksX5_goOn_0 0 rfl rfl)
theorem dX5_goOn_1 : decode cX5_goOn 1 = .ok (.getfield 194, 3) := dk_180 0 194 (dk_at dksX5_goOn_0 1 rfl rfl)
theorem dX5_goOn_4 : decode cX5_goOn 4 = .ok (.ifCond .ne 7, 3) := dk_154 0 7 (dk_at dksX5_goOn_0 4 rfl rfl)
theorem dX5_goOn_7 : decode cX5_goOn 7 = .ok (.aload_n 0, 1) := dk_42 (dk_at dksX5_goOn_0 7 rfl rfl)
theorem dX5_goOn_8 : decode cX5_goOn 8 = .ok (.invokevirtual 200, 3) := dk_182 0 200 (dk_at dksX5_goOn_0 8 rfl rfl)
theorem dX5_goOn_11 : decode cX5_goOn 11 = .ok (.return_, 1) := dk_177 (dk_at dksX5_goOn_0 11 rfl rfl)
def dkwX5_integer_2 : List UInt8 := [180, 0, 194, 154, 0, 10, 42, 180, 0, 182, 167, 0, 4, 27, 62, 42, 182, 0, 207, 29, 172]
abbrev dktX5_integer_2 : List UInt8 := dkwX5_integer_2 ++ []
def dkwX5_integer_1 : List UInt8 := [27, 161, 0, 11, 42, 180, 0, 182, 28, 164, 0, 7, 4, 167, 0, 4, 3, 16, 244, 182, 0, 203, 42]
abbrev dktX5_integer_1 : List UInt8 := dkwX5_integer_1 ++ dktX5_integer_2
def dkwX5_integer_0 : List UInt8 := [42, 42, 180, 0, 173, 4, 159, 0, 7, 4, 167, 0, 4, 3, 16, 245, 182, 0, 203, 42, 42, 180, 0, 182]
abbrev dktX5_integer_0 : List UInt8 := dkwX5_integer_0 ++ dktX5_integer_1
theorem dksX5_integer_0 : cX5_integer.data.toList.drop 0 = dktX5_integer_0 := by decide +kernel
theorem dksX5_integer_1 : cX5_integer.data.toList.drop 24 = dktX5_integer_1 := dk_seg dksX5_integer_0 24 rfl rfl
theorem dksX5_integer_2 : cX5_integer.data.toList.drop 47 = dktX5_integer_2 := dk_seg dksX5_integer_1 23 rfl rfl
theorem dX5_integer_0 : decode cX5_integer 0 = .ok (.aload_n 0, 1) := dk_42 (dk_at dksX5_integer_0 0 rfl rfl)
theorem dX5_integer_1 : decode cX5_integer 1 = .ok (.aload_n 0, 1) := dk_42 (dk_at dksX5_integer_0 1 rfl rfl)
theorem dX5_integer_2 : decode cX5_integer 2 = .ok (.getfield 173, 3) := dk_180 0 173 (dk_at dksX5_integer_0 2 rfl rfl)
theorem dX5_integer_5 : decode cX5_integer 5 = .ok (.iconst 1, 1) := dk_4 (dk_at dksX5_integer_0 5 rfl rfl)
theorem dX5_integer_6 : decode cX5_integer 6 = .ok (.if_icmp .eq 7, 3) := dk_159 0 7 (dk_at dksX5_integer_0 6 rfl rfl)
theorem dX5_integer_9 : decode cX5_integer 9 = .ok (.iconst 1, 1) := dk_4 (dk_at dksX5_integer_0 9 rfl rfl)
theorem dX5_integer_10 : decode cX5_integer 10 = .ok (.goto 4, 3) := dk_167 0 4 (dk_at dksX5_integer_0 10 rfl rfl)
theorem dX5_integer_13 : decode cX5_integer 13 = .ok (.iconst 0, 1) := dk_3 (dk_at dksX5_integer_0 13 rfl rfl)
theorem dX5_integer_14 : decode cX5_integer 14 = .ok (.bipush (-11), 2) := dk_16 245 (dk_at dksX5_integer_0 14 rfl rfl)
theorem dX5_integer_16 : decode cX5_integer 16 = .ok (.invokevirtual 203, 3) := dk_182 0 203 (dk_at dksX5_integer_0 16 rfl rfl)
theorem dX5_integer_19 : decode cX5_integer 19 = .ok (.aload_n 0, 1) := dk_42 (dk_at dksX5_integer_0 19 rfl rfl)
theorem dX5_integer_20 : decode cX5_integer 20 = .ok (.aload_n 0, 1) := dk_42 (dk_at dksX5_integer_0 20 rfl rfl)
theorem dX5_integer_21 : decode cX5_integer 21 = .ok (.getfield 182, 3) := dk_180 0 182 (dk_at dksX5_integer_0 21 rfl rfl)
theorem dX5_integer_24 : decode cX5_integer 24 = .ok (.iload_n 1, 1) := dk_27 (dk_at dksX5_integer_1 0 rfl rfl)
theorem dX5_integer_25 : decode cX5_integer 25 = .ok (.if_icmp .lt 11, 3) := dk_161 0 11 (dk_at dksX5_integer_1 1 rfl rfl)
theorem dX5_integer_28 : decode cX5_integer 28 = .ok (.aload_n 0, 1) := dk_42 (dk_at dksX5_integer_1 4 rfl rfl)
theorem dX5_integer_29 : decode cX5_integer 29 = .ok (.getfield 182, 3) := dk_180 0 182 (dk_at dksX5_integer_1 5 rfl rfl)
theorem dX5_integer_32 : decode cX5_integer 32 = .ok (.iload_n 2, 1) := dk_28 (dk_at dksX5_integer_1 8 rfl rfl)
theorem dX5_integer_33 : decode cX5_integer 33 = .ok (.if_icmp .le 7, 3) := dk_164 0 7 (dk_at dksX5_integer_1 9 rfl rfl)
theorem dX5_integer_36 : decode cX5_integer 36 = .ok (.iconst 1, 1) := dk_4 (dk_at dksX5_integer_1 12 rfl rfl)
theorem dX5_integer_37 : decode cX5_integer 37 = .ok (.goto 4, 3) := dk_167 0 4 (dk_at dksX5_integer_1 13 rfl rfl)
theorem dX5_integer_40 : decode cX5_integer 40 = .ok (.iconst 0, 1) := dk_3 (dk_at dksX5_integer_1 16 rfl rfl)
theorem dX5_integer_41 : decode cX5_integer 41 = .ok (.bipush (-12), 2) := dk_16 244 (dk_at dksX5_integer_1 17 rfl rfl)
theorem dX5_integer_43 : decode cX5_integer 43 = .ok (.invokevirtual 203, 3) := dk_182 0 203 (dk_at dksX5_integer_1 19 rfl rfl)
theorem dX5_integer_46 : decode cX5_integer 46 = .ok (.aload_n 0, 1) := dk_42 (dk_at dksX5_integer_1 22 rfl rfl)
theorem dX5_integer_47 : decode cX5_integer 47 = .ok (.getfield 194, 3) := dk_180 0 194 (dk_at dksX5_integer_2 0 rfl rfl)
theorem dX5_integer_50 : decode cX5_integer 50 = .ok (.ifCond .ne 10, 3) := dk_154 0 10 (dk_at dksX5_integer_2 3 rfl rfl)
theorem dX5_integer_53 : decode cX5_integer 53 = .ok (.aload_n 0, 1) := dk_42 (dk_at dksX5_integer_2 6 rfl rfl)
theorem dX5_integer_54 : decode cX5_integer 54 = .ok (.getfield 182, 3) := dk_180 0 182 (dk_at dksX5_integer_2 7 rfl rfl)
theorem dX5_integer_57 : decode cX5_integer 57 = .ok (.goto 4, 3) := dk_167 0 4 (dk_at dksX5_integer_2 10 rfl rfl)
theorem dX5_integer_60 : decode cX5_integer 60 = .ok (.iload_n 1, 1) := dk_27 (dk_at dksX5_integer_2 13 rfl rfl)
theorem dX5_integer_61 : decode cX5_integer 61 = .ok (.istore_n 3, 1) := dk_62 (dk_at dksX5_integer_2 14 rfl rfl)
theorem dX5_integer_62 : decode cX5_integer 62 = .ok (.aload_n 0, 1) := dk_42 (dk_at dksX5_integer_2 15 rfl rfl)
theorem dX5_integer_63 : decode cX5_integer 63 = .ok (.invokevirtual 207, 3) := dk_182 0 207 (dk_at dksX5_integer_2 16 rfl rfl)
theorem dX5_integer_66 : decode cX5_integer 66 = .ok (.iload_n 3, 1) := dk_29 (dk_at dksX5_integer_2 19 rfl rfl)
theorem dX5_integer_67 : decode cX5_integer 67 = .ok (.ireturn, 1) := dk_172 (dk_at dksX5_integer_2 20 rfl rfl)
def dkwX5_readMember_3 : List UInt8 := [153, 0, 4, 177, 42, 180, 0, 13, 16, 16, 42, 182, 0, 114, 96, 27, 79, 42, 28, 3, 182, 0, 223, 177]
abbrev dktX5_readMember_3 : List UInt8 := dkwX5_readMember_3 ++ []
def dkwX5_readMember_2 : List UInt8 := [167, 0, 4, 3, 16, 242, 182, 0, 203, 42, 182, 0, 207, 42, 4, 7, 182, 0, 220, 61, 42, 180, 0, 194]
abbrev dktX5_readMember_2 : List UInt8 := dkwX5_readMember_2 ++ dktX5_readMember_3
def dkwX5_readMember_1 : List UInt8 := [42, 182, 0, 210, 60, 42, 42, 180, 0, 194, 154, 0, 16, 42, 27, 182, 0, 213, 2, 159, 0, 7, 4]
abbrev dktX5_readMember_1 : List UInt8 := dkwX5_readMember_1 ++ dktX5_readMember_2
def dkwX5_readMember_0 : List UInt8 := [42, 42, 182, 0, 114, 16, 6, 160, 0, 7, 4, 167, 0, 4, 3, 16, 241, 182, 0, 203, 42, 182, 0, 207]
abbrev dktX5_readMember_0 : List UInt8 := dkwX5_readMember_0 ++ dktX5_readMember_1
theorem dksX5_readMember_0 : cX5_readMember.data.toList.drop 0 = dktX5_readMember_0 := by decide +kernel
theorem dksX5_readMember_1 : cX5_readMember.data.toList.drop 24 = dktX5_readMember_1 := dk_seg dksX5_readMember_0 24 rfl rfl
theorem dksX5_readMember_2 : cX5_readMember.data.toList.drop 47 = dktX5_readMember_2 := dk_seg dksX5_readMember_1 23 rfl rfl
theorem dksX5_readMember_3 : cX5_readMember.data.toList.drop 71 = dktX5_readMember_3 := dk_seg dksX5_readMember_2 24 rfl rfl
theorem dX5_readMember_0 : decode cX5_readMember 0 = .ok (.aload_n 0, 1) := dk_42 (dk_at dksX5_readMember_0 0 rfl rfl)
theorem dX5_readMember_1 : decode cX5_readMember 1 = .ok (.aload_n 0, 1) := dk_42 (dk_at dksX5_readMember_0 1 rfl rfl)
theorem dX5_readMember_2 : decode cX5_readMember 2 = .ok (.invokevirtual 114, 3) := dk_182 0 114 (dk_at dksX5_readMember_0 2 rfl rfl)
theorem dX5_readMember_5 : decode cX5_readMember 5 = .ok (.bipush 6, 2) := dk_16 6 (dk_at dksX5_readMember_0 5 rfl rfl)
theorem dX5_readMember_7 : decode cX5_readMember 7 = .ok (.if_icmp .ne 7, 3) := dk_160 0 7 (dk_at dksX5_readMember_0 7 rfl rfl)
theorem dX5_readMember_10 : decode cX5_readMember 10 = .ok (.iconst 1, 1) := dk_4 (dk_at dksX5_readMember_0 10 rfl rfl)
theorem dX5_readMember_11 : decode cX5_readMember 11 = .ok (.goto 4, 3) := dk_167 0 4 (dk_at dksX5_readMember_0 11 rfl rfl)
theorem dX5_readMember_14 : decode cX5_readMember 14 = .ok (.iconst 0, 1) := dk_3 (dk_at dksX5_readMember_0 14 rfl rfl)
theorem dX5_readMember_15 : decode cX5_readMember 15 = .ok (.bipush (-15), 2) := dk_16 241 (dk_at dksX5_readMember_0 15 rfl rfl)
theorem dX5_readMember_17 : decode cX5_readMember 17 = .ok (.invokevirtual 203, 3) := dk_182 0 203 (dk_at dksX5_readMember_0 17 rfl rfl)
theorem dX5_readMember_20 : decode cX5_readMember 20 = .ok (.aload_n 0, 1) := dk_42 (dk_at dksX5_readMember_0 20 rfl rfl)
theorem dX5_readMember_21 : decode cX5_readMember 21 = .ok (.invokevirtual 207, 3) := dk_182 0 207 (dk_at dksX5_readMember_0 21 rfl rfl)
theorem dX5_readMember_24 : decode cX5_readMember 24 = .ok (.aload_n 0, 1) := dk_42 (dk_at dksX5_readMember_1 0 rfl rfl)
theorem dX5_readMember_25 : decode cX5_readMember 25 = .ok (.invokevirtual 210, 3) := dk_182 0 210 (dk_at dksX5_readMember_1 1 rfl rfl)
theorem dX5_readMember_28 : decode cX5_readMember 28 = .ok (.istore_n 1, 1) := dk_60 (dk_at dksX5_readMember_1 4 rfl rfl)
theorem dX5_readMember_29 : decode cX5_readMember 29 = .ok (.aload_n 0, 1) := dk_42 (dk_at dksX5_readMember_1 5 rfl rfl)
theorem dX5_readMember_30 : decode cX5_readMember 30 = .ok (.aload_n 0, 1) := dk_42 (dk_at dksX5_readMember_1 6 rfl rfl)
theorem dX5_readMember_31 : decode cX5_readMember 31 = .ok (.getfield 194, 3) := dk_180 0 194 (dk_at dksX5_readMember_1 7 rfl rfl)
theorem dX5_readMember_34 : decode cX5_readMember 34 = .ok (.ifCond .ne 16, 3) := dk_154 0 16 (dk_at dksX5_readMember_1 10 rfl rfl)
theorem dX5_readMember_37 : decode cX5_readMember 37 = .ok (.aload_n 0, 1) := dk_42 (dk_at dksX5_readMember_1 13 rfl rfl)
theorem dX5_readMember_38 : decode cX5_readMember 38 = .ok (.iload_n 1, 1) := dk_27 (dk_at dksX5_readMember_1 14 rfl rfl)
theorem dX5_readMember_39 : decode cX5_readMember 39 = .ok (.invokevirtual 213, 3) := dk_182 0 213 (dk_at dksX5_readMember_1 15 rfl rfl)
theorem dX5_readMember_42 : decode cX5_readMember 42 = .ok (.iconst (-1), 1) := dk_2 (dk_at dksX5_readMember_1 18 rfl rfl)
theorem dX5_readMember_43 : decode cX5_readMember 43 = .ok (.if_icmp .eq 7, 3) := dk_159 0 7 (dk_at dksX5_readMember_1 19 rfl rfl)
theorem dX5_readMember_46 : decode cX5_readMember 46 = .ok (.iconst 1, 1) := dk_4 (dk_at dksX5_readMember_1 22 rfl rfl)
theorem dX5_readMember_47 : decode cX5_readMember 47 = .ok (.goto 4, 3) := dk_167 0 4 (dk_at dksX5_readMember_2 0 rfl rfl)
theorem dX5_readMember_50 : decode cX5_readMember 50 = .ok (.iconst 0, 1) := dk_3 (dk_at dksX5_readMember_2 3 rfl rfl)
theorem dX5_readMember_51 : decode cX5_readMember 51 = .ok (.bipush (-14), 2) := dk_16 242 (dk_at dksX5_readMember_2 4 rfl rfl)
theorem dX5_readMember_53 : decode cX5_readMember 53 = .ok (.invokevirtual 203, 3) := dk_182 0 203 (dk_at dksX5_readMember_2 6 rfl rfl)
theorem dX5_readMember_56 : decode cX5_readMember 56 = .ok (.aload_n 0, 1) := dk_42 (dk_at dksX5_readMember_2 9 rfl rfl)
theorem dX5_readMember_57 : decode cX5_readMember 57 = .ok (.invokevirtual 207, 3) := dk_182 0 207 (dk_at dksX5_readMember_2 10 rfl rfl)
theorem dX5_readMember_60 : decode cX5_readMember 60 = .ok (.aload_n 0, 1) := dk_42 (dk_at dksX5_readMember_2 13 rfl rfl)
theorem dX5_readMember_61 : decode cX5_readMember 61 = .ok (.iconst 1, 1) := dk_4 (dk_at dksX5_readMember_2 14 rfl rfl)
theorem dX5_readMember_62 : decode cX5_readMember 62 = .ok (.iconst 4, 1) := dk_7 (dk_at dksX5_readMember_2 15 rfl rfl)
theorem dX5_readMember_63 : decode cX5_readMember 63 = .ok (.invokevirtual 220, 3) := dk_182 0 220 (dk_at dksX5_readMember_2 16 rfl rfl)
theorem dX5_readMember_66 : decode cX5_readMember 66 = .ok (.istore_n 2, 1) := dk_61 (dk_at dksX5_readMember_2 19 rfl rfl)
theorem dX5_readMember_67 : decode cX5_readMember 67 = .ok (.aload_n 0, 1) := dk_42 (dk_at dksX5_readMember_2 20 rfl rfl)
theorem dX5_readMember_68 : decode cX5_readMember 68 = .ok (.getfield 194, 3) := dk_180 0 194 (dk_at dksX5_readMember_2 21 rfl rfl)
theorem dX5_readMember_71 : decode cX5_readMember 71 = .ok (.ifCond .eq 4, 3) := dk_153 0 4 (dk_at dksX5_readMember_3 0 rfl rfl)
theorem dX5_readMember_74 : decode cX5_readMember 74 = .ok (.return_, 1) := dk_177 (dk_at dksX5_readMember_3 3 rfl rfl)
theorem dX5_readMember_75 : decode cX5_readMember 75 = .ok (.aload_n 0, 1) := dk_42 (dk_at dksX5_readMember_3 4 rfl rfl)
theorem dX5_readMember_76 : decode cX5_readMember 76 = .ok (.getfield 13, 3) := dk_180 0 13 (dk_at dksX5_readMember_3 5 rfl rfl)
theorem dX5_readMember_79 : decode cX5_readMember 79 = .ok (.bipush 16, 2) := dk_16 16 (dk_at dksX5_readMember_3 8 rfl rfl)
theorem dX5_readMember_81 : decode cX5_readMember 81 = .ok (.aload_n 0, 1) := dk_42 (dk_at dksX5_readMember_3 10 rfl rfl)
theorem dX5_readMember_82 : decode cX5_readMember 82 = .ok (.invokevirtual 114, 3) := dk_182 0 114 (dk_at dksX5_readMember_3 11 rfl rfl)
theorem dX5_readMember_85 : decode cX5_readMember 85 = .ok (.iadd, 1) := dk_96 (dk_at dksX5_readMember_3 14 rfl rfl)
theorem dX5_readMember_86 : decode cX5_readMember 86 = .ok (.iload_n 1, 1) := dk_27 (dk_at dksX5_readMember_3 15 rfl rfl)
theorem dX5_readMember_87 : decode cX5_readMember 87 = .ok (.iastore, 1) := dk_79 (dk_at dksX5_readMember_3 16 rfl rfl)
theorem dX5_readMember_88 : decode cX5_readMember 88 = .ok (.aload_n 0, 1) := dk_42 (dk_at dksX5_readMember_3 17 rfl rfl)
theorem dX5_readMember_89 : decode cX5_readMember 89 = .ok (.iload_n 2, 1) := dk_28 (dk_at dksX5_readMember_3 18 rfl rfl)
theorem dX5_readMember_90 : decode cX5_readMember 90 = .ok (.iconst 0, 1) := dk_3 (dk_at dksX5_readMember_3 19 rfl rfl)
theorem dX5_readMember_91 : decode cX5_readMember 91 = .ok (.invokevirtual 223, 3) := dk_182 0 223 (dk_at dksX5_readMember_3 20 rfl rfl)
theorem dX5_readMember_94 : decode cX5_readMember 94 = .ok (.return_, 1) := dk_177 (dk_at dksX5_readMember_3 23 rfl rfl)
def dkwX5_members_0 : List UInt8 := [42, 180, 0, 19, 5, 46, 172]
abbrev dktX5_members_0 : List UInt8 := dkwX5_members_0 ++ []
theorem dksX5_members_0 : cX5_members.data.toList.drop 0 = dktX5_members_0 := by decide +kernel
theorem dX5_members_0 : decode cX5_members 0 = .ok (.aload_n 0, 1) := dk_42 (dk_at dksX5_members_0 0 rfl rfl)
theorem dX5_members_1 : decode cX5_members 1 = .ok (.getfield 19, 3) := dk_180 0 19 (dk_at dksX5_members_0 1 rfl rfl)
theorem dX5_members_4 : decode cX5_members 4 = .ok (.iconst 2, 1) := dk_5 (dk_at dksX5_members_0 4 rfl rfl)
theorem dX5_members_5 : decode cX5_members 5 = .ok (.iaload, 1) := dk_46 (dk_at dksX5_members_0 5 rfl rfl)
theorem dX5_members_6 : decode cX5_members 6 = .ok (.ireturn, 1) := dk_172 (dk_at dksX5_members_0 6 rfl rfl)
def dkwX5_nameHere_4 : List UInt8 := [172]
abbrev dktX5_nameHere_4 : List UInt8 := dkwX5_nameHere_4 ++ []
def dkwX5_nameHere_3 : List UInt8 := [180, 0, 170, 28, 96, 46, 16, 97, 100, 4, 96, 167, 0, 4, 3, 128, 60, 132, 2, 1, 167, 255, 202, 27]
abbrev dktX5_nameHere_3 : List UInt8 := dkwX5_nameHere_3 ++ dktX5_nameHere_4
def dkwX5_nameHere_2 : List UInt8 := [154, 0, 47, 27, 8, 120, 42, 180, 0, 170, 28, 96, 42, 180, 0, 161, 162, 0, 22, 42, 180, 0, 7, 42]
abbrev dktX5_nameHere_2 : List UInt8 := dkwX5_nameHere_2 ++ dktX5_nameHere_3
def dkwX5_nameHere_1 : List UInt8 := [167, 0, 4, 3, 16, 245, 182, 0, 203, 3, 60, 3, 61, 28, 16, 6, 162, 0, 54, 42, 180, 0, 194]
abbrev dktX5_nameHere_1 : List UInt8 := dkwX5_nameHere_1 ++ dktX5_nameHere_2
def dkwX5_nameHere_0 : List UInt8 := [42, 42, 180, 0, 173, 154, 0, 17, 42, 180, 0, 161, 42, 180, 0, 170, 100, 16, 6, 164, 0, 7, 4]
abbrev dktX5_nameHere_0 : List UInt8 := dkwX5_nameHere_0 ++ dktX5_nameHere_1
theorem dksX5_nameHere_0 : cX5_nameHere.data.toList.drop 0 = dktX5_nameHere_0 := by decide +kernel
theorem dksX5_nameHere_1 : cX5_nameHere.data.toList.drop 23 = dktX5_nameHere_1 := dk_seg dksX5_nameHere_0 23 rfl rfl
theorem dksX5_nameHere_2 : cX5_nameHere.data.toList.drop 46 = dktX5_nameHere_2 := dk_seg dksX5_nameHere_1 23 rfl rfl
theorem dksX5_nameHere_3 : cX5_nameHere.data.toList.drop 70 = dktX5_nameHere_3 := dk_seg dksX5_nameHere_2 24 rfl rfl
theorem dksX5_nameHere_4 : cX5_nameHere.data.toList.drop 94 = dktX5_nameHere_4 := dk_seg dksX5_nameHere_3 24 rfl rfl
theorem dX5_nameHere_0 : decode cX5_nameHere 0 = .ok (.aload_n 0, 1) := dk_42 (dk_at dksX5_nameHere_0 0 rfl rfl)
theorem dX5_nameHere_1 : decode cX5_nameHere 1 = .ok (.aload_n 0, 1) := dk_42 (dk_at dksX5_nameHere_0 1 rfl rfl)
theorem dX5_nameHere_2 : decode cX5_nameHere 2 = .ok (.getfield 173, 3) := dk_180 0 173 (dk_at dksX5_nameHere_0 2 rfl rfl)
theorem dX5_nameHere_5 : decode cX5_nameHere 5 = .ok (.ifCond .ne 17, 3) := dk_154 0 17 (dk_at dksX5_nameHere_0 5 rfl rfl)
theorem dX5_nameHere_8 : decode cX5_nameHere 8 = .ok (.aload_n 0, 1) := dk_42 (dk_at dksX5_nameHere_0 8 rfl rfl)
theorem dX5_nameHere_9 : decode cX5_nameHere 9 = .ok (.getfield 161, 3) := dk_180 0 161 (dk_at dksX5_nameHere_0 9 rfl rfl)
theorem dX5_nameHere_12 : decode cX5_nameHere 12 = .ok (.aload_n 0, 1) := dk_42 (dk_at dksX5_nameHere_0 12 rfl rfl)
theorem dX5_nameHere_13 : decode cX5_nameHere 13 = .ok (.getfield 170, 3) := dk_180 0 170 (dk_at dksX5_nameHere_0 13 rfl rfl)
theorem dX5_nameHere_16 : decode cX5_nameHere 16 = .ok (.isub, 1) := dk_100 (dk_at dksX5_nameHere_0 16 rfl rfl)
theorem dX5_nameHere_17 : decode cX5_nameHere 17 = .ok (.bipush 6, 2) := dk_16 6 (dk_at dksX5_nameHere_0 17 rfl rfl)
theorem dX5_nameHere_19 : decode cX5_nameHere 19 = .ok (.if_icmp .le 7, 3) := dk_164 0 7 (dk_at dksX5_nameHere_0 19 rfl rfl)
theorem dX5_nameHere_22 : decode cX5_nameHere 22 = .ok (.iconst 1, 1) := dk_4 (dk_at dksX5_nameHere_0 22 rfl rfl)
theorem dX5_nameHere_23 : decode cX5_nameHere 23 = .ok (.goto 4, 3) := dk_167 0 4 (dk_at dksX5_nameHere_1 0 rfl rfl)
theorem dX5_nameHere_26 : decode cX5_nameHere 26 = .ok (.iconst 0, 1) := dk_3 (dk_at dksX5_nameHere_1 3 rfl rfl)
theorem dX5_nameHere_27 : decode cX5_nameHere 27 = .ok (.bipush (-11), 2) := dk_16 245 (dk_at dksX5_nameHere_1 4 rfl rfl)
theorem dX5_nameHere_29 : decode cX5_nameHere 29 = .ok (.invokevirtual 203, 3) := dk_182 0 203 (dk_at dksX5_nameHere_1 6 rfl rfl)
theorem dX5_nameHere_32 : decode cX5_nameHere 32 = .ok (.iconst 0, 1) := dk_3 (dk_at dksX5_nameHere_1 9 rfl rfl)
theorem dX5_nameHere_33 : decode cX5_nameHere 33 = .ok (.istore_n 1, 1) := dk_60 (dk_at dksX5_nameHere_1 10 rfl rfl)
theorem dX5_nameHere_34 : decode cX5_nameHere 34 = .ok (.iconst 0, 1) := dk_3 (dk_at dksX5_nameHere_1 11 rfl rfl)
theorem dX5_nameHere_35 : decode cX5_nameHere 35 = .ok (.istore_n 2, 1) := dk_61 (dk_at dksX5_nameHere_1 12 rfl rfl)
theorem dX5_nameHere_36 : decode cX5_nameHere 36 = .ok (.iload_n 2, 1) := dk_28 (dk_at dksX5_nameHere_1 13 rfl rfl)
theorem dX5_nameHere_37 : decode cX5_nameHere 37 = .ok (.bipush 6, 2) := dk_16 6 (dk_at dksX5_nameHere_1 14 rfl rfl)
theorem dX5_nameHere_39 : decode cX5_nameHere 39 = .ok (.if_icmp .ge 54, 3) := dk_162 0 54 (dk_at dksX5_nameHere_1 16 rfl rfl)
theorem dX5_nameHere_42 : decode cX5_nameHere 42 = .ok (.aload_n 0, 1) := dk_42 (dk_at dksX5_nameHere_1 19 rfl rfl)
theorem dX5_nameHere_43 : decode cX5_nameHere 43 = .ok (.getfield 194, 3) := dk_180 0 194 (dk_at dksX5_nameHere_1 20 rfl rfl)
theorem dX5_nameHere_46 : decode cX5_nameHere 46 = .ok (.ifCond .ne 47, 3) := dk_154 0 47 (dk_at dksX5_nameHere_2 0 rfl rfl)
theorem dX5_nameHere_49 : decode cX5_nameHere 49 = .ok (.iload_n 1, 1) := dk_27 (dk_at dksX5_nameHere_2 3 rfl rfl)
theorem dX5_nameHere_50 : decode cX5_nameHere 50 = .ok (.iconst 5, 1) := dk_8 (dk_at dksX5_nameHere_2 4 rfl rfl)
theorem dX5_nameHere_51 : decode cX5_nameHere 51 = .ok (.ishl, 1) := dk_120 (dk_at dksX5_nameHere_2 5 rfl rfl)
theorem dX5_nameHere_52 : decode cX5_nameHere 52 = .ok (.aload_n 0, 1) := dk_42 (dk_at dksX5_nameHere_2 6 rfl rfl)
theorem dX5_nameHere_53 : decode cX5_nameHere 53 = .ok (.getfield 170, 3) := dk_180 0 170 (dk_at dksX5_nameHere_2 7 rfl rfl)
theorem dX5_nameHere_56 : decode cX5_nameHere 56 = .ok (.iload_n 2, 1) := dk_28 (dk_at dksX5_nameHere_2 10 rfl rfl)
theorem dX5_nameHere_57 : decode cX5_nameHere 57 = .ok (.iadd, 1) := dk_96 (dk_at dksX5_nameHere_2 11 rfl rfl)
theorem dX5_nameHere_58 : decode cX5_nameHere 58 = .ok (.aload_n 0, 1) := dk_42 (dk_at dksX5_nameHere_2 12 rfl rfl)
theorem dX5_nameHere_59 : decode cX5_nameHere 59 = .ok (.getfield 161, 3) := dk_180 0 161 (dk_at dksX5_nameHere_2 13 rfl rfl)
theorem dX5_nameHere_62 : decode cX5_nameHere 62 = .ok (.if_icmp .ge 22, 3) := dk_162 0 22 (dk_at dksX5_nameHere_2 16 rfl rfl)
theorem dX5_nameHere_65 : decode cX5_nameHere 65 = .ok (.aload_n 0, 1) := dk_42 (dk_at dksX5_nameHere_2 19 rfl rfl)
theorem dX5_nameHere_66 : decode cX5_nameHere 66 = .ok (.getfield 7, 3) := dk_180 0 7 (dk_at dksX5_nameHere_2 20 rfl rfl)
theorem dX5_nameHere_69 : decode cX5_nameHere 69 = .ok (.aload_n 0, 1) := dk_42 (dk_at dksX5_nameHere_2 23 rfl rfl)
theorem dX5_nameHere_70 : decode cX5_nameHere 70 = .ok (.getfield 170, 3) := dk_180 0 170 (dk_at dksX5_nameHere_3 0 rfl rfl)
theorem dX5_nameHere_73 : decode cX5_nameHere 73 = .ok (.iload_n 2, 1) := dk_28 (dk_at dksX5_nameHere_3 3 rfl rfl)
theorem dX5_nameHere_74 : decode cX5_nameHere 74 = .ok (.iadd, 1) := dk_96 (dk_at dksX5_nameHere_3 4 rfl rfl)
theorem dX5_nameHere_75 : decode cX5_nameHere 75 = .ok (.iaload, 1) := dk_46 (dk_at dksX5_nameHere_3 5 rfl rfl)
theorem dX5_nameHere_76 : decode cX5_nameHere 76 = .ok (.bipush 97, 2) := dk_16 97 (dk_at dksX5_nameHere_3 6 rfl rfl)
theorem dX5_nameHere_78 : decode cX5_nameHere 78 = .ok (.isub, 1) := dk_100 (dk_at dksX5_nameHere_3 8 rfl rfl)
theorem dX5_nameHere_79 : decode cX5_nameHere 79 = .ok (.iconst 1, 1) := dk_4 (dk_at dksX5_nameHere_3 9 rfl rfl)
theorem dX5_nameHere_80 : decode cX5_nameHere 80 = .ok (.iadd, 1) := dk_96 (dk_at dksX5_nameHere_3 10 rfl rfl)
theorem dX5_nameHere_81 : decode cX5_nameHere 81 = .ok (.goto 4, 3) := dk_167 0 4 (dk_at dksX5_nameHere_3 11 rfl rfl)
theorem dX5_nameHere_84 : decode cX5_nameHere 84 = .ok (.iconst 0, 1) := dk_3 (dk_at dksX5_nameHere_3 14 rfl rfl)
theorem dX5_nameHere_85 : decode cX5_nameHere 85 = .ok (.ior, 1) := dk_128 (dk_at dksX5_nameHere_3 15 rfl rfl)
theorem dX5_nameHere_86 : decode cX5_nameHere 86 = .ok (.istore_n 1, 1) := dk_60 (dk_at dksX5_nameHere_3 16 rfl rfl)
theorem dX5_nameHere_87 : decode cX5_nameHere 87 = .ok (.iinc 2 1, 3) := dk_132 2 1 (dk_at dksX5_nameHere_3 17 rfl rfl)
theorem dX5_nameHere_90 : decode cX5_nameHere 90 = .ok (.goto (-54), 3) := dk_167 255 202 (dk_at dksX5_nameHere_3 20 rfl rfl)
theorem dX5_nameHere_93 : decode cX5_nameHere 93 = .ok (.iload_n 1, 1) := dk_27 (dk_at dksX5_nameHere_3 23 rfl rfl)
theorem dX5_nameHere_94 : decode cX5_nameHere 94 = .ok (.ireturn, 1) := dk_172 (dk_at dksX5_nameHere_4 0 rfl rfl)
def dkwX5_found_1 : List UInt8 := [160, 0, 5, 28, 172, 132, 2, 1, 167, 255, 226, 2, 172]
abbrev dktX5_found_1 : List UInt8 := dkwX5_found_1 ++ []
def dkwX5_found_0 : List UInt8 := [3, 61, 28, 42, 182, 0, 114, 162, 0, 28, 27, 153, 0, 24, 42, 180, 0, 13, 16, 16, 28, 96, 46, 27]
abbrev dktX5_found_0 : List UInt8 := dkwX5_found_0 ++ dktX5_found_1
theorem dksX5_found_0 : cX5_found.data.toList.drop 0 = dktX5_found_0 := by decide +kernel
theorem dksX5_found_1 : cX5_found.data.toList.drop 24 = dktX5_found_1 := dk_seg dksX5_found_0 24 rfl rfl
theorem dX5_found_0 : decode cX5_found 0 = .ok (.iconst 0, 1) := dk_3 (dk_at dksX5_found_0 0 rfl rfl)
theorem dX5_found_1 : decode cX5_found 1 = .ok (.istore_n 2, 1) := dk_61 (dk_at dksX5_found_0 1 rfl rfl)
theorem dX5_found_2 : decode cX5_found 2 = .ok (.iload_n 2, 1) := dk_28 (dk_at dksX5_found_0 2 rfl rfl)
theorem dX5_found_3 : decode cX5_found 3 = .ok (.aload_n 0, 1) := dk_42 (dk_at dksX5_found_0 3 rfl rfl)
theorem dX5_found_4 : decode cX5_found 4 = .ok (.invokevirtual 114, 3) := dk_182 0 114 (dk_at dksX5_found_0 4 rfl rfl)
theorem dX5_found_7 : decode cX5_found 7 = .ok (.if_icmp .ge 28, 3) := dk_162 0 28 (dk_at dksX5_found_0 7 rfl rfl)
theorem dX5_found_10 : decode cX5_found 10 = .ok (.iload_n 1, 1) := dk_27 (dk_at dksX5_found_0 10 rfl rfl)
theorem dX5_found_11 : decode cX5_found 11 = .ok (.ifCond .eq 24, 3) := dk_153 0 24 (dk_at dksX5_found_0 11 rfl rfl)
theorem dX5_found_14 : decode cX5_found 14 = .ok (.aload_n 0, 1) := dk_42 (dk_at dksX5_found_0 14 rfl rfl)
theorem dX5_found_15 : decode cX5_found 15 = .ok (.getfield 13, 3) := dk_180 0 13 (dk_at dksX5_found_0 15 rfl rfl)
theorem dX5_found_18 : decode cX5_found 18 = .ok (.bipush 16, 2) := dk_16 16 (dk_at dksX5_found_0 18 rfl rfl)
theorem dX5_found_20 : decode cX5_found 20 = .ok (.iload_n 2, 1) := dk_28 (dk_at dksX5_found_0 20 rfl rfl)
theorem dX5_found_21 : decode cX5_found 21 = .ok (.iadd, 1) := dk_96 (dk_at dksX5_found_0 21 rfl rfl)
theorem dX5_found_22 : decode cX5_found 22 = .ok (.iaload, 1) := dk_46 (dk_at dksX5_found_0 22 rfl rfl)
theorem dX5_found_23 : decode cX5_found 23 = .ok (.iload_n 1, 1) := dk_27 (dk_at dksX5_found_0 23 rfl rfl)
theorem dX5_found_24 : decode cX5_found 24 = .ok (.if_icmp .ne 5, 3) := dk_160 0 5 (dk_at dksX5_found_1 0 rfl rfl)
theorem dX5_found_27 : decode cX5_found 27 = .ok (.iload_n 2, 1) := dk_28 (dk_at dksX5_found_1 3 rfl rfl)
theorem dX5_found_28 : decode cX5_found 28 = .ok (.ireturn, 1) := dk_172 (dk_at dksX5_found_1 4 rfl rfl)
theorem dX5_found_29 : decode cX5_found 29 = .ok (.iinc 2 1, 3) := dk_132 2 1 (dk_at dksX5_found_1 5 rfl rfl)
theorem dX5_found_32 : decode cX5_found 32 = .ok (.goto (-30), 3) := dk_167 255 226 (dk_at dksX5_found_1 8 rfl rfl)
theorem dX5_found_35 : decode cX5_found 35 = .ok (.iconst (-1), 1) := dk_2 (dk_at dksX5_found_1 11 rfl rfl)
theorem dX5_found_36 : decode cX5_found 36 = .ok (.ireturn, 1) := dk_172 (dk_at dksX5_found_1 12 rfl rfl)
def dkwX5_comes_2 : List UInt8 := [28, 182, 0, 99, 42, 29, 5, 4, 182, 0, 99, 42, 180, 0, 19, 5, 92, 46, 4, 96, 79, 177]
abbrev dktX5_comes_2 : List UInt8 := dkwX5_comes_2 ++ []
def dkwX5_comes_1 : List UInt8 := [132, 4, 1, 167, 255, 238, 42, 29, 3, 27, 182, 0, 99, 42, 29, 4, 28, 182, 0, 99, 42, 29, 16, 6]
abbrev dktX5_comes_1 : List UInt8 := dkwX5_comes_1 ++ dktX5_comes_2
def dkwX5_comes_0 : List UInt8 := [42, 182, 0, 114, 62, 3, 54, 4, 21, 4, 16, 64, 162, 0, 17, 42, 29, 21, 4, 3, 182, 0, 99]
abbrev dktX5_comes_0 : List UInt8 := dkwX5_comes_0 ++ dktX5_comes_1
theorem dksX5_comes_0 : cX5_comes.data.toList.drop 0 = dktX5_comes_0 := by decide +kernel
theorem dksX5_comes_1 : cX5_comes.data.toList.drop 23 = dktX5_comes_1 := dk_seg dksX5_comes_0 23 rfl rfl
theorem dksX5_comes_2 : cX5_comes.data.toList.drop 47 = dktX5_comes_2 := dk_seg dksX5_comes_1 24 rfl rfl
theorem dX5_comes_0 : decode cX5_comes 0 = .ok (.aload_n 0, 1) := dk_42 (dk_at dksX5_comes_0 0 rfl rfl)
theorem dX5_comes_1 : decode cX5_comes 1 = .ok (.invokevirtual 114, 3) := dk_182 0 114 (dk_at dksX5_comes_0 1 rfl rfl)
theorem dX5_comes_4 : decode cX5_comes 4 = .ok (.istore_n 3, 1) := dk_62 (dk_at dksX5_comes_0 4 rfl rfl)
theorem dX5_comes_5 : decode cX5_comes 5 = .ok (.iconst 0, 1) := dk_3 (dk_at dksX5_comes_0 5 rfl rfl)
theorem dX5_comes_6 : decode cX5_comes 6 = .ok (.istore 4, 2) := dk_54 4 (dk_at dksX5_comes_0 6 rfl rfl)
theorem dX5_comes_8 : decode cX5_comes 8 = .ok (.iload 4, 2) := dk_21 4 (dk_at dksX5_comes_0 8 rfl rfl)
theorem dX5_comes_10 : decode cX5_comes 10 = .ok (.bipush 64, 2) := dk_16 64 (dk_at dksX5_comes_0 10 rfl rfl)
theorem dX5_comes_12 : decode cX5_comes 12 = .ok (.if_icmp .ge 17, 3) := dk_162 0 17 (dk_at dksX5_comes_0 12 rfl rfl)
theorem dX5_comes_15 : decode cX5_comes 15 = .ok (.aload_n 0, 1) := dk_42 (dk_at dksX5_comes_0 15 rfl rfl)
theorem dX5_comes_16 : decode cX5_comes 16 = .ok (.iload_n 3, 1) := dk_29 (dk_at dksX5_comes_0 16 rfl rfl)
theorem dX5_comes_17 : decode cX5_comes 17 = .ok (.iload 4, 2) := dk_21 4 (dk_at dksX5_comes_0 17 rfl rfl)
theorem dX5_comes_19 : decode cX5_comes 19 = .ok (.iconst 0, 1) := dk_3 (dk_at dksX5_comes_0 19 rfl rfl)
theorem dX5_comes_20 : decode cX5_comes 20 = .ok (.invokevirtual 99, 3) := dk_182 0 99 (dk_at dksX5_comes_0 20 rfl rfl)
theorem dX5_comes_23 : decode cX5_comes 23 = .ok (.iinc 4 1, 3) := dk_132 4 1 (dk_at dksX5_comes_1 0 rfl rfl)
theorem dX5_comes_26 : decode cX5_comes 26 = .ok (.goto (-18), 3) := dk_167 255 238 (dk_at dksX5_comes_1 3 rfl rfl)
theorem dX5_comes_29 : decode cX5_comes 29 = .ok (.aload_n 0, 1) := dk_42 (dk_at dksX5_comes_1 6 rfl rfl)
theorem dX5_comes_30 : decode cX5_comes 30 = .ok (.iload_n 3, 1) := dk_29 (dk_at dksX5_comes_1 7 rfl rfl)
theorem dX5_comes_31 : decode cX5_comes 31 = .ok (.iconst 0, 1) := dk_3 (dk_at dksX5_comes_1 8 rfl rfl)
theorem dX5_comes_32 : decode cX5_comes 32 = .ok (.iload_n 1, 1) := dk_27 (dk_at dksX5_comes_1 9 rfl rfl)
theorem dX5_comes_33 : decode cX5_comes 33 = .ok (.invokevirtual 99, 3) := dk_182 0 99 (dk_at dksX5_comes_1 10 rfl rfl)
theorem dX5_comes_36 : decode cX5_comes 36 = .ok (.aload_n 0, 1) := dk_42 (dk_at dksX5_comes_1 13 rfl rfl)
theorem dX5_comes_37 : decode cX5_comes 37 = .ok (.iload_n 3, 1) := dk_29 (dk_at dksX5_comes_1 14 rfl rfl)
theorem dX5_comes_38 : decode cX5_comes 38 = .ok (.iconst 1, 1) := dk_4 (dk_at dksX5_comes_1 15 rfl rfl)
theorem dX5_comes_39 : decode cX5_comes 39 = .ok (.iload_n 2, 1) := dk_28 (dk_at dksX5_comes_1 16 rfl rfl)
theorem dX5_comes_40 : decode cX5_comes 40 = .ok (.invokevirtual 99, 3) := dk_182 0 99 (dk_at dksX5_comes_1 17 rfl rfl)
theorem dX5_comes_43 : decode cX5_comes 43 = .ok (.aload_n 0, 1) := dk_42 (dk_at dksX5_comes_1 20 rfl rfl)
theorem dX5_comes_44 : decode cX5_comes 44 = .ok (.iload_n 3, 1) := dk_29 (dk_at dksX5_comes_1 21 rfl rfl)
theorem dX5_comes_45 : decode cX5_comes 45 = .ok (.bipush 6, 2) := dk_16 6 (dk_at dksX5_comes_1 22 rfl rfl)
theorem dX5_comes_47 : decode cX5_comes 47 = .ok (.iload_n 2, 1) := dk_28 (dk_at dksX5_comes_2 0 rfl rfl)
theorem dX5_comes_48 : decode cX5_comes 48 = .ok (.invokevirtual 99, 3) := dk_182 0 99 (dk_at dksX5_comes_2 1 rfl rfl)
theorem dX5_comes_51 : decode cX5_comes 51 = .ok (.aload_n 0, 1) := dk_42 (dk_at dksX5_comes_2 4 rfl rfl)
theorem dX5_comes_52 : decode cX5_comes 52 = .ok (.iload_n 3, 1) := dk_29 (dk_at dksX5_comes_2 5 rfl rfl)
theorem dX5_comes_53 : decode cX5_comes 53 = .ok (.iconst 2, 1) := dk_5 (dk_at dksX5_comes_2 6 rfl rfl)
theorem dX5_comes_54 : decode cX5_comes 54 = .ok (.iconst 1, 1) := dk_4 (dk_at dksX5_comes_2 7 rfl rfl)
theorem dX5_comes_55 : decode cX5_comes 55 = .ok (.invokevirtual 99, 3) := dk_182 0 99 (dk_at dksX5_comes_2 8 rfl rfl)
theorem dX5_comes_58 : decode cX5_comes 58 = .ok (.aload_n 0, 1) := dk_42 (dk_at dksX5_comes_2 11 rfl rfl)
theorem dX5_comes_59 : decode cX5_comes 59 = .ok (.getfield 19, 3) := dk_180 0 19 (dk_at dksX5_comes_2 12 rfl rfl)
theorem dX5_comes_62 : decode cX5_comes 62 = .ok (.iconst 2, 1) := dk_5 (dk_at dksX5_comes_2 15 rfl rfl)
theorem dX5_comes_63 : decode cX5_comes 63 = .ok (.dup2, 1) := dk_92 (dk_at dksX5_comes_2 16 rfl rfl)
theorem dX5_comes_64 : decode cX5_comes 64 = .ok (.iaload, 1) := dk_46 (dk_at dksX5_comes_2 17 rfl rfl)
theorem dX5_comes_65 : decode cX5_comes 65 = .ok (.iconst 1, 1) := dk_4 (dk_at dksX5_comes_2 18 rfl rfl)
theorem dX5_comes_66 : decode cX5_comes 66 = .ok (.iadd, 1) := dk_96 (dk_at dksX5_comes_2 19 rfl rfl)
theorem dX5_comes_67 : decode cX5_comes 67 = .ok (.iastore, 1) := dk_79 (dk_at dksX5_comes_2 20 rfl rfl)
theorem dX5_comes_68 : decode cX5_comes 68 = .ok (.return_, 1) := dk_177 (dk_at dksX5_comes_2 21 rfl rfl)
def dkwX5_sets_0 : List UInt8 := [42, 180, 0, 19, 6, 16, 64, 27, 104, 96, 28, 96, 29, 79, 177]
abbrev dktX5_sets_0 : List UInt8 := dkwX5_sets_0 ++ []
theorem dksX5_sets_0 : cX5_sets.data.toList.drop 0 = dktX5_sets_0 := by decide +kernel
theorem dX5_sets_0 : decode cX5_sets 0 = .ok (.aload_n 0, 1) := dk_42 (dk_at dksX5_sets_0 0 rfl rfl)
theorem dX5_sets_1 : decode cX5_sets 1 = .ok (.getfield 19, 3) := dk_180 0 19 (dk_at dksX5_sets_0 1 rfl rfl)
theorem dX5_sets_4 : decode cX5_sets 4 = .ok (.iconst 3, 1) := dk_6 (dk_at dksX5_sets_0 4 rfl rfl)
theorem dX5_sets_5 : decode cX5_sets 5 = .ok (.bipush 64, 2) := dk_16 64 (dk_at dksX5_sets_0 5 rfl rfl)
theorem dX5_sets_7 : decode cX5_sets 7 = .ok (.iload_n 1, 1) := dk_27 (dk_at dksX5_sets_0 7 rfl rfl)
theorem dX5_sets_8 : decode cX5_sets 8 = .ok (.imul, 1) := dk_104 (dk_at dksX5_sets_0 8 rfl rfl)
theorem dX5_sets_9 : decode cX5_sets 9 = .ok (.iadd, 1) := dk_96 (dk_at dksX5_sets_0 9 rfl rfl)
theorem dX5_sets_10 : decode cX5_sets 10 = .ok (.iload_n 2, 1) := dk_28 (dk_at dksX5_sets_0 10 rfl rfl)
theorem dX5_sets_11 : decode cX5_sets 11 = .ok (.iadd, 1) := dk_96 (dk_at dksX5_sets_0 11 rfl rfl)
theorem dX5_sets_12 : decode cX5_sets 12 = .ok (.iload_n 3, 1) := dk_29 (dk_at dksX5_sets_0 12 rfl rfl)
theorem dX5_sets_13 : decode cX5_sets 13 = .ok (.iastore, 1) := dk_79 (dk_at dksX5_sets_0 13 rfl rfl)
theorem dX5_sets_14 : decode cX5_sets 14 = .ok (.return_, 1) := dk_177 (dk_at dksX5_sets_0 14 rfl rfl)
def dkwX5_readCommand_4 : List UInt8 := [42, 27, 28, 29, 21, 4, 182, 0, 235, 177]
abbrev dktX5_readCommand_4 : List UInt8 := dkwX5_readCommand_4 ++ []
def dkwX5_readCommand_3 : List UInt8 := [4, 163, 0, 9, 17, 39, 15, 167, 0, 5, 16, 15, 182, 0, 220, 54, 4, 42, 180, 0, 194, 154, 0, 12]
abbrev dktX5_readCommand_3 : List UInt8 := dkwX5_readCommand_3 ++ dktX5_readCommand_4
def dkwX5_readCommand_2 : List UInt8 := [167, 0, 4, 3, 16, 245, 182, 0, 203, 42, 182, 0, 207, 42, 3, 16, 15, 182, 0, 220, 62, 42, 3, 28]
abbrev dktX5_readCommand_2 : List UInt8 := dkwX5_readCommand_2 ++ dktX5_readCommand_3
def dkwX5_readCommand_1 : List UInt8 := [42, 182, 0, 207, 42, 182, 0, 226, 60, 42, 18, 229, 182, 0, 231, 61, 42, 28, 2, 160, 0, 7, 4]
abbrev dktX5_readCommand_1 : List UInt8 := dkwX5_readCommand_1 ++ dktX5_readCommand_2
def dkwX5_readCommand_0 : List UInt8 := [42, 42, 180, 0, 19, 17, 6, 172, 46, 16, 8, 160, 0, 7, 4, 167, 0, 4, 3, 16, 241, 182, 0, 203]
abbrev dktX5_readCommand_0 : List UInt8 := dkwX5_readCommand_0 ++ dktX5_readCommand_1
theorem dksX5_readCommand_0 : cX5_readCommand.data.toList.drop 0 = dktX5_readCommand_0 := by decide +kernel
theorem dksX5_readCommand_1 : cX5_readCommand.data.toList.drop 24 = dktX5_readCommand_1 := dk_seg dksX5_readCommand_0 24 rfl rfl
theorem dksX5_readCommand_2 : cX5_readCommand.data.toList.drop 47 = dktX5_readCommand_2 := dk_seg dksX5_readCommand_1 23 rfl rfl
theorem dksX5_readCommand_3 : cX5_readCommand.data.toList.drop 71 = dktX5_readCommand_3 := dk_seg dksX5_readCommand_2 24 rfl rfl
theorem dksX5_readCommand_4 : cX5_readCommand.data.toList.drop 95 = dktX5_readCommand_4 := dk_seg dksX5_readCommand_3 24 rfl rfl
theorem dX5_readCommand_0 : decode cX5_readCommand 0 = .ok (.aload_n 0, 1) := dk_42 (dk_at dksX5_readCommand_0 0 rfl rfl)
theorem dX5_readCommand_1 : decode cX5_readCommand 1 = .ok (.aload_n 0, 1) := dk_42 (dk_at dksX5_readCommand_0 1 rfl rfl)
theorem dX5_readCommand_2 : decode cX5_readCommand 2 = .ok (.getfield 19, 3) := dk_180 0 19 (dk_at dksX5_readCommand_0 2 rfl rfl)
theorem dX5_readCommand_5 : decode cX5_readCommand 5 = .ok (.sipush 1708, 3) := dk_17 6 172 (dk_at dksX5_readCommand_0 5 rfl rfl)
theorem dX5_readCommand_8 : decode cX5_readCommand 8 = .ok (.iaload, 1) := dk_46 (dk_at dksX5_readCommand_0 8 rfl rfl)
theorem dX5_readCommand_9 : decode cX5_readCommand 9 = .ok (.bipush 8, 2) := dk_16 8 (dk_at dksX5_readCommand_0 9 rfl rfl)
theorem dX5_readCommand_11 : decode cX5_readCommand 11 = .ok (.if_icmp .ne 7, 3) := dk_160 0 7 (dk_at dksX5_readCommand_0 11 rfl rfl)
theorem dX5_readCommand_14 : decode cX5_readCommand 14 = .ok (.iconst 1, 1) := dk_4 (dk_at dksX5_readCommand_0 14 rfl rfl)
theorem dX5_readCommand_15 : decode cX5_readCommand 15 = .ok (.goto 4, 3) := dk_167 0 4 (dk_at dksX5_readCommand_0 15 rfl rfl)
theorem dX5_readCommand_18 : decode cX5_readCommand 18 = .ok (.iconst 0, 1) := dk_3 (dk_at dksX5_readCommand_0 18 rfl rfl)
theorem dX5_readCommand_19 : decode cX5_readCommand 19 = .ok (.bipush (-15), 2) := dk_16 241 (dk_at dksX5_readCommand_0 19 rfl rfl)
theorem dX5_readCommand_21 : decode cX5_readCommand 21 = .ok (.invokevirtual 203, 3) := dk_182 0 203 (dk_at dksX5_readCommand_0 21 rfl rfl)
theorem dX5_readCommand_24 : decode cX5_readCommand 24 = .ok (.aload_n 0, 1) := dk_42 (dk_at dksX5_readCommand_1 0 rfl rfl)
theorem dX5_readCommand_25 : decode cX5_readCommand 25 = .ok (.invokevirtual 207, 3) := dk_182 0 207 (dk_at dksX5_readCommand_1 1 rfl rfl)
theorem dX5_readCommand_28 : decode cX5_readCommand 28 = .ok (.aload_n 0, 1) := dk_42 (dk_at dksX5_readCommand_1 4 rfl rfl)
theorem dX5_readCommand_29 : decode cX5_readCommand 29 = .ok (.invokevirtual 226, 3) := dk_182 0 226 (dk_at dksX5_readCommand_1 5 rfl rfl)
theorem dX5_readCommand_32 : decode cX5_readCommand 32 = .ok (.istore_n 1, 1) := dk_60 (dk_at dksX5_readCommand_1 8 rfl rfl)
theorem dX5_readCommand_33 : decode cX5_readCommand 33 = .ok (.aload_n 0, 1) := dk_42 (dk_at dksX5_readCommand_1 9 rfl rfl)
theorem dX5_readCommand_34 : decode cX5_readCommand 34 = .ok (.ldc 229, 2) := dk_18 229 (dk_at dksX5_readCommand_1 10 rfl rfl)
theorem dX5_readCommand_36 : decode cX5_readCommand 36 = .ok (.invokevirtual 231, 3) := dk_182 0 231 (dk_at dksX5_readCommand_1 12 rfl rfl)
theorem dX5_readCommand_39 : decode cX5_readCommand 39 = .ok (.istore_n 2, 1) := dk_61 (dk_at dksX5_readCommand_1 15 rfl rfl)
theorem dX5_readCommand_40 : decode cX5_readCommand 40 = .ok (.aload_n 0, 1) := dk_42 (dk_at dksX5_readCommand_1 16 rfl rfl)
theorem dX5_readCommand_41 : decode cX5_readCommand 41 = .ok (.iload_n 2, 1) := dk_28 (dk_at dksX5_readCommand_1 17 rfl rfl)
theorem dX5_readCommand_42 : decode cX5_readCommand 42 = .ok (.iconst (-1), 1) := dk_2 (dk_at dksX5_readCommand_1 18 rfl rfl)
theorem dX5_readCommand_43 : decode cX5_readCommand 43 = .ok (.if_icmp .ne 7, 3) := dk_160 0 7 (dk_at dksX5_readCommand_1 19 rfl rfl)
theorem dX5_readCommand_46 : decode cX5_readCommand 46 = .ok (.iconst 1, 1) := dk_4 (dk_at dksX5_readCommand_1 22 rfl rfl)
theorem dX5_readCommand_47 : decode cX5_readCommand 47 = .ok (.goto 4, 3) := dk_167 0 4 (dk_at dksX5_readCommand_2 0 rfl rfl)
theorem dX5_readCommand_50 : decode cX5_readCommand 50 = .ok (.iconst 0, 1) := dk_3 (dk_at dksX5_readCommand_2 3 rfl rfl)
theorem dX5_readCommand_51 : decode cX5_readCommand 51 = .ok (.bipush (-11), 2) := dk_16 245 (dk_at dksX5_readCommand_2 4 rfl rfl)
theorem dX5_readCommand_53 : decode cX5_readCommand 53 = .ok (.invokevirtual 203, 3) := dk_182 0 203 (dk_at dksX5_readCommand_2 6 rfl rfl)
theorem dX5_readCommand_56 : decode cX5_readCommand 56 = .ok (.aload_n 0, 1) := dk_42 (dk_at dksX5_readCommand_2 9 rfl rfl)
theorem dX5_readCommand_57 : decode cX5_readCommand 57 = .ok (.invokevirtual 207, 3) := dk_182 0 207 (dk_at dksX5_readCommand_2 10 rfl rfl)
theorem dX5_readCommand_60 : decode cX5_readCommand 60 = .ok (.aload_n 0, 1) := dk_42 (dk_at dksX5_readCommand_2 13 rfl rfl)
theorem dX5_readCommand_61 : decode cX5_readCommand 61 = .ok (.iconst 0, 1) := dk_3 (dk_at dksX5_readCommand_2 14 rfl rfl)
theorem dX5_readCommand_62 : decode cX5_readCommand 62 = .ok (.bipush 15, 2) := dk_16 15 (dk_at dksX5_readCommand_2 15 rfl rfl)
theorem dX5_readCommand_64 : decode cX5_readCommand 64 = .ok (.invokevirtual 220, 3) := dk_182 0 220 (dk_at dksX5_readCommand_2 17 rfl rfl)
theorem dX5_readCommand_67 : decode cX5_readCommand 67 = .ok (.istore_n 3, 1) := dk_62 (dk_at dksX5_readCommand_2 20 rfl rfl)
theorem dX5_readCommand_68 : decode cX5_readCommand 68 = .ok (.aload_n 0, 1) := dk_42 (dk_at dksX5_readCommand_2 21 rfl rfl)
theorem dX5_readCommand_69 : decode cX5_readCommand 69 = .ok (.iconst 0, 1) := dk_3 (dk_at dksX5_readCommand_2 22 rfl rfl)
theorem dX5_readCommand_70 : decode cX5_readCommand 70 = .ok (.iload_n 2, 1) := dk_28 (dk_at dksX5_readCommand_2 23 rfl rfl)
theorem dX5_readCommand_71 : decode cX5_readCommand 71 = .ok (.iconst 1, 1) := dk_4 (dk_at dksX5_readCommand_3 0 rfl rfl)
theorem dX5_readCommand_72 : decode cX5_readCommand 72 = .ok (.if_icmp .gt 9, 3) := dk_163 0 9 (dk_at dksX5_readCommand_3 1 rfl rfl)
theorem dX5_readCommand_75 : decode cX5_readCommand 75 = .ok (.sipush 9999, 3) := dk_17 39 15 (dk_at dksX5_readCommand_3 4 rfl rfl)
theorem dX5_readCommand_78 : decode cX5_readCommand 78 = .ok (.goto 5, 3) := dk_167 0 5 (dk_at dksX5_readCommand_3 7 rfl rfl)
theorem dX5_readCommand_81 : decode cX5_readCommand 81 = .ok (.bipush 15, 2) := dk_16 15 (dk_at dksX5_readCommand_3 10 rfl rfl)
theorem dX5_readCommand_83 : decode cX5_readCommand 83 = .ok (.invokevirtual 220, 3) := dk_182 0 220 (dk_at dksX5_readCommand_3 12 rfl rfl)
theorem dX5_readCommand_86 : decode cX5_readCommand 86 = .ok (.istore 4, 2) := dk_54 4 (dk_at dksX5_readCommand_3 15 rfl rfl)
theorem dX5_readCommand_88 : decode cX5_readCommand 88 = .ok (.aload_n 0, 1) := dk_42 (dk_at dksX5_readCommand_3 17 rfl rfl)
theorem dX5_readCommand_89 : decode cX5_readCommand 89 = .ok (.getfield 194, 3) := dk_180 0 194 (dk_at dksX5_readCommand_3 18 rfl rfl)
theorem dX5_readCommand_92 : decode cX5_readCommand 92 = .ok (.ifCond .ne 12, 3) := dk_154 0 12 (dk_at dksX5_readCommand_3 21 rfl rfl)
theorem dX5_readCommand_95 : decode cX5_readCommand 95 = .ok (.aload_n 0, 1) := dk_42 (dk_at dksX5_readCommand_4 0 rfl rfl)
theorem dX5_readCommand_96 : decode cX5_readCommand 96 = .ok (.iload_n 1, 1) := dk_27 (dk_at dksX5_readCommand_4 1 rfl rfl)
theorem dX5_readCommand_97 : decode cX5_readCommand 97 = .ok (.iload_n 2, 1) := dk_28 (dk_at dksX5_readCommand_4 2 rfl rfl)
theorem dX5_readCommand_98 : decode cX5_readCommand 98 = .ok (.iload_n 3, 1) := dk_29 (dk_at dksX5_readCommand_4 3 rfl rfl)
theorem dX5_readCommand_99 : decode cX5_readCommand 99 = .ok (.iload 4, 2) := dk_21 4 (dk_at dksX5_readCommand_4 4 rfl rfl)
theorem dX5_readCommand_101 : decode cX5_readCommand 101 = .ok (.invokevirtual 235, 3) := dk_182 0 235 (dk_at dksX5_readCommand_4 6 rfl rfl)
theorem dX5_readCommand_104 : decode cX5_readCommand 104 = .ok (.return_, 1) := dk_177 (dk_at dksX5_readCommand_4 9 rfl rfl)
def dkwX5_known_2 : List UInt8 := [154, 0, 7, 28, 167, 0, 4, 3, 172]
abbrev dktX5_known_2 : List UInt8 := dkwX5_known_2 ++ []
def dkwX5_known_1 : List UInt8 := [2, 160, 0, 7, 4, 167, 0, 4, 3, 16, 243, 182, 0, 203, 42, 182, 0, 207, 42, 180, 0, 194]
abbrev dktX5_known_1 : List UInt8 := dkwX5_known_1 ++ dktX5_known_2
def dkwX5_known_0 : List UInt8 := [42, 182, 0, 210, 60, 42, 180, 0, 194, 154, 0, 11, 42, 27, 182, 0, 213, 167, 0, 4, 3, 61, 42, 28]
abbrev dktX5_known_0 : List UInt8 := dkwX5_known_0 ++ dktX5_known_1
theorem dksX5_known_0 : cX5_known.data.toList.drop 0 = dktX5_known_0 := by decide +kernel
theorem dksX5_known_1 : cX5_known.data.toList.drop 24 = dktX5_known_1 := dk_seg dksX5_known_0 24 rfl rfl
theorem dksX5_known_2 : cX5_known.data.toList.drop 46 = dktX5_known_2 := dk_seg dksX5_known_1 22 rfl rfl
theorem dX5_known_0 : decode cX5_known 0 = .ok (.aload_n 0, 1) := dk_42 (dk_at dksX5_known_0 0 rfl rfl)
theorem dX5_known_1 : decode cX5_known 1 = .ok (.invokevirtual 210, 3) := dk_182 0 210 (dk_at dksX5_known_0 1 rfl rfl)
theorem dX5_known_4 : decode cX5_known 4 = .ok (.istore_n 1, 1) := dk_60 (dk_at dksX5_known_0 4 rfl rfl)
theorem dX5_known_5 : decode cX5_known 5 = .ok (.aload_n 0, 1) := dk_42 (dk_at dksX5_known_0 5 rfl rfl)
theorem dX5_known_6 : decode cX5_known 6 = .ok (.getfield 194, 3) := dk_180 0 194 (dk_at dksX5_known_0 6 rfl rfl)
theorem dX5_known_9 : decode cX5_known 9 = .ok (.ifCond .ne 11, 3) := dk_154 0 11 (dk_at dksX5_known_0 9 rfl rfl)
theorem dX5_known_12 : decode cX5_known 12 = .ok (.aload_n 0, 1) := dk_42 (dk_at dksX5_known_0 12 rfl rfl)
theorem dX5_known_13 : decode cX5_known 13 = .ok (.iload_n 1, 1) := dk_27 (dk_at dksX5_known_0 13 rfl rfl)
theorem dX5_known_14 : decode cX5_known 14 = .ok (.invokevirtual 213, 3) := dk_182 0 213 (dk_at dksX5_known_0 14 rfl rfl)
theorem dX5_known_17 : decode cX5_known 17 = .ok (.goto 4, 3) := dk_167 0 4 (dk_at dksX5_known_0 17 rfl rfl)
theorem dX5_known_20 : decode cX5_known 20 = .ok (.iconst 0, 1) := dk_3 (dk_at dksX5_known_0 20 rfl rfl)
theorem dX5_known_21 : decode cX5_known 21 = .ok (.istore_n 2, 1) := dk_61 (dk_at dksX5_known_0 21 rfl rfl)
theorem dX5_known_22 : decode cX5_known 22 = .ok (.aload_n 0, 1) := dk_42 (dk_at dksX5_known_0 22 rfl rfl)
theorem dX5_known_23 : decode cX5_known 23 = .ok (.iload_n 2, 1) := dk_28 (dk_at dksX5_known_0 23 rfl rfl)
theorem dX5_known_24 : decode cX5_known 24 = .ok (.iconst (-1), 1) := dk_2 (dk_at dksX5_known_1 0 rfl rfl)
theorem dX5_known_25 : decode cX5_known 25 = .ok (.if_icmp .ne 7, 3) := dk_160 0 7 (dk_at dksX5_known_1 1 rfl rfl)
theorem dX5_known_28 : decode cX5_known 28 = .ok (.iconst 1, 1) := dk_4 (dk_at dksX5_known_1 4 rfl rfl)
theorem dX5_known_29 : decode cX5_known 29 = .ok (.goto 4, 3) := dk_167 0 4 (dk_at dksX5_known_1 5 rfl rfl)
theorem dX5_known_32 : decode cX5_known 32 = .ok (.iconst 0, 1) := dk_3 (dk_at dksX5_known_1 8 rfl rfl)
theorem dX5_known_33 : decode cX5_known 33 = .ok (.bipush (-13), 2) := dk_16 243 (dk_at dksX5_known_1 9 rfl rfl)
theorem dX5_known_35 : decode cX5_known 35 = .ok (.invokevirtual 203, 3) := dk_182 0 203 (dk_at dksX5_known_1 11 rfl rfl)
theorem dX5_known_38 : decode cX5_known 38 = .ok (.aload_n 0, 1) := dk_42 (dk_at dksX5_known_1 14 rfl rfl)
theorem dX5_known_39 : decode cX5_known 39 = .ok (.invokevirtual 207, 3) := dk_182 0 207 (dk_at dksX5_known_1 15 rfl rfl)
theorem dX5_known_42 : decode cX5_known 42 = .ok (.aload_n 0, 1) := dk_42 (dk_at dksX5_known_1 18 rfl rfl)
theorem dX5_known_43 : decode cX5_known 43 = .ok (.getfield 194, 3) := dk_180 0 194 (dk_at dksX5_known_1 19 rfl rfl)
theorem dX5_known_46 : decode cX5_known 46 = .ok (.ifCond .ne 7, 3) := dk_154 0 7 (dk_at dksX5_known_2 0 rfl rfl)
theorem dX5_known_49 : decode cX5_known 49 = .ok (.iload_n 2, 1) := dk_28 (dk_at dksX5_known_2 3 rfl rfl)
theorem dX5_known_50 : decode cX5_known 50 = .ok (.goto 4, 3) := dk_167 0 4 (dk_at dksX5_known_2 4 rfl rfl)
theorem dX5_known_53 : decode cX5_known 53 = .ok (.iconst 0, 1) := dk_3 (dk_at dksX5_known_2 7 rfl rfl)
theorem dX5_known_54 : decode cX5_known 54 = .ok (.ireturn, 1) := dk_172 (dk_at dksX5_known_2 8 rfl rfl)
def dkwX5_gives_2 : List UInt8 := [180, 0, 19, 21, 5, 6, 96, 21, 4, 79, 42, 180, 0, 19, 17, 6, 172, 92, 46, 4, 96, 79, 177]
abbrev dktX5_gives_2 : List UInt8 := dkwX5_gives_2 ++ []
def dkwX5_gives_1 : List UInt8 := [27, 79, 42, 180, 0, 19, 21, 5, 4, 96, 28, 79, 42, 180, 0, 19, 21, 5, 5, 96, 29, 79, 42]
abbrev dktX5_gives_1 : List UInt8 := dkwX5_gives_1 ++ dktX5_gives_2
def dkwX5_gives_0 : List UInt8 := [17, 6, 173, 7, 42, 180, 0, 19, 17, 6, 172, 46, 104, 96, 54, 5, 42, 180, 0, 19, 21, 5, 3, 96]
abbrev dktX5_gives_0 : List UInt8 := dkwX5_gives_0 ++ dktX5_gives_1
theorem dksX5_gives_0 : cX5_gives.data.toList.drop 0 = dktX5_gives_0 := by decide +kernel
theorem dksX5_gives_1 : cX5_gives.data.toList.drop 24 = dktX5_gives_1 := dk_seg dksX5_gives_0 24 rfl rfl
theorem dksX5_gives_2 : cX5_gives.data.toList.drop 47 = dktX5_gives_2 := dk_seg dksX5_gives_1 23 rfl rfl
theorem dX5_gives_0 : decode cX5_gives 0 = .ok (.sipush 1709, 3) := dk_17 6 173 (dk_at dksX5_gives_0 0 rfl rfl)
theorem dX5_gives_3 : decode cX5_gives 3 = .ok (.iconst 4, 1) := dk_7 (dk_at dksX5_gives_0 3 rfl rfl)
theorem dX5_gives_4 : decode cX5_gives 4 = .ok (.aload_n 0, 1) := dk_42 (dk_at dksX5_gives_0 4 rfl rfl)
theorem dX5_gives_5 : decode cX5_gives 5 = .ok (.getfield 19, 3) := dk_180 0 19 (dk_at dksX5_gives_0 5 rfl rfl)
theorem dX5_gives_8 : decode cX5_gives 8 = .ok (.sipush 1708, 3) := dk_17 6 172 (dk_at dksX5_gives_0 8 rfl rfl)
theorem dX5_gives_11 : decode cX5_gives 11 = .ok (.iaload, 1) := dk_46 (dk_at dksX5_gives_0 11 rfl rfl)
theorem dX5_gives_12 : decode cX5_gives 12 = .ok (.imul, 1) := dk_104 (dk_at dksX5_gives_0 12 rfl rfl)
theorem dX5_gives_13 : decode cX5_gives 13 = .ok (.iadd, 1) := dk_96 (dk_at dksX5_gives_0 13 rfl rfl)
theorem dX5_gives_14 : decode cX5_gives 14 = .ok (.istore 5, 2) := dk_54 5 (dk_at dksX5_gives_0 14 rfl rfl)
theorem dX5_gives_16 : decode cX5_gives 16 = .ok (.aload_n 0, 1) := dk_42 (dk_at dksX5_gives_0 16 rfl rfl)
theorem dX5_gives_17 : decode cX5_gives 17 = .ok (.getfield 19, 3) := dk_180 0 19 (dk_at dksX5_gives_0 17 rfl rfl)
theorem dX5_gives_20 : decode cX5_gives 20 = .ok (.iload 5, 2) := dk_21 5 (dk_at dksX5_gives_0 20 rfl rfl)
theorem dX5_gives_22 : decode cX5_gives 22 = .ok (.iconst 0, 1) := dk_3 (dk_at dksX5_gives_0 22 rfl rfl)
theorem dX5_gives_23 : decode cX5_gives 23 = .ok (.iadd, 1) := dk_96 (dk_at dksX5_gives_0 23 rfl rfl)
theorem dX5_gives_24 : decode cX5_gives 24 = .ok (.iload_n 1, 1) := dk_27 (dk_at dksX5_gives_1 0 rfl rfl)
theorem dX5_gives_25 : decode cX5_gives 25 = .ok (.iastore, 1) := dk_79 (dk_at dksX5_gives_1 1 rfl rfl)
theorem dX5_gives_26 : decode cX5_gives 26 = .ok (.aload_n 0, 1) := dk_42 (dk_at dksX5_gives_1 2 rfl rfl)
theorem dX5_gives_27 : decode cX5_gives 27 = .ok (.getfield 19, 3) := dk_180 0 19 (dk_at dksX5_gives_1 3 rfl rfl)
theorem dX5_gives_30 : decode cX5_gives 30 = .ok (.iload 5, 2) := dk_21 5 (dk_at dksX5_gives_1 6 rfl rfl)
theorem dX5_gives_32 : decode cX5_gives 32 = .ok (.iconst 1, 1) := dk_4 (dk_at dksX5_gives_1 8 rfl rfl)
theorem dX5_gives_33 : decode cX5_gives 33 = .ok (.iadd, 1) := dk_96 (dk_at dksX5_gives_1 9 rfl rfl)
theorem dX5_gives_34 : decode cX5_gives 34 = .ok (.iload_n 2, 1) := dk_28 (dk_at dksX5_gives_1 10 rfl rfl)
theorem dX5_gives_35 : decode cX5_gives 35 = .ok (.iastore, 1) := dk_79 (dk_at dksX5_gives_1 11 rfl rfl)
theorem dX5_gives_36 : decode cX5_gives 36 = .ok (.aload_n 0, 1) := dk_42 (dk_at dksX5_gives_1 12 rfl rfl)
theorem dX5_gives_37 : decode cX5_gives 37 = .ok (.getfield 19, 3) := dk_180 0 19 (dk_at dksX5_gives_1 13 rfl rfl)
theorem dX5_gives_40 : decode cX5_gives 40 = .ok (.iload 5, 2) := dk_21 5 (dk_at dksX5_gives_1 16 rfl rfl)
theorem dX5_gives_42 : decode cX5_gives 42 = .ok (.iconst 2, 1) := dk_5 (dk_at dksX5_gives_1 18 rfl rfl)
theorem dX5_gives_43 : decode cX5_gives 43 = .ok (.iadd, 1) := dk_96 (dk_at dksX5_gives_1 19 rfl rfl)
theorem dX5_gives_44 : decode cX5_gives 44 = .ok (.iload_n 3, 1) := dk_29 (dk_at dksX5_gives_1 20 rfl rfl)
theorem dX5_gives_45 : decode cX5_gives 45 = .ok (.iastore, 1) := dk_79 (dk_at dksX5_gives_1 21 rfl rfl)
theorem dX5_gives_46 : decode cX5_gives 46 = .ok (.aload_n 0, 1) := dk_42 (dk_at dksX5_gives_1 22 rfl rfl)
theorem dX5_gives_47 : decode cX5_gives 47 = .ok (.getfield 19, 3) := dk_180 0 19 (dk_at dksX5_gives_2 0 rfl rfl)
theorem dX5_gives_50 : decode cX5_gives 50 = .ok (.iload 5, 2) := dk_21 5 (dk_at dksX5_gives_2 3 rfl rfl)
theorem dX5_gives_52 : decode cX5_gives 52 = .ok (.iconst 3, 1) := dk_6 (dk_at dksX5_gives_2 5 rfl rfl)
theorem dX5_gives_53 : decode cX5_gives 53 = .ok (.iadd, 1) := dk_96 (dk_at dksX5_gives_2 6 rfl rfl)
theorem dX5_gives_54 : decode cX5_gives 54 = .ok (.iload 4, 2) := dk_21 4 (dk_at dksX5_gives_2 7 rfl rfl)
theorem dX5_gives_56 : decode cX5_gives 56 = .ok (.iastore, 1) := dk_79 (dk_at dksX5_gives_2 9 rfl rfl)
theorem dX5_gives_57 : decode cX5_gives 57 = .ok (.aload_n 0, 1) := dk_42 (dk_at dksX5_gives_2 10 rfl rfl)
theorem dX5_gives_58 : decode cX5_gives 58 = .ok (.getfield 19, 3) := dk_180 0 19 (dk_at dksX5_gives_2 11 rfl rfl)
theorem dX5_gives_61 : decode cX5_gives 61 = .ok (.sipush 1708, 3) := dk_17 6 172 (dk_at dksX5_gives_2 14 rfl rfl)
theorem dX5_gives_64 : decode cX5_gives 64 = .ok (.dup2, 1) := dk_92 (dk_at dksX5_gives_2 17 rfl rfl)
theorem dX5_gives_65 : decode cX5_gives 65 = .ok (.iaload, 1) := dk_46 (dk_at dksX5_gives_2 18 rfl rfl)
theorem dX5_gives_66 : decode cX5_gives 66 = .ok (.iconst 1, 1) := dk_4 (dk_at dksX5_gives_2 19 rfl rfl)
theorem dX5_gives_67 : decode cX5_gives 67 = .ok (.iadd, 1) := dk_96 (dk_at dksX5_gives_2 20 rfl rfl)
theorem dX5_gives_68 : decode cX5_gives 68 = .ok (.iastore, 1) := dk_79 (dk_at dksX5_gives_2 21 rfl rfl)
theorem dX5_gives_69 : decode cX5_gives 69 = .ok (.return_, 1) := dk_177 (dk_at dksX5_gives_2 22 rfl rfl)
def dkwX5_readSeal_1 : List UInt8 := [42, 180, 0, 194, 154, 0, 7, 42, 182, 0, 239, 42, 182, 0, 207, 177]
abbrev dktX5_readSeal_1 : List UInt8 := dkwX5_readSeal_1 ++ []
def dkwX5_readSeal_0 : List UInt8 := [42, 42, 180, 0, 19, 17, 1, 131, 46, 16, 40, 160, 0, 7, 4, 167, 0, 4, 3, 16, 241, 182, 0, 203]
abbrev dktX5_readSeal_0 : List UInt8 := dkwX5_readSeal_0 ++ dktX5_readSeal_1
theorem dksX5_readSeal_0 : cX5_readSeal.data.toList.drop 0 = dktX5_readSeal_0 := by decide +kernel
theorem dksX5_readSeal_1 : cX5_readSeal.data.toList.drop 24 = dktX5_readSeal_1 := dk_seg dksX5_readSeal_0 24 rfl rfl
theorem dX5_readSeal_0 : decode cX5_readSeal 0 = .ok (.aload_n 0, 1) := dk_42 (dk_at dksX5_readSeal_0 0 rfl rfl)
theorem dX5_readSeal_1 : decode cX5_readSeal 1 = .ok (.aload_n 0, 1) := dk_42 (dk_at dksX5_readSeal_0 1 rfl rfl)
theorem dX5_readSeal_2 : decode cX5_readSeal 2 = .ok (.getfield 19, 3) := dk_180 0 19 (dk_at dksX5_readSeal_0 2 rfl rfl)
theorem dX5_readSeal_5 : decode cX5_readSeal 5 = .ok (.sipush 387, 3) := dk_17 1 131 (dk_at dksX5_readSeal_0 5 rfl rfl)
theorem dX5_readSeal_8 : decode cX5_readSeal 8 = .ok (.iaload, 1) := dk_46 (dk_at dksX5_readSeal_0 8 rfl rfl)
theorem dX5_readSeal_9 : decode cX5_readSeal 9 = .ok (.bipush 40, 2) := dk_16 40 (dk_at dksX5_readSeal_0 9 rfl rfl)
theorem dX5_readSeal_11 : decode cX5_readSeal 11 = .ok (.if_icmp .ne 7, 3) := dk_160 0 7 (dk_at dksX5_readSeal_0 11 rfl rfl)
theorem dX5_readSeal_14 : decode cX5_readSeal 14 = .ok (.iconst 1, 1) := dk_4 (dk_at dksX5_readSeal_0 14 rfl rfl)
theorem dX5_readSeal_15 : decode cX5_readSeal 15 = .ok (.goto 4, 3) := dk_167 0 4 (dk_at dksX5_readSeal_0 15 rfl rfl)
theorem dX5_readSeal_18 : decode cX5_readSeal 18 = .ok (.iconst 0, 1) := dk_3 (dk_at dksX5_readSeal_0 18 rfl rfl)
theorem dX5_readSeal_19 : decode cX5_readSeal 19 = .ok (.bipush (-15), 2) := dk_16 241 (dk_at dksX5_readSeal_0 19 rfl rfl)
theorem dX5_readSeal_21 : decode cX5_readSeal 21 = .ok (.invokevirtual 203, 3) := dk_182 0 203 (dk_at dksX5_readSeal_0 21 rfl rfl)
theorem dX5_readSeal_24 : decode cX5_readSeal 24 = .ok (.aload_n 0, 1) := dk_42 (dk_at dksX5_readSeal_1 0 rfl rfl)
theorem dX5_readSeal_25 : decode cX5_readSeal 25 = .ok (.getfield 194, 3) := dk_180 0 194 (dk_at dksX5_readSeal_1 1 rfl rfl)
theorem dX5_readSeal_28 : decode cX5_readSeal 28 = .ok (.ifCond .ne 7, 3) := dk_154 0 7 (dk_at dksX5_readSeal_1 4 rfl rfl)
theorem dX5_readSeal_31 : decode cX5_readSeal 31 = .ok (.aload_n 0, 1) := dk_42 (dk_at dksX5_readSeal_1 7 rfl rfl)
theorem dX5_readSeal_32 : decode cX5_readSeal 32 = .ok (.invokevirtual 239, 3) := dk_182 0 239 (dk_at dksX5_readSeal_1 8 rfl rfl)
theorem dX5_readSeal_35 : decode cX5_readSeal 35 = .ok (.aload_n 0, 1) := dk_42 (dk_at dksX5_readSeal_1 11 rfl rfl)
theorem dX5_readSeal_36 : decode cX5_readSeal 36 = .ok (.invokevirtual 207, 3) := dk_182 0 207 (dk_at dksX5_readSeal_1 12 rfl rfl)
theorem dX5_readSeal_39 : decode cX5_readSeal 39 = .ok (.return_, 1) := dk_177 (dk_at dksX5_readSeal_1 15 rfl rfl)
def dkwX5_seals_7 : List UInt8 := [132, 3, 1, 167, 255, 236, 177]
abbrev dktX5_seals_7 : List UInt8 := dkwX5_seals_7 ++ []
def dkwX5_seals_6 : List UInt8 := [46, 4, 96, 79, 3, 62, 29, 16, 33, 162, 0, 20, 42, 180, 0, 19, 17, 6, 172, 29, 96, 3, 79]
abbrev dktX5_seals_6 : List UInt8 := dkwX5_seals_6 ++ dktX5_seals_7
def dkwX5_seals_5 : List UInt8 := [167, 255, 171, 132, 3, 1, 167, 255, 156, 42, 180, 0, 19, 27, 28, 79, 42, 180, 0, 19, 17, 1, 131, 92]
abbrev dktX5_seals_5 : List UInt8 := dkwX5_seals_5 ++ dktX5_seals_6
def dkwX5_seals_4 : List UInt8 := [7, 21, 4, 104, 96, 21, 5, 96, 46, 79, 132, 5, 1, 167, 255, 216, 132, 2, 1, 132, 4, 1]
abbrev dktX5_seals_4 : List UInt8 := dkwX5_seals_4 ++ dktX5_seals_5
def dkwX5_seals_3 : List UInt8 := [162, 0, 40, 42, 180, 0, 19, 27, 4, 96, 7, 28, 104, 96, 21, 5, 96, 42, 180, 0, 19, 17, 6, 173]
abbrev dktX5_seals_3 : List UInt8 := dkwX5_seals_3 ++ dktX5_seals_4
def dkwX5_seals_2 : List UInt8 := [17, 6, 173, 7, 21, 4, 104, 96, 46, 29, 159, 0, 6, 167, 0, 52, 3, 54, 5, 21, 5, 7]
abbrev dktX5_seals_2 : List UInt8 := dkwX5_seals_2 ++ dktX5_seals_3
def dkwX5_seals_1 : List UInt8 := [162, 0, 100, 3, 54, 4, 21, 4, 42, 180, 0, 19, 17, 6, 172, 46, 162, 0, 78, 42, 180, 0, 19]
abbrev dktX5_seals_1 : List UInt8 := dkwX5_seals_1 ++ dktX5_seals_2
def dkwX5_seals_0 : List UInt8 := [17, 1, 132, 16, 33, 42, 180, 0, 19, 17, 1, 131, 46, 104, 96, 60, 3, 61, 3, 62, 29, 16, 6]
abbrev dktX5_seals_0 : List UInt8 := dkwX5_seals_0 ++ dktX5_seals_1
theorem dksX5_seals_0 : cX5_seals.data.toList.drop 0 = dktX5_seals_0 := by decide +kernel
theorem dksX5_seals_1 : cX5_seals.data.toList.drop 23 = dktX5_seals_1 := dk_seg dksX5_seals_0 23 rfl rfl
theorem dksX5_seals_2 : cX5_seals.data.toList.drop 46 = dktX5_seals_2 := dk_seg dksX5_seals_1 23 rfl rfl
theorem dksX5_seals_3 : cX5_seals.data.toList.drop 68 = dktX5_seals_3 := dk_seg dksX5_seals_2 22 rfl rfl
theorem dksX5_seals_4 : cX5_seals.data.toList.drop 92 = dktX5_seals_4 := dk_seg dksX5_seals_3 24 rfl rfl
theorem dksX5_seals_5 : cX5_seals.data.toList.drop 114 = dktX5_seals_5 := dk_seg dksX5_seals_4 22 rfl rfl
theorem dksX5_seals_6 : cX5_seals.data.toList.drop 138 = dktX5_seals_6 := dk_seg dksX5_seals_5 24 rfl rfl
theorem dksX5_seals_7 : cX5_seals.data.toList.drop 161 = dktX5_seals_7 := dk_seg dksX5_seals_6 23 rfl rfl
theorem dX5_seals_0 : decode cX5_seals 0 = .ok (.sipush 388, 3) := dk_17 1 132 (dk_at dksX5_seals_0 0 rfl rfl)
theorem dX5_seals_3 : decode cX5_seals 3 = .ok (.bipush 33, 2) := dk_16 33 (dk_at dksX5_seals_0 3 rfl rfl)
theorem dX5_seals_5 : decode cX5_seals 5 = .ok (.aload_n 0, 1) := dk_42 (dk_at dksX5_seals_0 5 rfl rfl)
theorem dX5_seals_6 : decode cX5_seals 6 = .ok (.getfield 19, 3) := dk_180 0 19 (dk_at dksX5_seals_0 6 rfl rfl)
theorem dX5_seals_9 : decode cX5_seals 9 = .ok (.sipush 387, 3) := dk_17 1 131 (dk_at dksX5_seals_0 9 rfl rfl)
theorem dX5_seals_12 : decode cX5_seals 12 = .ok (.iaload, 1) := dk_46 (dk_at dksX5_seals_0 12 rfl rfl)
theorem dX5_seals_13 : decode cX5_seals 13 = .ok (.imul, 1) := dk_104 (dk_at dksX5_seals_0 13 rfl rfl)
theorem dX5_seals_14 : decode cX5_seals 14 = .ok (.iadd, 1) := dk_96 (dk_at dksX5_seals_0 14 rfl rfl)
theorem dX5_seals_15 : decode cX5_seals 15 = .ok (.istore_n 1, 1) := dk_60 (dk_at dksX5_seals_0 15 rfl rfl)
theorem dX5_seals_16 : decode cX5_seals 16 = .ok (.iconst 0, 1) := dk_3 (dk_at dksX5_seals_0 16 rfl rfl)
theorem dX5_seals_17 : decode cX5_seals 17 = .ok (.istore_n 2, 1) := dk_61 (dk_at dksX5_seals_0 17 rfl rfl)
theorem dX5_seals_18 : decode cX5_seals 18 = .ok (.iconst 0, 1) := dk_3 (dk_at dksX5_seals_0 18 rfl rfl)
theorem dX5_seals_19 : decode cX5_seals 19 = .ok (.istore_n 3, 1) := dk_62 (dk_at dksX5_seals_0 19 rfl rfl)
theorem dX5_seals_20 : decode cX5_seals 20 = .ok (.iload_n 3, 1) := dk_29 (dk_at dksX5_seals_0 20 rfl rfl)
theorem dX5_seals_21 : decode cX5_seals 21 = .ok (.bipush 6, 2) := dk_16 6 (dk_at dksX5_seals_0 21 rfl rfl)
theorem dX5_seals_23 : decode cX5_seals 23 = .ok (.if_icmp .ge 100, 3) := dk_162 0 100 (dk_at dksX5_seals_1 0 rfl rfl)
theorem dX5_seals_26 : decode cX5_seals 26 = .ok (.iconst 0, 1) := dk_3 (dk_at dksX5_seals_1 3 rfl rfl)
theorem dX5_seals_27 : decode cX5_seals 27 = .ok (.istore 4, 2) := dk_54 4 (dk_at dksX5_seals_1 4 rfl rfl)
theorem dX5_seals_29 : decode cX5_seals 29 = .ok (.iload 4, 2) := dk_21 4 (dk_at dksX5_seals_1 6 rfl rfl)
theorem dX5_seals_31 : decode cX5_seals 31 = .ok (.aload_n 0, 1) := dk_42 (dk_at dksX5_seals_1 8 rfl rfl)
theorem dX5_seals_32 : decode cX5_seals 32 = .ok (.getfield 19, 3) := dk_180 0 19 (dk_at dksX5_seals_1 9 rfl rfl)
theorem dX5_seals_35 : decode cX5_seals 35 = .ok (.sipush 1708, 3) := dk_17 6 172 (dk_at dksX5_seals_1 12 rfl rfl)
theorem dX5_seals_38 : decode cX5_seals 38 = .ok (.iaload, 1) := dk_46 (dk_at dksX5_seals_1 15 rfl rfl)
theorem dX5_seals_39 : decode cX5_seals 39 = .ok (.if_icmp .ge 78, 3) := dk_162 0 78 (dk_at dksX5_seals_1 16 rfl rfl)
theorem dX5_seals_42 : decode cX5_seals 42 = .ok (.aload_n 0, 1) := dk_42 (dk_at dksX5_seals_1 19 rfl rfl)
theorem dX5_seals_43 : decode cX5_seals 43 = .ok (.getfield 19, 3) := dk_180 0 19 (dk_at dksX5_seals_1 20 rfl rfl)
theorem dX5_seals_46 : decode cX5_seals 46 = .ok (.sipush 1709, 3) := dk_17 6 173 (dk_at dksX5_seals_2 0 rfl rfl)
theorem dX5_seals_49 : decode cX5_seals 49 = .ok (.iconst 4, 1) := dk_7 (dk_at dksX5_seals_2 3 rfl rfl)
theorem dX5_seals_50 : decode cX5_seals 50 = .ok (.iload 4, 2) := dk_21 4 (dk_at dksX5_seals_2 4 rfl rfl)
theorem dX5_seals_52 : decode cX5_seals 52 = .ok (.imul, 1) := dk_104 (dk_at dksX5_seals_2 6 rfl rfl)
theorem dX5_seals_53 : decode cX5_seals 53 = .ok (.iadd, 1) := dk_96 (dk_at dksX5_seals_2 7 rfl rfl)
theorem dX5_seals_54 : decode cX5_seals 54 = .ok (.iaload, 1) := dk_46 (dk_at dksX5_seals_2 8 rfl rfl)
theorem dX5_seals_55 : decode cX5_seals 55 = .ok (.iload_n 3, 1) := dk_29 (dk_at dksX5_seals_2 9 rfl rfl)
theorem dX5_seals_56 : decode cX5_seals 56 = .ok (.if_icmp .eq 6, 3) := dk_159 0 6 (dk_at dksX5_seals_2 10 rfl rfl)
theorem dX5_seals_59 : decode cX5_seals 59 = .ok (.goto 52, 3) := dk_167 0 52 (dk_at dksX5_seals_2 13 rfl rfl)
theorem dX5_seals_62 : decode cX5_seals 62 = .ok (.iconst 0, 1) := dk_3 (dk_at dksX5_seals_2 16 rfl rfl)
theorem dX5_seals_63 : decode cX5_seals 63 = .ok (.istore 5, 2) := dk_54 5 (dk_at dksX5_seals_2 17 rfl rfl)
theorem dX5_seals_65 : decode cX5_seals 65 = .ok (.iload 5, 2) := dk_21 5 (dk_at dksX5_seals_2 19 rfl rfl)
theorem dX5_seals_67 : decode cX5_seals 67 = .ok (.iconst 4, 1) := dk_7 (dk_at dksX5_seals_2 21 rfl rfl)
theorem dX5_seals_68 : decode cX5_seals 68 = .ok (.if_icmp .ge 40, 3) := dk_162 0 40 (dk_at dksX5_seals_3 0 rfl rfl)
theorem dX5_seals_71 : decode cX5_seals 71 = .ok (.aload_n 0, 1) := dk_42 (dk_at dksX5_seals_3 3 rfl rfl)
theorem dX5_seals_72 : decode cX5_seals 72 = .ok (.getfield 19, 3) := dk_180 0 19 (dk_at dksX5_seals_3 4 rfl rfl)
theorem dX5_seals_75 : decode cX5_seals 75 = .ok (.iload_n 1, 1) := dk_27 (dk_at dksX5_seals_3 7 rfl rfl)
theorem dX5_seals_76 : decode cX5_seals 76 = .ok (.iconst 1, 1) := dk_4 (dk_at dksX5_seals_3 8 rfl rfl)
theorem dX5_seals_77 : decode cX5_seals 77 = .ok (.iadd, 1) := dk_96 (dk_at dksX5_seals_3 9 rfl rfl)
theorem dX5_seals_78 : decode cX5_seals 78 = .ok (.iconst 4, 1) := dk_7 (dk_at dksX5_seals_3 10 rfl rfl)
theorem dX5_seals_79 : decode cX5_seals 79 = .ok (.iload_n 2, 1) := dk_28 (dk_at dksX5_seals_3 11 rfl rfl)
theorem dX5_seals_80 : decode cX5_seals 80 = .ok (.imul, 1) := dk_104 (dk_at dksX5_seals_3 12 rfl rfl)
theorem dX5_seals_81 : decode cX5_seals 81 = .ok (.iadd, 1) := dk_96 (dk_at dksX5_seals_3 13 rfl rfl)
theorem dX5_seals_82 : decode cX5_seals 82 = .ok (.iload 5, 2) := dk_21 5 (dk_at dksX5_seals_3 14 rfl rfl)
theorem dX5_seals_84 : decode cX5_seals 84 = .ok (.iadd, 1) := dk_96 (dk_at dksX5_seals_3 16 rfl rfl)
theorem dX5_seals_85 : decode cX5_seals 85 = .ok (.aload_n 0, 1) := dk_42 (dk_at dksX5_seals_3 17 rfl rfl)
theorem dX5_seals_86 : decode cX5_seals 86 = .ok (.getfield 19, 3) := dk_180 0 19 (dk_at dksX5_seals_3 18 rfl rfl)
theorem dX5_seals_89 : decode cX5_seals 89 = .ok (.sipush 1709, 3) := dk_17 6 173 (dk_at dksX5_seals_3 21 rfl rfl)
theorem dX5_seals_92 : decode cX5_seals 92 = .ok (.iconst 4, 1) := dk_7 (dk_at dksX5_seals_4 0 rfl rfl)
theorem dX5_seals_93 : decode cX5_seals 93 = .ok (.iload 4, 2) := dk_21 4 (dk_at dksX5_seals_4 1 rfl rfl)
theorem dX5_seals_95 : decode cX5_seals 95 = .ok (.imul, 1) := dk_104 (dk_at dksX5_seals_4 3 rfl rfl)
theorem dX5_seals_96 : decode cX5_seals 96 = .ok (.iadd, 1) := dk_96 (dk_at dksX5_seals_4 4 rfl rfl)
theorem dX5_seals_97 : decode cX5_seals 97 = .ok (.iload 5, 2) := dk_21 5 (dk_at dksX5_seals_4 5 rfl rfl)
theorem dX5_seals_99 : decode cX5_seals 99 = .ok (.iadd, 1) := dk_96 (dk_at dksX5_seals_4 7 rfl rfl)
theorem dX5_seals_100 : decode cX5_seals 100 = .ok (.iaload, 1) := dk_46 (dk_at dksX5_seals_4 8 rfl rfl)
theorem dX5_seals_101 : decode cX5_seals 101 = .ok (.iastore, 1) := dk_79 (dk_at dksX5_seals_4 9 rfl rfl)
theorem dX5_seals_102 : decode cX5_seals 102 = .ok (.iinc 5 1, 3) := dk_132 5 1 (dk_at dksX5_seals_4 10 rfl rfl)
theorem dX5_seals_105 : decode cX5_seals 105 = .ok (.goto (-40), 3) := dk_167 255 216 (dk_at dksX5_seals_4 13 rfl rfl)
theorem dX5_seals_108 : decode cX5_seals 108 = .ok (.iinc 2 1, 3) := dk_132 2 1 (dk_at dksX5_seals_4 16 rfl rfl)
theorem dX5_seals_111 : decode cX5_seals 111 = .ok (.iinc 4 1, 3) := dk_132 4 1 (dk_at dksX5_seals_4 19 rfl rfl)
theorem dX5_seals_114 : decode cX5_seals 114 = .ok (.goto (-85), 3) := dk_167 255 171 (dk_at dksX5_seals_5 0 rfl rfl)
theorem dX5_seals_117 : decode cX5_seals 117 = .ok (.iinc 3 1, 3) := dk_132 3 1 (dk_at dksX5_seals_5 3 rfl rfl)
theorem dX5_seals_120 : decode cX5_seals 120 = .ok (.goto (-100), 3) := dk_167 255 156 (dk_at dksX5_seals_5 6 rfl rfl)
theorem dX5_seals_123 : decode cX5_seals 123 = .ok (.aload_n 0, 1) := dk_42 (dk_at dksX5_seals_5 9 rfl rfl)
theorem dX5_seals_124 : decode cX5_seals 124 = .ok (.getfield 19, 3) := dk_180 0 19 (dk_at dksX5_seals_5 10 rfl rfl)
theorem dX5_seals_127 : decode cX5_seals 127 = .ok (.iload_n 1, 1) := dk_27 (dk_at dksX5_seals_5 13 rfl rfl)
theorem dX5_seals_128 : decode cX5_seals 128 = .ok (.iload_n 2, 1) := dk_28 (dk_at dksX5_seals_5 14 rfl rfl)
theorem dX5_seals_129 : decode cX5_seals 129 = .ok (.iastore, 1) := dk_79 (dk_at dksX5_seals_5 15 rfl rfl)
theorem dX5_seals_130 : decode cX5_seals 130 = .ok (.aload_n 0, 1) := dk_42 (dk_at dksX5_seals_5 16 rfl rfl)
theorem dX5_seals_131 : decode cX5_seals 131 = .ok (.getfield 19, 3) := dk_180 0 19 (dk_at dksX5_seals_5 17 rfl rfl)
theorem dX5_seals_134 : decode cX5_seals 134 = .ok (.sipush 387, 3) := dk_17 1 131 (dk_at dksX5_seals_5 20 rfl rfl)
theorem dX5_seals_137 : decode cX5_seals 137 = .ok (.dup2, 1) := dk_92 (dk_at dksX5_seals_5 23 rfl rfl)
theorem dX5_seals_138 : decode cX5_seals 138 = .ok (.iaload, 1) := dk_46 (dk_at dksX5_seals_6 0 rfl rfl)
theorem dX5_seals_139 : decode cX5_seals 139 = .ok (.iconst 1, 1) := dk_4 (dk_at dksX5_seals_6 1 rfl rfl)
theorem dX5_seals_140 : decode cX5_seals 140 = .ok (.iadd, 1) := dk_96 (dk_at dksX5_seals_6 2 rfl rfl)
theorem dX5_seals_141 : decode cX5_seals 141 = .ok (.iastore, 1) := dk_79 (dk_at dksX5_seals_6 3 rfl rfl)
theorem dX5_seals_142 : decode cX5_seals 142 = .ok (.iconst 0, 1) := dk_3 (dk_at dksX5_seals_6 4 rfl rfl)
theorem dX5_seals_143 : decode cX5_seals 143 = .ok (.istore_n 3, 1) := dk_62 (dk_at dksX5_seals_6 5 rfl rfl)
theorem dX5_seals_144 : decode cX5_seals 144 = .ok (.iload_n 3, 1) := dk_29 (dk_at dksX5_seals_6 6 rfl rfl)
theorem dX5_seals_145 : decode cX5_seals 145 = .ok (.bipush 33, 2) := dk_16 33 (dk_at dksX5_seals_6 7 rfl rfl)
theorem dX5_seals_147 : decode cX5_seals 147 = .ok (.if_icmp .ge 20, 3) := dk_162 0 20 (dk_at dksX5_seals_6 9 rfl rfl)
theorem dX5_seals_150 : decode cX5_seals 150 = .ok (.aload_n 0, 1) := dk_42 (dk_at dksX5_seals_6 12 rfl rfl)
theorem dX5_seals_151 : decode cX5_seals 151 = .ok (.getfield 19, 3) := dk_180 0 19 (dk_at dksX5_seals_6 13 rfl rfl)
theorem dX5_seals_154 : decode cX5_seals 154 = .ok (.sipush 1708, 3) := dk_17 6 172 (dk_at dksX5_seals_6 16 rfl rfl)
theorem dX5_seals_157 : decode cX5_seals 157 = .ok (.iload_n 3, 1) := dk_29 (dk_at dksX5_seals_6 19 rfl rfl)
theorem dX5_seals_158 : decode cX5_seals 158 = .ok (.iadd, 1) := dk_96 (dk_at dksX5_seals_6 20 rfl rfl)
theorem dX5_seals_159 : decode cX5_seals 159 = .ok (.iconst 0, 1) := dk_3 (dk_at dksX5_seals_6 21 rfl rfl)
theorem dX5_seals_160 : decode cX5_seals 160 = .ok (.iastore, 1) := dk_79 (dk_at dksX5_seals_6 22 rfl rfl)
theorem dX5_seals_161 : decode cX5_seals 161 = .ok (.iinc 3 1, 3) := dk_132 3 1 (dk_at dksX5_seals_7 0 rfl rfl)
theorem dX5_seals_164 : decode cX5_seals 164 = .ok (.goto (-20), 3) := dk_167 255 236 (dk_at dksX5_seals_7 3 rfl rfl)
theorem dX5_seals_167 : decode cX5_seals 167 = .ok (.return_, 1) := dk_177 (dk_at dksX5_seals_7 6 rfl rfl)
def dkwX5_readFault_3 : List UInt8 := [182, 0, 242, 177]
abbrev dktX5_readFault_3 : List UInt8 := dkwX5_readFault_3 ++ []
def dkwX5_readFault_2 : List UInt8 := [62, 42, 4, 17, 39, 15, 182, 0, 220, 54, 4, 42, 180, 0, 194, 154, 0, 12, 42, 27, 28, 29, 21, 4]
abbrev dktX5_readFault_2 : List UInt8 := dkwX5_readFault_2 ++ dktX5_readFault_3
def dkwX5_readFault_1 : List UInt8 := [42, 182, 0, 207, 42, 182, 0, 226, 60, 42, 3, 16, 39, 182, 0, 220, 61, 42, 3, 16, 15, 182, 0, 220]
abbrev dktX5_readFault_1 : List UInt8 := dkwX5_readFault_1 ++ dktX5_readFault_2
def dkwX5_readFault_0 : List UInt8 := [42, 42, 180, 0, 19, 17, 6, 205, 46, 16, 10, 160, 0, 7, 4, 167, 0, 4, 3, 16, 241, 182, 0, 203]
abbrev dktX5_readFault_0 : List UInt8 := dkwX5_readFault_0 ++ dktX5_readFault_1
theorem dksX5_readFault_0 : cX5_readFault.data.toList.drop 0 = dktX5_readFault_0 := by decide +kernel
theorem dksX5_readFault_1 : cX5_readFault.data.toList.drop 24 = dktX5_readFault_1 := dk_seg dksX5_readFault_0 24 rfl rfl
theorem dksX5_readFault_2 : cX5_readFault.data.toList.drop 48 = dktX5_readFault_2 := dk_seg dksX5_readFault_1 24 rfl rfl
theorem dksX5_readFault_3 : cX5_readFault.data.toList.drop 72 = dktX5_readFault_3 := dk_seg dksX5_readFault_2 24 rfl rfl
theorem dX5_readFault_0 : decode cX5_readFault 0 = .ok (.aload_n 0, 1) := dk_42 (dk_at dksX5_readFault_0 0 rfl rfl)
theorem dX5_readFault_1 : decode cX5_readFault 1 = .ok (.aload_n 0, 1) := dk_42 (dk_at dksX5_readFault_0 1 rfl rfl)
theorem dX5_readFault_2 : decode cX5_readFault 2 = .ok (.getfield 19, 3) := dk_180 0 19 (dk_at dksX5_readFault_0 2 rfl rfl)
theorem dX5_readFault_5 : decode cX5_readFault 5 = .ok (.sipush 1741, 3) := dk_17 6 205 (dk_at dksX5_readFault_0 5 rfl rfl)
theorem dX5_readFault_8 : decode cX5_readFault 8 = .ok (.iaload, 1) := dk_46 (dk_at dksX5_readFault_0 8 rfl rfl)
theorem dX5_readFault_9 : decode cX5_readFault 9 = .ok (.bipush 10, 2) := dk_16 10 (dk_at dksX5_readFault_0 9 rfl rfl)
theorem dX5_readFault_11 : decode cX5_readFault 11 = .ok (.if_icmp .ne 7, 3) := dk_160 0 7 (dk_at dksX5_readFault_0 11 rfl rfl)
theorem dX5_readFault_14 : decode cX5_readFault 14 = .ok (.iconst 1, 1) := dk_4 (dk_at dksX5_readFault_0 14 rfl rfl)
theorem dX5_readFault_15 : decode cX5_readFault 15 = .ok (.goto 4, 3) := dk_167 0 4 (dk_at dksX5_readFault_0 15 rfl rfl)
theorem dX5_readFault_18 : decode cX5_readFault 18 = .ok (.iconst 0, 1) := dk_3 (dk_at dksX5_readFault_0 18 rfl rfl)
theorem dX5_readFault_19 : decode cX5_readFault 19 = .ok (.bipush (-15), 2) := dk_16 241 (dk_at dksX5_readFault_0 19 rfl rfl)
theorem dX5_readFault_21 : decode cX5_readFault 21 = .ok (.invokevirtual 203, 3) := dk_182 0 203 (dk_at dksX5_readFault_0 21 rfl rfl)
theorem dX5_readFault_24 : decode cX5_readFault 24 = .ok (.aload_n 0, 1) := dk_42 (dk_at dksX5_readFault_1 0 rfl rfl)
theorem dX5_readFault_25 : decode cX5_readFault 25 = .ok (.invokevirtual 207, 3) := dk_182 0 207 (dk_at dksX5_readFault_1 1 rfl rfl)
theorem dX5_readFault_28 : decode cX5_readFault 28 = .ok (.aload_n 0, 1) := dk_42 (dk_at dksX5_readFault_1 4 rfl rfl)
theorem dX5_readFault_29 : decode cX5_readFault 29 = .ok (.invokevirtual 226, 3) := dk_182 0 226 (dk_at dksX5_readFault_1 5 rfl rfl)
theorem dX5_readFault_32 : decode cX5_readFault 32 = .ok (.istore_n 1, 1) := dk_60 (dk_at dksX5_readFault_1 8 rfl rfl)
theorem dX5_readFault_33 : decode cX5_readFault 33 = .ok (.aload_n 0, 1) := dk_42 (dk_at dksX5_readFault_1 9 rfl rfl)
theorem dX5_readFault_34 : decode cX5_readFault 34 = .ok (.iconst 0, 1) := dk_3 (dk_at dksX5_readFault_1 10 rfl rfl)
theorem dX5_readFault_35 : decode cX5_readFault 35 = .ok (.bipush 39, 2) := dk_16 39 (dk_at dksX5_readFault_1 11 rfl rfl)
theorem dX5_readFault_37 : decode cX5_readFault 37 = .ok (.invokevirtual 220, 3) := dk_182 0 220 (dk_at dksX5_readFault_1 13 rfl rfl)
theorem dX5_readFault_40 : decode cX5_readFault 40 = .ok (.istore_n 2, 1) := dk_61 (dk_at dksX5_readFault_1 16 rfl rfl)
theorem dX5_readFault_41 : decode cX5_readFault 41 = .ok (.aload_n 0, 1) := dk_42 (dk_at dksX5_readFault_1 17 rfl rfl)
theorem dX5_readFault_42 : decode cX5_readFault 42 = .ok (.iconst 0, 1) := dk_3 (dk_at dksX5_readFault_1 18 rfl rfl)
theorem dX5_readFault_43 : decode cX5_readFault 43 = .ok (.bipush 15, 2) := dk_16 15 (dk_at dksX5_readFault_1 19 rfl rfl)
theorem dX5_readFault_45 : decode cX5_readFault 45 = .ok (.invokevirtual 220, 3) := dk_182 0 220 (dk_at dksX5_readFault_1 21 rfl rfl)
theorem dX5_readFault_48 : decode cX5_readFault 48 = .ok (.istore_n 3, 1) := dk_62 (dk_at dksX5_readFault_2 0 rfl rfl)
theorem dX5_readFault_49 : decode cX5_readFault 49 = .ok (.aload_n 0, 1) := dk_42 (dk_at dksX5_readFault_2 1 rfl rfl)
theorem dX5_readFault_50 : decode cX5_readFault 50 = .ok (.iconst 1, 1) := dk_4 (dk_at dksX5_readFault_2 2 rfl rfl)
theorem dX5_readFault_51 : decode cX5_readFault 51 = .ok (.sipush 9999, 3) := dk_17 39 15 (dk_at dksX5_readFault_2 3 rfl rfl)
theorem dX5_readFault_54 : decode cX5_readFault 54 = .ok (.invokevirtual 220, 3) := dk_182 0 220 (dk_at dksX5_readFault_2 6 rfl rfl)
theorem dX5_readFault_57 : decode cX5_readFault 57 = .ok (.istore 4, 2) := dk_54 4 (dk_at dksX5_readFault_2 9 rfl rfl)
theorem dX5_readFault_59 : decode cX5_readFault 59 = .ok (.aload_n 0, 1) := dk_42 (dk_at dksX5_readFault_2 11 rfl rfl)
theorem dX5_readFault_60 : decode cX5_readFault 60 = .ok (.getfield 194, 3) := dk_180 0 194 (dk_at dksX5_readFault_2 12 rfl rfl)
theorem dX5_readFault_63 : decode cX5_readFault 63 = .ok (.ifCond .ne 12, 3) := dk_154 0 12 (dk_at dksX5_readFault_2 15 rfl rfl)
theorem dX5_readFault_66 : decode cX5_readFault 66 = .ok (.aload_n 0, 1) := dk_42 (dk_at dksX5_readFault_2 18 rfl rfl)
theorem dX5_readFault_67 : decode cX5_readFault 67 = .ok (.iload_n 1, 1) := dk_27 (dk_at dksX5_readFault_2 19 rfl rfl)
theorem dX5_readFault_68 : decode cX5_readFault 68 = .ok (.iload_n 2, 1) := dk_28 (dk_at dksX5_readFault_2 20 rfl rfl)
theorem dX5_readFault_69 : decode cX5_readFault 69 = .ok (.iload_n 3, 1) := dk_29 (dk_at dksX5_readFault_2 21 rfl rfl)
theorem dX5_readFault_70 : decode cX5_readFault 70 = .ok (.iload 4, 2) := dk_21 4 (dk_at dksX5_readFault_2 22 rfl rfl)
theorem dX5_readFault_72 : decode cX5_readFault 72 = .ok (.invokevirtual 242, 3) := dk_182 0 242 (dk_at dksX5_readFault_3 0 rfl rfl)
theorem dX5_readFault_75 : decode cX5_readFault 75 = .ok (.return_, 1) := dk_177 (dk_at dksX5_readFault_3 3 rfl rfl)
def dkwX5_faults_2 : List UInt8 := [180, 0, 19, 21, 5, 6, 96, 21, 4, 79, 42, 180, 0, 19, 17, 6, 205, 92, 46, 4, 96, 79, 177]
abbrev dktX5_faults_2 : List UInt8 := dkwX5_faults_2 ++ []
def dkwX5_faults_1 : List UInt8 := [27, 79, 42, 180, 0, 19, 21, 5, 4, 96, 28, 79, 42, 180, 0, 19, 21, 5, 5, 96, 29, 79, 42]
abbrev dktX5_faults_1 : List UInt8 := dkwX5_faults_1 ++ dktX5_faults_2
def dkwX5_faults_0 : List UInt8 := [17, 6, 206, 7, 42, 180, 0, 19, 17, 6, 205, 46, 104, 96, 54, 5, 42, 180, 0, 19, 21, 5, 3, 96]
abbrev dktX5_faults_0 : List UInt8 := dkwX5_faults_0 ++ dktX5_faults_1
theorem dksX5_faults_0 : cX5_faults.data.toList.drop 0 = dktX5_faults_0 := by decide +kernel
theorem dksX5_faults_1 : cX5_faults.data.toList.drop 24 = dktX5_faults_1 := dk_seg dksX5_faults_0 24 rfl rfl
theorem dksX5_faults_2 : cX5_faults.data.toList.drop 47 = dktX5_faults_2 := dk_seg dksX5_faults_1 23 rfl rfl
theorem dX5_faults_0 : decode cX5_faults 0 = .ok (.sipush 1742, 3) := dk_17 6 206 (dk_at dksX5_faults_0 0 rfl rfl)
theorem dX5_faults_3 : decode cX5_faults 3 = .ok (.iconst 4, 1) := dk_7 (dk_at dksX5_faults_0 3 rfl rfl)
theorem dX5_faults_4 : decode cX5_faults 4 = .ok (.aload_n 0, 1) := dk_42 (dk_at dksX5_faults_0 4 rfl rfl)
theorem dX5_faults_5 : decode cX5_faults 5 = .ok (.getfield 19, 3) := dk_180 0 19 (dk_at dksX5_faults_0 5 rfl rfl)
theorem dX5_faults_8 : decode cX5_faults 8 = .ok (.sipush 1741, 3) := dk_17 6 205 (dk_at dksX5_faults_0 8 rfl rfl)
theorem dX5_faults_11 : decode cX5_faults 11 = .ok (.iaload, 1) := dk_46 (dk_at dksX5_faults_0 11 rfl rfl)
theorem dX5_faults_12 : decode cX5_faults 12 = .ok (.imul, 1) := dk_104 (dk_at dksX5_faults_0 12 rfl rfl)
theorem dX5_faults_13 : decode cX5_faults 13 = .ok (.iadd, 1) := dk_96 (dk_at dksX5_faults_0 13 rfl rfl)
theorem dX5_faults_14 : decode cX5_faults 14 = .ok (.istore 5, 2) := dk_54 5 (dk_at dksX5_faults_0 14 rfl rfl)
theorem dX5_faults_16 : decode cX5_faults 16 = .ok (.aload_n 0, 1) := dk_42 (dk_at dksX5_faults_0 16 rfl rfl)
theorem dX5_faults_17 : decode cX5_faults 17 = .ok (.getfield 19, 3) := dk_180 0 19 (dk_at dksX5_faults_0 17 rfl rfl)
theorem dX5_faults_20 : decode cX5_faults 20 = .ok (.iload 5, 2) := dk_21 5 (dk_at dksX5_faults_0 20 rfl rfl)
theorem dX5_faults_22 : decode cX5_faults 22 = .ok (.iconst 0, 1) := dk_3 (dk_at dksX5_faults_0 22 rfl rfl)
theorem dX5_faults_23 : decode cX5_faults 23 = .ok (.iadd, 1) := dk_96 (dk_at dksX5_faults_0 23 rfl rfl)
theorem dX5_faults_24 : decode cX5_faults 24 = .ok (.iload_n 1, 1) := dk_27 (dk_at dksX5_faults_1 0 rfl rfl)
theorem dX5_faults_25 : decode cX5_faults 25 = .ok (.iastore, 1) := dk_79 (dk_at dksX5_faults_1 1 rfl rfl)
theorem dX5_faults_26 : decode cX5_faults 26 = .ok (.aload_n 0, 1) := dk_42 (dk_at dksX5_faults_1 2 rfl rfl)
theorem dX5_faults_27 : decode cX5_faults 27 = .ok (.getfield 19, 3) := dk_180 0 19 (dk_at dksX5_faults_1 3 rfl rfl)
theorem dX5_faults_30 : decode cX5_faults 30 = .ok (.iload 5, 2) := dk_21 5 (dk_at dksX5_faults_1 6 rfl rfl)
theorem dX5_faults_32 : decode cX5_faults 32 = .ok (.iconst 1, 1) := dk_4 (dk_at dksX5_faults_1 8 rfl rfl)
theorem dX5_faults_33 : decode cX5_faults 33 = .ok (.iadd, 1) := dk_96 (dk_at dksX5_faults_1 9 rfl rfl)
theorem dX5_faults_34 : decode cX5_faults 34 = .ok (.iload_n 2, 1) := dk_28 (dk_at dksX5_faults_1 10 rfl rfl)
theorem dX5_faults_35 : decode cX5_faults 35 = .ok (.iastore, 1) := dk_79 (dk_at dksX5_faults_1 11 rfl rfl)
theorem dX5_faults_36 : decode cX5_faults 36 = .ok (.aload_n 0, 1) := dk_42 (dk_at dksX5_faults_1 12 rfl rfl)
theorem dX5_faults_37 : decode cX5_faults 37 = .ok (.getfield 19, 3) := dk_180 0 19 (dk_at dksX5_faults_1 13 rfl rfl)
theorem dX5_faults_40 : decode cX5_faults 40 = .ok (.iload 5, 2) := dk_21 5 (dk_at dksX5_faults_1 16 rfl rfl)
theorem dX5_faults_42 : decode cX5_faults 42 = .ok (.iconst 2, 1) := dk_5 (dk_at dksX5_faults_1 18 rfl rfl)
theorem dX5_faults_43 : decode cX5_faults 43 = .ok (.iadd, 1) := dk_96 (dk_at dksX5_faults_1 19 rfl rfl)
theorem dX5_faults_44 : decode cX5_faults 44 = .ok (.iload_n 3, 1) := dk_29 (dk_at dksX5_faults_1 20 rfl rfl)
theorem dX5_faults_45 : decode cX5_faults 45 = .ok (.iastore, 1) := dk_79 (dk_at dksX5_faults_1 21 rfl rfl)
theorem dX5_faults_46 : decode cX5_faults 46 = .ok (.aload_n 0, 1) := dk_42 (dk_at dksX5_faults_1 22 rfl rfl)
theorem dX5_faults_47 : decode cX5_faults 47 = .ok (.getfield 19, 3) := dk_180 0 19 (dk_at dksX5_faults_2 0 rfl rfl)
theorem dX5_faults_50 : decode cX5_faults 50 = .ok (.iload 5, 2) := dk_21 5 (dk_at dksX5_faults_2 3 rfl rfl)
theorem dX5_faults_52 : decode cX5_faults 52 = .ok (.iconst 3, 1) := dk_6 (dk_at dksX5_faults_2 5 rfl rfl)
theorem dX5_faults_53 : decode cX5_faults 53 = .ok (.iadd, 1) := dk_96 (dk_at dksX5_faults_2 6 rfl rfl)
theorem dX5_faults_54 : decode cX5_faults 54 = .ok (.iload 4, 2) := dk_21 4 (dk_at dksX5_faults_2 7 rfl rfl)
theorem dX5_faults_56 : decode cX5_faults 56 = .ok (.iastore, 1) := dk_79 (dk_at dksX5_faults_2 9 rfl rfl)
theorem dX5_faults_57 : decode cX5_faults 57 = .ok (.aload_n 0, 1) := dk_42 (dk_at dksX5_faults_2 10 rfl rfl)
theorem dX5_faults_58 : decode cX5_faults 58 = .ok (.getfield 19, 3) := dk_180 0 19 (dk_at dksX5_faults_2 11 rfl rfl)
theorem dX5_faults_61 : decode cX5_faults 61 = .ok (.sipush 1741, 3) := dk_17 6 205 (dk_at dksX5_faults_2 14 rfl rfl)
theorem dX5_faults_64 : decode cX5_faults 64 = .ok (.dup2, 1) := dk_92 (dk_at dksX5_faults_2 17 rfl rfl)
theorem dX5_faults_65 : decode cX5_faults 65 = .ok (.iaload, 1) := dk_46 (dk_at dksX5_faults_2 18 rfl rfl)
theorem dX5_faults_66 : decode cX5_faults 66 = .ok (.iconst 1, 1) := dk_4 (dk_at dksX5_faults_2 19 rfl rfl)
theorem dX5_faults_67 : decode cX5_faults 67 = .ok (.iadd, 1) := dk_96 (dk_at dksX5_faults_2 20 rfl rfl)
theorem dX5_faults_68 : decode cX5_faults 68 = .ok (.iastore, 1) := dk_79 (dk_at dksX5_faults_2 21 rfl rfl)
theorem dX5_faults_69 : decode cX5_faults 69 = .ok (.return_, 1) := dk_177 (dk_at dksX5_faults_2 22 rfl rfl)
def dkwX5_readSetting_4 : List UInt8 := [154, 0, 12, 42, 180, 0, 19, 3, 27, 96, 28, 79, 177]
abbrev dktX5_readSetting_4 : List UInt8 := dkwX5_readSetting_4 ++ []
def dkwX5_readSetting_3 : List UInt8 := [181, 0, 247, 42, 182, 0, 207, 42, 27, 184, 0, 250, 27, 184, 0, 253, 182, 0, 220, 61, 42, 180, 0, 194]
abbrev dktX5_readSetting_3 : List UInt8 := dkwX5_readSetting_3 ++ dktX5_readSetting_4
def dkwX5_readSetting_2 : List UInt8 := [126, 4, 160, 0, 7, 4, 167, 0, 4, 3, 16, 242, 182, 0, 203, 42, 89, 180, 0, 247, 4, 27, 120, 128]
abbrev dktX5_readSetting_2 : List UInt8 := dkwX5_readSetting_2 ++ dktX5_readSetting_3
def dkwX5_readSetting_1 : List UInt8 := [182, 0, 203, 42, 180, 0, 194, 154, 0, 7, 27, 167, 0, 4, 3, 60, 42, 42, 180, 0, 247, 27, 122, 4]
abbrev dktX5_readSetting_1 : List UInt8 := dkwX5_readSetting_1 ++ dktX5_readSetting_2
def dkwX5_readSetting_0 : List UInt8 := [42, 182, 0, 207, 42, 18, 245, 182, 0, 231, 60, 42, 27, 2, 160, 0, 7, 4, 167, 0, 4, 3, 16, 245]
abbrev dktX5_readSetting_0 : List UInt8 := dkwX5_readSetting_0 ++ dktX5_readSetting_1
theorem dksX5_readSetting_0 : cX5_readSetting.data.toList.drop 0 = dktX5_readSetting_0 := by decide +kernel
theorem dksX5_readSetting_1 : cX5_readSetting.data.toList.drop 24 = dktX5_readSetting_1 := dk_seg dksX5_readSetting_0 24 rfl rfl
theorem dksX5_readSetting_2 : cX5_readSetting.data.toList.drop 48 = dktX5_readSetting_2 := dk_seg dksX5_readSetting_1 24 rfl rfl
theorem dksX5_readSetting_3 : cX5_readSetting.data.toList.drop 72 = dktX5_readSetting_3 := dk_seg dksX5_readSetting_2 24 rfl rfl
theorem dksX5_readSetting_4 : cX5_readSetting.data.toList.drop 96 = dktX5_readSetting_4 := dk_seg dksX5_readSetting_3 24 rfl rfl
theorem dX5_readSetting_0 : decode cX5_readSetting 0 = .ok (.aload_n 0, 1) := dk_42 (dk_at dksX5_readSetting_0 0 rfl rfl)
theorem dX5_readSetting_1 : decode cX5_readSetting 1 = .ok (.invokevirtual 207, 3) := dk_182 0 207 (dk_at dksX5_readSetting_0 1 rfl rfl)
theorem dX5_readSetting_4 : decode cX5_readSetting 4 = .ok (.aload_n 0, 1) := dk_42 (dk_at dksX5_readSetting_0 4 rfl rfl)
theorem dX5_readSetting_5 : decode cX5_readSetting 5 = .ok (.ldc 245, 2) := dk_18 245 (dk_at dksX5_readSetting_0 5 rfl rfl)
theorem dX5_readSetting_7 : decode cX5_readSetting 7 = .ok (.invokevirtual 231, 3) := dk_182 0 231 (dk_at dksX5_readSetting_0 7 rfl rfl)
theorem dX5_readSetting_10 : decode cX5_readSetting 10 = .ok (.istore_n 1, 1) := dk_60 (dk_at dksX5_readSetting_0 10 rfl rfl)
theorem dX5_readSetting_11 : decode cX5_readSetting 11 = .ok (.aload_n 0, 1) := dk_42 (dk_at dksX5_readSetting_0 11 rfl rfl)
theorem dX5_readSetting_12 : decode cX5_readSetting 12 = .ok (.iload_n 1, 1) := dk_27 (dk_at dksX5_readSetting_0 12 rfl rfl)
theorem dX5_readSetting_13 : decode cX5_readSetting 13 = .ok (.iconst (-1), 1) := dk_2 (dk_at dksX5_readSetting_0 13 rfl rfl)
theorem dX5_readSetting_14 : decode cX5_readSetting 14 = .ok (.if_icmp .ne 7, 3) := dk_160 0 7 (dk_at dksX5_readSetting_0 14 rfl rfl)
theorem dX5_readSetting_17 : decode cX5_readSetting 17 = .ok (.iconst 1, 1) := dk_4 (dk_at dksX5_readSetting_0 17 rfl rfl)
theorem dX5_readSetting_18 : decode cX5_readSetting 18 = .ok (.goto 4, 3) := dk_167 0 4 (dk_at dksX5_readSetting_0 18 rfl rfl)
theorem dX5_readSetting_21 : decode cX5_readSetting 21 = .ok (.iconst 0, 1) := dk_3 (dk_at dksX5_readSetting_0 21 rfl rfl)
theorem dX5_readSetting_22 : decode cX5_readSetting 22 = .ok (.bipush (-11), 2) := dk_16 245 (dk_at dksX5_readSetting_0 22 rfl rfl)
theorem dX5_readSetting_24 : decode cX5_readSetting 24 = .ok (.invokevirtual 203, 3) := dk_182 0 203 (dk_at dksX5_readSetting_1 0 rfl rfl)
theorem dX5_readSetting_27 : decode cX5_readSetting 27 = .ok (.aload_n 0, 1) := dk_42 (dk_at dksX5_readSetting_1 3 rfl rfl)
theorem dX5_readSetting_28 : decode cX5_readSetting 28 = .ok (.getfield 194, 3) := dk_180 0 194 (dk_at dksX5_readSetting_1 4 rfl rfl)
theorem dX5_readSetting_31 : decode cX5_readSetting 31 = .ok (.ifCond .ne 7, 3) := dk_154 0 7 (dk_at dksX5_readSetting_1 7 rfl rfl)
theorem dX5_readSetting_34 : decode cX5_readSetting 34 = .ok (.iload_n 1, 1) := dk_27 (dk_at dksX5_readSetting_1 10 rfl rfl)
theorem dX5_readSetting_35 : decode cX5_readSetting 35 = .ok (.goto 4, 3) := dk_167 0 4 (dk_at dksX5_readSetting_1 11 rfl rfl)
theorem dX5_readSetting_38 : decode cX5_readSetting 38 = .ok (.iconst 0, 1) := dk_3 (dk_at dksX5_readSetting_1 14 rfl rfl)
theorem dX5_readSetting_39 : decode cX5_readSetting 39 = .ok (.istore_n 1, 1) := dk_60 (dk_at dksX5_readSetting_1 15 rfl rfl)
theorem dX5_readSetting_40 : decode cX5_readSetting 40 = .ok (.aload_n 0, 1) := dk_42 (dk_at dksX5_readSetting_1 16 rfl rfl)
theorem dX5_readSetting_41 : decode cX5_readSetting 41 = .ok (.aload_n 0, 1) := dk_42 (dk_at dksX5_readSetting_1 17 rfl rfl)
theorem dX5_readSetting_42 : decode cX5_readSetting 42 = .ok (.getfield 247, 3) := dk_180 0 247 (dk_at dksX5_readSetting_1 18 rfl rfl)
theorem dX5_readSetting_45 : decode cX5_readSetting 45 = .ok (.iload_n 1, 1) := dk_27 (dk_at dksX5_readSetting_1 21 rfl rfl)
theorem dX5_readSetting_46 : decode cX5_readSetting 46 = .ok (.ishr, 1) := dk_122 (dk_at dksX5_readSetting_1 22 rfl rfl)
theorem dX5_readSetting_47 : decode cX5_readSetting 47 = .ok (.iconst 1, 1) := dk_4 (dk_at dksX5_readSetting_1 23 rfl rfl)
theorem dX5_readSetting_48 : decode cX5_readSetting 48 = .ok (.iand, 1) := dk_126 (dk_at dksX5_readSetting_2 0 rfl rfl)
theorem dX5_readSetting_49 : decode cX5_readSetting 49 = .ok (.iconst 1, 1) := dk_4 (dk_at dksX5_readSetting_2 1 rfl rfl)
theorem dX5_readSetting_50 : decode cX5_readSetting 50 = .ok (.if_icmp .ne 7, 3) := dk_160 0 7 (dk_at dksX5_readSetting_2 2 rfl rfl)
theorem dX5_readSetting_53 : decode cX5_readSetting 53 = .ok (.iconst 1, 1) := dk_4 (dk_at dksX5_readSetting_2 5 rfl rfl)
theorem dX5_readSetting_54 : decode cX5_readSetting 54 = .ok (.goto 4, 3) := dk_167 0 4 (dk_at dksX5_readSetting_2 6 rfl rfl)
theorem dX5_readSetting_57 : decode cX5_readSetting 57 = .ok (.iconst 0, 1) := dk_3 (dk_at dksX5_readSetting_2 9 rfl rfl)
theorem dX5_readSetting_58 : decode cX5_readSetting 58 = .ok (.bipush (-14), 2) := dk_16 242 (dk_at dksX5_readSetting_2 10 rfl rfl)
theorem dX5_readSetting_60 : decode cX5_readSetting 60 = .ok (.invokevirtual 203, 3) := dk_182 0 203 (dk_at dksX5_readSetting_2 12 rfl rfl)
theorem dX5_readSetting_63 : decode cX5_readSetting 63 = .ok (.aload_n 0, 1) := dk_42 (dk_at dksX5_readSetting_2 15 rfl rfl)
theorem dX5_readSetting_64 : decode cX5_readSetting 64 = .ok (.dup, 1) := dk_89 (dk_at dksX5_readSetting_2 16 rfl rfl)
theorem dX5_readSetting_65 : decode cX5_readSetting 65 = .ok (.getfield 247, 3) := dk_180 0 247 (dk_at dksX5_readSetting_2 17 rfl rfl)
theorem dX5_readSetting_68 : decode cX5_readSetting 68 = .ok (.iconst 1, 1) := dk_4 (dk_at dksX5_readSetting_2 20 rfl rfl)
theorem dX5_readSetting_69 : decode cX5_readSetting 69 = .ok (.iload_n 1, 1) := dk_27 (dk_at dksX5_readSetting_2 21 rfl rfl)
theorem dX5_readSetting_70 : decode cX5_readSetting 70 = .ok (.ishl, 1) := dk_120 (dk_at dksX5_readSetting_2 22 rfl rfl)
theorem dX5_readSetting_71 : decode cX5_readSetting 71 = .ok (.ior, 1) := dk_128 (dk_at dksX5_readSetting_2 23 rfl rfl)
theorem dX5_readSetting_72 : decode cX5_readSetting 72 = .ok (.putfield 247, 3) := dk_181 0 247 (dk_at dksX5_readSetting_3 0 rfl rfl)
theorem dX5_readSetting_75 : decode cX5_readSetting 75 = .ok (.aload_n 0, 1) := dk_42 (dk_at dksX5_readSetting_3 3 rfl rfl)
theorem dX5_readSetting_76 : decode cX5_readSetting 76 = .ok (.invokevirtual 207, 3) := dk_182 0 207 (dk_at dksX5_readSetting_3 4 rfl rfl)
theorem dX5_readSetting_79 : decode cX5_readSetting 79 = .ok (.aload_n 0, 1) := dk_42 (dk_at dksX5_readSetting_3 7 rfl rfl)
theorem dX5_readSetting_80 : decode cX5_readSetting 80 = .ok (.iload_n 1, 1) := dk_27 (dk_at dksX5_readSetting_3 8 rfl rfl)
theorem dX5_readSetting_81 : decode cX5_readSetting 81 = .ok (.invokestatic 250, 3) := dk_184 0 250 (dk_at dksX5_readSetting_3 9 rfl rfl)
theorem dX5_readSetting_84 : decode cX5_readSetting 84 = .ok (.iload_n 1, 1) := dk_27 (dk_at dksX5_readSetting_3 12 rfl rfl)
theorem dX5_readSetting_85 : decode cX5_readSetting 85 = .ok (.invokestatic 253, 3) := dk_184 0 253 (dk_at dksX5_readSetting_3 13 rfl rfl)
theorem dX5_readSetting_88 : decode cX5_readSetting 88 = .ok (.invokevirtual 220, 3) := dk_182 0 220 (dk_at dksX5_readSetting_3 16 rfl rfl)
theorem dX5_readSetting_91 : decode cX5_readSetting 91 = .ok (.istore_n 2, 1) := dk_61 (dk_at dksX5_readSetting_3 19 rfl rfl)
theorem dX5_readSetting_92 : decode cX5_readSetting 92 = .ok (.aload_n 0, 1) := dk_42 (dk_at dksX5_readSetting_3 20 rfl rfl)
theorem dX5_readSetting_93 : decode cX5_readSetting 93 = .ok (.getfield 194, 3) := dk_180 0 194 (dk_at dksX5_readSetting_3 21 rfl rfl)
theorem dX5_readSetting_96 : decode cX5_readSetting 96 = .ok (.ifCond .ne 12, 3) := dk_154 0 12 (dk_at dksX5_readSetting_4 0 rfl rfl)
theorem dX5_readSetting_99 : decode cX5_readSetting 99 = .ok (.aload_n 0, 1) := dk_42 (dk_at dksX5_readSetting_4 3 rfl rfl)
theorem dX5_readSetting_100 : decode cX5_readSetting 100 = .ok (.getfield 19, 3) := dk_180 0 19 (dk_at dksX5_readSetting_4 4 rfl rfl)
theorem dX5_readSetting_103 : decode cX5_readSetting 103 = .ok (.iconst 0, 1) := dk_3 (dk_at dksX5_readSetting_4 7 rfl rfl)
theorem dX5_readSetting_104 : decode cX5_readSetting 104 = .ok (.iload_n 1, 1) := dk_27 (dk_at dksX5_readSetting_4 8 rfl rfl)
theorem dX5_readSetting_105 : decode cX5_readSetting 105 = .ok (.iadd, 1) := dk_96 (dk_at dksX5_readSetting_4 9 rfl rfl)
theorem dX5_readSetting_106 : decode cX5_readSetting 106 = .ok (.iload_n 2, 1) := dk_28 (dk_at dksX5_readSetting_4 10 rfl rfl)
theorem dX5_readSetting_107 : decode cX5_readSetting 107 = .ok (.iastore, 1) := dk_79 (dk_at dksX5_readSetting_4 11 rfl rfl)
theorem dX5_readSetting_108 : decode cX5_readSetting 108 = .ok (.return_, 1) := dk_177 (dk_at dksX5_readSetting_4 12 rfl rfl)
theorem dX5_low_0 : decode cX5_low 0 = .ok (.iconst 1, 1) := by decide +kernel
theorem dX5_low_1 : decode cX5_low 1 = .ok (.ireturn, 1) := by decide +kernel
def dkwX5_top_0 : List UInt8 := [26, 154, 0, 8, 16, 40, 167, 0, 5, 16, 6, 172]
abbrev dktX5_top_0 : List UInt8 := dkwX5_top_0 ++ []
theorem dksX5_top_0 : cX5_top.data.toList.drop 0 = dktX5_top_0 := by decide +kernel
theorem dX5_top_0 : decode cX5_top 0 = .ok (.iload_n 0, 1) := dk_26 (dk_at dksX5_top_0 0 rfl rfl)
theorem dX5_top_1 : decode cX5_top 1 = .ok (.ifCond .ne 8, 3) := dk_154 0 8 (dk_at dksX5_top_0 1 rfl rfl)
theorem dX5_top_4 : decode cX5_top 4 = .ok (.bipush 40, 2) := dk_16 40 (dk_at dksX5_top_0 4 rfl rfl)
theorem dX5_top_6 : decode cX5_top 6 = .ok (.goto 5, 3) := dk_167 0 5 (dk_at dksX5_top_0 6 rfl rfl)
theorem dX5_top_9 : decode cX5_top 9 = .ok (.bipush 6, 2) := dk_16 6 (dk_at dksX5_top_0 9 rfl rfl)
theorem dX5_top_11 : decode cX5_top 11 = .ok (.ireturn, 1) := dk_172 (dk_at dksX5_top_0 11 rfl rfl)
def dkwX5_writesRecord_0 : List UInt8 := [42, 27, 16, 23, 42, 27, 182, 0, 92, 96, 42, 27, 182, 0, 96, 182, 0, 99, 177]
abbrev dktX5_writesRecord_0 : List UInt8 := dkwX5_writesRecord_0 ++ []
theorem dksX5_writesRecord_0 : cX5_writesRecord.data.toList.drop 0 = dktX5_writesRecord_0 := by decide +kernel
theorem dX5_writesRecord_0 : decode cX5_writesRecord 0 = .ok (.aload_n 0, 1) := dk_42 (dk_at dksX5_writesRecord_0 0 rfl rfl)
theorem dX5_writesRecord_1 : decode cX5_writesRecord 1 = .ok (.iload_n 1, 1) := dk_27 (dk_at dksX5_writesRecord_0 1 rfl rfl)
theorem dX5_writesRecord_2 : decode cX5_writesRecord 2 = .ok (.bipush 23, 2) := dk_16 23 (dk_at dksX5_writesRecord_0 2 rfl rfl)
theorem dX5_writesRecord_4 : decode cX5_writesRecord 4 = .ok (.aload_n 0, 1) := dk_42 (dk_at dksX5_writesRecord_0 4 rfl rfl)
theorem dX5_writesRecord_5 : decode cX5_writesRecord 5 = .ok (.iload_n 1, 1) := dk_27 (dk_at dksX5_writesRecord_0 5 rfl rfl)
theorem dX5_writesRecord_6 : decode cX5_writesRecord 6 = .ok (.invokevirtual 92, 3) := dk_182 0 92 (dk_at dksX5_writesRecord_0 6 rfl rfl)
theorem dX5_writesRecord_9 : decode cX5_writesRecord 9 = .ok (.iadd, 1) := dk_96 (dk_at dksX5_writesRecord_0 9 rfl rfl)
theorem dX5_writesRecord_10 : decode cX5_writesRecord 10 = .ok (.aload_n 0, 1) := dk_42 (dk_at dksX5_writesRecord_0 10 rfl rfl)
theorem dX5_writesRecord_11 : decode cX5_writesRecord 11 = .ok (.iload_n 1, 1) := dk_27 (dk_at dksX5_writesRecord_0 11 rfl rfl)
theorem dX5_writesRecord_12 : decode cX5_writesRecord 12 = .ok (.invokevirtual 96, 3) := dk_182 0 96 (dk_at dksX5_writesRecord_0 12 rfl rfl)
theorem dX5_writesRecord_15 : decode cX5_writesRecord 15 = .ok (.invokevirtual 99, 3) := dk_182 0 99 (dk_at dksX5_writesRecord_0 15 rfl rfl)
theorem dX5_writesRecord_18 : decode cX5_writesRecord 18 = .ok (.return_, 1) := dk_177 (dk_at dksX5_writesRecord_0 18 rfl rfl)
def dkwX5_turnsDone_0 : List UInt8 := [42, 27, 4, 182, 0, 53, 172]
abbrev dktX5_turnsDone_0 : List UInt8 := dkwX5_turnsDone_0 ++ []
theorem dksX5_turnsDone_0 : cX5_turnsDone.data.toList.drop 0 = dktX5_turnsDone_0 := by decide +kernel
theorem dX5_turnsDone_0 : decode cX5_turnsDone 0 = .ok (.aload_n 0, 1) := dk_42 (dk_at dksX5_turnsDone_0 0 rfl rfl)
theorem dX5_turnsDone_1 : decode cX5_turnsDone 1 = .ok (.iload_n 1, 1) := dk_27 (dk_at dksX5_turnsDone_0 1 rfl rfl)
theorem dX5_turnsDone_2 : decode cX5_turnsDone 2 = .ok (.iconst 1, 1) := dk_4 (dk_at dksX5_turnsDone_0 2 rfl rfl)
theorem dX5_turnsDone_3 : decode cX5_turnsDone 3 = .ok (.invokevirtual 53, 3) := dk_182 0 53 (dk_at dksX5_turnsDone_0 3 rfl rfl)
theorem dX5_turnsDone_6 : decode cX5_turnsDone 6 = .ok (.ireturn, 1) := dk_172 (dk_at dksX5_turnsDone_0 6 rfl rfl)
def dkwX5_of_0 : List UInt8 := [42, 180, 0, 19, 6, 16, 64, 27, 104, 96, 28, 96, 46, 172]
abbrev dktX5_of_0 : List UInt8 := dkwX5_of_0 ++ []
theorem dksX5_of_0 : cX5_of.data.toList.drop 0 = dktX5_of_0 := by decide +kernel
theorem dX5_of_0 : decode cX5_of 0 = .ok (.aload_n 0, 1) := dk_42 (dk_at dksX5_of_0 0 rfl rfl)
theorem dX5_of_1 : decode cX5_of 1 = .ok (.getfield 19, 3) := dk_180 0 19 (dk_at dksX5_of_0 1 rfl rfl)
theorem dX5_of_4 : decode cX5_of 4 = .ok (.iconst 3, 1) := dk_6 (dk_at dksX5_of_0 4 rfl rfl)
theorem dX5_of_5 : decode cX5_of 5 = .ok (.bipush 64, 2) := dk_16 64 (dk_at dksX5_of_0 5 rfl rfl)
theorem dX5_of_7 : decode cX5_of 7 = .ok (.iload_n 1, 1) := dk_27 (dk_at dksX5_of_0 7 rfl rfl)
theorem dX5_of_8 : decode cX5_of 8 = .ok (.imul, 1) := dk_104 (dk_at dksX5_of_0 8 rfl rfl)
theorem dX5_of_9 : decode cX5_of 9 = .ok (.iadd, 1) := dk_96 (dk_at dksX5_of_0 9 rfl rfl)
theorem dX5_of_10 : decode cX5_of 10 = .ok (.iload_n 2, 1) := dk_28 (dk_at dksX5_of_0 10 rfl rfl)
theorem dX5_of_11 : decode cX5_of 11 = .ok (.iadd, 1) := dk_96 (dk_at dksX5_of_0 11 rfl rfl)
theorem dX5_of_12 : decode cX5_of 12 = .ok (.iaload, 1) := dk_46 (dk_at dksX5_of_0 12 rfl rfl)
theorem dX5_of_13 : decode cX5_of 13 = .ok (.ireturn, 1) := dk_172 (dk_at dksX5_of_0 13 rfl rfl)
def dkwX5_rootOf_0 : List UInt8 := [42, 27, 182, 0, 71, 42, 42, 180, 0, 31, 182, 0, 75, 42, 180, 0, 31, 4, 46, 172]
abbrev dktX5_rootOf_0 : List UInt8 := dkwX5_rootOf_0 ++ []
theorem dksX5_rootOf_0 : cX5_rootOf.data.toList.drop 0 = dktX5_rootOf_0 := by decide +kernel
theorem dX5_rootOf_0 : decode cX5_rootOf 0 = .ok (.aload_n 0, 1) := dk_42 (dk_at dksX5_rootOf_0 0 rfl rfl)
theorem dX5_rootOf_1 : decode cX5_rootOf 1 = .ok (.iload_n 1, 1) := dk_27 (dk_at dksX5_rootOf_0 1 rfl rfl)
theorem dX5_rootOf_2 : decode cX5_rootOf 2 = .ok (.invokevirtual 71, 3) := dk_182 0 71 (dk_at dksX5_rootOf_0 2 rfl rfl)
theorem dX5_rootOf_5 : decode cX5_rootOf 5 = .ok (.aload_n 0, 1) := dk_42 (dk_at dksX5_rootOf_0 5 rfl rfl)
theorem dX5_rootOf_6 : decode cX5_rootOf 6 = .ok (.aload_n 0, 1) := dk_42 (dk_at dksX5_rootOf_0 6 rfl rfl)
theorem dX5_rootOf_7 : decode cX5_rootOf 7 = .ok (.getfield 31, 3) := dk_180 0 31 (dk_at dksX5_rootOf_0 7 rfl rfl)
theorem dX5_rootOf_10 : decode cX5_rootOf 10 = .ok (.invokevirtual 75, 3) := dk_182 0 75 (dk_at dksX5_rootOf_0 10 rfl rfl)
theorem dX5_rootOf_13 : decode cX5_rootOf 13 = .ok (.aload_n 0, 1) := dk_42 (dk_at dksX5_rootOf_0 13 rfl rfl)
theorem dX5_rootOf_14 : decode cX5_rootOf 14 = .ok (.getfield 31, 3) := dk_180 0 31 (dk_at dksX5_rootOf_0 14 rfl rfl)
theorem dX5_rootOf_17 : decode cX5_rootOf 17 = .ok (.iconst 1, 1) := dk_4 (dk_at dksX5_rootOf_0 17 rfl rfl)
theorem dX5_rootOf_18 : decode cX5_rootOf 18 = .ok (.iaload, 1) := dk_46 (dk_at dksX5_rootOf_0 18 rfl rfl)
theorem dX5_rootOf_19 : decode cX5_rootOf 19 = .ok (.ireturn, 1) := dk_172 (dk_at dksX5_rootOf_0 19 rfl rfl)
def dkwX5_takesCells_1 : List UInt8 := [132, 2, 1, 167, 255, 232, 177]
abbrev dktX5_takesCells_1 : List UInt8 := dkwX5_takesCells_1 ++ []
def dkwX5_takesCells_0 : List UInt8 := [3, 61, 28, 16, 16, 162, 0, 24, 42, 180, 0, 28, 28, 42, 27, 16, 7, 28, 96, 182, 0, 53, 79]
abbrev dktX5_takesCells_0 : List UInt8 := dkwX5_takesCells_0 ++ dktX5_takesCells_1
theorem dksX5_takesCells_0 : cX5_takesCells.data.toList.drop 0 = dktX5_takesCells_0 := by decide +kernel
theorem dksX5_takesCells_1 : cX5_takesCells.data.toList.drop 23 = dktX5_takesCells_1 := dk_seg dksX5_takesCells_0 23 rfl rfl
theorem dX5_takesCells_0 : decode cX5_takesCells 0 = .ok (.iconst 0, 1) := dk_3 (dk_at dksX5_takesCells_0 0 rfl rfl)
theorem dX5_takesCells_1 : decode cX5_takesCells 1 = .ok (.istore_n 2, 1) := dk_61 (dk_at dksX5_takesCells_0 1 rfl rfl)
theorem dX5_takesCells_2 : decode cX5_takesCells 2 = .ok (.iload_n 2, 1) := dk_28 (dk_at dksX5_takesCells_0 2 rfl rfl)
theorem dX5_takesCells_3 : decode cX5_takesCells 3 = .ok (.bipush 16, 2) := dk_16 16 (dk_at dksX5_takesCells_0 3 rfl rfl)
theorem dX5_takesCells_5 : decode cX5_takesCells 5 = .ok (.if_icmp .ge 24, 3) := dk_162 0 24 (dk_at dksX5_takesCells_0 5 rfl rfl)
theorem dX5_takesCells_8 : decode cX5_takesCells 8 = .ok (.aload_n 0, 1) := dk_42 (dk_at dksX5_takesCells_0 8 rfl rfl)
theorem dX5_takesCells_9 : decode cX5_takesCells 9 = .ok (.getfield 28, 3) := dk_180 0 28 (dk_at dksX5_takesCells_0 9 rfl rfl)
theorem dX5_takesCells_12 : decode cX5_takesCells 12 = .ok (.iload_n 2, 1) := dk_28 (dk_at dksX5_takesCells_0 12 rfl rfl)
theorem dX5_takesCells_13 : decode cX5_takesCells 13 = .ok (.aload_n 0, 1) := dk_42 (dk_at dksX5_takesCells_0 13 rfl rfl)
theorem dX5_takesCells_14 : decode cX5_takesCells 14 = .ok (.iload_n 1, 1) := dk_27 (dk_at dksX5_takesCells_0 14 rfl rfl)
theorem dX5_takesCells_15 : decode cX5_takesCells 15 = .ok (.bipush 7, 2) := dk_16 7 (dk_at dksX5_takesCells_0 15 rfl rfl)
theorem dX5_takesCells_17 : decode cX5_takesCells 17 = .ok (.iload_n 2, 1) := dk_28 (dk_at dksX5_takesCells_0 17 rfl rfl)
theorem dX5_takesCells_18 : decode cX5_takesCells 18 = .ok (.iadd, 1) := dk_96 (dk_at dksX5_takesCells_0 18 rfl rfl)
theorem dX5_takesCells_19 : decode cX5_takesCells 19 = .ok (.invokevirtual 53, 3) := dk_182 0 53 (dk_at dksX5_takesCells_0 19 rfl rfl)
theorem dX5_takesCells_22 : decode cX5_takesCells 22 = .ok (.iastore, 1) := dk_79 (dk_at dksX5_takesCells_0 22 rfl rfl)
theorem dX5_takesCells_23 : decode cX5_takesCells 23 = .ok (.iinc 2 1, 3) := dk_132 2 1 (dk_at dksX5_takesCells_1 0 rfl rfl)
theorem dX5_takesCells_26 : decode cX5_takesCells 26 = .ok (.goto (-24), 3) := dk_167 255 232 (dk_at dksX5_takesCells_1 3 rfl rfl)
theorem dX5_takesCells_29 : decode cX5_takesCells 29 = .ok (.return_, 1) := dk_177 (dk_at dksX5_takesCells_1 6 rfl rfl)
def dkwX5_laysTree_3 : List UInt8 := [46, 133, 105, 97, 28, 133, 97, 20, 0, 69, 113, 136, 79, 132, 2, 255, 167, 255, 210, 177]
abbrev dktX5_laysTree_3 : List UInt8 := dkwX5_laysTree_3 ++ []
def dkwX5_laysTree_2 : List UInt8 := [20, 0, 65, 43, 5, 28, 104, 46, 133, 105, 20, 0, 67, 5, 28, 104, 133, 97, 43, 5, 28, 104, 4, 96]
abbrev dktX5_laysTree_2 : List UInt8 := dkwX5_laysTree_2 ++ dktX5_laysTree_3
def dkwX5_laysTree_1 : List UInt8 := [17, 3, 209, 28, 104, 96, 4, 96, 79, 132, 2, 1, 167, 255, 224, 16, 15, 61, 28, 158, 0, 48, 43, 28]
abbrev dktX5_laysTree_1 : List UInt8 := dkwX5_laysTree_1 ++ dktX5_laysTree_2
def dkwX5_laysTree_0 : List UInt8 := [3, 61, 28, 16, 16, 162, 0, 32, 43, 16, 16, 28, 96, 18, 64, 42, 180, 0, 28, 28, 46, 104]
abbrev dktX5_laysTree_0 : List UInt8 := dkwX5_laysTree_0 ++ dktX5_laysTree_1
theorem dksX5_laysTree_0 : cX5_laysTree.data.toList.drop 0 = dktX5_laysTree_0 := by decide +kernel
theorem dksX5_laysTree_1 : cX5_laysTree.data.toList.drop 22 = dktX5_laysTree_1 := dk_seg dksX5_laysTree_0 22 rfl rfl
theorem dksX5_laysTree_2 : cX5_laysTree.data.toList.drop 46 = dktX5_laysTree_2 := dk_seg dksX5_laysTree_1 24 rfl rfl
theorem dksX5_laysTree_3 : cX5_laysTree.data.toList.drop 70 = dktX5_laysTree_3 := dk_seg dksX5_laysTree_2 24 rfl rfl
theorem dX5_laysTree_0 : decode cX5_laysTree 0 = .ok (.iconst 0, 1) := dk_3 (dk_at dksX5_laysTree_0 0 rfl rfl)
theorem dX5_laysTree_1 : decode cX5_laysTree 1 = .ok (.istore_n 2, 1) := dk_61 (dk_at dksX5_laysTree_0 1 rfl rfl)
theorem dX5_laysTree_2 : decode cX5_laysTree 2 = .ok (.iload_n 2, 1) := dk_28 (dk_at dksX5_laysTree_0 2 rfl rfl)
theorem dX5_laysTree_3 : decode cX5_laysTree 3 = .ok (.bipush 16, 2) := dk_16 16 (dk_at dksX5_laysTree_0 3 rfl rfl)
theorem dX5_laysTree_5 : decode cX5_laysTree 5 = .ok (.if_icmp .ge 32, 3) := dk_162 0 32 (dk_at dksX5_laysTree_0 5 rfl rfl)
theorem dX5_laysTree_8 : decode cX5_laysTree 8 = .ok (.aload_n 1, 1) := dk_43 (dk_at dksX5_laysTree_0 8 rfl rfl)
theorem dX5_laysTree_9 : decode cX5_laysTree 9 = .ok (.bipush 16, 2) := dk_16 16 (dk_at dksX5_laysTree_0 9 rfl rfl)
theorem dX5_laysTree_11 : decode cX5_laysTree 11 = .ok (.iload_n 2, 1) := dk_28 (dk_at dksX5_laysTree_0 11 rfl rfl)
theorem dX5_laysTree_12 : decode cX5_laysTree 12 = .ok (.iadd, 1) := dk_96 (dk_at dksX5_laysTree_0 12 rfl rfl)
theorem dX5_laysTree_13 : decode cX5_laysTree 13 = .ok (.ldc 64, 2) := dk_18 64 (dk_at dksX5_laysTree_0 13 rfl rfl)
theorem dX5_laysTree_15 : decode cX5_laysTree 15 = .ok (.aload_n 0, 1) := dk_42 (dk_at dksX5_laysTree_0 15 rfl rfl)
theorem dX5_laysTree_16 : decode cX5_laysTree 16 = .ok (.getfield 28, 3) := dk_180 0 28 (dk_at dksX5_laysTree_0 16 rfl rfl)
theorem dX5_laysTree_19 : decode cX5_laysTree 19 = .ok (.iload_n 2, 1) := dk_28 (dk_at dksX5_laysTree_0 19 rfl rfl)
theorem dX5_laysTree_20 : decode cX5_laysTree 20 = .ok (.iaload, 1) := dk_46 (dk_at dksX5_laysTree_0 20 rfl rfl)
theorem dX5_laysTree_21 : decode cX5_laysTree 21 = .ok (.imul, 1) := dk_104 (dk_at dksX5_laysTree_0 21 rfl rfl)
theorem dX5_laysTree_22 : decode cX5_laysTree 22 = .ok (.sipush 977, 3) := dk_17 3 209 (dk_at dksX5_laysTree_1 0 rfl rfl)
theorem dX5_laysTree_25 : decode cX5_laysTree 25 = .ok (.iload_n 2, 1) := dk_28 (dk_at dksX5_laysTree_1 3 rfl rfl)
theorem dX5_laysTree_26 : decode cX5_laysTree 26 = .ok (.imul, 1) := dk_104 (dk_at dksX5_laysTree_1 4 rfl rfl)
theorem dX5_laysTree_27 : decode cX5_laysTree 27 = .ok (.iadd, 1) := dk_96 (dk_at dksX5_laysTree_1 5 rfl rfl)
theorem dX5_laysTree_28 : decode cX5_laysTree 28 = .ok (.iconst 1, 1) := dk_4 (dk_at dksX5_laysTree_1 6 rfl rfl)
theorem dX5_laysTree_29 : decode cX5_laysTree 29 = .ok (.iadd, 1) := dk_96 (dk_at dksX5_laysTree_1 7 rfl rfl)
theorem dX5_laysTree_30 : decode cX5_laysTree 30 = .ok (.iastore, 1) := dk_79 (dk_at dksX5_laysTree_1 8 rfl rfl)
theorem dX5_laysTree_31 : decode cX5_laysTree 31 = .ok (.iinc 2 1, 3) := dk_132 2 1 (dk_at dksX5_laysTree_1 9 rfl rfl)
theorem dX5_laysTree_34 : decode cX5_laysTree 34 = .ok (.goto (-32), 3) := dk_167 255 224 (dk_at dksX5_laysTree_1 12 rfl rfl)
theorem dX5_laysTree_37 : decode cX5_laysTree 37 = .ok (.bipush 15, 2) := dk_16 15 (dk_at dksX5_laysTree_1 15 rfl rfl)
theorem dX5_laysTree_39 : decode cX5_laysTree 39 = .ok (.istore_n 2, 1) := dk_61 (dk_at dksX5_laysTree_1 17 rfl rfl)
theorem dX5_laysTree_40 : decode cX5_laysTree 40 = .ok (.iload_n 2, 1) := dk_28 (dk_at dksX5_laysTree_1 18 rfl rfl)
theorem dX5_laysTree_41 : decode cX5_laysTree 41 = .ok (.ifCond .le 48, 3) := dk_158 0 48 (dk_at dksX5_laysTree_1 19 rfl rfl)
theorem dX5_laysTree_44 : decode cX5_laysTree 44 = .ok (.aload_n 1, 1) := dk_43 (dk_at dksX5_laysTree_1 22 rfl rfl)
theorem dX5_laysTree_45 : decode cX5_laysTree 45 = .ok (.iload_n 2, 1) := dk_28 (dk_at dksX5_laysTree_1 23 rfl rfl)
theorem dX5_laysTree_46 : decode cX5_laysTree 46 = .ok (.ldc2_w 65, 3) := dk_20 0 65 (dk_at dksX5_laysTree_2 0 rfl rfl)
theorem dX5_laysTree_49 : decode cX5_laysTree 49 = .ok (.aload_n 1, 1) := dk_43 (dk_at dksX5_laysTree_2 3 rfl rfl)
theorem dX5_laysTree_50 : decode cX5_laysTree 50 = .ok (.iconst 2, 1) := dk_5 (dk_at dksX5_laysTree_2 4 rfl rfl)
theorem dX5_laysTree_51 : decode cX5_laysTree 51 = .ok (.iload_n 2, 1) := dk_28 (dk_at dksX5_laysTree_2 5 rfl rfl)
theorem dX5_laysTree_52 : decode cX5_laysTree 52 = .ok (.imul, 1) := dk_104 (dk_at dksX5_laysTree_2 6 rfl rfl)
theorem dX5_laysTree_53 : decode cX5_laysTree 53 = .ok (.iaload, 1) := dk_46 (dk_at dksX5_laysTree_2 7 rfl rfl)
theorem dX5_laysTree_54 : decode cX5_laysTree 54 = .ok (.i2l, 1) := dk_133 (dk_at dksX5_laysTree_2 8 rfl rfl)
theorem dX5_laysTree_55 : decode cX5_laysTree 55 = .ok (.lmul, 1) := dk_105 (dk_at dksX5_laysTree_2 9 rfl rfl)
theorem dX5_laysTree_56 : decode cX5_laysTree 56 = .ok (.ldc2_w 67, 3) := dk_20 0 67 (dk_at dksX5_laysTree_2 10 rfl rfl)
theorem dX5_laysTree_59 : decode cX5_laysTree 59 = .ok (.iconst 2, 1) := dk_5 (dk_at dksX5_laysTree_2 13 rfl rfl)
theorem dX5_laysTree_60 : decode cX5_laysTree 60 = .ok (.iload_n 2, 1) := dk_28 (dk_at dksX5_laysTree_2 14 rfl rfl)
theorem dX5_laysTree_61 : decode cX5_laysTree 61 = .ok (.imul, 1) := dk_104 (dk_at dksX5_laysTree_2 15 rfl rfl)
theorem dX5_laysTree_62 : decode cX5_laysTree 62 = .ok (.i2l, 1) := dk_133 (dk_at dksX5_laysTree_2 16 rfl rfl)
theorem dX5_laysTree_63 : decode cX5_laysTree 63 = .ok (.ladd, 1) := dk_97 (dk_at dksX5_laysTree_2 17 rfl rfl)
theorem dX5_laysTree_64 : decode cX5_laysTree 64 = .ok (.aload_n 1, 1) := dk_43 (dk_at dksX5_laysTree_2 18 rfl rfl)
theorem dX5_laysTree_65 : decode cX5_laysTree 65 = .ok (.iconst 2, 1) := dk_5 (dk_at dksX5_laysTree_2 19 rfl rfl)
theorem dX5_laysTree_66 : decode cX5_laysTree 66 = .ok (.iload_n 2, 1) := dk_28 (dk_at dksX5_laysTree_2 20 rfl rfl)
theorem dX5_laysTree_67 : decode cX5_laysTree 67 = .ok (.imul, 1) := dk_104 (dk_at dksX5_laysTree_2 21 rfl rfl)
theorem dX5_laysTree_68 : decode cX5_laysTree 68 = .ok (.iconst 1, 1) := dk_4 (dk_at dksX5_laysTree_2 22 rfl rfl)
theorem dX5_laysTree_69 : decode cX5_laysTree 69 = .ok (.iadd, 1) := dk_96 (dk_at dksX5_laysTree_2 23 rfl rfl)
theorem dX5_laysTree_70 : decode cX5_laysTree 70 = .ok (.iaload, 1) := dk_46 (dk_at dksX5_laysTree_3 0 rfl rfl)
theorem dX5_laysTree_71 : decode cX5_laysTree 71 = .ok (.i2l, 1) := dk_133 (dk_at dksX5_laysTree_3 1 rfl rfl)
theorem dX5_laysTree_72 : decode cX5_laysTree 72 = .ok (.lmul, 1) := dk_105 (dk_at dksX5_laysTree_3 2 rfl rfl)
theorem dX5_laysTree_73 : decode cX5_laysTree 73 = .ok (.ladd, 1) := dk_97 (dk_at dksX5_laysTree_3 3 rfl rfl)
theorem dX5_laysTree_74 : decode cX5_laysTree 74 = .ok (.iload_n 2, 1) := dk_28 (dk_at dksX5_laysTree_3 4 rfl rfl)
theorem dX5_laysTree_75 : decode cX5_laysTree 75 = .ok (.i2l, 1) := dk_133 (dk_at dksX5_laysTree_3 5 rfl rfl)
theorem dX5_laysTree_76 : decode cX5_laysTree 76 = .ok (.ladd, 1) := dk_97 (dk_at dksX5_laysTree_3 6 rfl rfl)
theorem dX5_laysTree_77 : decode cX5_laysTree 77 = .ok (.ldc2_w 69, 3) := dk_20 0 69 (dk_at dksX5_laysTree_3 7 rfl rfl)
theorem dX5_laysTree_80 : decode cX5_laysTree 80 = .ok (.lrem, 1) := dk_113 (dk_at dksX5_laysTree_3 10 rfl rfl)
theorem dX5_laysTree_81 : decode cX5_laysTree 81 = .ok (.l2i, 1) := dk_136 (dk_at dksX5_laysTree_3 11 rfl rfl)
theorem dX5_laysTree_82 : decode cX5_laysTree 82 = .ok (.iastore, 1) := dk_79 (dk_at dksX5_laysTree_3 12 rfl rfl)
theorem dX5_laysTree_83 : decode cX5_laysTree 83 = .ok (.iinc 2 (-1), 3) := dk_132 2 255 (dk_at dksX5_laysTree_3 13 rfl rfl)
theorem dX5_laysTree_86 : decode cX5_laysTree 86 = .ok (.goto (-46), 3) := dk_167 255 210 (dk_at dksX5_laysTree_3 16 rfl rfl)
theorem dX5_laysTree_89 : decode cX5_laysTree 89 = .ok (.return_, 1) := dk_177 (dk_at dksX5_laysTree_3 19 rfl rfl)
def dkwX5_errorPosition_0 : List UInt8 := [42, 3, 181, 0, 47, 42, 180, 0, 37, 172]
abbrev dktX5_errorPosition_0 : List UInt8 := dkwX5_errorPosition_0 ++ []
theorem dksX5_errorPosition_0 : cX5_errorPosition.data.toList.drop 0 = dktX5_errorPosition_0 := by decide +kernel
theorem dX5_errorPosition_0 : decode cX5_errorPosition 0 = .ok (.aload_n 0, 1) := dk_42 (dk_at dksX5_errorPosition_0 0 rfl rfl)
theorem dX5_errorPosition_1 : decode cX5_errorPosition 1 = .ok (.iconst 0, 1) := dk_3 (dk_at dksX5_errorPosition_0 1 rfl rfl)
theorem dX5_errorPosition_2 : decode cX5_errorPosition 2 = .ok (.putfield 47, 3) := dk_181 0 47 (dk_at dksX5_errorPosition_0 2 rfl rfl)
theorem dX5_errorPosition_5 : decode cX5_errorPosition 5 = .ok (.aload_n 0, 1) := dk_42 (dk_at dksX5_errorPosition_0 5 rfl rfl)
theorem dX5_errorPosition_6 : decode cX5_errorPosition 6 = .ok (.getfield 37, 3) := dk_180 0 37 (dk_at dksX5_errorPosition_0 6 rfl rfl)
theorem dX5_errorPosition_9 : decode cX5_errorPosition 9 = .ok (.ireturn, 1) := dk_172 (dk_at dksX5_errorPosition_0 9 rfl rfl)
def dkwX5_count_3 : List UInt8 := [180, 0, 19, 17, 6, 205, 46, 172, 16, 254, 172]
abbrev dktX5_count_3 : List UInt8 := dkwX5_count_3 ++ []
def dkwX5_count_2 : List UInt8 := [42, 182, 0, 114, 172, 42, 180, 0, 19, 17, 1, 131, 46, 172, 42, 180, 0, 19, 17, 6, 172, 46, 172, 42]
abbrev dktX5_count_2 : List UInt8 := dkwX5_count_2 ++ dktX5_count_3
def dkwX5_count_1 : List UInt8 := [170, 0, 0, 0, 0, 62, 0, 0, 0, 0, 0, 0, 0, 3, 0, 0, 0, 30, 0, 0, 0, 35, 0, 0, 0, 44, 0, 0, 0, 53]
abbrev dktX5_count_1 : List UInt8 := dkwX5_count_1 ++ dktX5_count_2
def dkwX5_count_0 : List UInt8 := [42, 3, 181, 0, 47, 27]
abbrev dktX5_count_0 : List UInt8 := dkwX5_count_0 ++ dktX5_count_1
theorem dksX5_count_0 : cX5_count.data.toList.drop 0 = dktX5_count_0 := by decide +kernel
theorem dksX5_count_1 : cX5_count.data.toList.drop 6 = dktX5_count_1 := dk_seg dksX5_count_0 6 rfl rfl
theorem dksX5_count_2 : cX5_count.data.toList.drop 36 = dktX5_count_2 := dk_seg dksX5_count_1 30 rfl rfl
theorem dksX5_count_3 : cX5_count.data.toList.drop 60 = dktX5_count_3 := dk_seg dksX5_count_2 24 rfl rfl
theorem dX5_count_0 : decode cX5_count 0 = .ok (.aload_n 0, 1) := dk_42 (dk_at dksX5_count_0 0 rfl rfl)
theorem dX5_count_1 : decode cX5_count 1 = .ok (.iconst 0, 1) := dk_3 (dk_at dksX5_count_0 1 rfl rfl)
theorem dX5_count_2 : decode cX5_count 2 = .ok (.putfield 47, 3) := dk_181 0 47 (dk_at dksX5_count_0 2 rfl rfl)
theorem dX5_count_5 : decode cX5_count 5 = .ok (.iload_n 1, 1) := dk_27 (dk_at dksX5_count_0 5 rfl rfl)
theorem dX5_count_6 : decode cX5_count 6 = .ok (.tableswitch 62 0 3 #[30, 35, 44, 53], 30) := by decide +kernel
theorem dX5_count_36 : decode cX5_count 36 = .ok (.aload_n 0, 1) := dk_42 (dk_at dksX5_count_2 0 rfl rfl)
theorem dX5_count_37 : decode cX5_count 37 = .ok (.invokevirtual 114, 3) := dk_182 0 114 (dk_at dksX5_count_2 1 rfl rfl)
theorem dX5_count_40 : decode cX5_count 40 = .ok (.ireturn, 1) := dk_172 (dk_at dksX5_count_2 4 rfl rfl)
theorem dX5_count_41 : decode cX5_count 41 = .ok (.aload_n 0, 1) := dk_42 (dk_at dksX5_count_2 5 rfl rfl)
theorem dX5_count_42 : decode cX5_count 42 = .ok (.getfield 19, 3) := dk_180 0 19 (dk_at dksX5_count_2 6 rfl rfl)
theorem dX5_count_45 : decode cX5_count 45 = .ok (.sipush 387, 3) := dk_17 1 131 (dk_at dksX5_count_2 9 rfl rfl)
theorem dX5_count_48 : decode cX5_count 48 = .ok (.iaload, 1) := dk_46 (dk_at dksX5_count_2 12 rfl rfl)
theorem dX5_count_49 : decode cX5_count 49 = .ok (.ireturn, 1) := dk_172 (dk_at dksX5_count_2 13 rfl rfl)
theorem dX5_count_50 : decode cX5_count 50 = .ok (.aload_n 0, 1) := dk_42 (dk_at dksX5_count_2 14 rfl rfl)
theorem dX5_count_51 : decode cX5_count 51 = .ok (.getfield 19, 3) := dk_180 0 19 (dk_at dksX5_count_2 15 rfl rfl)
theorem dX5_count_54 : decode cX5_count 54 = .ok (.sipush 1708, 3) := dk_17 6 172 (dk_at dksX5_count_2 18 rfl rfl)
theorem dX5_count_57 : decode cX5_count 57 = .ok (.iaload, 1) := dk_46 (dk_at dksX5_count_2 21 rfl rfl)
theorem dX5_count_58 : decode cX5_count 58 = .ok (.ireturn, 1) := dk_172 (dk_at dksX5_count_2 22 rfl rfl)
theorem dX5_count_59 : decode cX5_count 59 = .ok (.aload_n 0, 1) := dk_42 (dk_at dksX5_count_2 23 rfl rfl)
theorem dX5_count_60 : decode cX5_count 60 = .ok (.getfield 19, 3) := dk_180 0 19 (dk_at dksX5_count_3 0 rfl rfl)
theorem dX5_count_63 : decode cX5_count 63 = .ok (.sipush 1741, 3) := dk_17 6 205 (dk_at dksX5_count_3 3 rfl rfl)
theorem dX5_count_66 : decode cX5_count 66 = .ok (.iaload, 1) := dk_46 (dk_at dksX5_count_3 6 rfl rfl)
theorem dX5_count_67 : decode cX5_count 67 = .ok (.ireturn, 1) := dk_172 (dk_at dksX5_count_3 7 rfl rfl)
theorem dX5_count_68 : decode cX5_count 68 = .ok (.bipush (-2), 2) := dk_16 254 (dk_at dksX5_count_3 8 rfl rfl)
theorem dX5_count_70 : decode cX5_count 70 = .ok (.ireturn, 1) := dk_172 (dk_at dksX5_count_3 10 rfl rfl)
def dkwX5_undoCount_0 : List UInt8 := [42, 3, 181, 0, 47, 42, 180, 1, 30, 172]
abbrev dktX5_undoCount_0 : List UInt8 := dkwX5_undoCount_0 ++ []
theorem dksX5_undoCount_0 : cX5_undoCount.data.toList.drop 0 = dktX5_undoCount_0 := by decide +kernel
theorem dX5_undoCount_0 : decode cX5_undoCount 0 = .ok (.aload_n 0, 1) := dk_42 (dk_at dksX5_undoCount_0 0 rfl rfl)
theorem dX5_undoCount_1 : decode cX5_undoCount 1 = .ok (.iconst 0, 1) := dk_3 (dk_at dksX5_undoCount_0 1 rfl rfl)
theorem dX5_undoCount_2 : decode cX5_undoCount 2 = .ok (.putfield 47, 3) := dk_181 0 47 (dk_at dksX5_undoCount_0 2 rfl rfl)
theorem dX5_undoCount_5 : decode cX5_undoCount 5 = .ok (.aload_n 0, 1) := dk_42 (dk_at dksX5_undoCount_0 5 rfl rfl)
theorem dX5_undoCount_6 : decode cX5_undoCount 6 = .ok (.getfield 286, 3) := dk_180 1 30 (dk_at dksX5_undoCount_0 6 rfl rfl)
theorem dX5_undoCount_9 : decode cX5_undoCount 9 = .ok (.ireturn, 1) := dk_172 (dk_at dksX5_undoCount_0 9 rfl rfl)
def dkwX5_memberNamed_0 : List UInt8 := [42, 3, 181, 0, 47, 42, 27, 182, 0, 213, 172]
abbrev dktX5_memberNamed_0 : List UInt8 := dkwX5_memberNamed_0 ++ []
theorem dksX5_memberNamed_0 : cX5_memberNamed.data.toList.drop 0 = dktX5_memberNamed_0 := by decide +kernel
theorem dX5_memberNamed_0 : decode cX5_memberNamed 0 = .ok (.aload_n 0, 1) := dk_42 (dk_at dksX5_memberNamed_0 0 rfl rfl)
theorem dX5_memberNamed_1 : decode cX5_memberNamed 1 = .ok (.iconst 0, 1) := dk_3 (dk_at dksX5_memberNamed_0 1 rfl rfl)
theorem dX5_memberNamed_2 : decode cX5_memberNamed 2 = .ok (.putfield 47, 3) := dk_181 0 47 (dk_at dksX5_memberNamed_0 2 rfl rfl)
theorem dX5_memberNamed_5 : decode cX5_memberNamed 5 = .ok (.aload_n 0, 1) := dk_42 (dk_at dksX5_memberNamed_0 5 rfl rfl)
theorem dX5_memberNamed_6 : decode cX5_memberNamed 6 = .ok (.iload_n 1, 1) := dk_27 (dk_at dksX5_memberNamed_0 6 rfl rfl)
theorem dX5_memberNamed_7 : decode cX5_memberNamed 7 = .ok (.invokevirtual 213, 3) := dk_182 0 213 (dk_at dksX5_memberNamed_0 7 rfl rfl)
theorem dX5_memberNamed_10 : decode cX5_memberNamed 10 = .ok (.ireturn, 1) := dk_172 (dk_at dksX5_memberNamed_0 10 rfl rfl)
def dkwX5_memberNumber_1 : List UInt8 := [16, 254, 167, 0, 9, 42, 27, 28, 182, 0, 53, 172]
abbrev dktX5_memberNumber_1 : List UInt8 := dkwX5_memberNumber_1 ++ []
def dkwX5_memberNumber_0 : List UInt8 := [42, 42, 27, 182, 1, 33, 182, 1, 36, 154, 0, 5, 3, 172, 28, 155, 0, 8, 28, 8, 164, 0, 8]
abbrev dktX5_memberNumber_0 : List UInt8 := dkwX5_memberNumber_0 ++ dktX5_memberNumber_1
theorem dksX5_memberNumber_0 : cX5_memberNumber.data.toList.drop 0 = dktX5_memberNumber_0 := by decide +kernel
theorem dksX5_memberNumber_1 : cX5_memberNumber.data.toList.drop 23 = dktX5_memberNumber_1 := dk_seg dksX5_memberNumber_0 23 rfl rfl
theorem dX5_memberNumber_0 : decode cX5_memberNumber 0 = .ok (.aload_n 0, 1) := dk_42 (dk_at dksX5_memberNumber_0 0 rfl rfl)
theorem dX5_memberNumber_1 : decode cX5_memberNumber 1 = .ok (.aload_n 0, 1) := dk_42 (dk_at dksX5_memberNumber_0 1 rfl rfl)
theorem dX5_memberNumber_2 : decode cX5_memberNumber 2 = .ok (.iload_n 1, 1) := dk_27 (dk_at dksX5_memberNumber_0 2 rfl rfl)
theorem dX5_memberNumber_3 : decode cX5_memberNumber 3 = .ok (.invokevirtual 289, 3) := dk_182 1 33 (dk_at dksX5_memberNumber_0 3 rfl rfl)
theorem dX5_memberNumber_6 : decode cX5_memberNumber 6 = .ok (.invokevirtual 292, 3) := dk_182 1 36 (dk_at dksX5_memberNumber_0 6 rfl rfl)
theorem dX5_memberNumber_9 : decode cX5_memberNumber 9 = .ok (.ifCond .ne 5, 3) := dk_154 0 5 (dk_at dksX5_memberNumber_0 9 rfl rfl)
theorem dX5_memberNumber_12 : decode cX5_memberNumber 12 = .ok (.iconst 0, 1) := dk_3 (dk_at dksX5_memberNumber_0 12 rfl rfl)
theorem dX5_memberNumber_13 : decode cX5_memberNumber 13 = .ok (.ireturn, 1) := dk_172 (dk_at dksX5_memberNumber_0 13 rfl rfl)
theorem dX5_memberNumber_14 : decode cX5_memberNumber 14 = .ok (.iload_n 2, 1) := dk_28 (dk_at dksX5_memberNumber_0 14 rfl rfl)
theorem dX5_memberNumber_15 : decode cX5_memberNumber 15 = .ok (.ifCond .lt 8, 3) := dk_155 0 8 (dk_at dksX5_memberNumber_0 15 rfl rfl)
theorem dX5_memberNumber_18 : decode cX5_memberNumber 18 = .ok (.iload_n 2, 1) := dk_28 (dk_at dksX5_memberNumber_0 18 rfl rfl)
theorem dX5_memberNumber_19 : decode cX5_memberNumber 19 = .ok (.iconst 5, 1) := dk_8 (dk_at dksX5_memberNumber_0 19 rfl rfl)
theorem dX5_memberNumber_20 : decode cX5_memberNumber 20 = .ok (.if_icmp .le 8, 3) := dk_164 0 8 (dk_at dksX5_memberNumber_0 20 rfl rfl)
theorem dX5_memberNumber_23 : decode cX5_memberNumber 23 = .ok (.bipush (-2), 2) := dk_16 254 (dk_at dksX5_memberNumber_1 0 rfl rfl)
theorem dX5_memberNumber_25 : decode cX5_memberNumber 25 = .ok (.goto 9, 3) := dk_167 0 9 (dk_at dksX5_memberNumber_1 2 rfl rfl)
theorem dX5_memberNumber_28 : decode cX5_memberNumber 28 = .ok (.aload_n 0, 1) := dk_42 (dk_at dksX5_memberNumber_1 5 rfl rfl)
theorem dX5_memberNumber_29 : decode cX5_memberNumber 29 = .ok (.iload_n 1, 1) := dk_27 (dk_at dksX5_memberNumber_1 6 rfl rfl)
theorem dX5_memberNumber_30 : decode cX5_memberNumber 30 = .ok (.iload_n 2, 1) := dk_28 (dk_at dksX5_memberNumber_1 7 rfl rfl)
theorem dX5_memberNumber_31 : decode cX5_memberNumber 31 = .ok (.invokevirtual 53, 3) := dk_182 0 53 (dk_at dksX5_memberNumber_1 8 rfl rfl)
theorem dX5_memberNumber_34 : decode cX5_memberNumber 34 = .ok (.ireturn, 1) := dk_172 (dk_at dksX5_memberNumber_1 11 rfl rfl)
def dkwX5_isMember_0 : List UInt8 := [27, 155, 0, 15, 27, 42, 182, 0, 114, 162, 0, 7, 4, 167, 0, 4, 3, 172]
abbrev dktX5_isMember_0 : List UInt8 := dkwX5_isMember_0 ++ []
theorem dksX5_isMember_0 : cX5_isMember.data.toList.drop 0 = dktX5_isMember_0 := by decide +kernel
theorem dX5_isMember_0 : decode cX5_isMember 0 = .ok (.iload_n 1, 1) := dk_27 (dk_at dksX5_isMember_0 0 rfl rfl)
theorem dX5_isMember_1 : decode cX5_isMember 1 = .ok (.ifCond .lt 15, 3) := dk_155 0 15 (dk_at dksX5_isMember_0 1 rfl rfl)
theorem dX5_isMember_4 : decode cX5_isMember 4 = .ok (.iload_n 1, 1) := dk_27 (dk_at dksX5_isMember_0 4 rfl rfl)
theorem dX5_isMember_5 : decode cX5_isMember 5 = .ok (.aload_n 0, 1) := dk_42 (dk_at dksX5_isMember_0 5 rfl rfl)
theorem dX5_isMember_6 : decode cX5_isMember 6 = .ok (.invokevirtual 114, 3) := dk_182 0 114 (dk_at dksX5_isMember_0 6 rfl rfl)
theorem dX5_isMember_9 : decode cX5_isMember 9 = .ok (.if_icmp .ge 7, 3) := dk_162 0 7 (dk_at dksX5_isMember_0 9 rfl rfl)
theorem dX5_isMember_12 : decode cX5_isMember 12 = .ok (.iconst 1, 1) := dk_4 (dk_at dksX5_isMember_0 12 rfl rfl)
theorem dX5_isMember_13 : decode cX5_isMember 13 = .ok (.goto 4, 3) := dk_167 0 4 (dk_at dksX5_isMember_0 13 rfl rfl)
theorem dX5_isMember_16 : decode cX5_isMember 16 = .ok (.iconst 0, 1) := dk_3 (dk_at dksX5_isMember_0 16 rfl rfl)
theorem dX5_isMember_17 : decode cX5_isMember 17 = .ok (.ireturn, 1) := dk_172 (dk_at dksX5_isMember_0 17 rfl rfl)
def dkwX5_checks_0 : List UInt8 := [42, 27, 153, 0, 7, 3, 167, 0, 4, 4, 181, 0, 47, 27, 172]
abbrev dktX5_checks_0 : List UInt8 := dkwX5_checks_0 ++ []
theorem dksX5_checks_0 : cX5_checks.data.toList.drop 0 = dktX5_checks_0 := by decide +kernel
theorem dX5_checks_0 : decode cX5_checks 0 = .ok (.aload_n 0, 1) := dk_42 (dk_at dksX5_checks_0 0 rfl rfl)
theorem dX5_checks_1 : decode cX5_checks 1 = .ok (.iload_n 1, 1) := dk_27 (dk_at dksX5_checks_0 1 rfl rfl)
theorem dX5_checks_2 : decode cX5_checks 2 = .ok (.ifCond .eq 7, 3) := dk_153 0 7 (dk_at dksX5_checks_0 2 rfl rfl)
theorem dX5_checks_5 : decode cX5_checks 5 = .ok (.iconst 0, 1) := dk_3 (dk_at dksX5_checks_0 5 rfl rfl)
theorem dX5_checks_6 : decode cX5_checks 6 = .ok (.goto 4, 3) := dk_167 0 4 (dk_at dksX5_checks_0 6 rfl rfl)
theorem dX5_checks_9 : decode cX5_checks 9 = .ok (.iconst 1, 1) := dk_4 (dk_at dksX5_checks_0 9 rfl rfl)
theorem dX5_checks_10 : decode cX5_checks 10 = .ok (.putfield 47, 3) := dk_181 0 47 (dk_at dksX5_checks_0 10 rfl rfl)
theorem dX5_checks_13 : decode cX5_checks 13 = .ok (.iload_n 1, 1) := dk_27 (dk_at dksX5_checks_0 13 rfl rfl)
theorem dX5_checks_14 : decode cX5_checks 14 = .ok (.ireturn, 1) := dk_172 (dk_at dksX5_checks_0 14 rfl rfl)
def dkwX5_getSetting_1 : List UInt8 := [16, 254, 172]
abbrev dktX5_getSetting_1 : List UInt8 := dkwX5_getSetting_1 ++ []
def dkwX5_getSetting_0 : List UInt8 := [42, 3, 181, 0, 47, 27, 184, 1, 40, 153, 0, 14, 42, 180, 0, 19, 3, 27, 96, 46, 167, 0, 5]
abbrev dktX5_getSetting_0 : List UInt8 := dkwX5_getSetting_0 ++ dktX5_getSetting_1
theorem dksX5_getSetting_0 : cX5_getSetting.data.toList.drop 0 = dktX5_getSetting_0 := by decide +kernel
theorem dksX5_getSetting_1 : cX5_getSetting.data.toList.drop 23 = dktX5_getSetting_1 := dk_seg dksX5_getSetting_0 23 rfl rfl
theorem dX5_getSetting_0 : decode cX5_getSetting 0 = .ok (.aload_n 0, 1) := dk_42 (dk_at dksX5_getSetting_0 0 rfl rfl)
theorem dX5_getSetting_1 : decode cX5_getSetting 1 = .ok (.iconst 0, 1) := dk_3 (dk_at dksX5_getSetting_0 1 rfl rfl)
theorem dX5_getSetting_2 : decode cX5_getSetting 2 = .ok (.putfield 47, 3) := dk_181 0 47 (dk_at dksX5_getSetting_0 2 rfl rfl)
theorem dX5_getSetting_5 : decode cX5_getSetting 5 = .ok (.iload_n 1, 1) := dk_27 (dk_at dksX5_getSetting_0 5 rfl rfl)
theorem dX5_getSetting_6 : decode cX5_getSetting 6 = .ok (.invokestatic 296, 3) := dk_184 1 40 (dk_at dksX5_getSetting_0 6 rfl rfl)
theorem dX5_getSetting_9 : decode cX5_getSetting 9 = .ok (.ifCond .eq 14, 3) := dk_153 0 14 (dk_at dksX5_getSetting_0 9 rfl rfl)
theorem dX5_getSetting_12 : decode cX5_getSetting 12 = .ok (.aload_n 0, 1) := dk_42 (dk_at dksX5_getSetting_0 12 rfl rfl)
theorem dX5_getSetting_13 : decode cX5_getSetting 13 = .ok (.getfield 19, 3) := dk_180 0 19 (dk_at dksX5_getSetting_0 13 rfl rfl)
theorem dX5_getSetting_16 : decode cX5_getSetting 16 = .ok (.iconst 0, 1) := dk_3 (dk_at dksX5_getSetting_0 16 rfl rfl)
theorem dX5_getSetting_17 : decode cX5_getSetting 17 = .ok (.iload_n 1, 1) := dk_27 (dk_at dksX5_getSetting_0 17 rfl rfl)
theorem dX5_getSetting_18 : decode cX5_getSetting 18 = .ok (.iadd, 1) := dk_96 (dk_at dksX5_getSetting_0 18 rfl rfl)
theorem dX5_getSetting_19 : decode cX5_getSetting 19 = .ok (.iaload, 1) := dk_46 (dk_at dksX5_getSetting_0 19 rfl rfl)
theorem dX5_getSetting_20 : decode cX5_getSetting 20 = .ok (.goto 5, 3) := dk_167 0 5 (dk_at dksX5_getSetting_0 20 rfl rfl)
theorem dX5_getSetting_23 : decode cX5_getSetting 23 = .ok (.bipush (-2), 2) := dk_16 254 (dk_at dksX5_getSetting_1 0 rfl rfl)
theorem dX5_getSetting_25 : decode cX5_getSetting 25 = .ok (.ireturn, 1) := dk_172 (dk_at dksX5_getSetting_1 2 rfl rfl)
def dkwX5_isSetting_0 : List UInt8 := [26, 153, 0, 8, 26, 4, 160, 0, 7, 4, 167, 0, 4, 3, 172]
abbrev dktX5_isSetting_0 : List UInt8 := dkwX5_isSetting_0 ++ []
theorem dksX5_isSetting_0 : cX5_isSetting.data.toList.drop 0 = dktX5_isSetting_0 := by decide +kernel
theorem dX5_isSetting_0 : decode cX5_isSetting 0 = .ok (.iload_n 0, 1) := dk_26 (dk_at dksX5_isSetting_0 0 rfl rfl)
theorem dX5_isSetting_1 : decode cX5_isSetting 1 = .ok (.ifCond .eq 8, 3) := dk_153 0 8 (dk_at dksX5_isSetting_0 1 rfl rfl)
theorem dX5_isSetting_4 : decode cX5_isSetting 4 = .ok (.iload_n 0, 1) := dk_26 (dk_at dksX5_isSetting_0 4 rfl rfl)
theorem dX5_isSetting_5 : decode cX5_isSetting 5 = .ok (.iconst 1, 1) := dk_4 (dk_at dksX5_isSetting_0 5 rfl rfl)
theorem dX5_isSetting_6 : decode cX5_isSetting 6 = .ok (.if_icmp .ne 7, 3) := dk_160 0 7 (dk_at dksX5_isSetting_0 6 rfl rfl)
theorem dX5_isSetting_9 : decode cX5_isSetting 9 = .ok (.iconst 1, 1) := dk_4 (dk_at dksX5_isSetting_0 9 rfl rfl)
theorem dX5_isSetting_10 : decode cX5_isSetting 10 = .ok (.goto 4, 3) := dk_167 0 4 (dk_at dksX5_isSetting_0 10 rfl rfl)
theorem dX5_isSetting_13 : decode cX5_isSetting 13 = .ok (.iconst 0, 1) := dk_3 (dk_at dksX5_isSetting_0 13 rfl rfl)
theorem dX5_isSetting_14 : decode cX5_isSetting 14 = .ok (.ireturn, 1) := dk_172 (dk_at dksX5_isSetting_0 14 rfl rfl)
def dkwX5_cellOf_1 : List UInt8 := [153, 0, 15, 42, 27, 16, 7, 28, 96, 182, 0, 53, 167, 0, 4, 3, 172]
abbrev dktX5_cellOf_1 : List UInt8 := dkwX5_cellOf_1 ++ []
def dkwX5_cellOf_0 : List UInt8 := [42, 42, 27, 182, 1, 33, 153, 0, 14, 28, 184, 1, 43, 153, 0, 7, 4, 167, 0, 4, 3, 182, 1, 36]
abbrev dktX5_cellOf_0 : List UInt8 := dkwX5_cellOf_0 ++ dktX5_cellOf_1
theorem dksX5_cellOf_0 : cX5_cellOf.data.toList.drop 0 = dktX5_cellOf_0 := by decide +kernel
theorem dksX5_cellOf_1 : cX5_cellOf.data.toList.drop 24 = dktX5_cellOf_1 := dk_seg dksX5_cellOf_0 24 rfl rfl
theorem dX5_cellOf_0 : decode cX5_cellOf 0 = .ok (.aload_n 0, 1) := dk_42 (dk_at dksX5_cellOf_0 0 rfl rfl)
theorem dX5_cellOf_1 : decode cX5_cellOf 1 = .ok (.aload_n 0, 1) := dk_42 (dk_at dksX5_cellOf_0 1 rfl rfl)
theorem dX5_cellOf_2 : decode cX5_cellOf 2 = .ok (.iload_n 1, 1) := dk_27 (dk_at dksX5_cellOf_0 2 rfl rfl)
theorem dX5_cellOf_3 : decode cX5_cellOf 3 = .ok (.invokevirtual 289, 3) := dk_182 1 33 (dk_at dksX5_cellOf_0 3 rfl rfl)
theorem dX5_cellOf_6 : decode cX5_cellOf 6 = .ok (.ifCond .eq 14, 3) := dk_153 0 14 (dk_at dksX5_cellOf_0 6 rfl rfl)
theorem dX5_cellOf_9 : decode cX5_cellOf 9 = .ok (.iload_n 2, 1) := dk_28 (dk_at dksX5_cellOf_0 9 rfl rfl)
theorem dX5_cellOf_10 : decode cX5_cellOf 10 = .ok (.invokestatic 299, 3) := dk_184 1 43 (dk_at dksX5_cellOf_0 10 rfl rfl)
theorem dX5_cellOf_13 : decode cX5_cellOf 13 = .ok (.ifCond .eq 7, 3) := dk_153 0 7 (dk_at dksX5_cellOf_0 13 rfl rfl)
theorem dX5_cellOf_16 : decode cX5_cellOf 16 = .ok (.iconst 1, 1) := dk_4 (dk_at dksX5_cellOf_0 16 rfl rfl)
theorem dX5_cellOf_17 : decode cX5_cellOf 17 = .ok (.goto 4, 3) := dk_167 0 4 (dk_at dksX5_cellOf_0 17 rfl rfl)
theorem dX5_cellOf_20 : decode cX5_cellOf 20 = .ok (.iconst 0, 1) := dk_3 (dk_at dksX5_cellOf_0 20 rfl rfl)
theorem dX5_cellOf_21 : decode cX5_cellOf 21 = .ok (.invokevirtual 292, 3) := dk_182 1 36 (dk_at dksX5_cellOf_0 21 rfl rfl)
theorem dX5_cellOf_24 : decode cX5_cellOf 24 = .ok (.ifCond .eq 15, 3) := dk_153 0 15 (dk_at dksX5_cellOf_1 0 rfl rfl)
theorem dX5_cellOf_27 : decode cX5_cellOf 27 = .ok (.aload_n 0, 1) := dk_42 (dk_at dksX5_cellOf_1 3 rfl rfl)
theorem dX5_cellOf_28 : decode cX5_cellOf 28 = .ok (.iload_n 1, 1) := dk_27 (dk_at dksX5_cellOf_1 4 rfl rfl)
theorem dX5_cellOf_29 : decode cX5_cellOf 29 = .ok (.bipush 7, 2) := dk_16 7 (dk_at dksX5_cellOf_1 5 rfl rfl)
theorem dX5_cellOf_31 : decode cX5_cellOf 31 = .ok (.iload_n 2, 1) := dk_28 (dk_at dksX5_cellOf_1 7 rfl rfl)
theorem dX5_cellOf_32 : decode cX5_cellOf 32 = .ok (.iadd, 1) := dk_96 (dk_at dksX5_cellOf_1 8 rfl rfl)
theorem dX5_cellOf_33 : decode cX5_cellOf 33 = .ok (.invokevirtual 53, 3) := dk_182 0 53 (dk_at dksX5_cellOf_1 9 rfl rfl)
theorem dX5_cellOf_36 : decode cX5_cellOf 36 = .ok (.goto 4, 3) := dk_167 0 4 (dk_at dksX5_cellOf_1 12 rfl rfl)
theorem dX5_cellOf_39 : decode cX5_cellOf 39 = .ok (.iconst 0, 1) := dk_3 (dk_at dksX5_cellOf_1 15 rfl rfl)
theorem dX5_cellOf_40 : decode cX5_cellOf 40 = .ok (.ireturn, 1) := dk_172 (dk_at dksX5_cellOf_1 16 rfl rfl)
def dkwX5_isCell_0 : List UInt8 := [26, 155, 0, 13, 26, 16, 16, 162, 0, 7, 4, 167, 0, 4, 3, 172]
abbrev dktX5_isCell_0 : List UInt8 := dkwX5_isCell_0 ++ []
theorem dksX5_isCell_0 : cX5_isCell.data.toList.drop 0 = dktX5_isCell_0 := by decide +kernel
theorem dX5_isCell_0 : decode cX5_isCell 0 = .ok (.iload_n 0, 1) := dk_26 (dk_at dksX5_isCell_0 0 rfl rfl)
theorem dX5_isCell_1 : decode cX5_isCell 1 = .ok (.ifCond .lt 13, 3) := dk_155 0 13 (dk_at dksX5_isCell_0 1 rfl rfl)
theorem dX5_isCell_4 : decode cX5_isCell 4 = .ok (.iload_n 0, 1) := dk_26 (dk_at dksX5_isCell_0 4 rfl rfl)
theorem dX5_isCell_5 : decode cX5_isCell 5 = .ok (.bipush 16, 2) := dk_16 16 (dk_at dksX5_isCell_0 5 rfl rfl)
theorem dX5_isCell_7 : decode cX5_isCell 7 = .ok (.if_icmp .ge 7, 3) := dk_162 0 7 (dk_at dksX5_isCell_0 7 rfl rfl)
theorem dX5_isCell_10 : decode cX5_isCell 10 = .ok (.iconst 1, 1) := dk_4 (dk_at dksX5_isCell_0 10 rfl rfl)
theorem dX5_isCell_11 : decode cX5_isCell 11 = .ok (.goto 4, 3) := dk_167 0 4 (dk_at dksX5_isCell_0 11 rfl rfl)
theorem dX5_isCell_14 : decode cX5_isCell 14 = .ok (.iconst 0, 1) := dk_3 (dk_at dksX5_isCell_0 14 rfl rfl)
theorem dX5_isCell_15 : decode cX5_isCell 15 = .ok (.ireturn, 1) := dk_172 (dk_at dksX5_isCell_0 15 rfl rfl)
def dkwX5_commandCount_1 : List UInt8 := [46, 167, 0, 4, 3, 172]
abbrev dktX5_commandCount_1 : List UInt8 := dkwX5_commandCount_1 ++ []
def dkwX5_commandCount_0 : List UInt8 := [42, 42, 27, 182, 1, 46, 182, 1, 36, 153, 0, 19, 42, 180, 0, 19, 17, 1, 132, 16, 33, 27, 104, 96]
abbrev dktX5_commandCount_0 : List UInt8 := dkwX5_commandCount_0 ++ dktX5_commandCount_1
theorem dksX5_commandCount_0 : cX5_commandCount.data.toList.drop 0 = dktX5_commandCount_0 := by decide +kernel
theorem dksX5_commandCount_1 : cX5_commandCount.data.toList.drop 24 = dktX5_commandCount_1 := dk_seg dksX5_commandCount_0 24 rfl rfl
theorem dX5_commandCount_0 : decode cX5_commandCount 0 = .ok (.aload_n 0, 1) := dk_42 (dk_at dksX5_commandCount_0 0 rfl rfl)
theorem dX5_commandCount_1 : decode cX5_commandCount 1 = .ok (.aload_n 0, 1) := dk_42 (dk_at dksX5_commandCount_0 1 rfl rfl)
theorem dX5_commandCount_2 : decode cX5_commandCount 2 = .ok (.iload_n 1, 1) := dk_27 (dk_at dksX5_commandCount_0 2 rfl rfl)
theorem dX5_commandCount_3 : decode cX5_commandCount 3 = .ok (.invokevirtual 302, 3) := dk_182 1 46 (dk_at dksX5_commandCount_0 3 rfl rfl)
theorem dX5_commandCount_6 : decode cX5_commandCount 6 = .ok (.invokevirtual 292, 3) := dk_182 1 36 (dk_at dksX5_commandCount_0 6 rfl rfl)
theorem dX5_commandCount_9 : decode cX5_commandCount 9 = .ok (.ifCond .eq 19, 3) := dk_153 0 19 (dk_at dksX5_commandCount_0 9 rfl rfl)
theorem dX5_commandCount_12 : decode cX5_commandCount 12 = .ok (.aload_n 0, 1) := dk_42 (dk_at dksX5_commandCount_0 12 rfl rfl)
theorem dX5_commandCount_13 : decode cX5_commandCount 13 = .ok (.getfield 19, 3) := dk_180 0 19 (dk_at dksX5_commandCount_0 13 rfl rfl)
theorem dX5_commandCount_16 : decode cX5_commandCount 16 = .ok (.sipush 388, 3) := dk_17 1 132 (dk_at dksX5_commandCount_0 16 rfl rfl)
theorem dX5_commandCount_19 : decode cX5_commandCount 19 = .ok (.bipush 33, 2) := dk_16 33 (dk_at dksX5_commandCount_0 19 rfl rfl)
theorem dX5_commandCount_21 : decode cX5_commandCount 21 = .ok (.iload_n 1, 1) := dk_27 (dk_at dksX5_commandCount_0 21 rfl rfl)
theorem dX5_commandCount_22 : decode cX5_commandCount 22 = .ok (.imul, 1) := dk_104 (dk_at dksX5_commandCount_0 22 rfl rfl)
theorem dX5_commandCount_23 : decode cX5_commandCount 23 = .ok (.iadd, 1) := dk_96 (dk_at dksX5_commandCount_0 23 rfl rfl)
theorem dX5_commandCount_24 : decode cX5_commandCount 24 = .ok (.iaload, 1) := dk_46 (dk_at dksX5_commandCount_1 0 rfl rfl)
theorem dX5_commandCount_25 : decode cX5_commandCount 25 = .ok (.goto 4, 3) := dk_167 0 4 (dk_at dksX5_commandCount_1 1 rfl rfl)
theorem dX5_commandCount_28 : decode cX5_commandCount 28 = .ok (.iconst 0, 1) := dk_3 (dk_at dksX5_commandCount_1 4 rfl rfl)
theorem dX5_commandCount_29 : decode cX5_commandCount 29 = .ok (.ireturn, 1) := dk_172 (dk_at dksX5_commandCount_1 5 rfl rfl)
def dkwX5_isTurn_0 : List UInt8 := [27, 155, 0, 19, 27, 42, 180, 0, 19, 17, 1, 131, 46, 162, 0, 7, 4, 167, 0, 4, 3, 172]
abbrev dktX5_isTurn_0 : List UInt8 := dkwX5_isTurn_0 ++ []
theorem dksX5_isTurn_0 : cX5_isTurn.data.toList.drop 0 = dktX5_isTurn_0 := by decide +kernel
theorem dX5_isTurn_0 : decode cX5_isTurn 0 = .ok (.iload_n 1, 1) := dk_27 (dk_at dksX5_isTurn_0 0 rfl rfl)
theorem dX5_isTurn_1 : decode cX5_isTurn 1 = .ok (.ifCond .lt 19, 3) := dk_155 0 19 (dk_at dksX5_isTurn_0 1 rfl rfl)
theorem dX5_isTurn_4 : decode cX5_isTurn 4 = .ok (.iload_n 1, 1) := dk_27 (dk_at dksX5_isTurn_0 4 rfl rfl)
theorem dX5_isTurn_5 : decode cX5_isTurn 5 = .ok (.aload_n 0, 1) := dk_42 (dk_at dksX5_isTurn_0 5 rfl rfl)
theorem dX5_isTurn_6 : decode cX5_isTurn 6 = .ok (.getfield 19, 3) := dk_180 0 19 (dk_at dksX5_isTurn_0 6 rfl rfl)
theorem dX5_isTurn_9 : decode cX5_isTurn 9 = .ok (.sipush 387, 3) := dk_17 1 131 (dk_at dksX5_isTurn_0 9 rfl rfl)
theorem dX5_isTurn_12 : decode cX5_isTurn 12 = .ok (.iaload, 1) := dk_46 (dk_at dksX5_isTurn_0 12 rfl rfl)
theorem dX5_isTurn_13 : decode cX5_isTurn 13 = .ok (.if_icmp .ge 7, 3) := dk_162 0 7 (dk_at dksX5_isTurn_0 13 rfl rfl)
theorem dX5_isTurn_16 : decode cX5_isTurn 16 = .ok (.iconst 1, 1) := dk_4 (dk_at dksX5_isTurn_0 16 rfl rfl)
theorem dX5_isTurn_17 : decode cX5_isTurn 17 = .ok (.goto 4, 3) := dk_167 0 4 (dk_at dksX5_isTurn_0 17 rfl rfl)
theorem dX5_isTurn_20 : decode cX5_isTurn 20 = .ok (.iconst 0, 1) := dk_3 (dk_at dksX5_isTurn_0 20 rfl rfl)
theorem dX5_isTurn_21 : decode cX5_isTurn 21 = .ok (.ireturn, 1) := dk_172 (dk_at dksX5_isTurn_0 21 rfl rfl)
def dkwX5_command_2 : List UInt8 := [164, 0, 8, 16, 254, 167, 0, 18, 42, 180, 0, 19, 21, 4, 4, 96, 7, 28, 104, 96, 29, 96, 46, 172]
abbrev dktX5_command_2 : List UInt8 := dkwX5_command_2 ++ []
def dkwX5_command_1 : List UInt8 := [28, 155, 0, 14, 28, 42, 180, 0, 19, 21, 4, 46, 161, 0, 5, 2, 172, 29, 155, 0, 8, 29, 6]
abbrev dktX5_command_1 : List UInt8 := dkwX5_command_1 ++ dktX5_command_2
def dkwX5_command_0 : List UInt8 := [42, 42, 27, 182, 1, 46, 182, 1, 36, 154, 0, 5, 3, 172, 17, 1, 132, 16, 33, 27, 104, 96, 54, 4]
abbrev dktX5_command_0 : List UInt8 := dkwX5_command_0 ++ dktX5_command_1
theorem dksX5_command_0 : cX5_command.data.toList.drop 0 = dktX5_command_0 := by decide +kernel
theorem dksX5_command_1 : cX5_command.data.toList.drop 24 = dktX5_command_1 := dk_seg dksX5_command_0 24 rfl rfl
theorem dksX5_command_2 : cX5_command.data.toList.drop 47 = dktX5_command_2 := dk_seg dksX5_command_1 23 rfl rfl
theorem dX5_command_0 : decode cX5_command 0 = .ok (.aload_n 0, 1) := dk_42 (dk_at dksX5_command_0 0 rfl rfl)
theorem dX5_command_1 : decode cX5_command 1 = .ok (.aload_n 0, 1) := dk_42 (dk_at dksX5_command_0 1 rfl rfl)
theorem dX5_command_2 : decode cX5_command 2 = .ok (.iload_n 1, 1) := dk_27 (dk_at dksX5_command_0 2 rfl rfl)
theorem dX5_command_3 : decode cX5_command 3 = .ok (.invokevirtual 302, 3) := dk_182 1 46 (dk_at dksX5_command_0 3 rfl rfl)
theorem dX5_command_6 : decode cX5_command 6 = .ok (.invokevirtual 292, 3) := dk_182 1 36 (dk_at dksX5_command_0 6 rfl rfl)
theorem dX5_command_9 : decode cX5_command 9 = .ok (.ifCond .ne 5, 3) := dk_154 0 5 (dk_at dksX5_command_0 9 rfl rfl)
theorem dX5_command_12 : decode cX5_command 12 = .ok (.iconst 0, 1) := dk_3 (dk_at dksX5_command_0 12 rfl rfl)
theorem dX5_command_13 : decode cX5_command 13 = .ok (.ireturn, 1) := dk_172 (dk_at dksX5_command_0 13 rfl rfl)
theorem dX5_command_14 : decode cX5_command 14 = .ok (.sipush 388, 3) := dk_17 1 132 (dk_at dksX5_command_0 14 rfl rfl)
theorem dX5_command_17 : decode cX5_command 17 = .ok (.bipush 33, 2) := dk_16 33 (dk_at dksX5_command_0 17 rfl rfl)
theorem dX5_command_19 : decode cX5_command 19 = .ok (.iload_n 1, 1) := dk_27 (dk_at dksX5_command_0 19 rfl rfl)
theorem dX5_command_20 : decode cX5_command 20 = .ok (.imul, 1) := dk_104 (dk_at dksX5_command_0 20 rfl rfl)
theorem dX5_command_21 : decode cX5_command 21 = .ok (.iadd, 1) := dk_96 (dk_at dksX5_command_0 21 rfl rfl)
theorem dX5_command_22 : decode cX5_command 22 = .ok (.istore 4, 2) := dk_54 4 (dk_at dksX5_command_0 22 rfl rfl)
theorem dX5_command_24 : decode cX5_command 24 = .ok (.iload_n 2, 1) := dk_28 (dk_at dksX5_command_1 0 rfl rfl)
theorem dX5_command_25 : decode cX5_command 25 = .ok (.ifCond .lt 14, 3) := dk_155 0 14 (dk_at dksX5_command_1 1 rfl rfl)
theorem dX5_command_28 : decode cX5_command 28 = .ok (.iload_n 2, 1) := dk_28 (dk_at dksX5_command_1 4 rfl rfl)
theorem dX5_command_29 : decode cX5_command 29 = .ok (.aload_n 0, 1) := dk_42 (dk_at dksX5_command_1 5 rfl rfl)
theorem dX5_command_30 : decode cX5_command 30 = .ok (.getfield 19, 3) := dk_180 0 19 (dk_at dksX5_command_1 6 rfl rfl)
theorem dX5_command_33 : decode cX5_command 33 = .ok (.iload 4, 2) := dk_21 4 (dk_at dksX5_command_1 9 rfl rfl)
theorem dX5_command_35 : decode cX5_command 35 = .ok (.iaload, 1) := dk_46 (dk_at dksX5_command_1 11 rfl rfl)
theorem dX5_command_36 : decode cX5_command 36 = .ok (.if_icmp .lt 5, 3) := dk_161 0 5 (dk_at dksX5_command_1 12 rfl rfl)
theorem dX5_command_39 : decode cX5_command 39 = .ok (.iconst (-1), 1) := dk_2 (dk_at dksX5_command_1 15 rfl rfl)
theorem dX5_command_40 : decode cX5_command 40 = .ok (.ireturn, 1) := dk_172 (dk_at dksX5_command_1 16 rfl rfl)
theorem dX5_command_41 : decode cX5_command 41 = .ok (.iload_n 3, 1) := dk_29 (dk_at dksX5_command_1 17 rfl rfl)
theorem dX5_command_42 : decode cX5_command 42 = .ok (.ifCond .lt 8, 3) := dk_155 0 8 (dk_at dksX5_command_1 18 rfl rfl)
theorem dX5_command_45 : decode cX5_command 45 = .ok (.iload_n 3, 1) := dk_29 (dk_at dksX5_command_1 21 rfl rfl)
theorem dX5_command_46 : decode cX5_command 46 = .ok (.iconst 3, 1) := dk_6 (dk_at dksX5_command_1 22 rfl rfl)
theorem dX5_command_47 : decode cX5_command 47 = .ok (.if_icmp .le 8, 3) := dk_164 0 8 (dk_at dksX5_command_2 0 rfl rfl)
theorem dX5_command_50 : decode cX5_command 50 = .ok (.bipush (-2), 2) := dk_16 254 (dk_at dksX5_command_2 3 rfl rfl)
theorem dX5_command_52 : decode cX5_command 52 = .ok (.goto 18, 3) := dk_167 0 18 (dk_at dksX5_command_2 5 rfl rfl)
theorem dX5_command_55 : decode cX5_command 55 = .ok (.aload_n 0, 1) := dk_42 (dk_at dksX5_command_2 8 rfl rfl)
theorem dX5_command_56 : decode cX5_command 56 = .ok (.getfield 19, 3) := dk_180 0 19 (dk_at dksX5_command_2 9 rfl rfl)
theorem dX5_command_59 : decode cX5_command 59 = .ok (.iload 4, 2) := dk_21 4 (dk_at dksX5_command_2 12 rfl rfl)
theorem dX5_command_61 : decode cX5_command 61 = .ok (.iconst 1, 1) := dk_4 (dk_at dksX5_command_2 14 rfl rfl)
theorem dX5_command_62 : decode cX5_command 62 = .ok (.iadd, 1) := dk_96 (dk_at dksX5_command_2 15 rfl rfl)
theorem dX5_command_63 : decode cX5_command 63 = .ok (.iconst 4, 1) := dk_7 (dk_at dksX5_command_2 16 rfl rfl)
theorem dX5_command_64 : decode cX5_command 64 = .ok (.iload_n 2, 1) := dk_28 (dk_at dksX5_command_2 17 rfl rfl)
theorem dX5_command_65 : decode cX5_command 65 = .ok (.imul, 1) := dk_104 (dk_at dksX5_command_2 18 rfl rfl)
theorem dX5_command_66 : decode cX5_command 66 = .ok (.iadd, 1) := dk_96 (dk_at dksX5_command_2 19 rfl rfl)
theorem dX5_command_67 : decode cX5_command 67 = .ok (.iload_n 3, 1) := dk_29 (dk_at dksX5_command_2 20 rfl rfl)
theorem dX5_command_68 : decode cX5_command 68 = .ok (.iadd, 1) := dk_96 (dk_at dksX5_command_2 21 rfl rfl)
theorem dX5_command_69 : decode cX5_command 69 = .ok (.iaload, 1) := dk_46 (dk_at dksX5_command_2 22 rfl rfl)
theorem dX5_command_70 : decode cX5_command 70 = .ok (.ireturn, 1) := dk_172 (dk_at dksX5_command_2 23 rfl rfl)
def dkwX5_faultNumber_2 : List UInt8 := [28, 182, 0, 61, 172]
abbrev dktX5_faultNumber_2 : List UInt8 := dkwX5_faultNumber_2 ++ []
def dkwX5_faultNumber_1 : List UInt8 := [182, 1, 36, 154, 0, 5, 3, 172, 28, 155, 0, 8, 28, 6, 164, 0, 8, 16, 254, 167, 0, 9, 42, 27]
abbrev dktX5_faultNumber_1 : List UInt8 := dkwX5_faultNumber_1 ++ dktX5_faultNumber_2
def dkwX5_faultNumber_0 : List UInt8 := [42, 27, 155, 0, 19, 27, 42, 180, 0, 19, 17, 6, 205, 46, 162, 0, 7, 4, 167, 0, 4, 3]
abbrev dktX5_faultNumber_0 : List UInt8 := dkwX5_faultNumber_0 ++ dktX5_faultNumber_1
theorem dksX5_faultNumber_0 : cX5_faultNumber.data.toList.drop 0 = dktX5_faultNumber_0 := by decide +kernel
theorem dksX5_faultNumber_1 : cX5_faultNumber.data.toList.drop 22 = dktX5_faultNumber_1 := dk_seg dksX5_faultNumber_0 22 rfl rfl
theorem dksX5_faultNumber_2 : cX5_faultNumber.data.toList.drop 46 = dktX5_faultNumber_2 := dk_seg dksX5_faultNumber_1 24 rfl rfl
theorem dX5_faultNumber_0 : decode cX5_faultNumber 0 = .ok (.aload_n 0, 1) := dk_42 (dk_at dksX5_faultNumber_0 0 rfl rfl)
theorem dX5_faultNumber_1 : decode cX5_faultNumber 1 = .ok (.iload_n 1, 1) := dk_27 (dk_at dksX5_faultNumber_0 1 rfl rfl)
theorem dX5_faultNumber_2 : decode cX5_faultNumber 2 = .ok (.ifCond .lt 19, 3) := dk_155 0 19 (dk_at dksX5_faultNumber_0 2 rfl rfl)
theorem dX5_faultNumber_5 : decode cX5_faultNumber 5 = .ok (.iload_n 1, 1) := dk_27 (dk_at dksX5_faultNumber_0 5 rfl rfl)
theorem dX5_faultNumber_6 : decode cX5_faultNumber 6 = .ok (.aload_n 0, 1) := dk_42 (dk_at dksX5_faultNumber_0 6 rfl rfl)
theorem dX5_faultNumber_7 : decode cX5_faultNumber 7 = .ok (.getfield 19, 3) := dk_180 0 19 (dk_at dksX5_faultNumber_0 7 rfl rfl)
theorem dX5_faultNumber_10 : decode cX5_faultNumber 10 = .ok (.sipush 1741, 3) := dk_17 6 205 (dk_at dksX5_faultNumber_0 10 rfl rfl)
theorem dX5_faultNumber_13 : decode cX5_faultNumber 13 = .ok (.iaload, 1) := dk_46 (dk_at dksX5_faultNumber_0 13 rfl rfl)
theorem dX5_faultNumber_14 : decode cX5_faultNumber 14 = .ok (.if_icmp .ge 7, 3) := dk_162 0 7 (dk_at dksX5_faultNumber_0 14 rfl rfl)
theorem dX5_faultNumber_17 : decode cX5_faultNumber 17 = .ok (.iconst 1, 1) := dk_4 (dk_at dksX5_faultNumber_0 17 rfl rfl)
theorem dX5_faultNumber_18 : decode cX5_faultNumber 18 = .ok (.goto 4, 3) := dk_167 0 4 (dk_at dksX5_faultNumber_0 18 rfl rfl)
theorem dX5_faultNumber_21 : decode cX5_faultNumber 21 = .ok (.iconst 0, 1) := dk_3 (dk_at dksX5_faultNumber_0 21 rfl rfl)
theorem dX5_faultNumber_22 : decode cX5_faultNumber 22 = .ok (.invokevirtual 292, 3) := dk_182 1 36 (dk_at dksX5_faultNumber_1 0 rfl rfl)
theorem dX5_faultNumber_25 : decode cX5_faultNumber 25 = .ok (.ifCond .ne 5, 3) := dk_154 0 5 (dk_at dksX5_faultNumber_1 3 rfl rfl)
theorem dX5_faultNumber_28 : decode cX5_faultNumber 28 = .ok (.iconst 0, 1) := dk_3 (dk_at dksX5_faultNumber_1 6 rfl rfl)
theorem dX5_faultNumber_29 : decode cX5_faultNumber 29 = .ok (.ireturn, 1) := dk_172 (dk_at dksX5_faultNumber_1 7 rfl rfl)
theorem dX5_faultNumber_30 : decode cX5_faultNumber 30 = .ok (.iload_n 2, 1) := dk_28 (dk_at dksX5_faultNumber_1 8 rfl rfl)
theorem dX5_faultNumber_31 : decode cX5_faultNumber 31 = .ok (.ifCond .lt 8, 3) := dk_155 0 8 (dk_at dksX5_faultNumber_1 9 rfl rfl)
theorem dX5_faultNumber_34 : decode cX5_faultNumber 34 = .ok (.iload_n 2, 1) := dk_28 (dk_at dksX5_faultNumber_1 12 rfl rfl)
theorem dX5_faultNumber_35 : decode cX5_faultNumber 35 = .ok (.iconst 3, 1) := dk_6 (dk_at dksX5_faultNumber_1 13 rfl rfl)
theorem dX5_faultNumber_36 : decode cX5_faultNumber 36 = .ok (.if_icmp .le 8, 3) := dk_164 0 8 (dk_at dksX5_faultNumber_1 14 rfl rfl)
theorem dX5_faultNumber_39 : decode cX5_faultNumber 39 = .ok (.bipush (-2), 2) := dk_16 254 (dk_at dksX5_faultNumber_1 17 rfl rfl)
theorem dX5_faultNumber_41 : decode cX5_faultNumber 41 = .ok (.goto 9, 3) := dk_167 0 9 (dk_at dksX5_faultNumber_1 19 rfl rfl)
theorem dX5_faultNumber_44 : decode cX5_faultNumber 44 = .ok (.aload_n 0, 1) := dk_42 (dk_at dksX5_faultNumber_1 22 rfl rfl)
theorem dX5_faultNumber_45 : decode cX5_faultNumber 45 = .ok (.iload_n 1, 1) := dk_27 (dk_at dksX5_faultNumber_1 23 rfl rfl)
theorem dX5_faultNumber_46 : decode cX5_faultNumber 46 = .ok (.iload_n 2, 1) := dk_28 (dk_at dksX5_faultNumber_2 0 rfl rfl)
theorem dX5_faultNumber_47 : decode cX5_faultNumber 47 = .ok (.invokevirtual 61, 3) := dk_182 0 61 (dk_at dksX5_faultNumber_2 1 rfl rfl)
theorem dX5_faultNumber_50 : decode cX5_faultNumber 50 = .ok (.ireturn, 1) := dk_172 (dk_at dksX5_faultNumber_2 4 rfl rfl)
def dkwX5_fault_0 : List UInt8 := [42, 180, 0, 19, 17, 6, 206, 7, 27, 104, 96, 28, 96, 46, 172]
abbrev dktX5_fault_0 : List UInt8 := dkwX5_fault_0 ++ []
theorem dksX5_fault_0 : cX5_fault.data.toList.drop 0 = dktX5_fault_0 := by decide +kernel
theorem dX5_fault_0 : decode cX5_fault 0 = .ok (.aload_n 0, 1) := dk_42 (dk_at dksX5_fault_0 0 rfl rfl)
theorem dX5_fault_1 : decode cX5_fault 1 = .ok (.getfield 19, 3) := dk_180 0 19 (dk_at dksX5_fault_0 1 rfl rfl)
theorem dX5_fault_4 : decode cX5_fault 4 = .ok (.sipush 1742, 3) := dk_17 6 206 (dk_at dksX5_fault_0 4 rfl rfl)
theorem dX5_fault_7 : decode cX5_fault 7 = .ok (.iconst 4, 1) := dk_7 (dk_at dksX5_fault_0 7 rfl rfl)
theorem dX5_fault_8 : decode cX5_fault 8 = .ok (.iload_n 1, 1) := dk_27 (dk_at dksX5_fault_0 8 rfl rfl)
theorem dX5_fault_9 : decode cX5_fault 9 = .ok (.imul, 1) := dk_104 (dk_at dksX5_fault_0 9 rfl rfl)
theorem dX5_fault_10 : decode cX5_fault 10 = .ok (.iadd, 1) := dk_96 (dk_at dksX5_fault_0 10 rfl rfl)
theorem dX5_fault_11 : decode cX5_fault 11 = .ok (.iload_n 2, 1) := dk_28 (dk_at dksX5_fault_0 11 rfl rfl)
theorem dX5_fault_12 : decode cX5_fault 12 = .ok (.iadd, 1) := dk_96 (dk_at dksX5_fault_0 12 rfl rfl)
theorem dX5_fault_13 : decode cX5_fault 13 = .ok (.iaload, 1) := dk_46 (dk_at dksX5_fault_0 13 rfl rfl)
theorem dX5_fault_14 : decode cX5_fault 14 = .ok (.ireturn, 1) := dk_172 (dk_at dksX5_fault_0 14 rfl rfl)
def dkwX5_checksum_2 : List UInt8 := [46, 172]
abbrev dktX5_checksum_2 : List UInt8 := dkwX5_checksum_2 ++ []
def dkwX5_checksum_1 : List UInt8 := [164, 0, 6, 16, 254, 172, 42, 27, 182, 0, 71, 42, 42, 180, 0, 31, 182, 0, 75, 42, 180, 0, 31, 28]
abbrev dktX5_checksum_1 : List UInt8 := dkwX5_checksum_1 ++ dktX5_checksum_2
def dkwX5_checksum_0 : List UInt8 := [42, 42, 27, 182, 1, 33, 182, 1, 36, 154, 0, 5, 3, 172, 28, 4, 161, 0, 9, 28, 16, 31]
abbrev dktX5_checksum_0 : List UInt8 := dkwX5_checksum_0 ++ dktX5_checksum_1
theorem dksX5_checksum_0 : cX5_checksum.data.toList.drop 0 = dktX5_checksum_0 := by decide +kernel
theorem dksX5_checksum_1 : cX5_checksum.data.toList.drop 22 = dktX5_checksum_1 := dk_seg dksX5_checksum_0 22 rfl rfl
theorem dksX5_checksum_2 : cX5_checksum.data.toList.drop 46 = dktX5_checksum_2 := dk_seg dksX5_checksum_1 24 rfl rfl
theorem dX5_checksum_0 : decode cX5_checksum 0 = .ok (.aload_n 0, 1) := dk_42 (dk_at dksX5_checksum_0 0 rfl rfl)
theorem dX5_checksum_1 : decode cX5_checksum 1 = .ok (.aload_n 0, 1) := dk_42 (dk_at dksX5_checksum_0 1 rfl rfl)
theorem dX5_checksum_2 : decode cX5_checksum 2 = .ok (.iload_n 1, 1) := dk_27 (dk_at dksX5_checksum_0 2 rfl rfl)
theorem dX5_checksum_3 : decode cX5_checksum 3 = .ok (.invokevirtual 289, 3) := dk_182 1 33 (dk_at dksX5_checksum_0 3 rfl rfl)
theorem dX5_checksum_6 : decode cX5_checksum 6 = .ok (.invokevirtual 292, 3) := dk_182 1 36 (dk_at dksX5_checksum_0 6 rfl rfl)
theorem dX5_checksum_9 : decode cX5_checksum 9 = .ok (.ifCond .ne 5, 3) := dk_154 0 5 (dk_at dksX5_checksum_0 9 rfl rfl)
theorem dX5_checksum_12 : decode cX5_checksum 12 = .ok (.iconst 0, 1) := dk_3 (dk_at dksX5_checksum_0 12 rfl rfl)
theorem dX5_checksum_13 : decode cX5_checksum 13 = .ok (.ireturn, 1) := dk_172 (dk_at dksX5_checksum_0 13 rfl rfl)
theorem dX5_checksum_14 : decode cX5_checksum 14 = .ok (.iload_n 2, 1) := dk_28 (dk_at dksX5_checksum_0 14 rfl rfl)
theorem dX5_checksum_15 : decode cX5_checksum 15 = .ok (.iconst 1, 1) := dk_4 (dk_at dksX5_checksum_0 15 rfl rfl)
theorem dX5_checksum_16 : decode cX5_checksum 16 = .ok (.if_icmp .lt 9, 3) := dk_161 0 9 (dk_at dksX5_checksum_0 16 rfl rfl)
theorem dX5_checksum_19 : decode cX5_checksum 19 = .ok (.iload_n 2, 1) := dk_28 (dk_at dksX5_checksum_0 19 rfl rfl)
theorem dX5_checksum_20 : decode cX5_checksum 20 = .ok (.bipush 31, 2) := dk_16 31 (dk_at dksX5_checksum_0 20 rfl rfl)
theorem dX5_checksum_22 : decode cX5_checksum 22 = .ok (.if_icmp .le 6, 3) := dk_164 0 6 (dk_at dksX5_checksum_1 0 rfl rfl)
theorem dX5_checksum_25 : decode cX5_checksum 25 = .ok (.bipush (-2), 2) := dk_16 254 (dk_at dksX5_checksum_1 3 rfl rfl)
theorem dX5_checksum_27 : decode cX5_checksum 27 = .ok (.ireturn, 1) := dk_172 (dk_at dksX5_checksum_1 5 rfl rfl)
theorem dX5_checksum_28 : decode cX5_checksum 28 = .ok (.aload_n 0, 1) := dk_42 (dk_at dksX5_checksum_1 6 rfl rfl)
theorem dX5_checksum_29 : decode cX5_checksum 29 = .ok (.iload_n 1, 1) := dk_27 (dk_at dksX5_checksum_1 7 rfl rfl)
theorem dX5_checksum_30 : decode cX5_checksum 30 = .ok (.invokevirtual 71, 3) := dk_182 0 71 (dk_at dksX5_checksum_1 8 rfl rfl)
theorem dX5_checksum_33 : decode cX5_checksum 33 = .ok (.aload_n 0, 1) := dk_42 (dk_at dksX5_checksum_1 11 rfl rfl)
theorem dX5_checksum_34 : decode cX5_checksum 34 = .ok (.aload_n 0, 1) := dk_42 (dk_at dksX5_checksum_1 12 rfl rfl)
theorem dX5_checksum_35 : decode cX5_checksum 35 = .ok (.getfield 31, 3) := dk_180 0 31 (dk_at dksX5_checksum_1 13 rfl rfl)
theorem dX5_checksum_38 : decode cX5_checksum 38 = .ok (.invokevirtual 75, 3) := dk_182 0 75 (dk_at dksX5_checksum_1 16 rfl rfl)
theorem dX5_checksum_41 : decode cX5_checksum 41 = .ok (.aload_n 0, 1) := dk_42 (dk_at dksX5_checksum_1 19 rfl rfl)
theorem dX5_checksum_42 : decode cX5_checksum 42 = .ok (.getfield 31, 3) := dk_180 0 31 (dk_at dksX5_checksum_1 20 rfl rfl)
theorem dX5_checksum_45 : decode cX5_checksum 45 = .ok (.iload_n 2, 1) := dk_28 (dk_at dksX5_checksum_1 23 rfl rfl)
theorem dX5_checksum_46 : decode cX5_checksum 46 = .ok (.iaload, 1) := dk_46 (dk_at dksX5_checksum_2 0 rfl rfl)
theorem dX5_checksum_47 : decode cX5_checksum 47 = .ok (.ireturn, 1) := dk_172 (dk_at dksX5_checksum_2 1 rfl rfl)
def dkwX5_rootAt_1 : List UInt8 := [27, 28, 182, 0, 140, 167, 0, 4, 2, 172]
abbrev dktX5_rootAt_1 : List UInt8 := dkwX5_rootAt_1 ++ []
def dkwX5_rootAt_0 : List UInt8 := [42, 42, 27, 182, 1, 33, 182, 1, 36, 154, 0, 5, 3, 172, 42, 27, 28, 182, 0, 136, 153, 0, 12, 42]
abbrev dktX5_rootAt_0 : List UInt8 := dkwX5_rootAt_0 ++ dktX5_rootAt_1
theorem dksX5_rootAt_0 : cX5_rootAt.data.toList.drop 0 = dktX5_rootAt_0 := by decide +kernel
theorem dksX5_rootAt_1 : cX5_rootAt.data.toList.drop 24 = dktX5_rootAt_1 := dk_seg dksX5_rootAt_0 24 rfl rfl
theorem dX5_rootAt_0 : decode cX5_rootAt 0 = .ok (.aload_n 0, 1) := dk_42 (dk_at dksX5_rootAt_0 0 rfl rfl)
theorem dX5_rootAt_1 : decode cX5_rootAt 1 = .ok (.aload_n 0, 1) := dk_42 (dk_at dksX5_rootAt_0 1 rfl rfl)
theorem dX5_rootAt_2 : decode cX5_rootAt 2 = .ok (.iload_n 1, 1) := dk_27 (dk_at dksX5_rootAt_0 2 rfl rfl)
theorem dX5_rootAt_3 : decode cX5_rootAt 3 = .ok (.invokevirtual 289, 3) := dk_182 1 33 (dk_at dksX5_rootAt_0 3 rfl rfl)
theorem dX5_rootAt_6 : decode cX5_rootAt 6 = .ok (.invokevirtual 292, 3) := dk_182 1 36 (dk_at dksX5_rootAt_0 6 rfl rfl)
theorem dX5_rootAt_9 : decode cX5_rootAt 9 = .ok (.ifCond .ne 5, 3) := dk_154 0 5 (dk_at dksX5_rootAt_0 9 rfl rfl)
theorem dX5_rootAt_12 : decode cX5_rootAt 12 = .ok (.iconst 0, 1) := dk_3 (dk_at dksX5_rootAt_0 12 rfl rfl)
theorem dX5_rootAt_13 : decode cX5_rootAt 13 = .ok (.ireturn, 1) := dk_172 (dk_at dksX5_rootAt_0 13 rfl rfl)
theorem dX5_rootAt_14 : decode cX5_rootAt 14 = .ok (.aload_n 0, 1) := dk_42 (dk_at dksX5_rootAt_0 14 rfl rfl)
theorem dX5_rootAt_15 : decode cX5_rootAt 15 = .ok (.iload_n 1, 1) := dk_27 (dk_at dksX5_rootAt_0 15 rfl rfl)
theorem dX5_rootAt_16 : decode cX5_rootAt 16 = .ok (.iload_n 2, 1) := dk_28 (dk_at dksX5_rootAt_0 16 rfl rfl)
theorem dX5_rootAt_17 : decode cX5_rootAt 17 = .ok (.invokevirtual 136, 3) := dk_182 0 136 (dk_at dksX5_rootAt_0 17 rfl rfl)
theorem dX5_rootAt_20 : decode cX5_rootAt 20 = .ok (.ifCond .eq 12, 3) := dk_153 0 12 (dk_at dksX5_rootAt_0 20 rfl rfl)
theorem dX5_rootAt_23 : decode cX5_rootAt 23 = .ok (.aload_n 0, 1) := dk_42 (dk_at dksX5_rootAt_0 23 rfl rfl)
theorem dX5_rootAt_24 : decode cX5_rootAt 24 = .ok (.iload_n 1, 1) := dk_27 (dk_at dksX5_rootAt_1 0 rfl rfl)
theorem dX5_rootAt_25 : decode cX5_rootAt 25 = .ok (.iload_n 2, 1) := dk_28 (dk_at dksX5_rootAt_1 1 rfl rfl)
theorem dX5_rootAt_26 : decode cX5_rootAt 26 = .ok (.invokevirtual 140, 3) := dk_182 0 140 (dk_at dksX5_rootAt_1 2 rfl rfl)
theorem dX5_rootAt_29 : decode cX5_rootAt 29 = .ok (.goto 4, 3) := dk_167 0 4 (dk_at dksX5_rootAt_1 5 rfl rfl)
theorem dX5_rootAt_32 : decode cX5_rootAt 32 = .ok (.iconst (-1), 1) := dk_2 (dk_at dksX5_rootAt_1 8 rfl rfl)
theorem dX5_rootAt_33 : decode cX5_rootAt 33 = .ok (.ireturn, 1) := dk_172 (dk_at dksX5_rootAt_1 9 rfl rfl)
def dkwX5_hasAt_1 : List UInt8 := [3, 172]
abbrev dktX5_hasAt_1 : List UInt8 := dkwX5_hasAt_1 ++ []
def dkwX5_hasAt_0 : List UInt8 := [28, 42, 27, 16, 6, 182, 0, 53, 161, 0, 16, 28, 42, 27, 182, 0, 92, 163, 0, 7, 4, 167, 0, 4]
abbrev dktX5_hasAt_0 : List UInt8 := dkwX5_hasAt_0 ++ dktX5_hasAt_1
theorem dksX5_hasAt_0 : cX5_hasAt.data.toList.drop 0 = dktX5_hasAt_0 := by decide +kernel
theorem dksX5_hasAt_1 : cX5_hasAt.data.toList.drop 24 = dktX5_hasAt_1 := dk_seg dksX5_hasAt_0 24 rfl rfl
theorem dX5_hasAt_0 : decode cX5_hasAt 0 = .ok (.iload_n 2, 1) := dk_28 (dk_at dksX5_hasAt_0 0 rfl rfl)
theorem dX5_hasAt_1 : decode cX5_hasAt 1 = .ok (.aload_n 0, 1) := dk_42 (dk_at dksX5_hasAt_0 1 rfl rfl)
theorem dX5_hasAt_2 : decode cX5_hasAt 2 = .ok (.iload_n 1, 1) := dk_27 (dk_at dksX5_hasAt_0 2 rfl rfl)
theorem dX5_hasAt_3 : decode cX5_hasAt 3 = .ok (.bipush 6, 2) := dk_16 6 (dk_at dksX5_hasAt_0 3 rfl rfl)
theorem dX5_hasAt_5 : decode cX5_hasAt 5 = .ok (.invokevirtual 53, 3) := dk_182 0 53 (dk_at dksX5_hasAt_0 5 rfl rfl)
theorem dX5_hasAt_8 : decode cX5_hasAt 8 = .ok (.if_icmp .lt 16, 3) := dk_161 0 16 (dk_at dksX5_hasAt_0 8 rfl rfl)
theorem dX5_hasAt_11 : decode cX5_hasAt 11 = .ok (.iload_n 2, 1) := dk_28 (dk_at dksX5_hasAt_0 11 rfl rfl)
theorem dX5_hasAt_12 : decode cX5_hasAt 12 = .ok (.aload_n 0, 1) := dk_42 (dk_at dksX5_hasAt_0 12 rfl rfl)
theorem dX5_hasAt_13 : decode cX5_hasAt 13 = .ok (.iload_n 1, 1) := dk_27 (dk_at dksX5_hasAt_0 13 rfl rfl)
theorem dX5_hasAt_14 : decode cX5_hasAt 14 = .ok (.invokevirtual 92, 3) := dk_182 0 92 (dk_at dksX5_hasAt_0 14 rfl rfl)
theorem dX5_hasAt_17 : decode cX5_hasAt 17 = .ok (.if_icmp .gt 7, 3) := dk_163 0 7 (dk_at dksX5_hasAt_0 17 rfl rfl)
theorem dX5_hasAt_20 : decode cX5_hasAt 20 = .ok (.iconst 1, 1) := dk_4 (dk_at dksX5_hasAt_0 20 rfl rfl)
theorem dX5_hasAt_21 : decode cX5_hasAt 21 = .ok (.goto 4, 3) := dk_167 0 4 (dk_at dksX5_hasAt_0 21 rfl rfl)
theorem dX5_hasAt_24 : decode cX5_hasAt 24 = .ok (.iconst 0, 1) := dk_3 (dk_at dksX5_hasAt_1 0 rfl rfl)
theorem dX5_hasAt_25 : decode cX5_hasAt 25 = .ok (.ireturn, 1) := dk_172 (dk_at dksX5_hasAt_1 1 rfl rfl)
def dkwX5_record_0 : List UInt8 := [42, 27, 16, 23, 28, 96, 182, 0, 53, 172]
abbrev dktX5_record_0 : List UInt8 := dkwX5_record_0 ++ []
theorem dksX5_record_0 : cX5_record.data.toList.drop 0 = dktX5_record_0 := by decide +kernel
theorem dX5_record_0 : decode cX5_record 0 = .ok (.aload_n 0, 1) := dk_42 (dk_at dksX5_record_0 0 rfl rfl)
theorem dX5_record_1 : decode cX5_record 1 = .ok (.iload_n 1, 1) := dk_27 (dk_at dksX5_record_0 1 rfl rfl)
theorem dX5_record_2 : decode cX5_record 2 = .ok (.bipush 23, 2) := dk_16 23 (dk_at dksX5_record_0 2 rfl rfl)
theorem dX5_record_4 : decode cX5_record 4 = .ok (.iload_n 2, 1) := dk_28 (dk_at dksX5_record_0 4 rfl rfl)
theorem dX5_record_5 : decode cX5_record 5 = .ok (.iadd, 1) := dk_96 (dk_at dksX5_record_0 5 rfl rfl)
theorem dX5_record_6 : decode cX5_record 6 = .ok (.invokevirtual 53, 3) := dk_182 0 53 (dk_at dksX5_record_0 6 rfl rfl)
theorem dX5_record_9 : decode cX5_record 9 = .ok (.ireturn, 1) := dk_172 (dk_at dksX5_record_0 9 rfl rfl)
def dkwX5_firstWrongTurn_0 : List UInt8 := [42, 27, 28, 182, 1, 59, 153, 0, 12, 42, 27, 28, 182, 1, 62, 167, 0, 4, 3, 172]
abbrev dktX5_firstWrongTurn_0 : List UInt8 := dkwX5_firstWrongTurn_0 ++ []
theorem dksX5_firstWrongTurn_0 : cX5_firstWrongTurn.data.toList.drop 0 = dktX5_firstWrongTurn_0 := by decide +kernel
theorem dX5_firstWrongTurn_0 : decode cX5_firstWrongTurn 0 = .ok (.aload_n 0, 1) := dk_42 (dk_at dksX5_firstWrongTurn_0 0 rfl rfl)
theorem dX5_firstWrongTurn_1 : decode cX5_firstWrongTurn 1 = .ok (.iload_n 1, 1) := dk_27 (dk_at dksX5_firstWrongTurn_0 1 rfl rfl)
theorem dX5_firstWrongTurn_2 : decode cX5_firstWrongTurn 2 = .ok (.iload_n 2, 1) := dk_28 (dk_at dksX5_firstWrongTurn_0 2 rfl rfl)
theorem dX5_firstWrongTurn_3 : decode cX5_firstWrongTurn 3 = .ok (.invokevirtual 315, 3) := dk_182 1 59 (dk_at dksX5_firstWrongTurn_0 3 rfl rfl)
theorem dX5_firstWrongTurn_6 : decode cX5_firstWrongTurn 6 = .ok (.ifCond .eq 12, 3) := dk_153 0 12 (dk_at dksX5_firstWrongTurn_0 6 rfl rfl)
theorem dX5_firstWrongTurn_9 : decode cX5_firstWrongTurn 9 = .ok (.aload_n 0, 1) := dk_42 (dk_at dksX5_firstWrongTurn_0 9 rfl rfl)
theorem dX5_firstWrongTurn_10 : decode cX5_firstWrongTurn 10 = .ok (.iload_n 1, 1) := dk_27 (dk_at dksX5_firstWrongTurn_0 10 rfl rfl)
theorem dX5_firstWrongTurn_11 : decode cX5_firstWrongTurn 11 = .ok (.iload_n 2, 1) := dk_28 (dk_at dksX5_firstWrongTurn_0 11 rfl rfl)
theorem dX5_firstWrongTurn_12 : decode cX5_firstWrongTurn 12 = .ok (.invokevirtual 318, 3) := dk_182 1 62 (dk_at dksX5_firstWrongTurn_0 12 rfl rfl)
theorem dX5_firstWrongTurn_15 : decode cX5_firstWrongTurn 15 = .ok (.goto 4, 3) := dk_167 0 4 (dk_at dksX5_firstWrongTurn_0 15 rfl rfl)
theorem dX5_firstWrongTurn_18 : decode cX5_firstWrongTurn 18 = .ok (.iconst 0, 1) := dk_3 (dk_at dksX5_firstWrongTurn_0 18 rfl rfl)
theorem dX5_firstWrongTurn_19 : decode cX5_firstWrongTurn 19 = .ok (.ireturn, 1) := dk_172 (dk_at dksX5_firstWrongTurn_0 19 rfl rfl)
def dkwX5_checksBoth_1 : List UInt8 := [182, 1, 36, 172]
abbrev dktX5_checksBoth_1 : List UInt8 := dkwX5_checksBoth_1 ++ []
def dkwX5_checksBoth_0 : List UInt8 := [42, 42, 27, 182, 1, 33, 153, 0, 15, 42, 28, 182, 1, 33, 153, 0, 7, 4, 167, 0, 4, 3]
abbrev dktX5_checksBoth_0 : List UInt8 := dkwX5_checksBoth_0 ++ dktX5_checksBoth_1
theorem dksX5_checksBoth_0 : cX5_checksBoth.data.toList.drop 0 = dktX5_checksBoth_0 := by decide +kernel
theorem dksX5_checksBoth_1 : cX5_checksBoth.data.toList.drop 22 = dktX5_checksBoth_1 := dk_seg dksX5_checksBoth_0 22 rfl rfl
theorem dX5_checksBoth_0 : decode cX5_checksBoth 0 = .ok (.aload_n 0, 1) := dk_42 (dk_at dksX5_checksBoth_0 0 rfl rfl)
theorem dX5_checksBoth_1 : decode cX5_checksBoth 1 = .ok (.aload_n 0, 1) := dk_42 (dk_at dksX5_checksBoth_0 1 rfl rfl)
theorem dX5_checksBoth_2 : decode cX5_checksBoth 2 = .ok (.iload_n 1, 1) := dk_27 (dk_at dksX5_checksBoth_0 2 rfl rfl)
theorem dX5_checksBoth_3 : decode cX5_checksBoth 3 = .ok (.invokevirtual 289, 3) := dk_182 1 33 (dk_at dksX5_checksBoth_0 3 rfl rfl)
theorem dX5_checksBoth_6 : decode cX5_checksBoth 6 = .ok (.ifCond .eq 15, 3) := dk_153 0 15 (dk_at dksX5_checksBoth_0 6 rfl rfl)
theorem dX5_checksBoth_9 : decode cX5_checksBoth 9 = .ok (.aload_n 0, 1) := dk_42 (dk_at dksX5_checksBoth_0 9 rfl rfl)
theorem dX5_checksBoth_10 : decode cX5_checksBoth 10 = .ok (.iload_n 2, 1) := dk_28 (dk_at dksX5_checksBoth_0 10 rfl rfl)
theorem dX5_checksBoth_11 : decode cX5_checksBoth 11 = .ok (.invokevirtual 289, 3) := dk_182 1 33 (dk_at dksX5_checksBoth_0 11 rfl rfl)
theorem dX5_checksBoth_14 : decode cX5_checksBoth 14 = .ok (.ifCond .eq 7, 3) := dk_153 0 7 (dk_at dksX5_checksBoth_0 14 rfl rfl)
theorem dX5_checksBoth_17 : decode cX5_checksBoth 17 = .ok (.iconst 1, 1) := dk_4 (dk_at dksX5_checksBoth_0 17 rfl rfl)
theorem dX5_checksBoth_18 : decode cX5_checksBoth 18 = .ok (.goto 4, 3) := dk_167 0 4 (dk_at dksX5_checksBoth_0 18 rfl rfl)
theorem dX5_checksBoth_21 : decode cX5_checksBoth 21 = .ok (.iconst 0, 1) := dk_3 (dk_at dksX5_checksBoth_0 21 rfl rfl)
theorem dX5_checksBoth_22 : decode cX5_checksBoth 22 = .ok (.invokevirtual 292, 3) := dk_182 1 36 (dk_at dksX5_checksBoth_1 0 rfl rfl)
theorem dX5_checksBoth_25 : decode cX5_checksBoth 25 = .ok (.ireturn, 1) := dk_172 (dk_at dksX5_checksBoth_1 3 rfl rfl)
def dkwX5_linear_1 : List UInt8 := [153, 0, 5, 29, 172, 132, 3, 1, 167, 255, 231, 2, 172]
abbrev dktX5_linear_1 : List UInt8 := dkwX5_linear_1 ++ []
def dkwX5_linear_0 : List UInt8 := [42, 27, 28, 182, 1, 49, 62, 29, 42, 27, 28, 182, 1, 52, 163, 0, 21, 42, 27, 28, 29, 182, 1, 55]
abbrev dktX5_linear_0 : List UInt8 := dkwX5_linear_0 ++ dktX5_linear_1
theorem dksX5_linear_0 : cX5_linear.data.toList.drop 0 = dktX5_linear_0 := by decide +kernel
theorem dksX5_linear_1 : cX5_linear.data.toList.drop 24 = dktX5_linear_1 := dk_seg dksX5_linear_0 24 rfl rfl
theorem dX5_linear_0 : decode cX5_linear 0 = .ok (.aload_n 0, 1) := dk_42 (dk_at dksX5_linear_0 0 rfl rfl)
theorem dX5_linear_1 : decode cX5_linear 1 = .ok (.iload_n 1, 1) := dk_27 (dk_at dksX5_linear_0 1 rfl rfl)
theorem dX5_linear_2 : decode cX5_linear 2 = .ok (.iload_n 2, 1) := dk_28 (dk_at dksX5_linear_0 2 rfl rfl)
theorem dX5_linear_3 : decode cX5_linear 3 = .ok (.invokevirtual 305, 3) := dk_182 1 49 (dk_at dksX5_linear_0 3 rfl rfl)
theorem dX5_linear_6 : decode cX5_linear 6 = .ok (.istore_n 3, 1) := dk_62 (dk_at dksX5_linear_0 6 rfl rfl)
theorem dX5_linear_7 : decode cX5_linear 7 = .ok (.iload_n 3, 1) := dk_29 (dk_at dksX5_linear_0 7 rfl rfl)
theorem dX5_linear_8 : decode cX5_linear 8 = .ok (.aload_n 0, 1) := dk_42 (dk_at dksX5_linear_0 8 rfl rfl)
theorem dX5_linear_9 : decode cX5_linear 9 = .ok (.iload_n 1, 1) := dk_27 (dk_at dksX5_linear_0 9 rfl rfl)
theorem dX5_linear_10 : decode cX5_linear 10 = .ok (.iload_n 2, 1) := dk_28 (dk_at dksX5_linear_0 10 rfl rfl)
theorem dX5_linear_11 : decode cX5_linear 11 = .ok (.invokevirtual 308, 3) := dk_182 1 52 (dk_at dksX5_linear_0 11 rfl rfl)
theorem dX5_linear_14 : decode cX5_linear 14 = .ok (.if_icmp .gt 21, 3) := dk_163 0 21 (dk_at dksX5_linear_0 14 rfl rfl)
theorem dX5_linear_17 : decode cX5_linear 17 = .ok (.aload_n 0, 1) := dk_42 (dk_at dksX5_linear_0 17 rfl rfl)
theorem dX5_linear_18 : decode cX5_linear 18 = .ok (.iload_n 1, 1) := dk_27 (dk_at dksX5_linear_0 18 rfl rfl)
theorem dX5_linear_19 : decode cX5_linear 19 = .ok (.iload_n 2, 1) := dk_28 (dk_at dksX5_linear_0 19 rfl rfl)
theorem dX5_linear_20 : decode cX5_linear 20 = .ok (.iload_n 3, 1) := dk_29 (dk_at dksX5_linear_0 20 rfl rfl)
theorem dX5_linear_21 : decode cX5_linear 21 = .ok (.invokevirtual 311, 3) := dk_182 1 55 (dk_at dksX5_linear_0 21 rfl rfl)
theorem dX5_linear_24 : decode cX5_linear 24 = .ok (.ifCond .eq 5, 3) := dk_153 0 5 (dk_at dksX5_linear_1 0 rfl rfl)
theorem dX5_linear_27 : decode cX5_linear 27 = .ok (.iload_n 3, 1) := dk_29 (dk_at dksX5_linear_1 3 rfl rfl)
theorem dX5_linear_28 : decode cX5_linear 28 = .ok (.ireturn, 1) := dk_172 (dk_at dksX5_linear_1 4 rfl rfl)
theorem dX5_linear_29 : decode cX5_linear 29 = .ok (.iinc 3 1, 3) := dk_132 3 1 (dk_at dksX5_linear_1 5 rfl rfl)
theorem dX5_linear_32 : decode cX5_linear 32 = .ok (.goto (-25), 3) := dk_167 255 231 (dk_at dksX5_linear_1 8 rfl rfl)
theorem dX5_linear_35 : decode cX5_linear 35 = .ok (.iconst (-1), 1) := dk_2 (dk_at dksX5_linear_1 11 rfl rfl)
theorem dX5_linear_36 : decode cX5_linear 36 = .ok (.ireturn, 1) := dk_172 (dk_at dksX5_linear_1 12 rfl rfl)
def dkwX5_lowCommon_0 : List UInt8 := [42, 27, 16, 6, 182, 0, 53, 42, 28, 16, 6, 182, 0, 53, 184, 0, 122, 172]
abbrev dktX5_lowCommon_0 : List UInt8 := dkwX5_lowCommon_0 ++ []
theorem dksX5_lowCommon_0 : cX5_lowCommon.data.toList.drop 0 = dktX5_lowCommon_0 := by decide +kernel
theorem dX5_lowCommon_0 : decode cX5_lowCommon 0 = .ok (.aload_n 0, 1) := dk_42 (dk_at dksX5_lowCommon_0 0 rfl rfl)
theorem dX5_lowCommon_1 : decode cX5_lowCommon 1 = .ok (.iload_n 1, 1) := dk_27 (dk_at dksX5_lowCommon_0 1 rfl rfl)
theorem dX5_lowCommon_2 : decode cX5_lowCommon 2 = .ok (.bipush 6, 2) := dk_16 6 (dk_at dksX5_lowCommon_0 2 rfl rfl)
theorem dX5_lowCommon_4 : decode cX5_lowCommon 4 = .ok (.invokevirtual 53, 3) := dk_182 0 53 (dk_at dksX5_lowCommon_0 4 rfl rfl)
theorem dX5_lowCommon_7 : decode cX5_lowCommon 7 = .ok (.aload_n 0, 1) := dk_42 (dk_at dksX5_lowCommon_0 7 rfl rfl)
theorem dX5_lowCommon_8 : decode cX5_lowCommon 8 = .ok (.iload_n 2, 1) := dk_28 (dk_at dksX5_lowCommon_0 8 rfl rfl)
theorem dX5_lowCommon_9 : decode cX5_lowCommon 9 = .ok (.bipush 6, 2) := dk_16 6 (dk_at dksX5_lowCommon_0 9 rfl rfl)
theorem dX5_lowCommon_11 : decode cX5_lowCommon 11 = .ok (.invokevirtual 53, 3) := dk_182 0 53 (dk_at dksX5_lowCommon_0 11 rfl rfl)
theorem dX5_lowCommon_14 : decode cX5_lowCommon 14 = .ok (.invokestatic 122, 3) := dk_184 0 122 (dk_at dksX5_lowCommon_0 14 rfl rfl)
theorem dX5_lowCommon_17 : decode cX5_lowCommon 17 = .ok (.ireturn, 1) := dk_172 (dk_at dksX5_lowCommon_0 17 rfl rfl)
def dkwX5_highCommon_0 : List UInt8 := [42, 27, 182, 0, 92, 42, 28, 182, 0, 92, 184, 0, 127, 172]
abbrev dktX5_highCommon_0 : List UInt8 := dkwX5_highCommon_0 ++ []
theorem dksX5_highCommon_0 : cX5_highCommon.data.toList.drop 0 = dktX5_highCommon_0 := by decide +kernel
theorem dX5_highCommon_0 : decode cX5_highCommon 0 = .ok (.aload_n 0, 1) := dk_42 (dk_at dksX5_highCommon_0 0 rfl rfl)
theorem dX5_highCommon_1 : decode cX5_highCommon 1 = .ok (.iload_n 1, 1) := dk_27 (dk_at dksX5_highCommon_0 1 rfl rfl)
theorem dX5_highCommon_2 : decode cX5_highCommon 2 = .ok (.invokevirtual 92, 3) := dk_182 0 92 (dk_at dksX5_highCommon_0 2 rfl rfl)
theorem dX5_highCommon_5 : decode cX5_highCommon 5 = .ok (.aload_n 0, 1) := dk_42 (dk_at dksX5_highCommon_0 5 rfl rfl)
theorem dX5_highCommon_6 : decode cX5_highCommon 6 = .ok (.iload_n 2, 1) := dk_28 (dk_at dksX5_highCommon_0 6 rfl rfl)
theorem dX5_highCommon_7 : decode cX5_highCommon 7 = .ok (.invokevirtual 92, 3) := dk_182 0 92 (dk_at dksX5_highCommon_0 7 rfl rfl)
theorem dX5_highCommon_10 : decode cX5_highCommon 10 = .ok (.invokestatic 127, 3) := dk_184 0 127 (dk_at dksX5_highCommon_0 10 rfl rfl)
theorem dX5_highCommon_13 : decode cX5_highCommon 13 = .ok (.ireturn, 1) := dk_172 (dk_at dksX5_highCommon_0 13 rfl rfl)
def dkwX5_differ_0 : List UInt8 := [42, 27, 29, 182, 0, 140, 42, 28, 29, 182, 0, 140, 159, 0, 7, 4, 167, 0, 4, 3, 172]
abbrev dktX5_differ_0 : List UInt8 := dkwX5_differ_0 ++ []
theorem dksX5_differ_0 : cX5_differ.data.toList.drop 0 = dktX5_differ_0 := by decide +kernel
theorem dX5_differ_0 : decode cX5_differ 0 = .ok (.aload_n 0, 1) := dk_42 (dk_at dksX5_differ_0 0 rfl rfl)
theorem dX5_differ_1 : decode cX5_differ 1 = .ok (.iload_n 1, 1) := dk_27 (dk_at dksX5_differ_0 1 rfl rfl)
theorem dX5_differ_2 : decode cX5_differ 2 = .ok (.iload_n 3, 1) := dk_29 (dk_at dksX5_differ_0 2 rfl rfl)
theorem dX5_differ_3 : decode cX5_differ 3 = .ok (.invokevirtual 140, 3) := dk_182 0 140 (dk_at dksX5_differ_0 3 rfl rfl)
theorem dX5_differ_6 : decode cX5_differ 6 = .ok (.aload_n 0, 1) := dk_42 (dk_at dksX5_differ_0 6 rfl rfl)
theorem dX5_differ_7 : decode cX5_differ 7 = .ok (.iload_n 2, 1) := dk_28 (dk_at dksX5_differ_0 7 rfl rfl)
theorem dX5_differ_8 : decode cX5_differ 8 = .ok (.iload_n 3, 1) := dk_29 (dk_at dksX5_differ_0 8 rfl rfl)
theorem dX5_differ_9 : decode cX5_differ 9 = .ok (.invokevirtual 140, 3) := dk_182 0 140 (dk_at dksX5_differ_0 9 rfl rfl)
theorem dX5_differ_12 : decode cX5_differ 12 = .ok (.if_icmp .eq 7, 3) := dk_159 0 7 (dk_at dksX5_differ_0 12 rfl rfl)
theorem dX5_differ_15 : decode cX5_differ 15 = .ok (.iconst 1, 1) := dk_4 (dk_at dksX5_differ_0 15 rfl rfl)
theorem dX5_differ_16 : decode cX5_differ 16 = .ok (.goto 4, 3) := dk_167 0 4 (dk_at dksX5_differ_0 16 rfl rfl)
theorem dX5_differ_19 : decode cX5_differ 19 = .ok (.iconst 0, 1) := dk_3 (dk_at dksX5_differ_0 19 rfl rfl)
theorem dX5_differ_20 : decode cX5_differ 20 = .ok (.ireturn, 1) := dk_172 (dk_at dksX5_differ_0 20 rfl rfl)
def dkwX5_halvedTurn_0 : List UInt8 := [42, 27, 28, 182, 1, 59, 153, 0, 12, 42, 27, 28, 182, 1, 65, 167, 0, 4, 3, 172]
abbrev dktX5_halvedTurn_0 : List UInt8 := dkwX5_halvedTurn_0 ++ []
theorem dksX5_halvedTurn_0 : cX5_halvedTurn.data.toList.drop 0 = dktX5_halvedTurn_0 := by decide +kernel
theorem dX5_halvedTurn_0 : decode cX5_halvedTurn 0 = .ok (.aload_n 0, 1) := dk_42 (dk_at dksX5_halvedTurn_0 0 rfl rfl)
theorem dX5_halvedTurn_1 : decode cX5_halvedTurn 1 = .ok (.iload_n 1, 1) := dk_27 (dk_at dksX5_halvedTurn_0 1 rfl rfl)
theorem dX5_halvedTurn_2 : decode cX5_halvedTurn 2 = .ok (.iload_n 2, 1) := dk_28 (dk_at dksX5_halvedTurn_0 2 rfl rfl)
theorem dX5_halvedTurn_3 : decode cX5_halvedTurn 3 = .ok (.invokevirtual 315, 3) := dk_182 1 59 (dk_at dksX5_halvedTurn_0 3 rfl rfl)
theorem dX5_halvedTurn_6 : decode cX5_halvedTurn 6 = .ok (.ifCond .eq 12, 3) := dk_153 0 12 (dk_at dksX5_halvedTurn_0 6 rfl rfl)
theorem dX5_halvedTurn_9 : decode cX5_halvedTurn 9 = .ok (.aload_n 0, 1) := dk_42 (dk_at dksX5_halvedTurn_0 9 rfl rfl)
theorem dX5_halvedTurn_10 : decode cX5_halvedTurn 10 = .ok (.iload_n 1, 1) := dk_27 (dk_at dksX5_halvedTurn_0 10 rfl rfl)
theorem dX5_halvedTurn_11 : decode cX5_halvedTurn 11 = .ok (.iload_n 2, 1) := dk_28 (dk_at dksX5_halvedTurn_0 11 rfl rfl)
theorem dX5_halvedTurn_12 : decode cX5_halvedTurn 12 = .ok (.invokevirtual 321, 3) := dk_182 1 65 (dk_at dksX5_halvedTurn_0 12 rfl rfl)
theorem dX5_halvedTurn_15 : decode cX5_halvedTurn 15 = .ok (.goto 4, 3) := dk_167 0 4 (dk_at dksX5_halvedTurn_0 15 rfl rfl)
theorem dX5_halvedTurn_18 : decode cX5_halvedTurn 18 = .ok (.iconst 0, 1) := dk_3 (dk_at dksX5_halvedTurn_0 18 rfl rfl)
theorem dX5_halvedTurn_19 : decode cX5_halvedTurn 19 = .ok (.ireturn, 1) := dk_172 (dk_at dksX5_halvedTurn_0 19 rfl rfl)
def dkwX5_halved_3 : List UInt8 := [167, 255, 219, 29, 172]
abbrev dktX5_halved_3 : List UInt8 := dkwX5_halved_3 ++ []
def dkwX5_halved_2 : List UInt8 := [42, 27, 28, 21, 5, 182, 1, 55, 153, 0, 10, 21, 5, 54, 4, 167, 0, 8, 21, 5, 4, 96, 62]
abbrev dktX5_halved_2 : List UInt8 := dkwX5_halved_2 ++ dktX5_halved_3
def dkwX5_halved_1 : List UInt8 := [21, 4, 182, 1, 55, 154, 0, 5, 2, 172, 29, 21, 4, 162, 0, 37, 29, 21, 4, 96, 5, 108, 54, 5]
abbrev dktX5_halved_1 : List UInt8 := dkwX5_halved_1 ++ dktX5_halved_2
def dkwX5_halved_0 : List UInt8 := [42, 27, 28, 182, 1, 49, 62, 42, 27, 28, 182, 1, 52, 54, 4, 29, 21, 4, 163, 0, 14, 42, 27, 28]
abbrev dktX5_halved_0 : List UInt8 := dkwX5_halved_0 ++ dktX5_halved_1
theorem dksX5_halved_0 : cX5_halved.data.toList.drop 0 = dktX5_halved_0 := by decide +kernel
theorem dksX5_halved_1 : cX5_halved.data.toList.drop 24 = dktX5_halved_1 := dk_seg dksX5_halved_0 24 rfl rfl
theorem dksX5_halved_2 : cX5_halved.data.toList.drop 48 = dktX5_halved_2 := dk_seg dksX5_halved_1 24 rfl rfl
theorem dksX5_halved_3 : cX5_halved.data.toList.drop 71 = dktX5_halved_3 := dk_seg dksX5_halved_2 23 rfl rfl
theorem dX5_halved_0 : decode cX5_halved 0 = .ok (.aload_n 0, 1) := dk_42 (dk_at dksX5_halved_0 0 rfl rfl)
theorem dX5_halved_1 : decode cX5_halved 1 = .ok (.iload_n 1, 1) := dk_27 (dk_at dksX5_halved_0 1 rfl rfl)
theorem dX5_halved_2 : decode cX5_halved 2 = .ok (.iload_n 2, 1) := dk_28 (dk_at dksX5_halved_0 2 rfl rfl)
theorem dX5_halved_3 : decode cX5_halved 3 = .ok (.invokevirtual 305, 3) := dk_182 1 49 (dk_at dksX5_halved_0 3 rfl rfl)
theorem dX5_halved_6 : decode cX5_halved 6 = .ok (.istore_n 3, 1) := dk_62 (dk_at dksX5_halved_0 6 rfl rfl)
theorem dX5_halved_7 : decode cX5_halved 7 = .ok (.aload_n 0, 1) := dk_42 (dk_at dksX5_halved_0 7 rfl rfl)
theorem dX5_halved_8 : decode cX5_halved 8 = .ok (.iload_n 1, 1) := dk_27 (dk_at dksX5_halved_0 8 rfl rfl)
theorem dX5_halved_9 : decode cX5_halved 9 = .ok (.iload_n 2, 1) := dk_28 (dk_at dksX5_halved_0 9 rfl rfl)
theorem dX5_halved_10 : decode cX5_halved 10 = .ok (.invokevirtual 308, 3) := dk_182 1 52 (dk_at dksX5_halved_0 10 rfl rfl)
theorem dX5_halved_13 : decode cX5_halved 13 = .ok (.istore 4, 2) := dk_54 4 (dk_at dksX5_halved_0 13 rfl rfl)
theorem dX5_halved_15 : decode cX5_halved 15 = .ok (.iload_n 3, 1) := dk_29 (dk_at dksX5_halved_0 15 rfl rfl)
theorem dX5_halved_16 : decode cX5_halved 16 = .ok (.iload 4, 2) := dk_21 4 (dk_at dksX5_halved_0 16 rfl rfl)
theorem dX5_halved_18 : decode cX5_halved 18 = .ok (.if_icmp .gt 14, 3) := dk_163 0 14 (dk_at dksX5_halved_0 18 rfl rfl)
theorem dX5_halved_21 : decode cX5_halved 21 = .ok (.aload_n 0, 1) := dk_42 (dk_at dksX5_halved_0 21 rfl rfl)
theorem dX5_halved_22 : decode cX5_halved 22 = .ok (.iload_n 1, 1) := dk_27 (dk_at dksX5_halved_0 22 rfl rfl)
theorem dX5_halved_23 : decode cX5_halved 23 = .ok (.iload_n 2, 1) := dk_28 (dk_at dksX5_halved_0 23 rfl rfl)
theorem dX5_halved_24 : decode cX5_halved 24 = .ok (.iload 4, 2) := dk_21 4 (dk_at dksX5_halved_1 0 rfl rfl)
theorem dX5_halved_26 : decode cX5_halved 26 = .ok (.invokevirtual 311, 3) := dk_182 1 55 (dk_at dksX5_halved_1 2 rfl rfl)
theorem dX5_halved_29 : decode cX5_halved 29 = .ok (.ifCond .ne 5, 3) := dk_154 0 5 (dk_at dksX5_halved_1 5 rfl rfl)
theorem dX5_halved_32 : decode cX5_halved 32 = .ok (.iconst (-1), 1) := dk_2 (dk_at dksX5_halved_1 8 rfl rfl)
theorem dX5_halved_33 : decode cX5_halved 33 = .ok (.ireturn, 1) := dk_172 (dk_at dksX5_halved_1 9 rfl rfl)
theorem dX5_halved_34 : decode cX5_halved 34 = .ok (.iload_n 3, 1) := dk_29 (dk_at dksX5_halved_1 10 rfl rfl)
theorem dX5_halved_35 : decode cX5_halved 35 = .ok (.iload 4, 2) := dk_21 4 (dk_at dksX5_halved_1 11 rfl rfl)
theorem dX5_halved_37 : decode cX5_halved 37 = .ok (.if_icmp .ge 37, 3) := dk_162 0 37 (dk_at dksX5_halved_1 13 rfl rfl)
theorem dX5_halved_40 : decode cX5_halved 40 = .ok (.iload_n 3, 1) := dk_29 (dk_at dksX5_halved_1 16 rfl rfl)
theorem dX5_halved_41 : decode cX5_halved 41 = .ok (.iload 4, 2) := dk_21 4 (dk_at dksX5_halved_1 17 rfl rfl)
theorem dX5_halved_43 : decode cX5_halved 43 = .ok (.iadd, 1) := dk_96 (dk_at dksX5_halved_1 19 rfl rfl)
theorem dX5_halved_44 : decode cX5_halved 44 = .ok (.iconst 2, 1) := dk_5 (dk_at dksX5_halved_1 20 rfl rfl)
theorem dX5_halved_45 : decode cX5_halved 45 = .ok (.idiv, 1) := dk_108 (dk_at dksX5_halved_1 21 rfl rfl)
theorem dX5_halved_46 : decode cX5_halved 46 = .ok (.istore 5, 2) := dk_54 5 (dk_at dksX5_halved_1 22 rfl rfl)
theorem dX5_halved_48 : decode cX5_halved 48 = .ok (.aload_n 0, 1) := dk_42 (dk_at dksX5_halved_2 0 rfl rfl)
theorem dX5_halved_49 : decode cX5_halved 49 = .ok (.iload_n 1, 1) := dk_27 (dk_at dksX5_halved_2 1 rfl rfl)
theorem dX5_halved_50 : decode cX5_halved 50 = .ok (.iload_n 2, 1) := dk_28 (dk_at dksX5_halved_2 2 rfl rfl)
theorem dX5_halved_51 : decode cX5_halved 51 = .ok (.iload 5, 2) := dk_21 5 (dk_at dksX5_halved_2 3 rfl rfl)
theorem dX5_halved_53 : decode cX5_halved 53 = .ok (.invokevirtual 311, 3) := dk_182 1 55 (dk_at dksX5_halved_2 5 rfl rfl)
theorem dX5_halved_56 : decode cX5_halved 56 = .ok (.ifCond .eq 10, 3) := dk_153 0 10 (dk_at dksX5_halved_2 8 rfl rfl)
theorem dX5_halved_59 : decode cX5_halved 59 = .ok (.iload 5, 2) := dk_21 5 (dk_at dksX5_halved_2 11 rfl rfl)
theorem dX5_halved_61 : decode cX5_halved 61 = .ok (.istore 4, 2) := dk_54 4 (dk_at dksX5_halved_2 13 rfl rfl)
theorem dX5_halved_63 : decode cX5_halved 63 = .ok (.goto 8, 3) := dk_167 0 8 (dk_at dksX5_halved_2 15 rfl rfl)
theorem dX5_halved_66 : decode cX5_halved 66 = .ok (.iload 5, 2) := dk_21 5 (dk_at dksX5_halved_2 18 rfl rfl)
theorem dX5_halved_68 : decode cX5_halved 68 = .ok (.iconst 1, 1) := dk_4 (dk_at dksX5_halved_2 20 rfl rfl)
theorem dX5_halved_69 : decode cX5_halved 69 = .ok (.iadd, 1) := dk_96 (dk_at dksX5_halved_2 21 rfl rfl)
theorem dX5_halved_70 : decode cX5_halved 70 = .ok (.istore_n 3, 1) := dk_62 (dk_at dksX5_halved_2 22 rfl rfl)
theorem dX5_halved_71 : decode cX5_halved 71 = .ok (.goto (-37), 3) := dk_167 255 219 (dk_at dksX5_halved_3 0 rfl rfl)
theorem dX5_halved_74 : decode cX5_halved 74 = .ok (.iload_n 3, 1) := dk_29 (dk_at dksX5_halved_3 3 rfl rfl)
theorem dX5_halved_75 : decode cX5_halved 75 = .ok (.ireturn, 1) := dk_172 (dk_at dksX5_halved_3 4 rfl rfl)
def dkwX5_isHalvingRight_1 : List UInt8 := [4, 167, 0, 4, 3, 172]
abbrev dktX5_isHalvingRight_1 : List UInt8 := dkwX5_isHalvingRight_1 ++ []
def dkwX5_isHalvingRight_0 : List UInt8 := [42, 27, 28, 182, 1, 59, 153, 0, 22, 42, 27, 28, 182, 1, 65, 42, 27, 28, 182, 1, 62, 160, 0, 7]
abbrev dktX5_isHalvingRight_0 : List UInt8 := dkwX5_isHalvingRight_0 ++ dktX5_isHalvingRight_1
theorem dksX5_isHalvingRight_0 : cX5_isHalvingRight.data.toList.drop 0 = dktX5_isHalvingRight_0 := by decide +kernel
theorem dksX5_isHalvingRight_1 : cX5_isHalvingRight.data.toList.drop 24 = dktX5_isHalvingRight_1 := dk_seg dksX5_isHalvingRight_0 24 rfl rfl
theorem dX5_isHalvingRight_0 : decode cX5_isHalvingRight 0 = .ok (.aload_n 0, 1) := dk_42 (dk_at dksX5_isHalvingRight_0 0 rfl rfl)
theorem dX5_isHalvingRight_1 : decode cX5_isHalvingRight 1 = .ok (.iload_n 1, 1) := dk_27 (dk_at dksX5_isHalvingRight_0 1 rfl rfl)
theorem dX5_isHalvingRight_2 : decode cX5_isHalvingRight 2 = .ok (.iload_n 2, 1) := dk_28 (dk_at dksX5_isHalvingRight_0 2 rfl rfl)
theorem dX5_isHalvingRight_3 : decode cX5_isHalvingRight 3 = .ok (.invokevirtual 315, 3) := dk_182 1 59 (dk_at dksX5_isHalvingRight_0 3 rfl rfl)
theorem dX5_isHalvingRight_6 : decode cX5_isHalvingRight 6 = .ok (.ifCond .eq 22, 3) := dk_153 0 22 (dk_at dksX5_isHalvingRight_0 6 rfl rfl)
theorem dX5_isHalvingRight_9 : decode cX5_isHalvingRight 9 = .ok (.aload_n 0, 1) := dk_42 (dk_at dksX5_isHalvingRight_0 9 rfl rfl)
theorem dX5_isHalvingRight_10 : decode cX5_isHalvingRight 10 = .ok (.iload_n 1, 1) := dk_27 (dk_at dksX5_isHalvingRight_0 10 rfl rfl)
theorem dX5_isHalvingRight_11 : decode cX5_isHalvingRight 11 = .ok (.iload_n 2, 1) := dk_28 (dk_at dksX5_isHalvingRight_0 11 rfl rfl)
theorem dX5_isHalvingRight_12 : decode cX5_isHalvingRight 12 = .ok (.invokevirtual 321, 3) := dk_182 1 65 (dk_at dksX5_isHalvingRight_0 12 rfl rfl)
theorem dX5_isHalvingRight_15 : decode cX5_isHalvingRight 15 = .ok (.aload_n 0, 1) := dk_42 (dk_at dksX5_isHalvingRight_0 15 rfl rfl)
theorem dX5_isHalvingRight_16 : decode cX5_isHalvingRight 16 = .ok (.iload_n 1, 1) := dk_27 (dk_at dksX5_isHalvingRight_0 16 rfl rfl)
theorem dX5_isHalvingRight_17 : decode cX5_isHalvingRight 17 = .ok (.iload_n 2, 1) := dk_28 (dk_at dksX5_isHalvingRight_0 17 rfl rfl)
theorem dX5_isHalvingRight_18 : decode cX5_isHalvingRight 18 = .ok (.invokevirtual 318, 3) := dk_182 1 62 (dk_at dksX5_isHalvingRight_0 18 rfl rfl)
theorem dX5_isHalvingRight_21 : decode cX5_isHalvingRight 21 = .ok (.if_icmp .ne 7, 3) := dk_160 0 7 (dk_at dksX5_isHalvingRight_0 21 rfl rfl)
theorem dX5_isHalvingRight_24 : decode cX5_isHalvingRight 24 = .ok (.iconst 1, 1) := dk_4 (dk_at dksX5_isHalvingRight_1 0 rfl rfl)
theorem dX5_isHalvingRight_25 : decode cX5_isHalvingRight 25 = .ok (.goto 4, 3) := dk_167 0 4 (dk_at dksX5_isHalvingRight_1 1 rfl rfl)
theorem dX5_isHalvingRight_28 : decode cX5_isHalvingRight 28 = .ok (.iconst 0, 1) := dk_3 (dk_at dksX5_isHalvingRight_1 4 rfl rfl)
theorem dX5_isHalvingRight_29 : decode cX5_isHalvingRight 29 = .ok (.ireturn, 1) := dk_172 (dk_at dksX5_isHalvingRight_1 5 rfl rfl)
def dkwX5_firstWrongCell_2 : List UInt8 := [126, 154, 0, 9, 132, 3, 1, 167, 255, 236, 29, 16, 16, 162, 0, 7, 29, 167, 0, 4, 2, 172]
abbrev dktX5_firstWrongCell_2 : List UInt8 := dkwX5_firstWrongCell_2 ++ []
def dkwX5_firstWrongCell_1 : List UInt8 := [16, 252, 172, 42, 27, 28, 182, 0, 155, 3, 62, 29, 16, 16, 162, 0, 20, 42, 180, 0, 82, 29, 122, 4]
abbrev dktX5_firstWrongCell_1 : List UInt8 := dkwX5_firstWrongCell_1 ++ dktX5_firstWrongCell_2
def dkwX5_firstWrongCell_0 : List UInt8 := [42, 27, 28, 182, 1, 59, 154, 0, 5, 3, 172, 42, 27, 182, 0, 92, 42, 28, 182, 0, 92, 159, 0, 6]
abbrev dktX5_firstWrongCell_0 : List UInt8 := dkwX5_firstWrongCell_0 ++ dktX5_firstWrongCell_1
theorem dksX5_firstWrongCell_0 : cX5_firstWrongCell.data.toList.drop 0 = dktX5_firstWrongCell_0 := by decide +kernel
theorem dksX5_firstWrongCell_1 : cX5_firstWrongCell.data.toList.drop 24 = dktX5_firstWrongCell_1 := dk_seg dksX5_firstWrongCell_0 24 rfl rfl
theorem dksX5_firstWrongCell_2 : cX5_firstWrongCell.data.toList.drop 48 = dktX5_firstWrongCell_2 := dk_seg dksX5_firstWrongCell_1 24 rfl rfl
theorem dX5_firstWrongCell_0 : decode cX5_firstWrongCell 0 = .ok (.aload_n 0, 1) := dk_42 (dk_at dksX5_firstWrongCell_0 0 rfl rfl)
theorem dX5_firstWrongCell_1 : decode cX5_firstWrongCell 1 = .ok (.iload_n 1, 1) := dk_27 (dk_at dksX5_firstWrongCell_0 1 rfl rfl)
theorem dX5_firstWrongCell_2 : decode cX5_firstWrongCell 2 = .ok (.iload_n 2, 1) := dk_28 (dk_at dksX5_firstWrongCell_0 2 rfl rfl)
theorem dX5_firstWrongCell_3 : decode cX5_firstWrongCell 3 = .ok (.invokevirtual 315, 3) := dk_182 1 59 (dk_at dksX5_firstWrongCell_0 3 rfl rfl)
theorem dX5_firstWrongCell_6 : decode cX5_firstWrongCell 6 = .ok (.ifCond .ne 5, 3) := dk_154 0 5 (dk_at dksX5_firstWrongCell_0 6 rfl rfl)
theorem dX5_firstWrongCell_9 : decode cX5_firstWrongCell 9 = .ok (.iconst 0, 1) := dk_3 (dk_at dksX5_firstWrongCell_0 9 rfl rfl)
theorem dX5_firstWrongCell_10 : decode cX5_firstWrongCell 10 = .ok (.ireturn, 1) := dk_172 (dk_at dksX5_firstWrongCell_0 10 rfl rfl)
theorem dX5_firstWrongCell_11 : decode cX5_firstWrongCell 11 = .ok (.aload_n 0, 1) := dk_42 (dk_at dksX5_firstWrongCell_0 11 rfl rfl)
theorem dX5_firstWrongCell_12 : decode cX5_firstWrongCell 12 = .ok (.iload_n 1, 1) := dk_27 (dk_at dksX5_firstWrongCell_0 12 rfl rfl)
theorem dX5_firstWrongCell_13 : decode cX5_firstWrongCell 13 = .ok (.invokevirtual 92, 3) := dk_182 0 92 (dk_at dksX5_firstWrongCell_0 13 rfl rfl)
theorem dX5_firstWrongCell_16 : decode cX5_firstWrongCell 16 = .ok (.aload_n 0, 1) := dk_42 (dk_at dksX5_firstWrongCell_0 16 rfl rfl)
theorem dX5_firstWrongCell_17 : decode cX5_firstWrongCell 17 = .ok (.iload_n 2, 1) := dk_28 (dk_at dksX5_firstWrongCell_0 17 rfl rfl)
theorem dX5_firstWrongCell_18 : decode cX5_firstWrongCell 18 = .ok (.invokevirtual 92, 3) := dk_182 0 92 (dk_at dksX5_firstWrongCell_0 18 rfl rfl)
theorem dX5_firstWrongCell_21 : decode cX5_firstWrongCell 21 = .ok (.if_icmp .eq 6, 3) := dk_159 0 6 (dk_at dksX5_firstWrongCell_0 21 rfl rfl)
theorem dX5_firstWrongCell_24 : decode cX5_firstWrongCell 24 = .ok (.bipush (-4), 2) := dk_16 252 (dk_at dksX5_firstWrongCell_1 0 rfl rfl)
theorem dX5_firstWrongCell_26 : decode cX5_firstWrongCell 26 = .ok (.ireturn, 1) := dk_172 (dk_at dksX5_firstWrongCell_1 2 rfl rfl)
theorem dX5_firstWrongCell_27 : decode cX5_firstWrongCell 27 = .ok (.aload_n 0, 1) := dk_42 (dk_at dksX5_firstWrongCell_1 3 rfl rfl)
theorem dX5_firstWrongCell_28 : decode cX5_firstWrongCell 28 = .ok (.iload_n 1, 1) := dk_27 (dk_at dksX5_firstWrongCell_1 4 rfl rfl)
theorem dX5_firstWrongCell_29 : decode cX5_firstWrongCell 29 = .ok (.iload_n 2, 1) := dk_28 (dk_at dksX5_firstWrongCell_1 5 rfl rfl)
theorem dX5_firstWrongCell_30 : decode cX5_firstWrongCell 30 = .ok (.invokevirtual 155, 3) := dk_182 0 155 (dk_at dksX5_firstWrongCell_1 6 rfl rfl)
theorem dX5_firstWrongCell_33 : decode cX5_firstWrongCell 33 = .ok (.iconst 0, 1) := dk_3 (dk_at dksX5_firstWrongCell_1 9 rfl rfl)
theorem dX5_firstWrongCell_34 : decode cX5_firstWrongCell 34 = .ok (.istore_n 3, 1) := dk_62 (dk_at dksX5_firstWrongCell_1 10 rfl rfl)
theorem dX5_firstWrongCell_35 : decode cX5_firstWrongCell 35 = .ok (.iload_n 3, 1) := dk_29 (dk_at dksX5_firstWrongCell_1 11 rfl rfl)
theorem dX5_firstWrongCell_36 : decode cX5_firstWrongCell 36 = .ok (.bipush 16, 2) := dk_16 16 (dk_at dksX5_firstWrongCell_1 12 rfl rfl)
theorem dX5_firstWrongCell_38 : decode cX5_firstWrongCell 38 = .ok (.if_icmp .ge 20, 3) := dk_162 0 20 (dk_at dksX5_firstWrongCell_1 14 rfl rfl)
theorem dX5_firstWrongCell_41 : decode cX5_firstWrongCell 41 = .ok (.aload_n 0, 1) := dk_42 (dk_at dksX5_firstWrongCell_1 17 rfl rfl)
theorem dX5_firstWrongCell_42 : decode cX5_firstWrongCell 42 = .ok (.getfield 82, 3) := dk_180 0 82 (dk_at dksX5_firstWrongCell_1 18 rfl rfl)
theorem dX5_firstWrongCell_45 : decode cX5_firstWrongCell 45 = .ok (.iload_n 3, 1) := dk_29 (dk_at dksX5_firstWrongCell_1 21 rfl rfl)
theorem dX5_firstWrongCell_46 : decode cX5_firstWrongCell 46 = .ok (.ishr, 1) := dk_122 (dk_at dksX5_firstWrongCell_1 22 rfl rfl)
theorem dX5_firstWrongCell_47 : decode cX5_firstWrongCell 47 = .ok (.iconst 1, 1) := dk_4 (dk_at dksX5_firstWrongCell_1 23 rfl rfl)
theorem dX5_firstWrongCell_48 : decode cX5_firstWrongCell 48 = .ok (.iand, 1) := dk_126 (dk_at dksX5_firstWrongCell_2 0 rfl rfl)
theorem dX5_firstWrongCell_49 : decode cX5_firstWrongCell 49 = .ok (.ifCond .ne 9, 3) := dk_154 0 9 (dk_at dksX5_firstWrongCell_2 1 rfl rfl)
theorem dX5_firstWrongCell_52 : decode cX5_firstWrongCell 52 = .ok (.iinc 3 1, 3) := dk_132 3 1 (dk_at dksX5_firstWrongCell_2 4 rfl rfl)
theorem dX5_firstWrongCell_55 : decode cX5_firstWrongCell 55 = .ok (.goto (-20), 3) := dk_167 255 236 (dk_at dksX5_firstWrongCell_2 7 rfl rfl)
theorem dX5_firstWrongCell_58 : decode cX5_firstWrongCell 58 = .ok (.iload_n 3, 1) := dk_29 (dk_at dksX5_firstWrongCell_2 10 rfl rfl)
theorem dX5_firstWrongCell_59 : decode cX5_firstWrongCell 59 = .ok (.bipush 16, 2) := dk_16 16 (dk_at dksX5_firstWrongCell_2 11 rfl rfl)
theorem dX5_firstWrongCell_61 : decode cX5_firstWrongCell 61 = .ok (.if_icmp .ge 7, 3) := dk_162 0 7 (dk_at dksX5_firstWrongCell_2 13 rfl rfl)
theorem dX5_firstWrongCell_64 : decode cX5_firstWrongCell 64 = .ok (.iload_n 3, 1) := dk_29 (dk_at dksX5_firstWrongCell_2 16 rfl rfl)
theorem dX5_firstWrongCell_65 : decode cX5_firstWrongCell 65 = .ok (.goto 4, 3) := dk_167 0 4 (dk_at dksX5_firstWrongCell_2 17 rfl rfl)
theorem dX5_firstWrongCell_68 : decode cX5_firstWrongCell 68 = .ok (.iconst (-1), 1) := dk_2 (dk_at dksX5_firstWrongCell_2 20 rfl rfl)
theorem dX5_firstWrongCell_69 : decode cX5_firstWrongCell 69 = .ok (.ireturn, 1) := dk_172 (dk_at dksX5_firstWrongCell_2 21 rfl rfl)
def dkwX5_compares_0 : List UInt8 := [42, 3, 181, 0, 82, 42, 3, 181, 0, 79, 42, 27, 28, 182, 0, 88, 42, 4, 182, 0, 85, 177]
abbrev dktX5_compares_0 : List UInt8 := dkwX5_compares_0 ++ []
theorem dksX5_compares_0 : cX5_compares.data.toList.drop 0 = dktX5_compares_0 := by decide +kernel
theorem dX5_compares_0 : decode cX5_compares 0 = .ok (.aload_n 0, 1) := dk_42 (dk_at dksX5_compares_0 0 rfl rfl)
theorem dX5_compares_1 : decode cX5_compares 1 = .ok (.iconst 0, 1) := dk_3 (dk_at dksX5_compares_0 1 rfl rfl)
theorem dX5_compares_2 : decode cX5_compares 2 = .ok (.putfield 82, 3) := dk_181 0 82 (dk_at dksX5_compares_0 2 rfl rfl)
theorem dX5_compares_5 : decode cX5_compares 5 = .ok (.aload_n 0, 1) := dk_42 (dk_at dksX5_compares_0 5 rfl rfl)
theorem dX5_compares_6 : decode cX5_compares 6 = .ok (.iconst 0, 1) := dk_3 (dk_at dksX5_compares_0 6 rfl rfl)
theorem dX5_compares_7 : decode cX5_compares 7 = .ok (.putfield 79, 3) := dk_181 0 79 (dk_at dksX5_compares_0 7 rfl rfl)
theorem dX5_compares_10 : decode cX5_compares 10 = .ok (.aload_n 0, 1) := dk_42 (dk_at dksX5_compares_0 10 rfl rfl)
theorem dX5_compares_11 : decode cX5_compares 11 = .ok (.iload_n 1, 1) := dk_27 (dk_at dksX5_compares_0 11 rfl rfl)
theorem dX5_compares_12 : decode cX5_compares 12 = .ok (.iload_n 2, 1) := dk_28 (dk_at dksX5_compares_0 12 rfl rfl)
theorem dX5_compares_13 : decode cX5_compares 13 = .ok (.invokevirtual 88, 3) := dk_182 0 88 (dk_at dksX5_compares_0 13 rfl rfl)
theorem dX5_compares_16 : decode cX5_compares 16 = .ok (.aload_n 0, 1) := dk_42 (dk_at dksX5_compares_0 16 rfl rfl)
theorem dX5_compares_17 : decode cX5_compares 17 = .ok (.iconst 1, 1) := dk_4 (dk_at dksX5_compares_0 17 rfl rfl)
theorem dX5_compares_18 : decode cX5_compares 18 = .ok (.invokevirtual 85, 3) := dk_182 0 85 (dk_at dksX5_compares_0 18 rfl rfl)
theorem dX5_compares_21 : decode cX5_compares 21 = .ok (.return_, 1) := dk_177 (dk_at dksX5_compares_0 21 rfl rfl)
def dkwX5_laysBoth_1 : List UInt8 := [182, 0, 75, 177]
abbrev dktX5_laysBoth_1 : List UInt8 := dkwX5_laysBoth_1 ++ []
def dkwX5_laysBoth_0 : List UInt8 := [42, 27, 182, 0, 71, 42, 42, 180, 0, 31, 182, 0, 75, 42, 28, 182, 0, 71, 42, 42, 180, 0, 34]
abbrev dktX5_laysBoth_0 : List UInt8 := dkwX5_laysBoth_0 ++ dktX5_laysBoth_1
theorem dksX5_laysBoth_0 : cX5_laysBoth.data.toList.drop 0 = dktX5_laysBoth_0 := by decide +kernel
theorem dksX5_laysBoth_1 : cX5_laysBoth.data.toList.drop 23 = dktX5_laysBoth_1 := dk_seg dksX5_laysBoth_0 23 rfl rfl
theorem dX5_laysBoth_0 : decode cX5_laysBoth 0 = .ok (.aload_n 0, 1) := dk_42 (dk_at dksX5_laysBoth_0 0 rfl rfl)
theorem dX5_laysBoth_1 : decode cX5_laysBoth 1 = .ok (.iload_n 1, 1) := dk_27 (dk_at dksX5_laysBoth_0 1 rfl rfl)
theorem dX5_laysBoth_2 : decode cX5_laysBoth 2 = .ok (.invokevirtual 71, 3) := dk_182 0 71 (dk_at dksX5_laysBoth_0 2 rfl rfl)
theorem dX5_laysBoth_5 : decode cX5_laysBoth 5 = .ok (.aload_n 0, 1) := dk_42 (dk_at dksX5_laysBoth_0 5 rfl rfl)
theorem dX5_laysBoth_6 : decode cX5_laysBoth 6 = .ok (.aload_n 0, 1) := dk_42 (dk_at dksX5_laysBoth_0 6 rfl rfl)
theorem dX5_laysBoth_7 : decode cX5_laysBoth 7 = .ok (.getfield 31, 3) := dk_180 0 31 (dk_at dksX5_laysBoth_0 7 rfl rfl)
theorem dX5_laysBoth_10 : decode cX5_laysBoth 10 = .ok (.invokevirtual 75, 3) := dk_182 0 75 (dk_at dksX5_laysBoth_0 10 rfl rfl)
theorem dX5_laysBoth_13 : decode cX5_laysBoth 13 = .ok (.aload_n 0, 1) := dk_42 (dk_at dksX5_laysBoth_0 13 rfl rfl)
theorem dX5_laysBoth_14 : decode cX5_laysBoth 14 = .ok (.iload_n 2, 1) := dk_28 (dk_at dksX5_laysBoth_0 14 rfl rfl)
theorem dX5_laysBoth_15 : decode cX5_laysBoth 15 = .ok (.invokevirtual 71, 3) := dk_182 0 71 (dk_at dksX5_laysBoth_0 15 rfl rfl)
theorem dX5_laysBoth_18 : decode cX5_laysBoth 18 = .ok (.aload_n 0, 1) := dk_42 (dk_at dksX5_laysBoth_0 18 rfl rfl)
theorem dX5_laysBoth_19 : decode cX5_laysBoth 19 = .ok (.aload_n 0, 1) := dk_42 (dk_at dksX5_laysBoth_0 19 rfl rfl)
theorem dX5_laysBoth_20 : decode cX5_laysBoth 20 = .ok (.getfield 34, 3) := dk_180 0 34 (dk_at dksX5_laysBoth_0 20 rfl rfl)
theorem dX5_laysBoth_23 : decode cX5_laysBoth 23 = .ok (.invokevirtual 75, 3) := dk_182 0 75 (dk_at dksX5_laysBoth_1 0 rfl rfl)
theorem dX5_laysBoth_26 : decode cX5_laysBoth 26 = .ok (.return_, 1) := dk_177 (dk_at dksX5_laysBoth_1 3 rfl rfl)
def dkwX5_goesDown_2 : List UInt8 := [181, 0, 82, 177, 42, 5, 27, 104, 182, 0, 85, 42, 5, 27, 104, 4, 96, 182, 0, 85, 177]
abbrev dktX5_goesDown_2 : List UInt8 := dkwX5_goesDown_2 ++ []
def dkwX5_goesDown_1 : List UInt8 := [160, 0, 4, 177, 27, 16, 16, 161, 0, 19, 42, 89, 180, 0, 82, 4, 27, 16, 16, 100, 120, 128]
abbrev dktX5_goesDown_1 : List UInt8 := dkwX5_goesDown_1 ++ dktX5_goesDown_2
def dkwX5_goesDown_0 : List UInt8 := [42, 89, 180, 0, 79, 4, 96, 181, 0, 79, 42, 180, 0, 31, 27, 46, 42, 180, 0, 34, 27, 46]
abbrev dktX5_goesDown_0 : List UInt8 := dkwX5_goesDown_0 ++ dktX5_goesDown_1
theorem dksX5_goesDown_0 : cX5_goesDown.data.toList.drop 0 = dktX5_goesDown_0 := by decide +kernel
theorem dksX5_goesDown_1 : cX5_goesDown.data.toList.drop 22 = dktX5_goesDown_1 := dk_seg dksX5_goesDown_0 22 rfl rfl
theorem dksX5_goesDown_2 : cX5_goesDown.data.toList.drop 44 = dktX5_goesDown_2 := dk_seg dksX5_goesDown_1 22 rfl rfl
theorem dX5_goesDown_0 : decode cX5_goesDown 0 = .ok (.aload_n 0, 1) := dk_42 (dk_at dksX5_goesDown_0 0 rfl rfl)
theorem dX5_goesDown_1 : decode cX5_goesDown 1 = .ok (.dup, 1) := dk_89 (dk_at dksX5_goesDown_0 1 rfl rfl)
theorem dX5_goesDown_2 : decode cX5_goesDown 2 = .ok (.getfield 79, 3) := dk_180 0 79 (dk_at dksX5_goesDown_0 2 rfl rfl)
theorem dX5_goesDown_5 : decode cX5_goesDown 5 = .ok (.iconst 1, 1) := dk_4 (dk_at dksX5_goesDown_0 5 rfl rfl)
theorem dX5_goesDown_6 : decode cX5_goesDown 6 = .ok (.iadd, 1) := dk_96 (dk_at dksX5_goesDown_0 6 rfl rfl)
theorem dX5_goesDown_7 : decode cX5_goesDown 7 = .ok (.putfield 79, 3) := dk_181 0 79 (dk_at dksX5_goesDown_0 7 rfl rfl)
theorem dX5_goesDown_10 : decode cX5_goesDown 10 = .ok (.aload_n 0, 1) := dk_42 (dk_at dksX5_goesDown_0 10 rfl rfl)
theorem dX5_goesDown_11 : decode cX5_goesDown 11 = .ok (.getfield 31, 3) := dk_180 0 31 (dk_at dksX5_goesDown_0 11 rfl rfl)
theorem dX5_goesDown_14 : decode cX5_goesDown 14 = .ok (.iload_n 1, 1) := dk_27 (dk_at dksX5_goesDown_0 14 rfl rfl)
theorem dX5_goesDown_15 : decode cX5_goesDown 15 = .ok (.iaload, 1) := dk_46 (dk_at dksX5_goesDown_0 15 rfl rfl)
theorem dX5_goesDown_16 : decode cX5_goesDown 16 = .ok (.aload_n 0, 1) := dk_42 (dk_at dksX5_goesDown_0 16 rfl rfl)
theorem dX5_goesDown_17 : decode cX5_goesDown 17 = .ok (.getfield 34, 3) := dk_180 0 34 (dk_at dksX5_goesDown_0 17 rfl rfl)
theorem dX5_goesDown_20 : decode cX5_goesDown 20 = .ok (.iload_n 1, 1) := dk_27 (dk_at dksX5_goesDown_0 20 rfl rfl)
theorem dX5_goesDown_21 : decode cX5_goesDown 21 = .ok (.iaload, 1) := dk_46 (dk_at dksX5_goesDown_0 21 rfl rfl)
theorem dX5_goesDown_22 : decode cX5_goesDown 22 = .ok (.if_icmp .ne 4, 3) := dk_160 0 4 (dk_at dksX5_goesDown_1 0 rfl rfl)
theorem dX5_goesDown_25 : decode cX5_goesDown 25 = .ok (.return_, 1) := dk_177 (dk_at dksX5_goesDown_1 3 rfl rfl)
theorem dX5_goesDown_26 : decode cX5_goesDown 26 = .ok (.iload_n 1, 1) := dk_27 (dk_at dksX5_goesDown_1 4 rfl rfl)
theorem dX5_goesDown_27 : decode cX5_goesDown 27 = .ok (.bipush 16, 2) := dk_16 16 (dk_at dksX5_goesDown_1 5 rfl rfl)
theorem dX5_goesDown_29 : decode cX5_goesDown 29 = .ok (.if_icmp .lt 19, 3) := dk_161 0 19 (dk_at dksX5_goesDown_1 7 rfl rfl)
theorem dX5_goesDown_32 : decode cX5_goesDown 32 = .ok (.aload_n 0, 1) := dk_42 (dk_at dksX5_goesDown_1 10 rfl rfl)
theorem dX5_goesDown_33 : decode cX5_goesDown 33 = .ok (.dup, 1) := dk_89 (dk_at dksX5_goesDown_1 11 rfl rfl)
theorem dX5_goesDown_34 : decode cX5_goesDown 34 = .ok (.getfield 82, 3) := dk_180 0 82 (dk_at dksX5_goesDown_1 12 rfl rfl)
theorem dX5_goesDown_37 : decode cX5_goesDown 37 = .ok (.iconst 1, 1) := dk_4 (dk_at dksX5_goesDown_1 15 rfl rfl)
theorem dX5_goesDown_38 : decode cX5_goesDown 38 = .ok (.iload_n 1, 1) := dk_27 (dk_at dksX5_goesDown_1 16 rfl rfl)
theorem dX5_goesDown_39 : decode cX5_goesDown 39 = .ok (.bipush 16, 2) := dk_16 16 (dk_at dksX5_goesDown_1 17 rfl rfl)
theorem dX5_goesDown_41 : decode cX5_goesDown 41 = .ok (.isub, 1) := dk_100 (dk_at dksX5_goesDown_1 19 rfl rfl)
theorem dX5_goesDown_42 : decode cX5_goesDown 42 = .ok (.ishl, 1) := dk_120 (dk_at dksX5_goesDown_1 20 rfl rfl)
theorem dX5_goesDown_43 : decode cX5_goesDown 43 = .ok (.ior, 1) := dk_128 (dk_at dksX5_goesDown_1 21 rfl rfl)
theorem dX5_goesDown_44 : decode cX5_goesDown 44 = .ok (.putfield 82, 3) := dk_181 0 82 (dk_at dksX5_goesDown_2 0 rfl rfl)
theorem dX5_goesDown_47 : decode cX5_goesDown 47 = .ok (.return_, 1) := dk_177 (dk_at dksX5_goesDown_2 3 rfl rfl)
theorem dX5_goesDown_48 : decode cX5_goesDown 48 = .ok (.aload_n 0, 1) := dk_42 (dk_at dksX5_goesDown_2 4 rfl rfl)
theorem dX5_goesDown_49 : decode cX5_goesDown 49 = .ok (.iconst 2, 1) := dk_5 (dk_at dksX5_goesDown_2 5 rfl rfl)
theorem dX5_goesDown_50 : decode cX5_goesDown 50 = .ok (.iload_n 1, 1) := dk_27 (dk_at dksX5_goesDown_2 6 rfl rfl)
theorem dX5_goesDown_51 : decode cX5_goesDown 51 = .ok (.imul, 1) := dk_104 (dk_at dksX5_goesDown_2 7 rfl rfl)
theorem dX5_goesDown_52 : decode cX5_goesDown 52 = .ok (.invokevirtual 85, 3) := dk_182 0 85 (dk_at dksX5_goesDown_2 8 rfl rfl)
theorem dX5_goesDown_55 : decode cX5_goesDown 55 = .ok (.aload_n 0, 1) := dk_42 (dk_at dksX5_goesDown_2 11 rfl rfl)
theorem dX5_goesDown_56 : decode cX5_goesDown 56 = .ok (.iconst 2, 1) := dk_5 (dk_at dksX5_goesDown_2 12 rfl rfl)
theorem dX5_goesDown_57 : decode cX5_goesDown 57 = .ok (.iload_n 1, 1) := dk_27 (dk_at dksX5_goesDown_2 13 rfl rfl)
theorem dX5_goesDown_58 : decode cX5_goesDown 58 = .ok (.imul, 1) := dk_104 (dk_at dksX5_goesDown_2 14 rfl rfl)
theorem dX5_goesDown_59 : decode cX5_goesDown 59 = .ok (.iconst 1, 1) := dk_4 (dk_at dksX5_goesDown_2 15 rfl rfl)
theorem dX5_goesDown_60 : decode cX5_goesDown 60 = .ok (.iadd, 1) := dk_96 (dk_at dksX5_goesDown_2 16 rfl rfl)
theorem dX5_goesDown_61 : decode cX5_goesDown 61 = .ok (.invokevirtual 85, 3) := dk_182 0 85 (dk_at dksX5_goesDown_2 17 rfl rfl)
theorem dX5_goesDown_64 : decode cX5_goesDown 64 = .ok (.return_, 1) := dk_177 (dk_at dksX5_goesDown_2 20 rfl rfl)
def dkwX5_wrongCells_0 : List UInt8 := [42, 27, 28, 182, 1, 59, 154, 0, 5, 3, 172, 42, 27, 28, 182, 0, 155, 42, 180, 0, 82, 172]
abbrev dktX5_wrongCells_0 : List UInt8 := dkwX5_wrongCells_0 ++ []
theorem dksX5_wrongCells_0 : cX5_wrongCells.data.toList.drop 0 = dktX5_wrongCells_0 := by decide +kernel
theorem dX5_wrongCells_0 : decode cX5_wrongCells 0 = .ok (.aload_n 0, 1) := dk_42 (dk_at dksX5_wrongCells_0 0 rfl rfl)
theorem dX5_wrongCells_1 : decode cX5_wrongCells 1 = .ok (.iload_n 1, 1) := dk_27 (dk_at dksX5_wrongCells_0 1 rfl rfl)
theorem dX5_wrongCells_2 : decode cX5_wrongCells 2 = .ok (.iload_n 2, 1) := dk_28 (dk_at dksX5_wrongCells_0 2 rfl rfl)
theorem dX5_wrongCells_3 : decode cX5_wrongCells 3 = .ok (.invokevirtual 315, 3) := dk_182 1 59 (dk_at dksX5_wrongCells_0 3 rfl rfl)
theorem dX5_wrongCells_6 : decode cX5_wrongCells 6 = .ok (.ifCond .ne 5, 3) := dk_154 0 5 (dk_at dksX5_wrongCells_0 6 rfl rfl)
theorem dX5_wrongCells_9 : decode cX5_wrongCells 9 = .ok (.iconst 0, 1) := dk_3 (dk_at dksX5_wrongCells_0 9 rfl rfl)
theorem dX5_wrongCells_10 : decode cX5_wrongCells 10 = .ok (.ireturn, 1) := dk_172 (dk_at dksX5_wrongCells_0 10 rfl rfl)
theorem dX5_wrongCells_11 : decode cX5_wrongCells 11 = .ok (.aload_n 0, 1) := dk_42 (dk_at dksX5_wrongCells_0 11 rfl rfl)
theorem dX5_wrongCells_12 : decode cX5_wrongCells 12 = .ok (.iload_n 1, 1) := dk_27 (dk_at dksX5_wrongCells_0 12 rfl rfl)
theorem dX5_wrongCells_13 : decode cX5_wrongCells 13 = .ok (.iload_n 2, 1) := dk_28 (dk_at dksX5_wrongCells_0 13 rfl rfl)
theorem dX5_wrongCells_14 : decode cX5_wrongCells 14 = .ok (.invokevirtual 155, 3) := dk_182 0 155 (dk_at dksX5_wrongCells_0 14 rfl rfl)
theorem dX5_wrongCells_17 : decode cX5_wrongCells 17 = .ok (.aload_n 0, 1) := dk_42 (dk_at dksX5_wrongCells_0 17 rfl rfl)
theorem dX5_wrongCells_18 : decode cX5_wrongCells 18 = .ok (.getfield 82, 3) := dk_180 0 82 (dk_at dksX5_wrongCells_0 18 rfl rfl)
theorem dX5_wrongCells_21 : decode cX5_wrongCells 21 = .ok (.ireturn, 1) := dk_172 (dk_at dksX5_wrongCells_0 21 rfl rfl)
def dkwX5_comparisons_0 : List UInt8 := [42, 27, 28, 182, 1, 59, 154, 0, 5, 3, 172, 42, 27, 28, 182, 0, 155, 42, 180, 0, 79, 172]
abbrev dktX5_comparisons_0 : List UInt8 := dkwX5_comparisons_0 ++ []
theorem dksX5_comparisons_0 : cX5_comparisons.data.toList.drop 0 = dktX5_comparisons_0 := by decide +kernel
theorem dX5_comparisons_0 : decode cX5_comparisons 0 = .ok (.aload_n 0, 1) := dk_42 (dk_at dksX5_comparisons_0 0 rfl rfl)
theorem dX5_comparisons_1 : decode cX5_comparisons 1 = .ok (.iload_n 1, 1) := dk_27 (dk_at dksX5_comparisons_0 1 rfl rfl)
theorem dX5_comparisons_2 : decode cX5_comparisons 2 = .ok (.iload_n 2, 1) := dk_28 (dk_at dksX5_comparisons_0 2 rfl rfl)
theorem dX5_comparisons_3 : decode cX5_comparisons 3 = .ok (.invokevirtual 315, 3) := dk_182 1 59 (dk_at dksX5_comparisons_0 3 rfl rfl)
theorem dX5_comparisons_6 : decode cX5_comparisons 6 = .ok (.ifCond .ne 5, 3) := dk_154 0 5 (dk_at dksX5_comparisons_0 6 rfl rfl)
theorem dX5_comparisons_9 : decode cX5_comparisons 9 = .ok (.iconst 0, 1) := dk_3 (dk_at dksX5_comparisons_0 9 rfl rfl)
theorem dX5_comparisons_10 : decode cX5_comparisons 10 = .ok (.ireturn, 1) := dk_172 (dk_at dksX5_comparisons_0 10 rfl rfl)
theorem dX5_comparisons_11 : decode cX5_comparisons 11 = .ok (.aload_n 0, 1) := dk_42 (dk_at dksX5_comparisons_0 11 rfl rfl)
theorem dX5_comparisons_12 : decode cX5_comparisons 12 = .ok (.iload_n 1, 1) := dk_27 (dk_at dksX5_comparisons_0 12 rfl rfl)
theorem dX5_comparisons_13 : decode cX5_comparisons 13 = .ok (.iload_n 2, 1) := dk_28 (dk_at dksX5_comparisons_0 13 rfl rfl)
theorem dX5_comparisons_14 : decode cX5_comparisons 14 = .ok (.invokevirtual 155, 3) := dk_182 0 155 (dk_at dksX5_comparisons_0 14 rfl rfl)
theorem dX5_comparisons_17 : decode cX5_comparisons 17 = .ok (.aload_n 0, 1) := dk_42 (dk_at dksX5_comparisons_0 17 rfl rfl)
theorem dX5_comparisons_18 : decode cX5_comparisons 18 = .ok (.getfield 79, 3) := dk_180 0 79 (dk_at dksX5_comparisons_0 18 rfl rfl)
theorem dX5_comparisons_21 : decode cX5_comparisons 21 = .ok (.ireturn, 1) := dk_172 (dk_at dksX5_comparisons_0 21 rfl rfl)
def dkwX5_votes_1 : List UInt8 := [27, 28, 182, 0, 143, 167, 0, 4, 2, 172]
abbrev dktX5_votes_1 : List UInt8 := dkwX5_votes_1 ++ []
def dkwX5_votes_0 : List UInt8 := [42, 42, 27, 182, 1, 33, 182, 1, 36, 154, 0, 5, 3, 172, 42, 27, 28, 182, 0, 136, 153, 0, 12, 42]
abbrev dktX5_votes_0 : List UInt8 := dkwX5_votes_0 ++ dktX5_votes_1
theorem dksX5_votes_0 : cX5_votes.data.toList.drop 0 = dktX5_votes_0 := by decide +kernel
theorem dksX5_votes_1 : cX5_votes.data.toList.drop 24 = dktX5_votes_1 := dk_seg dksX5_votes_0 24 rfl rfl
theorem dX5_votes_0 : decode cX5_votes 0 = .ok (.aload_n 0, 1) := dk_42 (dk_at dksX5_votes_0 0 rfl rfl)
theorem dX5_votes_1 : decode cX5_votes 1 = .ok (.aload_n 0, 1) := dk_42 (dk_at dksX5_votes_0 1 rfl rfl)
theorem dX5_votes_2 : decode cX5_votes 2 = .ok (.iload_n 1, 1) := dk_27 (dk_at dksX5_votes_0 2 rfl rfl)
theorem dX5_votes_3 : decode cX5_votes 3 = .ok (.invokevirtual 289, 3) := dk_182 1 33 (dk_at dksX5_votes_0 3 rfl rfl)
theorem dX5_votes_6 : decode cX5_votes 6 = .ok (.invokevirtual 292, 3) := dk_182 1 36 (dk_at dksX5_votes_0 6 rfl rfl)
theorem dX5_votes_9 : decode cX5_votes 9 = .ok (.ifCond .ne 5, 3) := dk_154 0 5 (dk_at dksX5_votes_0 9 rfl rfl)
theorem dX5_votes_12 : decode cX5_votes 12 = .ok (.iconst 0, 1) := dk_3 (dk_at dksX5_votes_0 12 rfl rfl)
theorem dX5_votes_13 : decode cX5_votes 13 = .ok (.ireturn, 1) := dk_172 (dk_at dksX5_votes_0 13 rfl rfl)
theorem dX5_votes_14 : decode cX5_votes 14 = .ok (.aload_n 0, 1) := dk_42 (dk_at dksX5_votes_0 14 rfl rfl)
theorem dX5_votes_15 : decode cX5_votes 15 = .ok (.iload_n 1, 1) := dk_27 (dk_at dksX5_votes_0 15 rfl rfl)
theorem dX5_votes_16 : decode cX5_votes 16 = .ok (.iload_n 2, 1) := dk_28 (dk_at dksX5_votes_0 16 rfl rfl)
theorem dX5_votes_17 : decode cX5_votes 17 = .ok (.invokevirtual 136, 3) := dk_182 0 136 (dk_at dksX5_votes_0 17 rfl rfl)
theorem dX5_votes_20 : decode cX5_votes 20 = .ok (.ifCond .eq 12, 3) := dk_153 0 12 (dk_at dksX5_votes_0 20 rfl rfl)
theorem dX5_votes_23 : decode cX5_votes 23 = .ok (.aload_n 0, 1) := dk_42 (dk_at dksX5_votes_0 23 rfl rfl)
theorem dX5_votes_24 : decode cX5_votes 24 = .ok (.iload_n 1, 1) := dk_27 (dk_at dksX5_votes_1 0 rfl rfl)
theorem dX5_votes_25 : decode cX5_votes 25 = .ok (.iload_n 2, 1) := dk_28 (dk_at dksX5_votes_1 1 rfl rfl)
theorem dX5_votes_26 : decode cX5_votes 26 = .ok (.invokevirtual 143, 3) := dk_182 0 143 (dk_at dksX5_votes_1 2 rfl rfl)
theorem dX5_votes_29 : decode cX5_votes 29 = .ok (.goto 4, 3) := dk_167 0 4 (dk_at dksX5_votes_1 5 rfl rfl)
theorem dX5_votes_32 : decode cX5_votes 32 = .ok (.iconst (-1), 1) := dk_2 (dk_at dksX5_votes_1 8 rfl rfl)
theorem dX5_votes_33 : decode cX5_votes 33 = .ok (.ireturn, 1) := dk_172 (dk_at dksX5_votes_1 9 rfl rfl)
def dkwX5_votesFor_2 : List UInt8 := [160, 0, 7, 4, 167, 0, 4, 3, 96, 62, 132, 4, 1, 167, 255, 201, 29, 172]
abbrev dktX5_votesFor_2 : List UInt8 := dkwX5_votesFor_2 ++ []
def dkwX5_votesFor_1 : List UInt8 := [42, 21, 4, 28, 182, 0, 136, 153, 0, 23, 42, 21, 4, 28, 182, 0, 140, 42, 27, 28, 182, 0, 140]
abbrev dktX5_votesFor_1 : List UInt8 := dkwX5_votesFor_1 ++ dktX5_votesFor_2
def dkwX5_votesFor_0 : List UInt8 := [3, 62, 3, 54, 4, 21, 4, 42, 182, 0, 114, 162, 0, 52, 29, 42, 21, 4, 182, 0, 118, 153, 0, 33]
abbrev dktX5_votesFor_0 : List UInt8 := dkwX5_votesFor_0 ++ dktX5_votesFor_1
theorem dksX5_votesFor_0 : cX5_votesFor.data.toList.drop 0 = dktX5_votesFor_0 := by decide +kernel
theorem dksX5_votesFor_1 : cX5_votesFor.data.toList.drop 24 = dktX5_votesFor_1 := dk_seg dksX5_votesFor_0 24 rfl rfl
theorem dksX5_votesFor_2 : cX5_votesFor.data.toList.drop 47 = dktX5_votesFor_2 := dk_seg dksX5_votesFor_1 23 rfl rfl
theorem dX5_votesFor_0 : decode cX5_votesFor 0 = .ok (.iconst 0, 1) := dk_3 (dk_at dksX5_votesFor_0 0 rfl rfl)
theorem dX5_votesFor_1 : decode cX5_votesFor 1 = .ok (.istore_n 3, 1) := dk_62 (dk_at dksX5_votesFor_0 1 rfl rfl)
theorem dX5_votesFor_2 : decode cX5_votesFor 2 = .ok (.iconst 0, 1) := dk_3 (dk_at dksX5_votesFor_0 2 rfl rfl)
theorem dX5_votesFor_3 : decode cX5_votesFor 3 = .ok (.istore 4, 2) := dk_54 4 (dk_at dksX5_votesFor_0 3 rfl rfl)
theorem dX5_votesFor_5 : decode cX5_votesFor 5 = .ok (.iload 4, 2) := dk_21 4 (dk_at dksX5_votesFor_0 5 rfl rfl)
theorem dX5_votesFor_7 : decode cX5_votesFor 7 = .ok (.aload_n 0, 1) := dk_42 (dk_at dksX5_votesFor_0 7 rfl rfl)
theorem dX5_votesFor_8 : decode cX5_votesFor 8 = .ok (.invokevirtual 114, 3) := dk_182 0 114 (dk_at dksX5_votesFor_0 8 rfl rfl)
theorem dX5_votesFor_11 : decode cX5_votesFor 11 = .ok (.if_icmp .ge 52, 3) := dk_162 0 52 (dk_at dksX5_votesFor_0 11 rfl rfl)
theorem dX5_votesFor_14 : decode cX5_votesFor 14 = .ok (.iload_n 3, 1) := dk_29 (dk_at dksX5_votesFor_0 14 rfl rfl)
theorem dX5_votesFor_15 : decode cX5_votesFor 15 = .ok (.aload_n 0, 1) := dk_42 (dk_at dksX5_votesFor_0 15 rfl rfl)
theorem dX5_votesFor_16 : decode cX5_votesFor 16 = .ok (.iload 4, 2) := dk_21 4 (dk_at dksX5_votesFor_0 16 rfl rfl)
theorem dX5_votesFor_18 : decode cX5_votesFor 18 = .ok (.invokevirtual 118, 3) := dk_182 0 118 (dk_at dksX5_votesFor_0 18 rfl rfl)
theorem dX5_votesFor_21 : decode cX5_votesFor 21 = .ok (.ifCond .eq 33, 3) := dk_153 0 33 (dk_at dksX5_votesFor_0 21 rfl rfl)
theorem dX5_votesFor_24 : decode cX5_votesFor 24 = .ok (.aload_n 0, 1) := dk_42 (dk_at dksX5_votesFor_1 0 rfl rfl)
theorem dX5_votesFor_25 : decode cX5_votesFor 25 = .ok (.iload 4, 2) := dk_21 4 (dk_at dksX5_votesFor_1 1 rfl rfl)
theorem dX5_votesFor_27 : decode cX5_votesFor 27 = .ok (.iload_n 2, 1) := dk_28 (dk_at dksX5_votesFor_1 3 rfl rfl)
theorem dX5_votesFor_28 : decode cX5_votesFor 28 = .ok (.invokevirtual 136, 3) := dk_182 0 136 (dk_at dksX5_votesFor_1 4 rfl rfl)
theorem dX5_votesFor_31 : decode cX5_votesFor 31 = .ok (.ifCond .eq 23, 3) := dk_153 0 23 (dk_at dksX5_votesFor_1 7 rfl rfl)
theorem dX5_votesFor_34 : decode cX5_votesFor 34 = .ok (.aload_n 0, 1) := dk_42 (dk_at dksX5_votesFor_1 10 rfl rfl)
theorem dX5_votesFor_35 : decode cX5_votesFor 35 = .ok (.iload 4, 2) := dk_21 4 (dk_at dksX5_votesFor_1 11 rfl rfl)
theorem dX5_votesFor_37 : decode cX5_votesFor 37 = .ok (.iload_n 2, 1) := dk_28 (dk_at dksX5_votesFor_1 13 rfl rfl)
theorem dX5_votesFor_38 : decode cX5_votesFor 38 = .ok (.invokevirtual 140, 3) := dk_182 0 140 (dk_at dksX5_votesFor_1 14 rfl rfl)
theorem dX5_votesFor_41 : decode cX5_votesFor 41 = .ok (.aload_n 0, 1) := dk_42 (dk_at dksX5_votesFor_1 17 rfl rfl)
theorem dX5_votesFor_42 : decode cX5_votesFor 42 = .ok (.iload_n 1, 1) := dk_27 (dk_at dksX5_votesFor_1 18 rfl rfl)
theorem dX5_votesFor_43 : decode cX5_votesFor 43 = .ok (.iload_n 2, 1) := dk_28 (dk_at dksX5_votesFor_1 19 rfl rfl)
theorem dX5_votesFor_44 : decode cX5_votesFor 44 = .ok (.invokevirtual 140, 3) := dk_182 0 140 (dk_at dksX5_votesFor_1 20 rfl rfl)
theorem dX5_votesFor_47 : decode cX5_votesFor 47 = .ok (.if_icmp .ne 7, 3) := dk_160 0 7 (dk_at dksX5_votesFor_2 0 rfl rfl)
theorem dX5_votesFor_50 : decode cX5_votesFor 50 = .ok (.iconst 1, 1) := dk_4 (dk_at dksX5_votesFor_2 3 rfl rfl)
theorem dX5_votesFor_51 : decode cX5_votesFor 51 = .ok (.goto 4, 3) := dk_167 0 4 (dk_at dksX5_votesFor_2 4 rfl rfl)
theorem dX5_votesFor_54 : decode cX5_votesFor 54 = .ok (.iconst 0, 1) := dk_3 (dk_at dksX5_votesFor_2 7 rfl rfl)
theorem dX5_votesFor_55 : decode cX5_votesFor 55 = .ok (.iadd, 1) := dk_96 (dk_at dksX5_votesFor_2 8 rfl rfl)
theorem dX5_votesFor_56 : decode cX5_votesFor 56 = .ok (.istore_n 3, 1) := dk_62 (dk_at dksX5_votesFor_2 9 rfl rfl)
theorem dX5_votesFor_57 : decode cX5_votesFor 57 = .ok (.iinc 4 1, 3) := dk_132 4 1 (dk_at dksX5_votesFor_2 10 rfl rfl)
theorem dX5_votesFor_60 : decode cX5_votesFor 60 = .ok (.goto (-55), 3) := dk_167 255 201 (dk_at dksX5_votesFor_2 13 rfl rfl)
theorem dX5_votesFor_63 : decode cX5_votesFor 63 = .ok (.iload_n 3, 1) := dk_29 (dk_at dksX5_votesFor_2 16 rfl rfl)
theorem dX5_votesFor_64 : decode cX5_votesFor 64 = .ok (.ireturn, 1) := dk_172 (dk_at dksX5_votesFor_2 17 rfl rfl)
def dkwX5_isActive_0 : List UInt8 := [42, 27, 5, 182, 0, 53, 4, 160, 0, 7, 4, 167, 0, 4, 3, 172]
abbrev dktX5_isActive_0 : List UInt8 := dkwX5_isActive_0 ++ []
theorem dksX5_isActive_0 : cX5_isActive.data.toList.drop 0 = dktX5_isActive_0 := by decide +kernel
theorem dX5_isActive_0 : decode cX5_isActive 0 = .ok (.aload_n 0, 1) := dk_42 (dk_at dksX5_isActive_0 0 rfl rfl)
theorem dX5_isActive_1 : decode cX5_isActive 1 = .ok (.iload_n 1, 1) := dk_27 (dk_at dksX5_isActive_0 1 rfl rfl)
theorem dX5_isActive_2 : decode cX5_isActive 2 = .ok (.iconst 2, 1) := dk_5 (dk_at dksX5_isActive_0 2 rfl rfl)
theorem dX5_isActive_3 : decode cX5_isActive 3 = .ok (.invokevirtual 53, 3) := dk_182 0 53 (dk_at dksX5_isActive_0 3 rfl rfl)
theorem dX5_isActive_6 : decode cX5_isActive 6 = .ok (.iconst 1, 1) := dk_4 (dk_at dksX5_isActive_0 6 rfl rfl)
theorem dX5_isActive_7 : decode cX5_isActive 7 = .ok (.if_icmp .ne 7, 3) := dk_160 0 7 (dk_at dksX5_isActive_0 7 rfl rfl)
theorem dX5_isActive_10 : decode cX5_isActive 10 = .ok (.iconst 1, 1) := dk_4 (dk_at dksX5_isActive_0 10 rfl rfl)
theorem dX5_isActive_11 : decode cX5_isActive 11 = .ok (.goto 4, 3) := dk_167 0 4 (dk_at dksX5_isActive_0 11 rfl rfl)
theorem dX5_isActive_14 : decode cX5_isActive 14 = .ok (.iconst 0, 1) := dk_3 (dk_at dksX5_isActive_0 14 rfl rfl)
theorem dX5_isActive_15 : decode cX5_isActive 15 = .ok (.ireturn, 1) := dk_172 (dk_at dksX5_isActive_0 15 rfl rfl)
def dkwX5_winner_0 : List UInt8 := [42, 3, 181, 0, 47, 42, 27, 182, 0, 146, 172]
abbrev dktX5_winner_0 : List UInt8 := dkwX5_winner_0 ++ []
theorem dksX5_winner_0 : cX5_winner.data.toList.drop 0 = dktX5_winner_0 := by decide +kernel
theorem dX5_winner_0 : decode cX5_winner 0 = .ok (.aload_n 0, 1) := dk_42 (dk_at dksX5_winner_0 0 rfl rfl)
theorem dX5_winner_1 : decode cX5_winner 1 = .ok (.iconst 0, 1) := dk_3 (dk_at dksX5_winner_0 1 rfl rfl)
theorem dX5_winner_2 : decode cX5_winner 2 = .ok (.putfield 47, 3) := dk_181 0 47 (dk_at dksX5_winner_0 2 rfl rfl)
theorem dX5_winner_5 : decode cX5_winner 5 = .ok (.aload_n 0, 1) := dk_42 (dk_at dksX5_winner_0 5 rfl rfl)
theorem dX5_winner_6 : decode cX5_winner 6 = .ok (.iload_n 1, 1) := dk_27 (dk_at dksX5_winner_0 6 rfl rfl)
theorem dX5_winner_7 : decode cX5_winner 7 = .ok (.invokevirtual 146, 3) := dk_182 0 146 (dk_at dksX5_winner_0 7 rfl rfl)
theorem dX5_winner_10 : decode cX5_winner 10 = .ok (.ireturn, 1) := dk_172 (dk_at dksX5_winner_0 10 rfl rfl)
def dkwX5_wins_3 : List UInt8 := [132, 4, 1, 167, 255, 192, 29, 42, 180, 0, 19, 4, 46, 162, 0, 7, 2, 167, 0, 4, 28, 172]
abbrev dktX5_wins_3 : List UInt8 := dkwX5_wins_3 ++ []
def dkwX5_wins_2 : List UInt8 := [54, 5, 21, 5, 29, 164, 0, 8, 21, 4, 167, 0, 4, 28, 61, 29, 21, 5, 184, 0, 122, 62]
abbrev dktX5_wins_2 : List UInt8 := dkwX5_wins_2 ++ dktX5_wins_3
def dkwX5_wins_1 : List UInt8 := [153, 0, 23, 42, 21, 4, 27, 182, 0, 136, 153, 0, 13, 42, 21, 4, 27, 182, 0, 143, 167, 0, 4, 3]
abbrev dktX5_wins_1 : List UInt8 := dkwX5_wins_1 ++ dktX5_wins_2
def dkwX5_wins_0 : List UInt8 := [2, 61, 3, 62, 3, 54, 4, 21, 4, 42, 182, 0, 114, 162, 0, 61, 42, 21, 4, 182, 0, 118]
abbrev dktX5_wins_0 : List UInt8 := dkwX5_wins_0 ++ dktX5_wins_1
theorem dksX5_wins_0 : cX5_wins.data.toList.drop 0 = dktX5_wins_0 := by decide +kernel
theorem dksX5_wins_1 : cX5_wins.data.toList.drop 22 = dktX5_wins_1 := dk_seg dksX5_wins_0 22 rfl rfl
theorem dksX5_wins_2 : cX5_wins.data.toList.drop 46 = dktX5_wins_2 := dk_seg dksX5_wins_1 24 rfl rfl
theorem dksX5_wins_3 : cX5_wins.data.toList.drop 68 = dktX5_wins_3 := dk_seg dksX5_wins_2 22 rfl rfl
theorem dX5_wins_0 : decode cX5_wins 0 = .ok (.iconst (-1), 1) := dk_2 (dk_at dksX5_wins_0 0 rfl rfl)
theorem dX5_wins_1 : decode cX5_wins 1 = .ok (.istore_n 2, 1) := dk_61 (dk_at dksX5_wins_0 1 rfl rfl)
theorem dX5_wins_2 : decode cX5_wins 2 = .ok (.iconst 0, 1) := dk_3 (dk_at dksX5_wins_0 2 rfl rfl)
theorem dX5_wins_3 : decode cX5_wins 3 = .ok (.istore_n 3, 1) := dk_62 (dk_at dksX5_wins_0 3 rfl rfl)
theorem dX5_wins_4 : decode cX5_wins 4 = .ok (.iconst 0, 1) := dk_3 (dk_at dksX5_wins_0 4 rfl rfl)
theorem dX5_wins_5 : decode cX5_wins 5 = .ok (.istore 4, 2) := dk_54 4 (dk_at dksX5_wins_0 5 rfl rfl)
theorem dX5_wins_7 : decode cX5_wins 7 = .ok (.iload 4, 2) := dk_21 4 (dk_at dksX5_wins_0 7 rfl rfl)
theorem dX5_wins_9 : decode cX5_wins 9 = .ok (.aload_n 0, 1) := dk_42 (dk_at dksX5_wins_0 9 rfl rfl)
theorem dX5_wins_10 : decode cX5_wins 10 = .ok (.invokevirtual 114, 3) := dk_182 0 114 (dk_at dksX5_wins_0 10 rfl rfl)
theorem dX5_wins_13 : decode cX5_wins 13 = .ok (.if_icmp .ge 61, 3) := dk_162 0 61 (dk_at dksX5_wins_0 13 rfl rfl)
theorem dX5_wins_16 : decode cX5_wins 16 = .ok (.aload_n 0, 1) := dk_42 (dk_at dksX5_wins_0 16 rfl rfl)
theorem dX5_wins_17 : decode cX5_wins 17 = .ok (.iload 4, 2) := dk_21 4 (dk_at dksX5_wins_0 17 rfl rfl)
theorem dX5_wins_19 : decode cX5_wins 19 = .ok (.invokevirtual 118, 3) := dk_182 0 118 (dk_at dksX5_wins_0 19 rfl rfl)
theorem dX5_wins_22 : decode cX5_wins 22 = .ok (.ifCond .eq 23, 3) := dk_153 0 23 (dk_at dksX5_wins_1 0 rfl rfl)
theorem dX5_wins_25 : decode cX5_wins 25 = .ok (.aload_n 0, 1) := dk_42 (dk_at dksX5_wins_1 3 rfl rfl)
theorem dX5_wins_26 : decode cX5_wins 26 = .ok (.iload 4, 2) := dk_21 4 (dk_at dksX5_wins_1 4 rfl rfl)
theorem dX5_wins_28 : decode cX5_wins 28 = .ok (.iload_n 1, 1) := dk_27 (dk_at dksX5_wins_1 6 rfl rfl)
theorem dX5_wins_29 : decode cX5_wins 29 = .ok (.invokevirtual 136, 3) := dk_182 0 136 (dk_at dksX5_wins_1 7 rfl rfl)
theorem dX5_wins_32 : decode cX5_wins 32 = .ok (.ifCond .eq 13, 3) := dk_153 0 13 (dk_at dksX5_wins_1 10 rfl rfl)
theorem dX5_wins_35 : decode cX5_wins 35 = .ok (.aload_n 0, 1) := dk_42 (dk_at dksX5_wins_1 13 rfl rfl)
theorem dX5_wins_36 : decode cX5_wins 36 = .ok (.iload 4, 2) := dk_21 4 (dk_at dksX5_wins_1 14 rfl rfl)
theorem dX5_wins_38 : decode cX5_wins 38 = .ok (.iload_n 1, 1) := dk_27 (dk_at dksX5_wins_1 16 rfl rfl)
theorem dX5_wins_39 : decode cX5_wins 39 = .ok (.invokevirtual 143, 3) := dk_182 0 143 (dk_at dksX5_wins_1 17 rfl rfl)
theorem dX5_wins_42 : decode cX5_wins 42 = .ok (.goto 4, 3) := dk_167 0 4 (dk_at dksX5_wins_1 20 rfl rfl)
theorem dX5_wins_45 : decode cX5_wins 45 = .ok (.iconst 0, 1) := dk_3 (dk_at dksX5_wins_1 23 rfl rfl)
theorem dX5_wins_46 : decode cX5_wins 46 = .ok (.istore 5, 2) := dk_54 5 (dk_at dksX5_wins_2 0 rfl rfl)
theorem dX5_wins_48 : decode cX5_wins 48 = .ok (.iload 5, 2) := dk_21 5 (dk_at dksX5_wins_2 2 rfl rfl)
theorem dX5_wins_50 : decode cX5_wins 50 = .ok (.iload_n 3, 1) := dk_29 (dk_at dksX5_wins_2 4 rfl rfl)
theorem dX5_wins_51 : decode cX5_wins 51 = .ok (.if_icmp .le 8, 3) := dk_164 0 8 (dk_at dksX5_wins_2 5 rfl rfl)
theorem dX5_wins_54 : decode cX5_wins 54 = .ok (.iload 4, 2) := dk_21 4 (dk_at dksX5_wins_2 8 rfl rfl)
theorem dX5_wins_56 : decode cX5_wins 56 = .ok (.goto 4, 3) := dk_167 0 4 (dk_at dksX5_wins_2 10 rfl rfl)
theorem dX5_wins_59 : decode cX5_wins 59 = .ok (.iload_n 2, 1) := dk_28 (dk_at dksX5_wins_2 13 rfl rfl)
theorem dX5_wins_60 : decode cX5_wins 60 = .ok (.istore_n 2, 1) := dk_61 (dk_at dksX5_wins_2 14 rfl rfl)
theorem dX5_wins_61 : decode cX5_wins 61 = .ok (.iload_n 3, 1) := dk_29 (dk_at dksX5_wins_2 15 rfl rfl)
theorem dX5_wins_62 : decode cX5_wins 62 = .ok (.iload 5, 2) := dk_21 5 (dk_at dksX5_wins_2 16 rfl rfl)
theorem dX5_wins_64 : decode cX5_wins 64 = .ok (.invokestatic 122, 3) := dk_184 0 122 (dk_at dksX5_wins_2 18 rfl rfl)
theorem dX5_wins_67 : decode cX5_wins 67 = .ok (.istore_n 3, 1) := dk_62 (dk_at dksX5_wins_2 21 rfl rfl)
theorem dX5_wins_68 : decode cX5_wins 68 = .ok (.iinc 4 1, 3) := dk_132 4 1 (dk_at dksX5_wins_3 0 rfl rfl)
theorem dX5_wins_71 : decode cX5_wins 71 = .ok (.goto (-64), 3) := dk_167 255 192 (dk_at dksX5_wins_3 3 rfl rfl)
theorem dX5_wins_74 : decode cX5_wins 74 = .ok (.iload_n 3, 1) := dk_29 (dk_at dksX5_wins_3 6 rfl rfl)
theorem dX5_wins_75 : decode cX5_wins 75 = .ok (.aload_n 0, 1) := dk_42 (dk_at dksX5_wins_3 7 rfl rfl)
theorem dX5_wins_76 : decode cX5_wins 76 = .ok (.getfield 19, 3) := dk_180 0 19 (dk_at dksX5_wins_3 8 rfl rfl)
theorem dX5_wins_79 : decode cX5_wins 79 = .ok (.iconst 1, 1) := dk_4 (dk_at dksX5_wins_3 11 rfl rfl)
theorem dX5_wins_80 : decode cX5_wins 80 = .ok (.iaload, 1) := dk_46 (dk_at dksX5_wins_3 12 rfl rfl)
theorem dX5_wins_81 : decode cX5_wins 81 = .ok (.if_icmp .ge 7, 3) := dk_162 0 7 (dk_at dksX5_wins_3 13 rfl rfl)
theorem dX5_wins_84 : decode cX5_wins 84 = .ok (.iconst (-1), 1) := dk_2 (dk_at dksX5_wins_3 16 rfl rfl)
theorem dX5_wins_85 : decode cX5_wins 85 = .ok (.goto 4, 3) := dk_167 0 4 (dk_at dksX5_wins_3 17 rfl rfl)
theorem dX5_wins_88 : decode cX5_wins 88 = .ok (.iload_n 2, 1) := dk_28 (dk_at dksX5_wins_3 20 rfl rfl)
theorem dX5_wins_89 : decode cX5_wins 89 = .ok (.ireturn, 1) := dk_172 (dk_at dksX5_wins_3 21 rfl rfl)
def dkwX5_isWrong_1 : List UInt8 := [3, 172]
abbrev dktX5_isWrong_1 : List UInt8 := dkwX5_isWrong_1 ++ []
def dkwX5_isWrong_0 : List UInt8 := [42, 42, 27, 182, 1, 33, 182, 1, 36, 153, 0, 15, 42, 27, 182, 0, 149, 153, 0, 7, 4, 167, 0, 4]
abbrev dktX5_isWrong_0 : List UInt8 := dkwX5_isWrong_0 ++ dktX5_isWrong_1
theorem dksX5_isWrong_0 : cX5_isWrong.data.toList.drop 0 = dktX5_isWrong_0 := by decide +kernel
theorem dksX5_isWrong_1 : cX5_isWrong.data.toList.drop 24 = dktX5_isWrong_1 := dk_seg dksX5_isWrong_0 24 rfl rfl
theorem dX5_isWrong_0 : decode cX5_isWrong 0 = .ok (.aload_n 0, 1) := dk_42 (dk_at dksX5_isWrong_0 0 rfl rfl)
theorem dX5_isWrong_1 : decode cX5_isWrong 1 = .ok (.aload_n 0, 1) := dk_42 (dk_at dksX5_isWrong_0 1 rfl rfl)
theorem dX5_isWrong_2 : decode cX5_isWrong 2 = .ok (.iload_n 1, 1) := dk_27 (dk_at dksX5_isWrong_0 2 rfl rfl)
theorem dX5_isWrong_3 : decode cX5_isWrong 3 = .ok (.invokevirtual 289, 3) := dk_182 1 33 (dk_at dksX5_isWrong_0 3 rfl rfl)
theorem dX5_isWrong_6 : decode cX5_isWrong 6 = .ok (.invokevirtual 292, 3) := dk_182 1 36 (dk_at dksX5_isWrong_0 6 rfl rfl)
theorem dX5_isWrong_9 : decode cX5_isWrong 9 = .ok (.ifCond .eq 15, 3) := dk_153 0 15 (dk_at dksX5_isWrong_0 9 rfl rfl)
theorem dX5_isWrong_12 : decode cX5_isWrong 12 = .ok (.aload_n 0, 1) := dk_42 (dk_at dksX5_isWrong_0 12 rfl rfl)
theorem dX5_isWrong_13 : decode cX5_isWrong 13 = .ok (.iload_n 1, 1) := dk_27 (dk_at dksX5_isWrong_0 13 rfl rfl)
theorem dX5_isWrong_14 : decode cX5_isWrong 14 = .ok (.invokevirtual 149, 3) := dk_182 0 149 (dk_at dksX5_isWrong_0 14 rfl rfl)
theorem dX5_isWrong_17 : decode cX5_isWrong 17 = .ok (.ifCond .eq 7, 3) := dk_153 0 7 (dk_at dksX5_isWrong_0 17 rfl rfl)
theorem dX5_isWrong_20 : decode cX5_isWrong 20 = .ok (.iconst 1, 1) := dk_4 (dk_at dksX5_isWrong_0 20 rfl rfl)
theorem dX5_isWrong_21 : decode cX5_isWrong 21 = .ok (.goto 4, 3) := dk_167 0 4 (dk_at dksX5_isWrong_0 21 rfl rfl)
theorem dX5_isWrong_24 : decode cX5_isWrong 24 = .ok (.iconst 0, 1) := dk_3 (dk_at dksX5_isWrong_1 0 rfl rfl)
theorem dX5_isWrong_25 : decode cX5_isWrong 25 = .ok (.ireturn, 1) := dk_172 (dk_at dksX5_isWrong_1 1 rfl rfl)
def dkwX5_isOff_1 : List UInt8 := [159, 0, 22, 42, 27, 28, 182, 0, 140, 42, 29, 28, 182, 0, 140, 159, 0, 7, 4, 167, 0, 4, 3, 172]
abbrev dktX5_isOff_1 : List UInt8 := dkwX5_isOff_1 ++ []
def dkwX5_isOff_0 : List UInt8 := [42, 27, 182, 0, 92, 61, 42, 28, 182, 0, 146, 62, 42, 27, 182, 0, 118, 153, 0, 27, 29, 2]
abbrev dktX5_isOff_0 : List UInt8 := dkwX5_isOff_0 ++ dktX5_isOff_1
theorem dksX5_isOff_0 : cX5_isOff.data.toList.drop 0 = dktX5_isOff_0 := by decide +kernel
theorem dksX5_isOff_1 : cX5_isOff.data.toList.drop 22 = dktX5_isOff_1 := dk_seg dksX5_isOff_0 22 rfl rfl
theorem dX5_isOff_0 : decode cX5_isOff 0 = .ok (.aload_n 0, 1) := dk_42 (dk_at dksX5_isOff_0 0 rfl rfl)
theorem dX5_isOff_1 : decode cX5_isOff 1 = .ok (.iload_n 1, 1) := dk_27 (dk_at dksX5_isOff_0 1 rfl rfl)
theorem dX5_isOff_2 : decode cX5_isOff 2 = .ok (.invokevirtual 92, 3) := dk_182 0 92 (dk_at dksX5_isOff_0 2 rfl rfl)
theorem dX5_isOff_5 : decode cX5_isOff 5 = .ok (.istore_n 2, 1) := dk_61 (dk_at dksX5_isOff_0 5 rfl rfl)
theorem dX5_isOff_6 : decode cX5_isOff 6 = .ok (.aload_n 0, 1) := dk_42 (dk_at dksX5_isOff_0 6 rfl rfl)
theorem dX5_isOff_7 : decode cX5_isOff 7 = .ok (.iload_n 2, 1) := dk_28 (dk_at dksX5_isOff_0 7 rfl rfl)
theorem dX5_isOff_8 : decode cX5_isOff 8 = .ok (.invokevirtual 146, 3) := dk_182 0 146 (dk_at dksX5_isOff_0 8 rfl rfl)
theorem dX5_isOff_11 : decode cX5_isOff 11 = .ok (.istore_n 3, 1) := dk_62 (dk_at dksX5_isOff_0 11 rfl rfl)
theorem dX5_isOff_12 : decode cX5_isOff 12 = .ok (.aload_n 0, 1) := dk_42 (dk_at dksX5_isOff_0 12 rfl rfl)
theorem dX5_isOff_13 : decode cX5_isOff 13 = .ok (.iload_n 1, 1) := dk_27 (dk_at dksX5_isOff_0 13 rfl rfl)
theorem dX5_isOff_14 : decode cX5_isOff 14 = .ok (.invokevirtual 118, 3) := dk_182 0 118 (dk_at dksX5_isOff_0 14 rfl rfl)
theorem dX5_isOff_17 : decode cX5_isOff 17 = .ok (.ifCond .eq 27, 3) := dk_153 0 27 (dk_at dksX5_isOff_0 17 rfl rfl)
theorem dX5_isOff_20 : decode cX5_isOff 20 = .ok (.iload_n 3, 1) := dk_29 (dk_at dksX5_isOff_0 20 rfl rfl)
theorem dX5_isOff_21 : decode cX5_isOff 21 = .ok (.iconst (-1), 1) := dk_2 (dk_at dksX5_isOff_0 21 rfl rfl)
theorem dX5_isOff_22 : decode cX5_isOff 22 = .ok (.if_icmp .eq 22, 3) := dk_159 0 22 (dk_at dksX5_isOff_1 0 rfl rfl)
theorem dX5_isOff_25 : decode cX5_isOff 25 = .ok (.aload_n 0, 1) := dk_42 (dk_at dksX5_isOff_1 3 rfl rfl)
theorem dX5_isOff_26 : decode cX5_isOff 26 = .ok (.iload_n 1, 1) := dk_27 (dk_at dksX5_isOff_1 4 rfl rfl)
theorem dX5_isOff_27 : decode cX5_isOff 27 = .ok (.iload_n 2, 1) := dk_28 (dk_at dksX5_isOff_1 5 rfl rfl)
theorem dX5_isOff_28 : decode cX5_isOff 28 = .ok (.invokevirtual 140, 3) := dk_182 0 140 (dk_at dksX5_isOff_1 6 rfl rfl)
theorem dX5_isOff_31 : decode cX5_isOff 31 = .ok (.aload_n 0, 1) := dk_42 (dk_at dksX5_isOff_1 9 rfl rfl)
theorem dX5_isOff_32 : decode cX5_isOff 32 = .ok (.iload_n 3, 1) := dk_29 (dk_at dksX5_isOff_1 10 rfl rfl)
theorem dX5_isOff_33 : decode cX5_isOff 33 = .ok (.iload_n 2, 1) := dk_28 (dk_at dksX5_isOff_1 11 rfl rfl)
theorem dX5_isOff_34 : decode cX5_isOff 34 = .ok (.invokevirtual 140, 3) := dk_182 0 140 (dk_at dksX5_isOff_1 12 rfl rfl)
theorem dX5_isOff_37 : decode cX5_isOff 37 = .ok (.if_icmp .eq 7, 3) := dk_159 0 7 (dk_at dksX5_isOff_1 15 rfl rfl)
theorem dX5_isOff_40 : decode cX5_isOff 40 = .ok (.iconst 1, 1) := dk_4 (dk_at dksX5_isOff_1 18 rfl rfl)
theorem dX5_isOff_41 : decode cX5_isOff 41 = .ok (.goto 4, 3) := dk_167 0 4 (dk_at dksX5_isOff_1 19 rfl rfl)
theorem dX5_isOff_44 : decode cX5_isOff 44 = .ok (.iconst 0, 1) := dk_3 (dk_at dksX5_isOff_1 22 rfl rfl)
theorem dX5_isOff_45 : decode cX5_isOff 45 = .ok (.ireturn, 1) := dk_172 (dk_at dksX5_isOff_1 23 rfl rfl)
def dkwX5_wrongMembers_1 : List UInt8 := [153, 0, 9, 4, 28, 120, 167, 0, 4, 3, 128, 60, 132, 2, 1, 167, 255, 227, 27, 172]
abbrev dktX5_wrongMembers_1 : List UInt8 := dkwX5_wrongMembers_1 ++ []
def dkwX5_wrongMembers_0 : List UInt8 := [42, 3, 181, 0, 47, 3, 60, 3, 61, 28, 42, 182, 0, 114, 162, 0, 27, 27, 42, 28, 182, 0, 149]
abbrev dktX5_wrongMembers_0 : List UInt8 := dkwX5_wrongMembers_0 ++ dktX5_wrongMembers_1
theorem dksX5_wrongMembers_0 : cX5_wrongMembers.data.toList.drop 0 = dktX5_wrongMembers_0 := by decide +kernel
theorem dksX5_wrongMembers_1 : cX5_wrongMembers.data.toList.drop 23 = dktX5_wrongMembers_1 := dk_seg dksX5_wrongMembers_0 23 rfl rfl
theorem dX5_wrongMembers_0 : decode cX5_wrongMembers 0 = .ok (.aload_n 0, 1) := dk_42 (dk_at dksX5_wrongMembers_0 0 rfl rfl)
theorem dX5_wrongMembers_1 : decode cX5_wrongMembers 1 = .ok (.iconst 0, 1) := dk_3 (dk_at dksX5_wrongMembers_0 1 rfl rfl)
theorem dX5_wrongMembers_2 : decode cX5_wrongMembers 2 = .ok (.putfield 47, 3) := dk_181 0 47 (dk_at dksX5_wrongMembers_0 2 rfl rfl)
theorem dX5_wrongMembers_5 : decode cX5_wrongMembers 5 = .ok (.iconst 0, 1) := dk_3 (dk_at dksX5_wrongMembers_0 5 rfl rfl)
theorem dX5_wrongMembers_6 : decode cX5_wrongMembers 6 = .ok (.istore_n 1, 1) := dk_60 (dk_at dksX5_wrongMembers_0 6 rfl rfl)
theorem dX5_wrongMembers_7 : decode cX5_wrongMembers 7 = .ok (.iconst 0, 1) := dk_3 (dk_at dksX5_wrongMembers_0 7 rfl rfl)
theorem dX5_wrongMembers_8 : decode cX5_wrongMembers 8 = .ok (.istore_n 2, 1) := dk_61 (dk_at dksX5_wrongMembers_0 8 rfl rfl)
theorem dX5_wrongMembers_9 : decode cX5_wrongMembers 9 = .ok (.iload_n 2, 1) := dk_28 (dk_at dksX5_wrongMembers_0 9 rfl rfl)
theorem dX5_wrongMembers_10 : decode cX5_wrongMembers 10 = .ok (.aload_n 0, 1) := dk_42 (dk_at dksX5_wrongMembers_0 10 rfl rfl)
theorem dX5_wrongMembers_11 : decode cX5_wrongMembers 11 = .ok (.invokevirtual 114, 3) := dk_182 0 114 (dk_at dksX5_wrongMembers_0 11 rfl rfl)
theorem dX5_wrongMembers_14 : decode cX5_wrongMembers 14 = .ok (.if_icmp .ge 27, 3) := dk_162 0 27 (dk_at dksX5_wrongMembers_0 14 rfl rfl)
theorem dX5_wrongMembers_17 : decode cX5_wrongMembers 17 = .ok (.iload_n 1, 1) := dk_27 (dk_at dksX5_wrongMembers_0 17 rfl rfl)
theorem dX5_wrongMembers_18 : decode cX5_wrongMembers 18 = .ok (.aload_n 0, 1) := dk_42 (dk_at dksX5_wrongMembers_0 18 rfl rfl)
theorem dX5_wrongMembers_19 : decode cX5_wrongMembers 19 = .ok (.iload_n 2, 1) := dk_28 (dk_at dksX5_wrongMembers_0 19 rfl rfl)
theorem dX5_wrongMembers_20 : decode cX5_wrongMembers 20 = .ok (.invokevirtual 149, 3) := dk_182 0 149 (dk_at dksX5_wrongMembers_0 20 rfl rfl)
theorem dX5_wrongMembers_23 : decode cX5_wrongMembers 23 = .ok (.ifCond .eq 9, 3) := dk_153 0 9 (dk_at dksX5_wrongMembers_1 0 rfl rfl)
theorem dX5_wrongMembers_26 : decode cX5_wrongMembers 26 = .ok (.iconst 1, 1) := dk_4 (dk_at dksX5_wrongMembers_1 3 rfl rfl)
theorem dX5_wrongMembers_27 : decode cX5_wrongMembers 27 = .ok (.iload_n 2, 1) := dk_28 (dk_at dksX5_wrongMembers_1 4 rfl rfl)
theorem dX5_wrongMembers_28 : decode cX5_wrongMembers 28 = .ok (.ishl, 1) := dk_120 (dk_at dksX5_wrongMembers_1 5 rfl rfl)
theorem dX5_wrongMembers_29 : decode cX5_wrongMembers 29 = .ok (.goto 4, 3) := dk_167 0 4 (dk_at dksX5_wrongMembers_1 6 rfl rfl)
theorem dX5_wrongMembers_32 : decode cX5_wrongMembers 32 = .ok (.iconst 0, 1) := dk_3 (dk_at dksX5_wrongMembers_1 9 rfl rfl)
theorem dX5_wrongMembers_33 : decode cX5_wrongMembers 33 = .ok (.ior, 1) := dk_128 (dk_at dksX5_wrongMembers_1 10 rfl rfl)
theorem dX5_wrongMembers_34 : decode cX5_wrongMembers 34 = .ok (.istore_n 1, 1) := dk_60 (dk_at dksX5_wrongMembers_1 11 rfl rfl)
theorem dX5_wrongMembers_35 : decode cX5_wrongMembers 35 = .ok (.iinc 2 1, 3) := dk_132 2 1 (dk_at dksX5_wrongMembers_1 12 rfl rfl)
theorem dX5_wrongMembers_38 : decode cX5_wrongMembers 38 = .ok (.goto (-29), 3) := dk_167 255 227 (dk_at dksX5_wrongMembers_1 15 rfl rfl)
theorem dX5_wrongMembers_41 : decode cX5_wrongMembers 41 = .ok (.iload_n 1, 1) := dk_27 (dk_at dksX5_wrongMembers_1 18 rfl rfl)
theorem dX5_wrongMembers_42 : decode cX5_wrongMembers 42 = .ok (.ireturn, 1) := dk_172 (dk_at dksX5_wrongMembers_1 19 rfl rfl)
def dkwX5_donorFor_1 : List UInt8 := [167, 0, 4, 3, 172]
abbrev dktX5_donorFor_1 : List UInt8 := dkwX5_donorFor_1 ++ []
def dkwX5_donorFor_0 : List UInt8 := [42, 42, 27, 182, 1, 33, 182, 1, 36, 153, 0, 16, 42, 42, 27, 182, 0, 92, 27, 182, 0, 152]
abbrev dktX5_donorFor_0 : List UInt8 := dkwX5_donorFor_0 ++ dktX5_donorFor_1
theorem dksX5_donorFor_0 : cX5_donorFor.data.toList.drop 0 = dktX5_donorFor_0 := by decide +kernel
theorem dksX5_donorFor_1 : cX5_donorFor.data.toList.drop 22 = dktX5_donorFor_1 := dk_seg dksX5_donorFor_0 22 rfl rfl
theorem dX5_donorFor_0 : decode cX5_donorFor 0 = .ok (.aload_n 0, 1) := dk_42 (dk_at dksX5_donorFor_0 0 rfl rfl)
theorem dX5_donorFor_1 : decode cX5_donorFor 1 = .ok (.aload_n 0, 1) := dk_42 (dk_at dksX5_donorFor_0 1 rfl rfl)
theorem dX5_donorFor_2 : decode cX5_donorFor 2 = .ok (.iload_n 1, 1) := dk_27 (dk_at dksX5_donorFor_0 2 rfl rfl)
theorem dX5_donorFor_3 : decode cX5_donorFor 3 = .ok (.invokevirtual 289, 3) := dk_182 1 33 (dk_at dksX5_donorFor_0 3 rfl rfl)
theorem dX5_donorFor_6 : decode cX5_donorFor 6 = .ok (.invokevirtual 292, 3) := dk_182 1 36 (dk_at dksX5_donorFor_0 6 rfl rfl)
theorem dX5_donorFor_9 : decode cX5_donorFor 9 = .ok (.ifCond .eq 16, 3) := dk_153 0 16 (dk_at dksX5_donorFor_0 9 rfl rfl)
theorem dX5_donorFor_12 : decode cX5_donorFor 12 = .ok (.aload_n 0, 1) := dk_42 (dk_at dksX5_donorFor_0 12 rfl rfl)
theorem dX5_donorFor_13 : decode cX5_donorFor 13 = .ok (.aload_n 0, 1) := dk_42 (dk_at dksX5_donorFor_0 13 rfl rfl)
theorem dX5_donorFor_14 : decode cX5_donorFor 14 = .ok (.iload_n 1, 1) := dk_27 (dk_at dksX5_donorFor_0 14 rfl rfl)
theorem dX5_donorFor_15 : decode cX5_donorFor 15 = .ok (.invokevirtual 92, 3) := dk_182 0 92 (dk_at dksX5_donorFor_0 15 rfl rfl)
theorem dX5_donorFor_18 : decode cX5_donorFor 18 = .ok (.iload_n 1, 1) := dk_27 (dk_at dksX5_donorFor_0 18 rfl rfl)
theorem dX5_donorFor_19 : decode cX5_donorFor 19 = .ok (.invokevirtual 152, 3) := dk_182 0 152 (dk_at dksX5_donorFor_0 19 rfl rfl)
theorem dX5_donorFor_22 : decode cX5_donorFor 22 = .ok (.goto 4, 3) := dk_167 0 4 (dk_at dksX5_donorFor_1 0 rfl rfl)
theorem dX5_donorFor_25 : decode cX5_donorFor 25 = .ok (.iconst 0, 1) := dk_3 (dk_at dksX5_donorFor_1 3 rfl rfl)
theorem dX5_donorFor_26 : decode cX5_donorFor 26 = .ok (.ireturn, 1) := dk_172 (dk_at dksX5_donorFor_1 4 rfl rfl)
def dkwX5_giver_4 : List UInt8 := [21, 5, 54, 4, 132, 5, 1, 167, 255, 168, 21, 4, 172]
abbrev dktX5_giver_4 : List UInt8 := dkwX5_giver_4 ++ []
def dkwX5_giver_3 : List UInt8 := [21, 4, 2, 159, 0, 20, 42, 21, 5, 6, 182, 0, 53, 42, 21, 4, 6, 182, 0, 53, 162, 0, 7]
abbrev dktX5_giver_3 : List UInt8 := dkwX5_giver_3 ++ dktX5_giver_4
def dkwX5_giver_2 : List UInt8 := [27, 160, 0, 49, 42, 21, 5, 27, 182, 0, 140, 42, 29, 27, 182, 0, 140, 159, 0, 6, 167, 0, 30]
abbrev dktX5_giver_2 : List UInt8 := dkwX5_giver_2 ++ dktX5_giver_3
def dkwX5_giver_1 : List UInt8 := [159, 0, 80, 21, 5, 28, 159, 0, 68, 42, 21, 5, 182, 0, 118, 153, 0, 59, 42, 21, 5, 182, 0, 92]
abbrev dktX5_giver_1 : List UInt8 := dkwX5_giver_1 ++ dktX5_giver_2
def dkwX5_giver_0 : List UInt8 := [42, 27, 182, 0, 146, 62, 2, 54, 4, 3, 54, 5, 21, 5, 42, 182, 0, 114, 162, 0, 85, 29, 2]
abbrev dktX5_giver_0 : List UInt8 := dkwX5_giver_0 ++ dktX5_giver_1
theorem dksX5_giver_0 : cX5_giver.data.toList.drop 0 = dktX5_giver_0 := by decide +kernel
theorem dksX5_giver_1 : cX5_giver.data.toList.drop 23 = dktX5_giver_1 := dk_seg dksX5_giver_0 23 rfl rfl
theorem dksX5_giver_2 : cX5_giver.data.toList.drop 47 = dktX5_giver_2 := dk_seg dksX5_giver_1 24 rfl rfl
theorem dksX5_giver_3 : cX5_giver.data.toList.drop 70 = dktX5_giver_3 := dk_seg dksX5_giver_2 23 rfl rfl
theorem dksX5_giver_4 : cX5_giver.data.toList.drop 93 = dktX5_giver_4 := dk_seg dksX5_giver_3 23 rfl rfl
theorem dX5_giver_0 : decode cX5_giver 0 = .ok (.aload_n 0, 1) := dk_42 (dk_at dksX5_giver_0 0 rfl rfl)
theorem dX5_giver_1 : decode cX5_giver 1 = .ok (.iload_n 1, 1) := dk_27 (dk_at dksX5_giver_0 1 rfl rfl)
theorem dX5_giver_2 : decode cX5_giver 2 = .ok (.invokevirtual 146, 3) := dk_182 0 146 (dk_at dksX5_giver_0 2 rfl rfl)
theorem dX5_giver_5 : decode cX5_giver 5 = .ok (.istore_n 3, 1) := dk_62 (dk_at dksX5_giver_0 5 rfl rfl)
theorem dX5_giver_6 : decode cX5_giver 6 = .ok (.iconst (-1), 1) := dk_2 (dk_at dksX5_giver_0 6 rfl rfl)
theorem dX5_giver_7 : decode cX5_giver 7 = .ok (.istore 4, 2) := dk_54 4 (dk_at dksX5_giver_0 7 rfl rfl)
theorem dX5_giver_9 : decode cX5_giver 9 = .ok (.iconst 0, 1) := dk_3 (dk_at dksX5_giver_0 9 rfl rfl)
theorem dX5_giver_10 : decode cX5_giver 10 = .ok (.istore 5, 2) := dk_54 5 (dk_at dksX5_giver_0 10 rfl rfl)
theorem dX5_giver_12 : decode cX5_giver 12 = .ok (.iload 5, 2) := dk_21 5 (dk_at dksX5_giver_0 12 rfl rfl)
theorem dX5_giver_14 : decode cX5_giver 14 = .ok (.aload_n 0, 1) := dk_42 (dk_at dksX5_giver_0 14 rfl rfl)
theorem dX5_giver_15 : decode cX5_giver 15 = .ok (.invokevirtual 114, 3) := dk_182 0 114 (dk_at dksX5_giver_0 15 rfl rfl)
theorem dX5_giver_18 : decode cX5_giver 18 = .ok (.if_icmp .ge 85, 3) := dk_162 0 85 (dk_at dksX5_giver_0 18 rfl rfl)
theorem dX5_giver_21 : decode cX5_giver 21 = .ok (.iload_n 3, 1) := dk_29 (dk_at dksX5_giver_0 21 rfl rfl)
theorem dX5_giver_22 : decode cX5_giver 22 = .ok (.iconst (-1), 1) := dk_2 (dk_at dksX5_giver_0 22 rfl rfl)
theorem dX5_giver_23 : decode cX5_giver 23 = .ok (.if_icmp .eq 80, 3) := dk_159 0 80 (dk_at dksX5_giver_1 0 rfl rfl)
theorem dX5_giver_26 : decode cX5_giver 26 = .ok (.iload 5, 2) := dk_21 5 (dk_at dksX5_giver_1 3 rfl rfl)
theorem dX5_giver_28 : decode cX5_giver 28 = .ok (.iload_n 2, 1) := dk_28 (dk_at dksX5_giver_1 5 rfl rfl)
theorem dX5_giver_29 : decode cX5_giver 29 = .ok (.if_icmp .eq 68, 3) := dk_159 0 68 (dk_at dksX5_giver_1 6 rfl rfl)
theorem dX5_giver_32 : decode cX5_giver 32 = .ok (.aload_n 0, 1) := dk_42 (dk_at dksX5_giver_1 9 rfl rfl)
theorem dX5_giver_33 : decode cX5_giver 33 = .ok (.iload 5, 2) := dk_21 5 (dk_at dksX5_giver_1 10 rfl rfl)
theorem dX5_giver_35 : decode cX5_giver 35 = .ok (.invokevirtual 118, 3) := dk_182 0 118 (dk_at dksX5_giver_1 12 rfl rfl)
theorem dX5_giver_38 : decode cX5_giver 38 = .ok (.ifCond .eq 59, 3) := dk_153 0 59 (dk_at dksX5_giver_1 15 rfl rfl)
theorem dX5_giver_41 : decode cX5_giver 41 = .ok (.aload_n 0, 1) := dk_42 (dk_at dksX5_giver_1 18 rfl rfl)
theorem dX5_giver_42 : decode cX5_giver 42 = .ok (.iload 5, 2) := dk_21 5 (dk_at dksX5_giver_1 19 rfl rfl)
theorem dX5_giver_44 : decode cX5_giver 44 = .ok (.invokevirtual 92, 3) := dk_182 0 92 (dk_at dksX5_giver_1 21 rfl rfl)
theorem dX5_giver_47 : decode cX5_giver 47 = .ok (.iload_n 1, 1) := dk_27 (dk_at dksX5_giver_2 0 rfl rfl)
theorem dX5_giver_48 : decode cX5_giver 48 = .ok (.if_icmp .ne 49, 3) := dk_160 0 49 (dk_at dksX5_giver_2 1 rfl rfl)
theorem dX5_giver_51 : decode cX5_giver 51 = .ok (.aload_n 0, 1) := dk_42 (dk_at dksX5_giver_2 4 rfl rfl)
theorem dX5_giver_52 : decode cX5_giver 52 = .ok (.iload 5, 2) := dk_21 5 (dk_at dksX5_giver_2 5 rfl rfl)
theorem dX5_giver_54 : decode cX5_giver 54 = .ok (.iload_n 1, 1) := dk_27 (dk_at dksX5_giver_2 7 rfl rfl)
theorem dX5_giver_55 : decode cX5_giver 55 = .ok (.invokevirtual 140, 3) := dk_182 0 140 (dk_at dksX5_giver_2 8 rfl rfl)
theorem dX5_giver_58 : decode cX5_giver 58 = .ok (.aload_n 0, 1) := dk_42 (dk_at dksX5_giver_2 11 rfl rfl)
theorem dX5_giver_59 : decode cX5_giver 59 = .ok (.iload_n 3, 1) := dk_29 (dk_at dksX5_giver_2 12 rfl rfl)
theorem dX5_giver_60 : decode cX5_giver 60 = .ok (.iload_n 1, 1) := dk_27 (dk_at dksX5_giver_2 13 rfl rfl)
theorem dX5_giver_61 : decode cX5_giver 61 = .ok (.invokevirtual 140, 3) := dk_182 0 140 (dk_at dksX5_giver_2 14 rfl rfl)
theorem dX5_giver_64 : decode cX5_giver 64 = .ok (.if_icmp .eq 6, 3) := dk_159 0 6 (dk_at dksX5_giver_2 17 rfl rfl)
theorem dX5_giver_67 : decode cX5_giver 67 = .ok (.goto 30, 3) := dk_167 0 30 (dk_at dksX5_giver_2 20 rfl rfl)
theorem dX5_giver_70 : decode cX5_giver 70 = .ok (.iload 4, 2) := dk_21 4 (dk_at dksX5_giver_3 0 rfl rfl)
theorem dX5_giver_72 : decode cX5_giver 72 = .ok (.iconst (-1), 1) := dk_2 (dk_at dksX5_giver_3 2 rfl rfl)
theorem dX5_giver_73 : decode cX5_giver 73 = .ok (.if_icmp .eq 20, 3) := dk_159 0 20 (dk_at dksX5_giver_3 3 rfl rfl)
theorem dX5_giver_76 : decode cX5_giver 76 = .ok (.aload_n 0, 1) := dk_42 (dk_at dksX5_giver_3 6 rfl rfl)
theorem dX5_giver_77 : decode cX5_giver 77 = .ok (.iload 5, 2) := dk_21 5 (dk_at dksX5_giver_3 7 rfl rfl)
theorem dX5_giver_79 : decode cX5_giver 79 = .ok (.iconst 3, 1) := dk_6 (dk_at dksX5_giver_3 9 rfl rfl)
theorem dX5_giver_80 : decode cX5_giver 80 = .ok (.invokevirtual 53, 3) := dk_182 0 53 (dk_at dksX5_giver_3 10 rfl rfl)
theorem dX5_giver_83 : decode cX5_giver 83 = .ok (.aload_n 0, 1) := dk_42 (dk_at dksX5_giver_3 13 rfl rfl)
theorem dX5_giver_84 : decode cX5_giver 84 = .ok (.iload 4, 2) := dk_21 4 (dk_at dksX5_giver_3 14 rfl rfl)
theorem dX5_giver_86 : decode cX5_giver 86 = .ok (.iconst 3, 1) := dk_6 (dk_at dksX5_giver_3 16 rfl rfl)
theorem dX5_giver_87 : decode cX5_giver 87 = .ok (.invokevirtual 53, 3) := dk_182 0 53 (dk_at dksX5_giver_3 17 rfl rfl)
theorem dX5_giver_90 : decode cX5_giver 90 = .ok (.if_icmp .ge 7, 3) := dk_162 0 7 (dk_at dksX5_giver_3 20 rfl rfl)
theorem dX5_giver_93 : decode cX5_giver 93 = .ok (.iload 5, 2) := dk_21 5 (dk_at dksX5_giver_4 0 rfl rfl)
theorem dX5_giver_95 : decode cX5_giver 95 = .ok (.istore 4, 2) := dk_54 4 (dk_at dksX5_giver_4 2 rfl rfl)
theorem dX5_giver_97 : decode cX5_giver 97 = .ok (.iinc 5 1, 3) := dk_132 5 1 (dk_at dksX5_giver_4 4 rfl rfl)
theorem dX5_giver_100 : decode cX5_giver 100 = .ok (.goto (-88), 3) := dk_167 255 168 (dk_at dksX5_giver_4 7 rfl rfl)
theorem dX5_giver_103 : decode cX5_giver 103 = .ok (.iload 4, 2) := dk_21 4 (dk_at dksX5_giver_4 10 rfl rfl)
theorem dX5_giver_105 : decode cX5_giver 105 = .ok (.ireturn, 1) := dk_172 (dk_at dksX5_giver_4 12 rfl rfl)
def dkwX5_whyNot_0 : List UInt8 := [42, 42, 27, 182, 1, 33, 182, 1, 36, 153, 0, 11, 42, 27, 182, 1, 68, 167, 0, 4, 3, 172]
abbrev dktX5_whyNot_0 : List UInt8 := dkwX5_whyNot_0 ++ []
theorem dksX5_whyNot_0 : cX5_whyNot.data.toList.drop 0 = dktX5_whyNot_0 := by decide +kernel
theorem dX5_whyNot_0 : decode cX5_whyNot 0 = .ok (.aload_n 0, 1) := dk_42 (dk_at dksX5_whyNot_0 0 rfl rfl)
theorem dX5_whyNot_1 : decode cX5_whyNot 1 = .ok (.aload_n 0, 1) := dk_42 (dk_at dksX5_whyNot_0 1 rfl rfl)
theorem dX5_whyNot_2 : decode cX5_whyNot 2 = .ok (.iload_n 1, 1) := dk_27 (dk_at dksX5_whyNot_0 2 rfl rfl)
theorem dX5_whyNot_3 : decode cX5_whyNot 3 = .ok (.invokevirtual 289, 3) := dk_182 1 33 (dk_at dksX5_whyNot_0 3 rfl rfl)
theorem dX5_whyNot_6 : decode cX5_whyNot 6 = .ok (.invokevirtual 292, 3) := dk_182 1 36 (dk_at dksX5_whyNot_0 6 rfl rfl)
theorem dX5_whyNot_9 : decode cX5_whyNot 9 = .ok (.ifCond .eq 11, 3) := dk_153 0 11 (dk_at dksX5_whyNot_0 9 rfl rfl)
theorem dX5_whyNot_12 : decode cX5_whyNot 12 = .ok (.aload_n 0, 1) := dk_42 (dk_at dksX5_whyNot_0 12 rfl rfl)
theorem dX5_whyNot_13 : decode cX5_whyNot 13 = .ok (.iload_n 1, 1) := dk_27 (dk_at dksX5_whyNot_0 13 rfl rfl)
theorem dX5_whyNot_14 : decode cX5_whyNot 14 = .ok (.invokevirtual 324, 3) := dk_182 1 68 (dk_at dksX5_whyNot_0 14 rfl rfl)
theorem dX5_whyNot_17 : decode cX5_whyNot 17 = .ok (.goto 4, 3) := dk_167 0 4 (dk_at dksX5_whyNot_0 17 rfl rfl)
theorem dX5_whyNot_20 : decode cX5_whyNot 20 = .ok (.iconst 0, 1) := dk_3 (dk_at dksX5_whyNot_0 20 rfl rfl)
theorem dX5_whyNot_21 : decode cX5_whyNot 21 = .ok (.ireturn, 1) := dk_172 (dk_at dksX5_whyNot_0 21 rfl rfl)
def dkwX5_stops_2 : List UInt8 := [160, 0, 7, 7, 167, 0, 4, 3, 172]
abbrev dktX5_stops_2 : List UInt8 := dkwX5_stops_2 ++ []
def dkwX5_stops_1 : List UInt8 := [172, 42, 27, 182, 0, 149, 154, 0, 5, 6, 172, 42, 42, 27, 182, 0, 92, 27, 182, 0, 152, 2]
abbrev dktX5_stops_1 : List UInt8 := dkwX5_stops_1 ++ dktX5_stops_2
def dkwX5_stops_0 : List UInt8 := [42, 27, 182, 0, 118, 154, 0, 5, 4, 172, 42, 42, 27, 182, 0, 92, 182, 0, 146, 2, 160, 0, 5, 5]
abbrev dktX5_stops_0 : List UInt8 := dkwX5_stops_0 ++ dktX5_stops_1
theorem dksX5_stops_0 : cX5_stops.data.toList.drop 0 = dktX5_stops_0 := by decide +kernel
theorem dksX5_stops_1 : cX5_stops.data.toList.drop 24 = dktX5_stops_1 := dk_seg dksX5_stops_0 24 rfl rfl
theorem dksX5_stops_2 : cX5_stops.data.toList.drop 46 = dktX5_stops_2 := dk_seg dksX5_stops_1 22 rfl rfl
theorem dX5_stops_0 : decode cX5_stops 0 = .ok (.aload_n 0, 1) := dk_42 (dk_at dksX5_stops_0 0 rfl rfl)
theorem dX5_stops_1 : decode cX5_stops 1 = .ok (.iload_n 1, 1) := dk_27 (dk_at dksX5_stops_0 1 rfl rfl)
theorem dX5_stops_2 : decode cX5_stops 2 = .ok (.invokevirtual 118, 3) := dk_182 0 118 (dk_at dksX5_stops_0 2 rfl rfl)
theorem dX5_stops_5 : decode cX5_stops 5 = .ok (.ifCond .ne 5, 3) := dk_154 0 5 (dk_at dksX5_stops_0 5 rfl rfl)
theorem dX5_stops_8 : decode cX5_stops 8 = .ok (.iconst 1, 1) := dk_4 (dk_at dksX5_stops_0 8 rfl rfl)
theorem dX5_stops_9 : decode cX5_stops 9 = .ok (.ireturn, 1) := dk_172 (dk_at dksX5_stops_0 9 rfl rfl)
theorem dX5_stops_10 : decode cX5_stops 10 = .ok (.aload_n 0, 1) := dk_42 (dk_at dksX5_stops_0 10 rfl rfl)
theorem dX5_stops_11 : decode cX5_stops 11 = .ok (.aload_n 0, 1) := dk_42 (dk_at dksX5_stops_0 11 rfl rfl)
theorem dX5_stops_12 : decode cX5_stops 12 = .ok (.iload_n 1, 1) := dk_27 (dk_at dksX5_stops_0 12 rfl rfl)
theorem dX5_stops_13 : decode cX5_stops 13 = .ok (.invokevirtual 92, 3) := dk_182 0 92 (dk_at dksX5_stops_0 13 rfl rfl)
theorem dX5_stops_16 : decode cX5_stops 16 = .ok (.invokevirtual 146, 3) := dk_182 0 146 (dk_at dksX5_stops_0 16 rfl rfl)
theorem dX5_stops_19 : decode cX5_stops 19 = .ok (.iconst (-1), 1) := dk_2 (dk_at dksX5_stops_0 19 rfl rfl)
theorem dX5_stops_20 : decode cX5_stops 20 = .ok (.if_icmp .ne 5, 3) := dk_160 0 5 (dk_at dksX5_stops_0 20 rfl rfl)
theorem dX5_stops_23 : decode cX5_stops 23 = .ok (.iconst 2, 1) := dk_5 (dk_at dksX5_stops_0 23 rfl rfl)
theorem dX5_stops_24 : decode cX5_stops 24 = .ok (.ireturn, 1) := dk_172 (dk_at dksX5_stops_1 0 rfl rfl)
theorem dX5_stops_25 : decode cX5_stops 25 = .ok (.aload_n 0, 1) := dk_42 (dk_at dksX5_stops_1 1 rfl rfl)
theorem dX5_stops_26 : decode cX5_stops 26 = .ok (.iload_n 1, 1) := dk_27 (dk_at dksX5_stops_1 2 rfl rfl)
theorem dX5_stops_27 : decode cX5_stops 27 = .ok (.invokevirtual 149, 3) := dk_182 0 149 (dk_at dksX5_stops_1 3 rfl rfl)
theorem dX5_stops_30 : decode cX5_stops 30 = .ok (.ifCond .ne 5, 3) := dk_154 0 5 (dk_at dksX5_stops_1 6 rfl rfl)
theorem dX5_stops_33 : decode cX5_stops 33 = .ok (.iconst 3, 1) := dk_6 (dk_at dksX5_stops_1 9 rfl rfl)
theorem dX5_stops_34 : decode cX5_stops 34 = .ok (.ireturn, 1) := dk_172 (dk_at dksX5_stops_1 10 rfl rfl)
theorem dX5_stops_35 : decode cX5_stops 35 = .ok (.aload_n 0, 1) := dk_42 (dk_at dksX5_stops_1 11 rfl rfl)
theorem dX5_stops_36 : decode cX5_stops 36 = .ok (.aload_n 0, 1) := dk_42 (dk_at dksX5_stops_1 12 rfl rfl)
theorem dX5_stops_37 : decode cX5_stops 37 = .ok (.iload_n 1, 1) := dk_27 (dk_at dksX5_stops_1 13 rfl rfl)
theorem dX5_stops_38 : decode cX5_stops 38 = .ok (.invokevirtual 92, 3) := dk_182 0 92 (dk_at dksX5_stops_1 14 rfl rfl)
theorem dX5_stops_41 : decode cX5_stops 41 = .ok (.iload_n 1, 1) := dk_27 (dk_at dksX5_stops_1 17 rfl rfl)
theorem dX5_stops_42 : decode cX5_stops 42 = .ok (.invokevirtual 152, 3) := dk_182 0 152 (dk_at dksX5_stops_1 18 rfl rfl)
theorem dX5_stops_45 : decode cX5_stops 45 = .ok (.iconst (-1), 1) := dk_2 (dk_at dksX5_stops_1 21 rfl rfl)
theorem dX5_stops_46 : decode cX5_stops 46 = .ok (.if_icmp .ne 7, 3) := dk_160 0 7 (dk_at dksX5_stops_2 0 rfl rfl)
theorem dX5_stops_49 : decode cX5_stops 49 = .ok (.iconst 4, 1) := dk_7 (dk_at dksX5_stops_2 3 rfl rfl)
theorem dX5_stops_50 : decode cX5_stops 50 = .ok (.goto 4, 3) := dk_167 0 4 (dk_at dksX5_stops_2 4 rfl rfl)
theorem dX5_stops_53 : decode cX5_stops 53 = .ok (.iconst 0, 1) := dk_3 (dk_at dksX5_stops_2 7 rfl rfl)
theorem dX5_stops_54 : decode cX5_stops 54 = .ok (.ireturn, 1) := dk_172 (dk_at dksX5_stops_2 8 rfl rfl)
def dkwX5_reached_0 : List UInt8 := [42, 3, 181, 0, 47, 42, 27, 182, 1, 71, 172]
abbrev dktX5_reached_0 : List UInt8 := dkwX5_reached_0 ++ []
theorem dksX5_reached_0 : cX5_reached.data.toList.drop 0 = dktX5_reached_0 := by decide +kernel
theorem dX5_reached_0 : decode cX5_reached 0 = .ok (.aload_n 0, 1) := dk_42 (dk_at dksX5_reached_0 0 rfl rfl)
theorem dX5_reached_1 : decode cX5_reached 1 = .ok (.iconst 0, 1) := dk_3 (dk_at dksX5_reached_0 1 rfl rfl)
theorem dX5_reached_2 : decode cX5_reached 2 = .ok (.putfield 47, 3) := dk_181 0 47 (dk_at dksX5_reached_0 2 rfl rfl)
theorem dX5_reached_5 : decode cX5_reached 5 = .ok (.aload_n 0, 1) := dk_42 (dk_at dksX5_reached_0 5 rfl rfl)
theorem dX5_reached_6 : decode cX5_reached 6 = .ok (.iload_n 1, 1) := dk_27 (dk_at dksX5_reached_0 6 rfl rfl)
theorem dX5_reached_7 : decode cX5_reached 7 = .ok (.invokevirtual 327, 3) := dk_182 1 71 (dk_at dksX5_reached_0 7 rfl rfl)
theorem dX5_reached_10 : decode cX5_reached 10 = .ok (.ireturn, 1) := dk_172 (dk_at dksX5_reached_0 10 rfl rfl)
def dkwX5_extreme_2 : List UInt8 := [184, 0, 122, 167, 0, 9, 28, 21, 4, 184, 0, 127, 61, 132, 3, 1, 167, 255, 197, 28, 172]
abbrev dktX5_extreme_2 : List UInt8 := dkwX5_extreme_2 ++ []
def dkwX5_extreme_1 : List UInt8 := [29, 182, 0, 92, 54, 4, 28, 2, 160, 0, 8, 21, 4, 167, 0, 22, 27, 153, 0, 12, 28, 21, 4]
abbrev dktX5_extreme_1 : List UInt8 := dkwX5_extreme_1 ++ dktX5_extreme_2
def dkwX5_extreme_0 : List UInt8 := [2, 61, 3, 62, 29, 42, 182, 0, 114, 162, 0, 57, 42, 29, 182, 0, 118, 154, 0, 6, 167, 0, 40, 42]
abbrev dktX5_extreme_0 : List UInt8 := dkwX5_extreme_0 ++ dktX5_extreme_1
theorem dksX5_extreme_0 : cX5_extreme.data.toList.drop 0 = dktX5_extreme_0 := by decide +kernel
theorem dksX5_extreme_1 : cX5_extreme.data.toList.drop 24 = dktX5_extreme_1 := dk_seg dksX5_extreme_0 24 rfl rfl
theorem dksX5_extreme_2 : cX5_extreme.data.toList.drop 47 = dktX5_extreme_2 := dk_seg dksX5_extreme_1 23 rfl rfl
theorem dX5_extreme_0 : decode cX5_extreme 0 = .ok (.iconst (-1), 1) := dk_2 (dk_at dksX5_extreme_0 0 rfl rfl)
theorem dX5_extreme_1 : decode cX5_extreme 1 = .ok (.istore_n 2, 1) := dk_61 (dk_at dksX5_extreme_0 1 rfl rfl)
theorem dX5_extreme_2 : decode cX5_extreme 2 = .ok (.iconst 0, 1) := dk_3 (dk_at dksX5_extreme_0 2 rfl rfl)
theorem dX5_extreme_3 : decode cX5_extreme 3 = .ok (.istore_n 3, 1) := dk_62 (dk_at dksX5_extreme_0 3 rfl rfl)
theorem dX5_extreme_4 : decode cX5_extreme 4 = .ok (.iload_n 3, 1) := dk_29 (dk_at dksX5_extreme_0 4 rfl rfl)
theorem dX5_extreme_5 : decode cX5_extreme 5 = .ok (.aload_n 0, 1) := dk_42 (dk_at dksX5_extreme_0 5 rfl rfl)
theorem dX5_extreme_6 : decode cX5_extreme 6 = .ok (.invokevirtual 114, 3) := dk_182 0 114 (dk_at dksX5_extreme_0 6 rfl rfl)
theorem dX5_extreme_9 : decode cX5_extreme 9 = .ok (.if_icmp .ge 57, 3) := dk_162 0 57 (dk_at dksX5_extreme_0 9 rfl rfl)
theorem dX5_extreme_12 : decode cX5_extreme 12 = .ok (.aload_n 0, 1) := dk_42 (dk_at dksX5_extreme_0 12 rfl rfl)
theorem dX5_extreme_13 : decode cX5_extreme 13 = .ok (.iload_n 3, 1) := dk_29 (dk_at dksX5_extreme_0 13 rfl rfl)
theorem dX5_extreme_14 : decode cX5_extreme 14 = .ok (.invokevirtual 118, 3) := dk_182 0 118 (dk_at dksX5_extreme_0 14 rfl rfl)
theorem dX5_extreme_17 : decode cX5_extreme 17 = .ok (.ifCond .ne 6, 3) := dk_154 0 6 (dk_at dksX5_extreme_0 17 rfl rfl)
theorem dX5_extreme_20 : decode cX5_extreme 20 = .ok (.goto 40, 3) := dk_167 0 40 (dk_at dksX5_extreme_0 20 rfl rfl)
theorem dX5_extreme_23 : decode cX5_extreme 23 = .ok (.aload_n 0, 1) := dk_42 (dk_at dksX5_extreme_0 23 rfl rfl)
theorem dX5_extreme_24 : decode cX5_extreme 24 = .ok (.iload_n 3, 1) := dk_29 (dk_at dksX5_extreme_1 0 rfl rfl)
theorem dX5_extreme_25 : decode cX5_extreme 25 = .ok (.invokevirtual 92, 3) := dk_182 0 92 (dk_at dksX5_extreme_1 1 rfl rfl)
theorem dX5_extreme_28 : decode cX5_extreme 28 = .ok (.istore 4, 2) := dk_54 4 (dk_at dksX5_extreme_1 4 rfl rfl)
theorem dX5_extreme_30 : decode cX5_extreme 30 = .ok (.iload_n 2, 1) := dk_28 (dk_at dksX5_extreme_1 6 rfl rfl)
theorem dX5_extreme_31 : decode cX5_extreme 31 = .ok (.iconst (-1), 1) := dk_2 (dk_at dksX5_extreme_1 7 rfl rfl)
theorem dX5_extreme_32 : decode cX5_extreme 32 = .ok (.if_icmp .ne 8, 3) := dk_160 0 8 (dk_at dksX5_extreme_1 8 rfl rfl)
theorem dX5_extreme_35 : decode cX5_extreme 35 = .ok (.iload 4, 2) := dk_21 4 (dk_at dksX5_extreme_1 11 rfl rfl)
theorem dX5_extreme_37 : decode cX5_extreme 37 = .ok (.goto 22, 3) := dk_167 0 22 (dk_at dksX5_extreme_1 13 rfl rfl)
theorem dX5_extreme_40 : decode cX5_extreme 40 = .ok (.iload_n 1, 1) := dk_27 (dk_at dksX5_extreme_1 16 rfl rfl)
theorem dX5_extreme_41 : decode cX5_extreme 41 = .ok (.ifCond .eq 12, 3) := dk_153 0 12 (dk_at dksX5_extreme_1 17 rfl rfl)
theorem dX5_extreme_44 : decode cX5_extreme 44 = .ok (.iload_n 2, 1) := dk_28 (dk_at dksX5_extreme_1 20 rfl rfl)
theorem dX5_extreme_45 : decode cX5_extreme 45 = .ok (.iload 4, 2) := dk_21 4 (dk_at dksX5_extreme_1 21 rfl rfl)
theorem dX5_extreme_47 : decode cX5_extreme 47 = .ok (.invokestatic 122, 3) := dk_184 0 122 (dk_at dksX5_extreme_2 0 rfl rfl)
theorem dX5_extreme_50 : decode cX5_extreme 50 = .ok (.goto 9, 3) := dk_167 0 9 (dk_at dksX5_extreme_2 3 rfl rfl)
theorem dX5_extreme_53 : decode cX5_extreme 53 = .ok (.iload_n 2, 1) := dk_28 (dk_at dksX5_extreme_2 6 rfl rfl)
theorem dX5_extreme_54 : decode cX5_extreme 54 = .ok (.iload 4, 2) := dk_21 4 (dk_at dksX5_extreme_2 7 rfl rfl)
theorem dX5_extreme_56 : decode cX5_extreme 56 = .ok (.invokestatic 127, 3) := dk_184 0 127 (dk_at dksX5_extreme_2 9 rfl rfl)
theorem dX5_extreme_59 : decode cX5_extreme 59 = .ok (.istore_n 2, 1) := dk_61 (dk_at dksX5_extreme_2 12 rfl rfl)
theorem dX5_extreme_60 : decode cX5_extreme 60 = .ok (.iinc 3 1, 3) := dk_132 3 1 (dk_at dksX5_extreme_2 13 rfl rfl)
theorem dX5_extreme_63 : decode cX5_extreme 63 = .ok (.goto (-59), 3) := dk_167 255 197 (dk_at dksX5_extreme_2 16 rfl rfl)
theorem dX5_extreme_66 : decode cX5_extreme 66 = .ok (.iload_n 2, 1) := dk_28 (dk_at dksX5_extreme_2 19 rfl rfl)
theorem dX5_extreme_67 : decode cX5_extreme 67 = .ok (.ireturn, 1) := dk_172 (dk_at dksX5_extreme_2 20 rfl rfl)
def dkwX5_mayRun_1 : List UInt8 := [167, 0, 4, 3, 172]
abbrev dktX5_mayRun_1 : List UInt8 := dkwX5_mayRun_1 ++ []
def dkwX5_mayRun_0 : List UInt8 := [42, 42, 27, 182, 1, 33, 182, 1, 36, 153, 0, 16, 42, 27, 42, 3, 182, 1, 71, 182, 0, 130]
abbrev dktX5_mayRun_0 : List UInt8 := dkwX5_mayRun_0 ++ dktX5_mayRun_1
theorem dksX5_mayRun_0 : cX5_mayRun.data.toList.drop 0 = dktX5_mayRun_0 := by decide +kernel
theorem dksX5_mayRun_1 : cX5_mayRun.data.toList.drop 22 = dktX5_mayRun_1 := dk_seg dksX5_mayRun_0 22 rfl rfl
theorem dX5_mayRun_0 : decode cX5_mayRun 0 = .ok (.aload_n 0, 1) := dk_42 (dk_at dksX5_mayRun_0 0 rfl rfl)
theorem dX5_mayRun_1 : decode cX5_mayRun 1 = .ok (.aload_n 0, 1) := dk_42 (dk_at dksX5_mayRun_0 1 rfl rfl)
theorem dX5_mayRun_2 : decode cX5_mayRun 2 = .ok (.iload_n 1, 1) := dk_27 (dk_at dksX5_mayRun_0 2 rfl rfl)
theorem dX5_mayRun_3 : decode cX5_mayRun 3 = .ok (.invokevirtual 289, 3) := dk_182 1 33 (dk_at dksX5_mayRun_0 3 rfl rfl)
theorem dX5_mayRun_6 : decode cX5_mayRun 6 = .ok (.invokevirtual 292, 3) := dk_182 1 36 (dk_at dksX5_mayRun_0 6 rfl rfl)
theorem dX5_mayRun_9 : decode cX5_mayRun 9 = .ok (.ifCond .eq 16, 3) := dk_153 0 16 (dk_at dksX5_mayRun_0 9 rfl rfl)
theorem dX5_mayRun_12 : decode cX5_mayRun 12 = .ok (.aload_n 0, 1) := dk_42 (dk_at dksX5_mayRun_0 12 rfl rfl)
theorem dX5_mayRun_13 : decode cX5_mayRun 13 = .ok (.iload_n 1, 1) := dk_27 (dk_at dksX5_mayRun_0 13 rfl rfl)
theorem dX5_mayRun_14 : decode cX5_mayRun 14 = .ok (.aload_n 0, 1) := dk_42 (dk_at dksX5_mayRun_0 14 rfl rfl)
theorem dX5_mayRun_15 : decode cX5_mayRun 15 = .ok (.iconst 0, 1) := dk_3 (dk_at dksX5_mayRun_0 15 rfl rfl)
theorem dX5_mayRun_16 : decode cX5_mayRun 16 = .ok (.invokevirtual 327, 3) := dk_182 1 71 (dk_at dksX5_mayRun_0 16 rfl rfl)
theorem dX5_mayRun_19 : decode cX5_mayRun 19 = .ok (.invokevirtual 130, 3) := dk_182 0 130 (dk_at dksX5_mayRun_0 19 rfl rfl)
theorem dX5_mayRun_22 : decode cX5_mayRun 22 = .ok (.goto 4, 3) := dk_167 0 4 (dk_at dksX5_mayRun_1 0 rfl rfl)
theorem dX5_mayRun_25 : decode cX5_mayRun 25 = .ok (.iconst 0, 1) := dk_3 (dk_at dksX5_mayRun_1 3 rfl rfl)
theorem dX5_mayRun_26 : decode cX5_mayRun 26 = .ok (.ireturn, 1) := dk_172 (dk_at dksX5_mayRun_1 4 rfl rfl)
def dkwX5_may_1 : List UInt8 := [96, 184, 0, 127, 42, 27, 182, 0, 92, 100, 184, 0, 122, 167, 0, 4, 3, 172]
abbrev dktX5_may_1 : List UInt8 := dkwX5_may_1 ++ []
def dkwX5_may_0 : List UInt8 := [42, 27, 182, 0, 118, 153, 0, 35, 3, 42, 180, 0, 19, 17, 1, 131, 46, 28, 42, 180, 0, 19, 3, 46]
abbrev dktX5_may_0 : List UInt8 := dkwX5_may_0 ++ dktX5_may_1
theorem dksX5_may_0 : cX5_may.data.toList.drop 0 = dktX5_may_0 := by decide +kernel
theorem dksX5_may_1 : cX5_may.data.toList.drop 24 = dktX5_may_1 := dk_seg dksX5_may_0 24 rfl rfl
theorem dX5_may_0 : decode cX5_may 0 = .ok (.aload_n 0, 1) := dk_42 (dk_at dksX5_may_0 0 rfl rfl)
theorem dX5_may_1 : decode cX5_may 1 = .ok (.iload_n 1, 1) := dk_27 (dk_at dksX5_may_0 1 rfl rfl)
theorem dX5_may_2 : decode cX5_may 2 = .ok (.invokevirtual 118, 3) := dk_182 0 118 (dk_at dksX5_may_0 2 rfl rfl)
theorem dX5_may_5 : decode cX5_may 5 = .ok (.ifCond .eq 35, 3) := dk_153 0 35 (dk_at dksX5_may_0 5 rfl rfl)
theorem dX5_may_8 : decode cX5_may 8 = .ok (.iconst 0, 1) := dk_3 (dk_at dksX5_may_0 8 rfl rfl)
theorem dX5_may_9 : decode cX5_may 9 = .ok (.aload_n 0, 1) := dk_42 (dk_at dksX5_may_0 9 rfl rfl)
theorem dX5_may_10 : decode cX5_may 10 = .ok (.getfield 19, 3) := dk_180 0 19 (dk_at dksX5_may_0 10 rfl rfl)
theorem dX5_may_13 : decode cX5_may 13 = .ok (.sipush 387, 3) := dk_17 1 131 (dk_at dksX5_may_0 13 rfl rfl)
theorem dX5_may_16 : decode cX5_may 16 = .ok (.iaload, 1) := dk_46 (dk_at dksX5_may_0 16 rfl rfl)
theorem dX5_may_17 : decode cX5_may 17 = .ok (.iload_n 2, 1) := dk_28 (dk_at dksX5_may_0 17 rfl rfl)
theorem dX5_may_18 : decode cX5_may 18 = .ok (.aload_n 0, 1) := dk_42 (dk_at dksX5_may_0 18 rfl rfl)
theorem dX5_may_19 : decode cX5_may 19 = .ok (.getfield 19, 3) := dk_180 0 19 (dk_at dksX5_may_0 19 rfl rfl)
theorem dX5_may_22 : decode cX5_may 22 = .ok (.iconst 0, 1) := dk_3 (dk_at dksX5_may_0 22 rfl rfl)
theorem dX5_may_23 : decode cX5_may 23 = .ok (.iaload, 1) := dk_46 (dk_at dksX5_may_0 23 rfl rfl)
theorem dX5_may_24 : decode cX5_may 24 = .ok (.iadd, 1) := dk_96 (dk_at dksX5_may_1 0 rfl rfl)
theorem dX5_may_25 : decode cX5_may 25 = .ok (.invokestatic 127, 3) := dk_184 0 127 (dk_at dksX5_may_1 1 rfl rfl)
theorem dX5_may_28 : decode cX5_may 28 = .ok (.aload_n 0, 1) := dk_42 (dk_at dksX5_may_1 4 rfl rfl)
theorem dX5_may_29 : decode cX5_may 29 = .ok (.iload_n 1, 1) := dk_27 (dk_at dksX5_may_1 5 rfl rfl)
theorem dX5_may_30 : decode cX5_may 30 = .ok (.invokevirtual 92, 3) := dk_182 0 92 (dk_at dksX5_may_1 6 rfl rfl)
theorem dX5_may_33 : decode cX5_may 33 = .ok (.isub, 1) := dk_100 (dk_at dksX5_may_1 9 rfl rfl)
theorem dX5_may_34 : decode cX5_may 34 = .ok (.invokestatic 122, 3) := dk_184 0 122 (dk_at dksX5_may_1 10 rfl rfl)
theorem dX5_may_37 : decode cX5_may 37 = .ok (.goto 4, 3) := dk_167 0 4 (dk_at dksX5_may_1 13 rfl rfl)
theorem dX5_may_40 : decode cX5_may 40 = .ok (.iconst 0, 1) := dk_3 (dk_at dksX5_may_1 16 rfl rfl)
theorem dX5_may_41 : decode cX5_may 41 = .ok (.ireturn, 1) := dk_172 (dk_at dksX5_may_1 17 rfl rfl)
def dkwX5_meanTurns_3 : List UInt8 := [27, 135, 28, 135, 111, 175]
abbrev dktX5_meanTurns_3 : List UInt8 := dkwX5_meanTurns_3 ++ []
def dkwX5_meanTurns_2 : List UInt8 := [153, 0, 7, 4, 167, 0, 4, 3, 96, 61, 132, 3, 1, 167, 255, 209, 28, 154, 0, 7, 14, 167, 0, 8]
abbrev dktX5_meanTurns_2 : List UInt8 := dkwX5_meanTurns_2 ++ dktX5_meanTurns_3
def dkwX5_meanTurns_1 : List UInt8 := [182, 0, 118, 153, 0, 11, 42, 29, 182, 0, 92, 167, 0, 4, 3, 96, 60, 28, 42, 29, 182, 0, 118]
abbrev dktX5_meanTurns_1 : List UInt8 := dkwX5_meanTurns_1 ++ dktX5_meanTurns_2
def dkwX5_meanTurns_0 : List UInt8 := [42, 3, 181, 0, 47, 3, 60, 3, 61, 3, 62, 29, 42, 182, 0, 114, 162, 0, 45, 27, 42, 29]
abbrev dktX5_meanTurns_0 : List UInt8 := dkwX5_meanTurns_0 ++ dktX5_meanTurns_1
theorem dksX5_meanTurns_0 : cX5_meanTurns.data.toList.drop 0 = dktX5_meanTurns_0 := by decide +kernel
theorem dksX5_meanTurns_1 : cX5_meanTurns.data.toList.drop 22 = dktX5_meanTurns_1 := dk_seg dksX5_meanTurns_0 22 rfl rfl
theorem dksX5_meanTurns_2 : cX5_meanTurns.data.toList.drop 45 = dktX5_meanTurns_2 := dk_seg dksX5_meanTurns_1 23 rfl rfl
theorem dksX5_meanTurns_3 : cX5_meanTurns.data.toList.drop 69 = dktX5_meanTurns_3 := dk_seg dksX5_meanTurns_2 24 rfl rfl
theorem dX5_meanTurns_0 : decode cX5_meanTurns 0 = .ok (.aload_n 0, 1) := dk_42 (dk_at dksX5_meanTurns_0 0 rfl rfl)
theorem dX5_meanTurns_1 : decode cX5_meanTurns 1 = .ok (.iconst 0, 1) := dk_3 (dk_at dksX5_meanTurns_0 1 rfl rfl)
theorem dX5_meanTurns_2 : decode cX5_meanTurns 2 = .ok (.putfield 47, 3) := dk_181 0 47 (dk_at dksX5_meanTurns_0 2 rfl rfl)
theorem dX5_meanTurns_5 : decode cX5_meanTurns 5 = .ok (.iconst 0, 1) := dk_3 (dk_at dksX5_meanTurns_0 5 rfl rfl)
theorem dX5_meanTurns_6 : decode cX5_meanTurns 6 = .ok (.istore_n 1, 1) := dk_60 (dk_at dksX5_meanTurns_0 6 rfl rfl)
theorem dX5_meanTurns_7 : decode cX5_meanTurns 7 = .ok (.iconst 0, 1) := dk_3 (dk_at dksX5_meanTurns_0 7 rfl rfl)
theorem dX5_meanTurns_8 : decode cX5_meanTurns 8 = .ok (.istore_n 2, 1) := dk_61 (dk_at dksX5_meanTurns_0 8 rfl rfl)
theorem dX5_meanTurns_9 : decode cX5_meanTurns 9 = .ok (.iconst 0, 1) := dk_3 (dk_at dksX5_meanTurns_0 9 rfl rfl)
theorem dX5_meanTurns_10 : decode cX5_meanTurns 10 = .ok (.istore_n 3, 1) := dk_62 (dk_at dksX5_meanTurns_0 10 rfl rfl)
theorem dX5_meanTurns_11 : decode cX5_meanTurns 11 = .ok (.iload_n 3, 1) := dk_29 (dk_at dksX5_meanTurns_0 11 rfl rfl)
theorem dX5_meanTurns_12 : decode cX5_meanTurns 12 = .ok (.aload_n 0, 1) := dk_42 (dk_at dksX5_meanTurns_0 12 rfl rfl)
theorem dX5_meanTurns_13 : decode cX5_meanTurns 13 = .ok (.invokevirtual 114, 3) := dk_182 0 114 (dk_at dksX5_meanTurns_0 13 rfl rfl)
theorem dX5_meanTurns_16 : decode cX5_meanTurns 16 = .ok (.if_icmp .ge 45, 3) := dk_162 0 45 (dk_at dksX5_meanTurns_0 16 rfl rfl)
theorem dX5_meanTurns_19 : decode cX5_meanTurns 19 = .ok (.iload_n 1, 1) := dk_27 (dk_at dksX5_meanTurns_0 19 rfl rfl)
theorem dX5_meanTurns_20 : decode cX5_meanTurns 20 = .ok (.aload_n 0, 1) := dk_42 (dk_at dksX5_meanTurns_0 20 rfl rfl)
theorem dX5_meanTurns_21 : decode cX5_meanTurns 21 = .ok (.iload_n 3, 1) := dk_29 (dk_at dksX5_meanTurns_0 21 rfl rfl)
theorem dX5_meanTurns_22 : decode cX5_meanTurns 22 = .ok (.invokevirtual 118, 3) := dk_182 0 118 (dk_at dksX5_meanTurns_1 0 rfl rfl)
theorem dX5_meanTurns_25 : decode cX5_meanTurns 25 = .ok (.ifCond .eq 11, 3) := dk_153 0 11 (dk_at dksX5_meanTurns_1 3 rfl rfl)
theorem dX5_meanTurns_28 : decode cX5_meanTurns 28 = .ok (.aload_n 0, 1) := dk_42 (dk_at dksX5_meanTurns_1 6 rfl rfl)
theorem dX5_meanTurns_29 : decode cX5_meanTurns 29 = .ok (.iload_n 3, 1) := dk_29 (dk_at dksX5_meanTurns_1 7 rfl rfl)
theorem dX5_meanTurns_30 : decode cX5_meanTurns 30 = .ok (.invokevirtual 92, 3) := dk_182 0 92 (dk_at dksX5_meanTurns_1 8 rfl rfl)
theorem dX5_meanTurns_33 : decode cX5_meanTurns 33 = .ok (.goto 4, 3) := dk_167 0 4 (dk_at dksX5_meanTurns_1 11 rfl rfl)
theorem dX5_meanTurns_36 : decode cX5_meanTurns 36 = .ok (.iconst 0, 1) := dk_3 (dk_at dksX5_meanTurns_1 14 rfl rfl)
theorem dX5_meanTurns_37 : decode cX5_meanTurns 37 = .ok (.iadd, 1) := dk_96 (dk_at dksX5_meanTurns_1 15 rfl rfl)
theorem dX5_meanTurns_38 : decode cX5_meanTurns 38 = .ok (.istore_n 1, 1) := dk_60 (dk_at dksX5_meanTurns_1 16 rfl rfl)
theorem dX5_meanTurns_39 : decode cX5_meanTurns 39 = .ok (.iload_n 2, 1) := dk_28 (dk_at dksX5_meanTurns_1 17 rfl rfl)
theorem dX5_meanTurns_40 : decode cX5_meanTurns 40 = .ok (.aload_n 0, 1) := dk_42 (dk_at dksX5_meanTurns_1 18 rfl rfl)
theorem dX5_meanTurns_41 : decode cX5_meanTurns 41 = .ok (.iload_n 3, 1) := dk_29 (dk_at dksX5_meanTurns_1 19 rfl rfl)
theorem dX5_meanTurns_42 : decode cX5_meanTurns 42 = .ok (.invokevirtual 118, 3) := dk_182 0 118 (dk_at dksX5_meanTurns_1 20 rfl rfl)
theorem dX5_meanTurns_45 : decode cX5_meanTurns 45 = .ok (.ifCond .eq 7, 3) := dk_153 0 7 (dk_at dksX5_meanTurns_2 0 rfl rfl)
theorem dX5_meanTurns_48 : decode cX5_meanTurns 48 = .ok (.iconst 1, 1) := dk_4 (dk_at dksX5_meanTurns_2 3 rfl rfl)
theorem dX5_meanTurns_49 : decode cX5_meanTurns 49 = .ok (.goto 4, 3) := dk_167 0 4 (dk_at dksX5_meanTurns_2 4 rfl rfl)
theorem dX5_meanTurns_52 : decode cX5_meanTurns 52 = .ok (.iconst 0, 1) := dk_3 (dk_at dksX5_meanTurns_2 7 rfl rfl)
theorem dX5_meanTurns_53 : decode cX5_meanTurns 53 = .ok (.iadd, 1) := dk_96 (dk_at dksX5_meanTurns_2 8 rfl rfl)
theorem dX5_meanTurns_54 : decode cX5_meanTurns 54 = .ok (.istore_n 2, 1) := dk_61 (dk_at dksX5_meanTurns_2 9 rfl rfl)
theorem dX5_meanTurns_55 : decode cX5_meanTurns 55 = .ok (.iinc 3 1, 3) := dk_132 3 1 (dk_at dksX5_meanTurns_2 10 rfl rfl)
theorem dX5_meanTurns_58 : decode cX5_meanTurns 58 = .ok (.goto (-47), 3) := dk_167 255 209 (dk_at dksX5_meanTurns_2 13 rfl rfl)
theorem dX5_meanTurns_61 : decode cX5_meanTurns 61 = .ok (.iload_n 2, 1) := dk_28 (dk_at dksX5_meanTurns_2 16 rfl rfl)
theorem dX5_meanTurns_62 : decode cX5_meanTurns 62 = .ok (.ifCond .ne 7, 3) := dk_154 0 7 (dk_at dksX5_meanTurns_2 17 rfl rfl)
theorem dX5_meanTurns_65 : decode cX5_meanTurns 65 = .ok (.dconst 0, 1) := dk_14 (dk_at dksX5_meanTurns_2 20 rfl rfl)
theorem dX5_meanTurns_66 : decode cX5_meanTurns 66 = .ok (.goto 8, 3) := dk_167 0 8 (dk_at dksX5_meanTurns_2 21 rfl rfl)
theorem dX5_meanTurns_69 : decode cX5_meanTurns 69 = .ok (.iload_n 1, 1) := dk_27 (dk_at dksX5_meanTurns_3 0 rfl rfl)
theorem dX5_meanTurns_70 : decode cX5_meanTurns 70 = .ok (.i2d, 1) := dk_135 (dk_at dksX5_meanTurns_3 1 rfl rfl)
theorem dX5_meanTurns_71 : decode cX5_meanTurns 71 = .ok (.iload_n 2, 1) := dk_28 (dk_at dksX5_meanTurns_3 2 rfl rfl)
theorem dX5_meanTurns_72 : decode cX5_meanTurns 72 = .ok (.i2d, 1) := dk_135 (dk_at dksX5_meanTurns_3 3 rfl rfl)
theorem dX5_meanTurns_73 : decode cX5_meanTurns 73 = .ok (.ddiv, 1) := dk_111 (dk_at dksX5_meanTurns_3 4 rfl rfl)
theorem dX5_meanTurns_74 : decode cX5_meanTurns 74 = .ok (.dreturn, 1) := dk_175 (dk_at dksX5_meanTurns_3 5 rfl rfl)
def dkwX5_truth_1 : List UInt8 := [17, 1, 131, 46, 164, 0, 5, 2, 172, 42, 27, 182, 1, 78, 42, 180, 0, 28, 28, 46, 172]
abbrev dktX5_truth_1 : List UInt8 := dkwX5_truth_1 ++ []
def dkwX5_truth_0 : List UInt8 := [42, 28, 184, 1, 43, 182, 1, 36, 154, 0, 5, 3, 172, 27, 155, 0, 15, 27, 42, 180, 0, 19]
abbrev dktX5_truth_0 : List UInt8 := dkwX5_truth_0 ++ dktX5_truth_1
theorem dksX5_truth_0 : cX5_truth.data.toList.drop 0 = dktX5_truth_0 := by decide +kernel
theorem dksX5_truth_1 : cX5_truth.data.toList.drop 22 = dktX5_truth_1 := dk_seg dksX5_truth_0 22 rfl rfl
theorem dX5_truth_0 : decode cX5_truth 0 = .ok (.aload_n 0, 1) := dk_42 (dk_at dksX5_truth_0 0 rfl rfl)
theorem dX5_truth_1 : decode cX5_truth 1 = .ok (.iload_n 2, 1) := dk_28 (dk_at dksX5_truth_0 1 rfl rfl)
theorem dX5_truth_2 : decode cX5_truth 2 = .ok (.invokestatic 299, 3) := dk_184 1 43 (dk_at dksX5_truth_0 2 rfl rfl)
theorem dX5_truth_5 : decode cX5_truth 5 = .ok (.invokevirtual 292, 3) := dk_182 1 36 (dk_at dksX5_truth_0 5 rfl rfl)
theorem dX5_truth_8 : decode cX5_truth 8 = .ok (.ifCond .ne 5, 3) := dk_154 0 5 (dk_at dksX5_truth_0 8 rfl rfl)
theorem dX5_truth_11 : decode cX5_truth 11 = .ok (.iconst 0, 1) := dk_3 (dk_at dksX5_truth_0 11 rfl rfl)
theorem dX5_truth_12 : decode cX5_truth 12 = .ok (.ireturn, 1) := dk_172 (dk_at dksX5_truth_0 12 rfl rfl)
theorem dX5_truth_13 : decode cX5_truth 13 = .ok (.iload_n 1, 1) := dk_27 (dk_at dksX5_truth_0 13 rfl rfl)
theorem dX5_truth_14 : decode cX5_truth 14 = .ok (.ifCond .lt 15, 3) := dk_155 0 15 (dk_at dksX5_truth_0 14 rfl rfl)
theorem dX5_truth_17 : decode cX5_truth 17 = .ok (.iload_n 1, 1) := dk_27 (dk_at dksX5_truth_0 17 rfl rfl)
theorem dX5_truth_18 : decode cX5_truth 18 = .ok (.aload_n 0, 1) := dk_42 (dk_at dksX5_truth_0 18 rfl rfl)
theorem dX5_truth_19 : decode cX5_truth 19 = .ok (.getfield 19, 3) := dk_180 0 19 (dk_at dksX5_truth_0 19 rfl rfl)
theorem dX5_truth_22 : decode cX5_truth 22 = .ok (.sipush 387, 3) := dk_17 1 131 (dk_at dksX5_truth_1 0 rfl rfl)
theorem dX5_truth_25 : decode cX5_truth 25 = .ok (.iaload, 1) := dk_46 (dk_at dksX5_truth_1 3 rfl rfl)
theorem dX5_truth_26 : decode cX5_truth 26 = .ok (.if_icmp .le 5, 3) := dk_164 0 5 (dk_at dksX5_truth_1 4 rfl rfl)
theorem dX5_truth_29 : decode cX5_truth 29 = .ok (.iconst (-1), 1) := dk_2 (dk_at dksX5_truth_1 7 rfl rfl)
theorem dX5_truth_30 : decode cX5_truth 30 = .ok (.ireturn, 1) := dk_172 (dk_at dksX5_truth_1 8 rfl rfl)
theorem dX5_truth_31 : decode cX5_truth 31 = .ok (.aload_n 0, 1) := dk_42 (dk_at dksX5_truth_1 9 rfl rfl)
theorem dX5_truth_32 : decode cX5_truth 32 = .ok (.iload_n 1, 1) := dk_27 (dk_at dksX5_truth_1 10 rfl rfl)
theorem dX5_truth_33 : decode cX5_truth 33 = .ok (.invokevirtual 334, 3) := dk_182 1 78 (dk_at dksX5_truth_1 11 rfl rfl)
theorem dX5_truth_36 : decode cX5_truth 36 = .ok (.aload_n 0, 1) := dk_42 (dk_at dksX5_truth_1 14 rfl rfl)
theorem dX5_truth_37 : decode cX5_truth 37 = .ok (.getfield 28, 3) := dk_180 0 28 (dk_at dksX5_truth_1 15 rfl rfl)
theorem dX5_truth_40 : decode cX5_truth 40 = .ok (.iload_n 2, 1) := dk_28 (dk_at dksX5_truth_1 18 rfl rfl)
theorem dX5_truth_41 : decode cX5_truth 41 = .ok (.iaload, 1) := dk_46 (dk_at dksX5_truth_1 19 rfl rfl)
theorem dX5_truth_42 : decode cX5_truth 42 = .ok (.ireturn, 1) := dk_172 (dk_at dksX5_truth_1 20 rfl rfl)
def dkwX5_laysTruth_0 : List UInt8 := [42, 182, 1, 75, 3, 61, 28, 27, 162, 0, 14, 42, 28, 182, 0, 102, 132, 2, 1, 167, 255, 243, 177]
abbrev dktX5_laysTruth_0 : List UInt8 := dkwX5_laysTruth_0 ++ []
theorem dksX5_laysTruth_0 : cX5_laysTruth.data.toList.drop 0 = dktX5_laysTruth_0 := by decide +kernel
theorem dX5_laysTruth_0 : decode cX5_laysTruth 0 = .ok (.aload_n 0, 1) := dk_42 (dk_at dksX5_laysTruth_0 0 rfl rfl)
theorem dX5_laysTruth_1 : decode cX5_laysTruth 1 = .ok (.invokevirtual 331, 3) := dk_182 1 75 (dk_at dksX5_laysTruth_0 1 rfl rfl)
theorem dX5_laysTruth_4 : decode cX5_laysTruth 4 = .ok (.iconst 0, 1) := dk_3 (dk_at dksX5_laysTruth_0 4 rfl rfl)
theorem dX5_laysTruth_5 : decode cX5_laysTruth 5 = .ok (.istore_n 2, 1) := dk_61 (dk_at dksX5_laysTruth_0 5 rfl rfl)
theorem dX5_laysTruth_6 : decode cX5_laysTruth 6 = .ok (.iload_n 2, 1) := dk_28 (dk_at dksX5_laysTruth_0 6 rfl rfl)
theorem dX5_laysTruth_7 : decode cX5_laysTruth 7 = .ok (.iload_n 1, 1) := dk_27 (dk_at dksX5_laysTruth_0 7 rfl rfl)
theorem dX5_laysTruth_8 : decode cX5_laysTruth 8 = .ok (.if_icmp .ge 14, 3) := dk_162 0 14 (dk_at dksX5_laysTruth_0 8 rfl rfl)
theorem dX5_laysTruth_11 : decode cX5_laysTruth 11 = .ok (.aload_n 0, 1) := dk_42 (dk_at dksX5_laysTruth_0 11 rfl rfl)
theorem dX5_laysTruth_12 : decode cX5_laysTruth 12 = .ok (.iload_n 2, 1) := dk_28 (dk_at dksX5_laysTruth_0 12 rfl rfl)
theorem dX5_laysTruth_13 : decode cX5_laysTruth 13 = .ok (.invokevirtual 102, 3) := dk_182 0 102 (dk_at dksX5_laysTruth_0 13 rfl rfl)
theorem dX5_laysTruth_16 : decode cX5_laysTruth 16 = .ok (.iinc 2 1, 3) := dk_132 2 1 (dk_at dksX5_laysTruth_0 16 rfl rfl)
theorem dX5_laysTruth_19 : decode cX5_laysTruth 19 = .ok (.goto (-13), 3) := dk_167 255 243 (dk_at dksX5_laysTruth_0 19 rfl rfl)
theorem dX5_laysTruth_22 : decode cX5_laysTruth 22 = .ok (.return_, 1) := dk_177 (dk_at dksX5_laysTruth_0 22 rfl rfl)
def dkwX5_takesStart_1 : List UInt8 := [167, 255, 235, 177]
abbrev dktX5_takesStart_1 : List UInt8 := dkwX5_takesStart_1 ++ []
def dkwX5_takesStart_0 : List UInt8 := [3, 60, 27, 16, 16, 162, 0, 21, 42, 180, 0, 28, 27, 42, 180, 0, 13, 27, 46, 79, 132, 1, 1]
abbrev dktX5_takesStart_0 : List UInt8 := dkwX5_takesStart_0 ++ dktX5_takesStart_1
theorem dksX5_takesStart_0 : cX5_takesStart.data.toList.drop 0 = dktX5_takesStart_0 := by decide +kernel
theorem dksX5_takesStart_1 : cX5_takesStart.data.toList.drop 23 = dktX5_takesStart_1 := dk_seg dksX5_takesStart_0 23 rfl rfl
theorem dX5_takesStart_0 : decode cX5_takesStart 0 = .ok (.iconst 0, 1) := dk_3 (dk_at dksX5_takesStart_0 0 rfl rfl)
theorem dX5_takesStart_1 : decode cX5_takesStart 1 = .ok (.istore_n 1, 1) := dk_60 (dk_at dksX5_takesStart_0 1 rfl rfl)
theorem dX5_takesStart_2 : decode cX5_takesStart 2 = .ok (.iload_n 1, 1) := dk_27 (dk_at dksX5_takesStart_0 2 rfl rfl)
theorem dX5_takesStart_3 : decode cX5_takesStart 3 = .ok (.bipush 16, 2) := dk_16 16 (dk_at dksX5_takesStart_0 3 rfl rfl)
theorem dX5_takesStart_5 : decode cX5_takesStart 5 = .ok (.if_icmp .ge 21, 3) := dk_162 0 21 (dk_at dksX5_takesStart_0 5 rfl rfl)
theorem dX5_takesStart_8 : decode cX5_takesStart 8 = .ok (.aload_n 0, 1) := dk_42 (dk_at dksX5_takesStart_0 8 rfl rfl)
theorem dX5_takesStart_9 : decode cX5_takesStart 9 = .ok (.getfield 28, 3) := dk_180 0 28 (dk_at dksX5_takesStart_0 9 rfl rfl)
theorem dX5_takesStart_12 : decode cX5_takesStart 12 = .ok (.iload_n 1, 1) := dk_27 (dk_at dksX5_takesStart_0 12 rfl rfl)
theorem dX5_takesStart_13 : decode cX5_takesStart 13 = .ok (.aload_n 0, 1) := dk_42 (dk_at dksX5_takesStart_0 13 rfl rfl)
theorem dX5_takesStart_14 : decode cX5_takesStart 14 = .ok (.getfield 13, 3) := dk_180 0 13 (dk_at dksX5_takesStart_0 14 rfl rfl)
theorem dX5_takesStart_17 : decode cX5_takesStart 17 = .ok (.iload_n 1, 1) := dk_27 (dk_at dksX5_takesStart_0 17 rfl rfl)
theorem dX5_takesStart_18 : decode cX5_takesStart 18 = .ok (.iaload, 1) := dk_46 (dk_at dksX5_takesStart_0 18 rfl rfl)
theorem dX5_takesStart_19 : decode cX5_takesStart 19 = .ok (.iastore, 1) := dk_79 (dk_at dksX5_takesStart_0 19 rfl rfl)
theorem dX5_takesStart_20 : decode cX5_takesStart 20 = .ok (.iinc 1 1, 3) := dk_132 1 1 (dk_at dksX5_takesStart_0 20 rfl rfl)
theorem dX5_takesStart_23 : decode cX5_takesStart 23 = .ok (.goto (-21), 3) := dk_167 255 235 (dk_at dksX5_takesStart_1 0 rfl rfl)
theorem dX5_takesStart_26 : decode cX5_takesStart 26 = .ok (.return_, 1) := dk_177 (dk_at dksX5_takesStart_1 3 rfl rfl)
def dkwX5_doesTurn_2 : List UInt8 := [46, 42, 180, 0, 19, 21, 4, 6, 96, 46, 182, 0, 57, 132, 3, 1, 167, 255, 203, 177]
abbrev dktX5_doesTurn_2 : List UInt8 := dkwX5_doesTurn_2 ++ []
def dkwX5_doesTurn_1 : List UInt8 := [7, 29, 104, 96, 54, 4, 42, 42, 180, 0, 19, 21, 4, 4, 96, 46, 42, 180, 0, 19, 21, 4, 5, 96]
abbrev dktX5_doesTurn_1 : List UInt8 := dkwX5_doesTurn_1 ++ dktX5_doesTurn_2
def dkwX5_doesTurn_0 : List UInt8 := [17, 1, 132, 16, 33, 27, 104, 96, 61, 3, 62, 29, 42, 180, 0, 19, 28, 46, 162, 0, 49, 28, 4, 96]
abbrev dktX5_doesTurn_0 : List UInt8 := dkwX5_doesTurn_0 ++ dktX5_doesTurn_1
theorem dksX5_doesTurn_0 : cX5_doesTurn.data.toList.drop 0 = dktX5_doesTurn_0 := by decide +kernel
theorem dksX5_doesTurn_1 : cX5_doesTurn.data.toList.drop 24 = dktX5_doesTurn_1 := dk_seg dksX5_doesTurn_0 24 rfl rfl
theorem dksX5_doesTurn_2 : cX5_doesTurn.data.toList.drop 48 = dktX5_doesTurn_2 := dk_seg dksX5_doesTurn_1 24 rfl rfl
theorem dX5_doesTurn_0 : decode cX5_doesTurn 0 = .ok (.sipush 388, 3) := dk_17 1 132 (dk_at dksX5_doesTurn_0 0 rfl rfl)
theorem dX5_doesTurn_3 : decode cX5_doesTurn 3 = .ok (.bipush 33, 2) := dk_16 33 (dk_at dksX5_doesTurn_0 3 rfl rfl)
theorem dX5_doesTurn_5 : decode cX5_doesTurn 5 = .ok (.iload_n 1, 1) := dk_27 (dk_at dksX5_doesTurn_0 5 rfl rfl)
theorem dX5_doesTurn_6 : decode cX5_doesTurn 6 = .ok (.imul, 1) := dk_104 (dk_at dksX5_doesTurn_0 6 rfl rfl)
theorem dX5_doesTurn_7 : decode cX5_doesTurn 7 = .ok (.iadd, 1) := dk_96 (dk_at dksX5_doesTurn_0 7 rfl rfl)
theorem dX5_doesTurn_8 : decode cX5_doesTurn 8 = .ok (.istore_n 2, 1) := dk_61 (dk_at dksX5_doesTurn_0 8 rfl rfl)
theorem dX5_doesTurn_9 : decode cX5_doesTurn 9 = .ok (.iconst 0, 1) := dk_3 (dk_at dksX5_doesTurn_0 9 rfl rfl)
theorem dX5_doesTurn_10 : decode cX5_doesTurn 10 = .ok (.istore_n 3, 1) := dk_62 (dk_at dksX5_doesTurn_0 10 rfl rfl)
theorem dX5_doesTurn_11 : decode cX5_doesTurn 11 = .ok (.iload_n 3, 1) := dk_29 (dk_at dksX5_doesTurn_0 11 rfl rfl)
theorem dX5_doesTurn_12 : decode cX5_doesTurn 12 = .ok (.aload_n 0, 1) := dk_42 (dk_at dksX5_doesTurn_0 12 rfl rfl)
theorem dX5_doesTurn_13 : decode cX5_doesTurn 13 = .ok (.getfield 19, 3) := dk_180 0 19 (dk_at dksX5_doesTurn_0 13 rfl rfl)
theorem dX5_doesTurn_16 : decode cX5_doesTurn 16 = .ok (.iload_n 2, 1) := dk_28 (dk_at dksX5_doesTurn_0 16 rfl rfl)
theorem dX5_doesTurn_17 : decode cX5_doesTurn 17 = .ok (.iaload, 1) := dk_46 (dk_at dksX5_doesTurn_0 17 rfl rfl)
theorem dX5_doesTurn_18 : decode cX5_doesTurn 18 = .ok (.if_icmp .ge 49, 3) := dk_162 0 49 (dk_at dksX5_doesTurn_0 18 rfl rfl)
theorem dX5_doesTurn_21 : decode cX5_doesTurn 21 = .ok (.iload_n 2, 1) := dk_28 (dk_at dksX5_doesTurn_0 21 rfl rfl)
theorem dX5_doesTurn_22 : decode cX5_doesTurn 22 = .ok (.iconst 1, 1) := dk_4 (dk_at dksX5_doesTurn_0 22 rfl rfl)
theorem dX5_doesTurn_23 : decode cX5_doesTurn 23 = .ok (.iadd, 1) := dk_96 (dk_at dksX5_doesTurn_0 23 rfl rfl)
theorem dX5_doesTurn_24 : decode cX5_doesTurn 24 = .ok (.iconst 4, 1) := dk_7 (dk_at dksX5_doesTurn_1 0 rfl rfl)
theorem dX5_doesTurn_25 : decode cX5_doesTurn 25 = .ok (.iload_n 3, 1) := dk_29 (dk_at dksX5_doesTurn_1 1 rfl rfl)
theorem dX5_doesTurn_26 : decode cX5_doesTurn 26 = .ok (.imul, 1) := dk_104 (dk_at dksX5_doesTurn_1 2 rfl rfl)
theorem dX5_doesTurn_27 : decode cX5_doesTurn 27 = .ok (.iadd, 1) := dk_96 (dk_at dksX5_doesTurn_1 3 rfl rfl)
theorem dX5_doesTurn_28 : decode cX5_doesTurn 28 = .ok (.istore 4, 2) := dk_54 4 (dk_at dksX5_doesTurn_1 4 rfl rfl)
theorem dX5_doesTurn_30 : decode cX5_doesTurn 30 = .ok (.aload_n 0, 1) := dk_42 (dk_at dksX5_doesTurn_1 6 rfl rfl)
theorem dX5_doesTurn_31 : decode cX5_doesTurn 31 = .ok (.aload_n 0, 1) := dk_42 (dk_at dksX5_doesTurn_1 7 rfl rfl)
theorem dX5_doesTurn_32 : decode cX5_doesTurn 32 = .ok (.getfield 19, 3) := dk_180 0 19 (dk_at dksX5_doesTurn_1 8 rfl rfl)
theorem dX5_doesTurn_35 : decode cX5_doesTurn 35 = .ok (.iload 4, 2) := dk_21 4 (dk_at dksX5_doesTurn_1 11 rfl rfl)
theorem dX5_doesTurn_37 : decode cX5_doesTurn 37 = .ok (.iconst 1, 1) := dk_4 (dk_at dksX5_doesTurn_1 13 rfl rfl)
theorem dX5_doesTurn_38 : decode cX5_doesTurn 38 = .ok (.iadd, 1) := dk_96 (dk_at dksX5_doesTurn_1 14 rfl rfl)
theorem dX5_doesTurn_39 : decode cX5_doesTurn 39 = .ok (.iaload, 1) := dk_46 (dk_at dksX5_doesTurn_1 15 rfl rfl)
theorem dX5_doesTurn_40 : decode cX5_doesTurn 40 = .ok (.aload_n 0, 1) := dk_42 (dk_at dksX5_doesTurn_1 16 rfl rfl)
theorem dX5_doesTurn_41 : decode cX5_doesTurn 41 = .ok (.getfield 19, 3) := dk_180 0 19 (dk_at dksX5_doesTurn_1 17 rfl rfl)
theorem dX5_doesTurn_44 : decode cX5_doesTurn 44 = .ok (.iload 4, 2) := dk_21 4 (dk_at dksX5_doesTurn_1 20 rfl rfl)
theorem dX5_doesTurn_46 : decode cX5_doesTurn 46 = .ok (.iconst 2, 1) := dk_5 (dk_at dksX5_doesTurn_1 22 rfl rfl)
theorem dX5_doesTurn_47 : decode cX5_doesTurn 47 = .ok (.iadd, 1) := dk_96 (dk_at dksX5_doesTurn_1 23 rfl rfl)
theorem dX5_doesTurn_48 : decode cX5_doesTurn 48 = .ok (.iaload, 1) := dk_46 (dk_at dksX5_doesTurn_2 0 rfl rfl)
theorem dX5_doesTurn_49 : decode cX5_doesTurn 49 = .ok (.aload_n 0, 1) := dk_42 (dk_at dksX5_doesTurn_2 1 rfl rfl)
theorem dX5_doesTurn_50 : decode cX5_doesTurn 50 = .ok (.getfield 19, 3) := dk_180 0 19 (dk_at dksX5_doesTurn_2 2 rfl rfl)
theorem dX5_doesTurn_53 : decode cX5_doesTurn 53 = .ok (.iload 4, 2) := dk_21 4 (dk_at dksX5_doesTurn_2 5 rfl rfl)
theorem dX5_doesTurn_55 : decode cX5_doesTurn 55 = .ok (.iconst 3, 1) := dk_6 (dk_at dksX5_doesTurn_2 7 rfl rfl)
theorem dX5_doesTurn_56 : decode cX5_doesTurn 56 = .ok (.iadd, 1) := dk_96 (dk_at dksX5_doesTurn_2 8 rfl rfl)
theorem dX5_doesTurn_57 : decode cX5_doesTurn 57 = .ok (.iaload, 1) := dk_46 (dk_at dksX5_doesTurn_2 9 rfl rfl)
theorem dX5_doesTurn_58 : decode cX5_doesTurn 58 = .ok (.invokevirtual 57, 3) := dk_182 0 57 (dk_at dksX5_doesTurn_2 10 rfl rfl)
theorem dX5_doesTurn_61 : decode cX5_doesTurn 61 = .ok (.iinc 3 1, 3) := dk_132 3 1 (dk_at dksX5_doesTurn_2 13 rfl rfl)
theorem dX5_doesTurn_64 : decode cX5_doesTurn 64 = .ok (.goto (-53), 3) := dk_167 255 203 (dk_at dksX5_doesTurn_2 16 rfl rfl)
theorem dX5_doesTurn_67 : decode cX5_doesTurn 67 = .ok (.return_, 1) := dk_177 (dk_at dksX5_doesTurn_2 19 rfl rfl)
def dkwX5_does_6 : List UInt8 := [42, 180, 0, 28, 29, 46, 104, 17, 39, 16, 112, 79, 177]
abbrev dktX5_does_6 : List UInt8 := dkwX5_does_6 ++ []
def dkwX5_does_5 : List UInt8 := [180, 0, 28, 29, 46, 79, 42, 180, 0, 28, 29, 21, 4, 79, 167, 0, 22, 42, 180, 0, 28, 28, 21, 4]
abbrev dktX5_does_5 : List UInt8 := dkwX5_does_5 ++ dktX5_does_6
def dkwX5_does_4 : List UInt8 := [21, 4, 42, 180, 0, 28, 29, 46, 96, 17, 39, 16, 112, 79, 167, 0, 45, 42, 180, 0, 28, 28, 42]
abbrev dktX5_does_4 : List UInt8 := dkwX5_does_4 ++ dktX5_does_5
def dkwX5_does_3 : List UInt8 := [167, 0, 82, 42, 180, 0, 28, 28, 42, 180, 0, 28, 29, 46, 79, 167, 0, 67, 42, 180, 0, 28, 28]
abbrev dktX5_does_3 : List UInt8 := dkwX5_does_3 ++ dktX5_does_4
def dkwX5_does_2 : List UInt8 := [42, 180, 0, 28, 28, 29, 79, 167, 0, 99, 42, 180, 0, 28, 28, 21, 4, 29, 96, 17, 39, 16, 112, 79]
abbrev dktX5_does_2 : List UInt8 := dkwX5_does_2 ++ dktX5_does_3
def dkwX5_does_1 : List UInt8 := [170, 0, 0, 0, 0, 0, 122, 0, 0, 0, 0, 0, 0, 0, 4, 0, 0, 0, 35, 0, 0, 0, 45, 0, 0, 0, 62, 0, 0, 0, 77, 0, 0, 0, 99]
abbrev dktX5_does_1 : List UInt8 := dkwX5_does_1 ++ dktX5_does_2
def dkwX5_does_0 : List UInt8 := [42, 180, 0, 28, 28, 46, 54, 4, 27]
abbrev dktX5_does_0 : List UInt8 := dkwX5_does_0 ++ dktX5_does_1
theorem dksX5_does_0 : cX5_does.data.toList.drop 0 = dktX5_does_0 := by decide +kernel
theorem dksX5_does_1 : cX5_does.data.toList.drop 9 = dktX5_does_1 := dk_seg dksX5_does_0 9 rfl rfl
theorem dksX5_does_2 : cX5_does.data.toList.drop 44 = dktX5_does_2 := dk_seg dksX5_does_1 35 rfl rfl
theorem dksX5_does_3 : cX5_does.data.toList.drop 68 = dktX5_does_3 := dk_seg dksX5_does_2 24 rfl rfl
theorem dksX5_does_4 : cX5_does.data.toList.drop 91 = dktX5_does_4 := dk_seg dksX5_does_3 23 rfl rfl
theorem dksX5_does_5 : cX5_does.data.toList.drop 114 = dktX5_does_5 := dk_seg dksX5_does_4 23 rfl rfl
theorem dksX5_does_6 : cX5_does.data.toList.drop 138 = dktX5_does_6 := dk_seg dksX5_does_5 24 rfl rfl
theorem dX5_does_0 : decode cX5_does 0 = .ok (.aload_n 0, 1) := dk_42 (dk_at dksX5_does_0 0 rfl rfl)
theorem dX5_does_1 : decode cX5_does 1 = .ok (.getfield 28, 3) := dk_180 0 28 (dk_at dksX5_does_0 1 rfl rfl)
theorem dX5_does_4 : decode cX5_does 4 = .ok (.iload_n 2, 1) := dk_28 (dk_at dksX5_does_0 4 rfl rfl)
theorem dX5_does_5 : decode cX5_does 5 = .ok (.iaload, 1) := dk_46 (dk_at dksX5_does_0 5 rfl rfl)
theorem dX5_does_6 : decode cX5_does 6 = .ok (.istore 4, 2) := dk_54 4 (dk_at dksX5_does_0 6 rfl rfl)
theorem dX5_does_8 : decode cX5_does 8 = .ok (.iload_n 1, 1) := dk_27 (dk_at dksX5_does_0 8 rfl rfl)
theorem dX5_does_9 : decode cX5_does 9 = .ok (.tableswitch 122 0 4 #[35, 45, 62, 77, 99], 35) := by decide +kernel
theorem dX5_does_44 : decode cX5_does 44 = .ok (.aload_n 0, 1) := dk_42 (dk_at dksX5_does_2 0 rfl rfl)
theorem dX5_does_45 : decode cX5_does 45 = .ok (.getfield 28, 3) := dk_180 0 28 (dk_at dksX5_does_2 1 rfl rfl)
theorem dX5_does_48 : decode cX5_does 48 = .ok (.iload_n 2, 1) := dk_28 (dk_at dksX5_does_2 4 rfl rfl)
theorem dX5_does_49 : decode cX5_does 49 = .ok (.iload_n 3, 1) := dk_29 (dk_at dksX5_does_2 5 rfl rfl)
theorem dX5_does_50 : decode cX5_does 50 = .ok (.iastore, 1) := dk_79 (dk_at dksX5_does_2 6 rfl rfl)
theorem dX5_does_51 : decode cX5_does 51 = .ok (.goto 99, 3) := dk_167 0 99 (dk_at dksX5_does_2 7 rfl rfl)
theorem dX5_does_54 : decode cX5_does 54 = .ok (.aload_n 0, 1) := dk_42 (dk_at dksX5_does_2 10 rfl rfl)
theorem dX5_does_55 : decode cX5_does 55 = .ok (.getfield 28, 3) := dk_180 0 28 (dk_at dksX5_does_2 11 rfl rfl)
theorem dX5_does_58 : decode cX5_does 58 = .ok (.iload_n 2, 1) := dk_28 (dk_at dksX5_does_2 14 rfl rfl)
theorem dX5_does_59 : decode cX5_does 59 = .ok (.iload 4, 2) := dk_21 4 (dk_at dksX5_does_2 15 rfl rfl)
theorem dX5_does_61 : decode cX5_does 61 = .ok (.iload_n 3, 1) := dk_29 (dk_at dksX5_does_2 17 rfl rfl)
theorem dX5_does_62 : decode cX5_does 62 = .ok (.iadd, 1) := dk_96 (dk_at dksX5_does_2 18 rfl rfl)
theorem dX5_does_63 : decode cX5_does 63 = .ok (.sipush 10000, 3) := dk_17 39 16 (dk_at dksX5_does_2 19 rfl rfl)
theorem dX5_does_66 : decode cX5_does 66 = .ok (.irem, 1) := dk_112 (dk_at dksX5_does_2 22 rfl rfl)
theorem dX5_does_67 : decode cX5_does 67 = .ok (.iastore, 1) := dk_79 (dk_at dksX5_does_2 23 rfl rfl)
theorem dX5_does_68 : decode cX5_does 68 = .ok (.goto 82, 3) := dk_167 0 82 (dk_at dksX5_does_3 0 rfl rfl)
theorem dX5_does_71 : decode cX5_does 71 = .ok (.aload_n 0, 1) := dk_42 (dk_at dksX5_does_3 3 rfl rfl)
theorem dX5_does_72 : decode cX5_does 72 = .ok (.getfield 28, 3) := dk_180 0 28 (dk_at dksX5_does_3 4 rfl rfl)
theorem dX5_does_75 : decode cX5_does 75 = .ok (.iload_n 2, 1) := dk_28 (dk_at dksX5_does_3 7 rfl rfl)
theorem dX5_does_76 : decode cX5_does 76 = .ok (.aload_n 0, 1) := dk_42 (dk_at dksX5_does_3 8 rfl rfl)
theorem dX5_does_77 : decode cX5_does 77 = .ok (.getfield 28, 3) := dk_180 0 28 (dk_at dksX5_does_3 9 rfl rfl)
theorem dX5_does_80 : decode cX5_does 80 = .ok (.iload_n 3, 1) := dk_29 (dk_at dksX5_does_3 12 rfl rfl)
theorem dX5_does_81 : decode cX5_does 81 = .ok (.iaload, 1) := dk_46 (dk_at dksX5_does_3 13 rfl rfl)
theorem dX5_does_82 : decode cX5_does 82 = .ok (.iastore, 1) := dk_79 (dk_at dksX5_does_3 14 rfl rfl)
theorem dX5_does_83 : decode cX5_does 83 = .ok (.goto 67, 3) := dk_167 0 67 (dk_at dksX5_does_3 15 rfl rfl)
theorem dX5_does_86 : decode cX5_does 86 = .ok (.aload_n 0, 1) := dk_42 (dk_at dksX5_does_3 18 rfl rfl)
theorem dX5_does_87 : decode cX5_does 87 = .ok (.getfield 28, 3) := dk_180 0 28 (dk_at dksX5_does_3 19 rfl rfl)
theorem dX5_does_90 : decode cX5_does 90 = .ok (.iload_n 2, 1) := dk_28 (dk_at dksX5_does_3 22 rfl rfl)
theorem dX5_does_91 : decode cX5_does 91 = .ok (.iload 4, 2) := dk_21 4 (dk_at dksX5_does_4 0 rfl rfl)
theorem dX5_does_93 : decode cX5_does 93 = .ok (.aload_n 0, 1) := dk_42 (dk_at dksX5_does_4 2 rfl rfl)
theorem dX5_does_94 : decode cX5_does 94 = .ok (.getfield 28, 3) := dk_180 0 28 (dk_at dksX5_does_4 3 rfl rfl)
theorem dX5_does_97 : decode cX5_does 97 = .ok (.iload_n 3, 1) := dk_29 (dk_at dksX5_does_4 6 rfl rfl)
theorem dX5_does_98 : decode cX5_does 98 = .ok (.iaload, 1) := dk_46 (dk_at dksX5_does_4 7 rfl rfl)
theorem dX5_does_99 : decode cX5_does 99 = .ok (.iadd, 1) := dk_96 (dk_at dksX5_does_4 8 rfl rfl)
theorem dX5_does_100 : decode cX5_does 100 = .ok (.sipush 10000, 3) := dk_17 39 16 (dk_at dksX5_does_4 9 rfl rfl)
theorem dX5_does_103 : decode cX5_does 103 = .ok (.irem, 1) := dk_112 (dk_at dksX5_does_4 12 rfl rfl)
theorem dX5_does_104 : decode cX5_does 104 = .ok (.iastore, 1) := dk_79 (dk_at dksX5_does_4 13 rfl rfl)
theorem dX5_does_105 : decode cX5_does 105 = .ok (.goto 45, 3) := dk_167 0 45 (dk_at dksX5_does_4 14 rfl rfl)
theorem dX5_does_108 : decode cX5_does 108 = .ok (.aload_n 0, 1) := dk_42 (dk_at dksX5_does_4 17 rfl rfl)
theorem dX5_does_109 : decode cX5_does 109 = .ok (.getfield 28, 3) := dk_180 0 28 (dk_at dksX5_does_4 18 rfl rfl)
theorem dX5_does_112 : decode cX5_does 112 = .ok (.iload_n 2, 1) := dk_28 (dk_at dksX5_does_4 21 rfl rfl)
theorem dX5_does_113 : decode cX5_does 113 = .ok (.aload_n 0, 1) := dk_42 (dk_at dksX5_does_4 22 rfl rfl)
theorem dX5_does_114 : decode cX5_does 114 = .ok (.getfield 28, 3) := dk_180 0 28 (dk_at dksX5_does_5 0 rfl rfl)
theorem dX5_does_117 : decode cX5_does 117 = .ok (.iload_n 3, 1) := dk_29 (dk_at dksX5_does_5 3 rfl rfl)
theorem dX5_does_118 : decode cX5_does 118 = .ok (.iaload, 1) := dk_46 (dk_at dksX5_does_5 4 rfl rfl)
theorem dX5_does_119 : decode cX5_does 119 = .ok (.iastore, 1) := dk_79 (dk_at dksX5_does_5 5 rfl rfl)
theorem dX5_does_120 : decode cX5_does 120 = .ok (.aload_n 0, 1) := dk_42 (dk_at dksX5_does_5 6 rfl rfl)
theorem dX5_does_121 : decode cX5_does 121 = .ok (.getfield 28, 3) := dk_180 0 28 (dk_at dksX5_does_5 7 rfl rfl)
theorem dX5_does_124 : decode cX5_does 124 = .ok (.iload_n 3, 1) := dk_29 (dk_at dksX5_does_5 10 rfl rfl)
theorem dX5_does_125 : decode cX5_does 125 = .ok (.iload 4, 2) := dk_21 4 (dk_at dksX5_does_5 11 rfl rfl)
theorem dX5_does_127 : decode cX5_does 127 = .ok (.iastore, 1) := dk_79 (dk_at dksX5_does_5 13 rfl rfl)
theorem dX5_does_128 : decode cX5_does 128 = .ok (.goto 22, 3) := dk_167 0 22 (dk_at dksX5_does_5 14 rfl rfl)
theorem dX5_does_131 : decode cX5_does 131 = .ok (.aload_n 0, 1) := dk_42 (dk_at dksX5_does_5 17 rfl rfl)
theorem dX5_does_132 : decode cX5_does 132 = .ok (.getfield 28, 3) := dk_180 0 28 (dk_at dksX5_does_5 18 rfl rfl)
theorem dX5_does_135 : decode cX5_does 135 = .ok (.iload_n 2, 1) := dk_28 (dk_at dksX5_does_5 21 rfl rfl)
theorem dX5_does_136 : decode cX5_does 136 = .ok (.iload 4, 2) := dk_21 4 (dk_at dksX5_does_5 22 rfl rfl)
theorem dX5_does_138 : decode cX5_does 138 = .ok (.aload_n 0, 1) := dk_42 (dk_at dksX5_does_6 0 rfl rfl)
theorem dX5_does_139 : decode cX5_does 139 = .ok (.getfield 28, 3) := dk_180 0 28 (dk_at dksX5_does_6 1 rfl rfl)
theorem dX5_does_142 : decode cX5_does 142 = .ok (.iload_n 3, 1) := dk_29 (dk_at dksX5_does_6 4 rfl rfl)
theorem dX5_does_143 : decode cX5_does 143 = .ok (.iaload, 1) := dk_46 (dk_at dksX5_does_6 5 rfl rfl)
theorem dX5_does_144 : decode cX5_does 144 = .ok (.imul, 1) := dk_104 (dk_at dksX5_does_6 6 rfl rfl)
theorem dX5_does_145 : decode cX5_does 145 = .ok (.sipush 10000, 3) := dk_17 39 16 (dk_at dksX5_does_6 7 rfl rfl)
theorem dX5_does_148 : decode cX5_does 148 = .ok (.irem, 1) := dk_112 (dk_at dksX5_does_6 10 rfl rfl)
theorem dX5_does_149 : decode cX5_does 149 = .ok (.iastore, 1) := dk_79 (dk_at dksX5_does_6 11 rfl rfl)
theorem dX5_does_150 : decode cX5_does 150 = .ok (.return_, 1) := dk_177 (dk_at dksX5_does_6 12 rfl rfl)
def dkwX5_trueMembers_4 : List UInt8 := [167, 255, 174, 27, 172]
abbrev dktX5_trueMembers_4 : List UInt8 := dkwX5_trueMembers_4 ++ []
def dkwX5_trueMembers_3 : List UInt8 := [132, 4, 1, 167, 255, 216, 27, 29, 153, 0, 9, 4, 28, 120, 167, 0, 4, 3, 128, 60, 132, 2, 1]
abbrev dktX5_trueMembers_3 : List UInt8 := dkwX5_trueMembers_3 ++ dktX5_trueMembers_4
def dkwX5_trueMembers_2 : List UInt8 := [21, 4, 46, 42, 28, 16, 7, 21, 4, 96, 182, 0, 53, 160, 0, 7, 4, 167, 0, 4, 3, 62]
abbrev dktX5_trueMembers_2 : List UInt8 := dkwX5_trueMembers_2 ++ dktX5_trueMembers_3
def dkwX5_trueMembers_1 : List UInt8 := [182, 1, 78, 4, 62, 3, 54, 4, 21, 4, 16, 16, 162, 0, 39, 29, 153, 0, 27, 42, 180, 0, 28]
abbrev dktX5_trueMembers_1 : List UInt8 := dkwX5_trueMembers_1 ++ dktX5_trueMembers_2
def dkwX5_trueMembers_0 : List UInt8 := [42, 3, 181, 0, 47, 3, 60, 3, 61, 28, 42, 182, 0, 114, 162, 0, 80, 42, 42, 28, 182, 0, 92]
abbrev dktX5_trueMembers_0 : List UInt8 := dkwX5_trueMembers_0 ++ dktX5_trueMembers_1
theorem dksX5_trueMembers_0 : cX5_trueMembers.data.toList.drop 0 = dktX5_trueMembers_0 := by decide +kernel
theorem dksX5_trueMembers_1 : cX5_trueMembers.data.toList.drop 23 = dktX5_trueMembers_1 := dk_seg dksX5_trueMembers_0 23 rfl rfl
theorem dksX5_trueMembers_2 : cX5_trueMembers.data.toList.drop 46 = dktX5_trueMembers_2 := dk_seg dksX5_trueMembers_1 23 rfl rfl
theorem dksX5_trueMembers_3 : cX5_trueMembers.data.toList.drop 68 = dktX5_trueMembers_3 := dk_seg dksX5_trueMembers_2 22 rfl rfl
theorem dksX5_trueMembers_4 : cX5_trueMembers.data.toList.drop 91 = dktX5_trueMembers_4 := dk_seg dksX5_trueMembers_3 23 rfl rfl
theorem dX5_trueMembers_0 : decode cX5_trueMembers 0 = .ok (.aload_n 0, 1) := dk_42 (dk_at dksX5_trueMembers_0 0 rfl rfl)
theorem dX5_trueMembers_1 : decode cX5_trueMembers 1 = .ok (.iconst 0, 1) := dk_3 (dk_at dksX5_trueMembers_0 1 rfl rfl)
theorem dX5_trueMembers_2 : decode cX5_trueMembers 2 = .ok (.putfield 47, 3) := dk_181 0 47 (dk_at dksX5_trueMembers_0 2 rfl rfl)
theorem dX5_trueMembers_5 : decode cX5_trueMembers 5 = .ok (.iconst 0, 1) := dk_3 (dk_at dksX5_trueMembers_0 5 rfl rfl)
theorem dX5_trueMembers_6 : decode cX5_trueMembers 6 = .ok (.istore_n 1, 1) := dk_60 (dk_at dksX5_trueMembers_0 6 rfl rfl)
theorem dX5_trueMembers_7 : decode cX5_trueMembers 7 = .ok (.iconst 0, 1) := dk_3 (dk_at dksX5_trueMembers_0 7 rfl rfl)
theorem dX5_trueMembers_8 : decode cX5_trueMembers 8 = .ok (.istore_n 2, 1) := dk_61 (dk_at dksX5_trueMembers_0 8 rfl rfl)
theorem dX5_trueMembers_9 : decode cX5_trueMembers 9 = .ok (.iload_n 2, 1) := dk_28 (dk_at dksX5_trueMembers_0 9 rfl rfl)
theorem dX5_trueMembers_10 : decode cX5_trueMembers 10 = .ok (.aload_n 0, 1) := dk_42 (dk_at dksX5_trueMembers_0 10 rfl rfl)
theorem dX5_trueMembers_11 : decode cX5_trueMembers 11 = .ok (.invokevirtual 114, 3) := dk_182 0 114 (dk_at dksX5_trueMembers_0 11 rfl rfl)
theorem dX5_trueMembers_14 : decode cX5_trueMembers 14 = .ok (.if_icmp .ge 80, 3) := dk_162 0 80 (dk_at dksX5_trueMembers_0 14 rfl rfl)
theorem dX5_trueMembers_17 : decode cX5_trueMembers 17 = .ok (.aload_n 0, 1) := dk_42 (dk_at dksX5_trueMembers_0 17 rfl rfl)
theorem dX5_trueMembers_18 : decode cX5_trueMembers 18 = .ok (.aload_n 0, 1) := dk_42 (dk_at dksX5_trueMembers_0 18 rfl rfl)
theorem dX5_trueMembers_19 : decode cX5_trueMembers 19 = .ok (.iload_n 2, 1) := dk_28 (dk_at dksX5_trueMembers_0 19 rfl rfl)
theorem dX5_trueMembers_20 : decode cX5_trueMembers 20 = .ok (.invokevirtual 92, 3) := dk_182 0 92 (dk_at dksX5_trueMembers_0 20 rfl rfl)
theorem dX5_trueMembers_23 : decode cX5_trueMembers 23 = .ok (.invokevirtual 334, 3) := dk_182 1 78 (dk_at dksX5_trueMembers_1 0 rfl rfl)
theorem dX5_trueMembers_26 : decode cX5_trueMembers 26 = .ok (.iconst 1, 1) := dk_4 (dk_at dksX5_trueMembers_1 3 rfl rfl)
theorem dX5_trueMembers_27 : decode cX5_trueMembers 27 = .ok (.istore_n 3, 1) := dk_62 (dk_at dksX5_trueMembers_1 4 rfl rfl)
theorem dX5_trueMembers_28 : decode cX5_trueMembers 28 = .ok (.iconst 0, 1) := dk_3 (dk_at dksX5_trueMembers_1 5 rfl rfl)
theorem dX5_trueMembers_29 : decode cX5_trueMembers 29 = .ok (.istore 4, 2) := dk_54 4 (dk_at dksX5_trueMembers_1 6 rfl rfl)
theorem dX5_trueMembers_31 : decode cX5_trueMembers 31 = .ok (.iload 4, 2) := dk_21 4 (dk_at dksX5_trueMembers_1 8 rfl rfl)
theorem dX5_trueMembers_33 : decode cX5_trueMembers 33 = .ok (.bipush 16, 2) := dk_16 16 (dk_at dksX5_trueMembers_1 10 rfl rfl)
theorem dX5_trueMembers_35 : decode cX5_trueMembers 35 = .ok (.if_icmp .ge 39, 3) := dk_162 0 39 (dk_at dksX5_trueMembers_1 12 rfl rfl)
theorem dX5_trueMembers_38 : decode cX5_trueMembers 38 = .ok (.iload_n 3, 1) := dk_29 (dk_at dksX5_trueMembers_1 15 rfl rfl)
theorem dX5_trueMembers_39 : decode cX5_trueMembers 39 = .ok (.ifCond .eq 27, 3) := dk_153 0 27 (dk_at dksX5_trueMembers_1 16 rfl rfl)
theorem dX5_trueMembers_42 : decode cX5_trueMembers 42 = .ok (.aload_n 0, 1) := dk_42 (dk_at dksX5_trueMembers_1 19 rfl rfl)
theorem dX5_trueMembers_43 : decode cX5_trueMembers 43 = .ok (.getfield 28, 3) := dk_180 0 28 (dk_at dksX5_trueMembers_1 20 rfl rfl)
theorem dX5_trueMembers_46 : decode cX5_trueMembers 46 = .ok (.iload 4, 2) := dk_21 4 (dk_at dksX5_trueMembers_2 0 rfl rfl)
theorem dX5_trueMembers_48 : decode cX5_trueMembers 48 = .ok (.iaload, 1) := dk_46 (dk_at dksX5_trueMembers_2 2 rfl rfl)
theorem dX5_trueMembers_49 : decode cX5_trueMembers 49 = .ok (.aload_n 0, 1) := dk_42 (dk_at dksX5_trueMembers_2 3 rfl rfl)
theorem dX5_trueMembers_50 : decode cX5_trueMembers 50 = .ok (.iload_n 2, 1) := dk_28 (dk_at dksX5_trueMembers_2 4 rfl rfl)
theorem dX5_trueMembers_51 : decode cX5_trueMembers 51 = .ok (.bipush 7, 2) := dk_16 7 (dk_at dksX5_trueMembers_2 5 rfl rfl)
theorem dX5_trueMembers_53 : decode cX5_trueMembers 53 = .ok (.iload 4, 2) := dk_21 4 (dk_at dksX5_trueMembers_2 7 rfl rfl)
theorem dX5_trueMembers_55 : decode cX5_trueMembers 55 = .ok (.iadd, 1) := dk_96 (dk_at dksX5_trueMembers_2 9 rfl rfl)
theorem dX5_trueMembers_56 : decode cX5_trueMembers 56 = .ok (.invokevirtual 53, 3) := dk_182 0 53 (dk_at dksX5_trueMembers_2 10 rfl rfl)
theorem dX5_trueMembers_59 : decode cX5_trueMembers 59 = .ok (.if_icmp .ne 7, 3) := dk_160 0 7 (dk_at dksX5_trueMembers_2 13 rfl rfl)
theorem dX5_trueMembers_62 : decode cX5_trueMembers 62 = .ok (.iconst 1, 1) := dk_4 (dk_at dksX5_trueMembers_2 16 rfl rfl)
theorem dX5_trueMembers_63 : decode cX5_trueMembers 63 = .ok (.goto 4, 3) := dk_167 0 4 (dk_at dksX5_trueMembers_2 17 rfl rfl)
theorem dX5_trueMembers_66 : decode cX5_trueMembers 66 = .ok (.iconst 0, 1) := dk_3 (dk_at dksX5_trueMembers_2 20 rfl rfl)
theorem dX5_trueMembers_67 : decode cX5_trueMembers 67 = .ok (.istore_n 3, 1) := dk_62 (dk_at dksX5_trueMembers_2 21 rfl rfl)
theorem dX5_trueMembers_68 : decode cX5_trueMembers 68 = .ok (.iinc 4 1, 3) := dk_132 4 1 (dk_at dksX5_trueMembers_3 0 rfl rfl)
theorem dX5_trueMembers_71 : decode cX5_trueMembers 71 = .ok (.goto (-40), 3) := dk_167 255 216 (dk_at dksX5_trueMembers_3 3 rfl rfl)
theorem dX5_trueMembers_74 : decode cX5_trueMembers 74 = .ok (.iload_n 1, 1) := dk_27 (dk_at dksX5_trueMembers_3 6 rfl rfl)
theorem dX5_trueMembers_75 : decode cX5_trueMembers 75 = .ok (.iload_n 3, 1) := dk_29 (dk_at dksX5_trueMembers_3 7 rfl rfl)
theorem dX5_trueMembers_76 : decode cX5_trueMembers 76 = .ok (.ifCond .eq 9, 3) := dk_153 0 9 (dk_at dksX5_trueMembers_3 8 rfl rfl)
theorem dX5_trueMembers_79 : decode cX5_trueMembers 79 = .ok (.iconst 1, 1) := dk_4 (dk_at dksX5_trueMembers_3 11 rfl rfl)
theorem dX5_trueMembers_80 : decode cX5_trueMembers 80 = .ok (.iload_n 2, 1) := dk_28 (dk_at dksX5_trueMembers_3 12 rfl rfl)
theorem dX5_trueMembers_81 : decode cX5_trueMembers 81 = .ok (.ishl, 1) := dk_120 (dk_at dksX5_trueMembers_3 13 rfl rfl)
theorem dX5_trueMembers_82 : decode cX5_trueMembers 82 = .ok (.goto 4, 3) := dk_167 0 4 (dk_at dksX5_trueMembers_3 14 rfl rfl)
theorem dX5_trueMembers_85 : decode cX5_trueMembers 85 = .ok (.iconst 0, 1) := dk_3 (dk_at dksX5_trueMembers_3 17 rfl rfl)
theorem dX5_trueMembers_86 : decode cX5_trueMembers 86 = .ok (.ior, 1) := dk_128 (dk_at dksX5_trueMembers_3 18 rfl rfl)
theorem dX5_trueMembers_87 : decode cX5_trueMembers 87 = .ok (.istore_n 1, 1) := dk_60 (dk_at dksX5_trueMembers_3 19 rfl rfl)
theorem dX5_trueMembers_88 : decode cX5_trueMembers 88 = .ok (.iinc 2 1, 3) := dk_132 2 1 (dk_at dksX5_trueMembers_3 20 rfl rfl)
theorem dX5_trueMembers_91 : decode cX5_trueMembers 91 = .ok (.goto (-82), 3) := dk_167 255 174 (dk_at dksX5_trueMembers_4 0 rfl rfl)
theorem dX5_trueMembers_94 : decode cX5_trueMembers 94 = .ok (.iload_n 1, 1) := dk_27 (dk_at dksX5_trueMembers_4 3 rfl rfl)
theorem dX5_trueMembers_95 : decode cX5_trueMembers 95 = .ok (.ireturn, 1) := dk_172 (dk_at dksX5_trueMembers_4 4 rfl rfl)
def dkwX5_foreseen_3 : List UInt8 := [180, 0, 28, 28, 46, 172]
abbrev dktX5_foreseen_3 : List UInt8 := dkwX5_foreseen_3 ++ []
def dkwX5_foreseen_2 : List UInt8 := [46, 162, 0, 20, 42, 29, 182, 0, 102, 42, 27, 29, 182, 0, 105, 132, 3, 1, 167, 255, 230, 42]
abbrev dktX5_foreseen_2 : List UInt8 := dkwX5_foreseen_2 ++ dktX5_foreseen_3
def dkwX5_foreseen_1 : List UInt8 := [154, 0, 5, 3, 172, 42, 27, 182, 0, 71, 42, 27, 182, 0, 92, 62, 29, 42, 180, 0, 19, 17, 1, 131]
abbrev dktX5_foreseen_1 : List UInt8 := dkwX5_foreseen_1 ++ dktX5_foreseen_2
def dkwX5_foreseen_0 : List UInt8 := [42, 42, 27, 182, 1, 33, 153, 0, 14, 28, 184, 1, 43, 153, 0, 7, 4, 167, 0, 4, 3, 182, 1, 36]
abbrev dktX5_foreseen_0 : List UInt8 := dkwX5_foreseen_0 ++ dktX5_foreseen_1
theorem dksX5_foreseen_0 : cX5_foreseen.data.toList.drop 0 = dktX5_foreseen_0 := by decide +kernel
theorem dksX5_foreseen_1 : cX5_foreseen.data.toList.drop 24 = dktX5_foreseen_1 := dk_seg dksX5_foreseen_0 24 rfl rfl
theorem dksX5_foreseen_2 : cX5_foreseen.data.toList.drop 48 = dktX5_foreseen_2 := dk_seg dksX5_foreseen_1 24 rfl rfl
theorem dksX5_foreseen_3 : cX5_foreseen.data.toList.drop 70 = dktX5_foreseen_3 := dk_seg dksX5_foreseen_2 22 rfl rfl
theorem dX5_foreseen_0 : decode cX5_foreseen 0 = .ok (.aload_n 0, 1) := dk_42 (dk_at dksX5_foreseen_0 0 rfl rfl)
theorem dX5_foreseen_1 : decode cX5_foreseen 1 = .ok (.aload_n 0, 1) := dk_42 (dk_at dksX5_foreseen_0 1 rfl rfl)
theorem dX5_foreseen_2 : decode cX5_foreseen 2 = .ok (.iload_n 1, 1) := dk_27 (dk_at dksX5_foreseen_0 2 rfl rfl)
theorem dX5_foreseen_3 : decode cX5_foreseen 3 = .ok (.invokevirtual 289, 3) := dk_182 1 33 (dk_at dksX5_foreseen_0 3 rfl rfl)
theorem dX5_foreseen_6 : decode cX5_foreseen 6 = .ok (.ifCond .eq 14, 3) := dk_153 0 14 (dk_at dksX5_foreseen_0 6 rfl rfl)
theorem dX5_foreseen_9 : decode cX5_foreseen 9 = .ok (.iload_n 2, 1) := dk_28 (dk_at dksX5_foreseen_0 9 rfl rfl)
theorem dX5_foreseen_10 : decode cX5_foreseen 10 = .ok (.invokestatic 299, 3) := dk_184 1 43 (dk_at dksX5_foreseen_0 10 rfl rfl)
theorem dX5_foreseen_13 : decode cX5_foreseen 13 = .ok (.ifCond .eq 7, 3) := dk_153 0 7 (dk_at dksX5_foreseen_0 13 rfl rfl)
theorem dX5_foreseen_16 : decode cX5_foreseen 16 = .ok (.iconst 1, 1) := dk_4 (dk_at dksX5_foreseen_0 16 rfl rfl)
theorem dX5_foreseen_17 : decode cX5_foreseen 17 = .ok (.goto 4, 3) := dk_167 0 4 (dk_at dksX5_foreseen_0 17 rfl rfl)
theorem dX5_foreseen_20 : decode cX5_foreseen 20 = .ok (.iconst 0, 1) := dk_3 (dk_at dksX5_foreseen_0 20 rfl rfl)
theorem dX5_foreseen_21 : decode cX5_foreseen 21 = .ok (.invokevirtual 292, 3) := dk_182 1 36 (dk_at dksX5_foreseen_0 21 rfl rfl)
theorem dX5_foreseen_24 : decode cX5_foreseen 24 = .ok (.ifCond .ne 5, 3) := dk_154 0 5 (dk_at dksX5_foreseen_1 0 rfl rfl)
theorem dX5_foreseen_27 : decode cX5_foreseen 27 = .ok (.iconst 0, 1) := dk_3 (dk_at dksX5_foreseen_1 3 rfl rfl)
theorem dX5_foreseen_28 : decode cX5_foreseen 28 = .ok (.ireturn, 1) := dk_172 (dk_at dksX5_foreseen_1 4 rfl rfl)
theorem dX5_foreseen_29 : decode cX5_foreseen 29 = .ok (.aload_n 0, 1) := dk_42 (dk_at dksX5_foreseen_1 5 rfl rfl)
theorem dX5_foreseen_30 : decode cX5_foreseen 30 = .ok (.iload_n 1, 1) := dk_27 (dk_at dksX5_foreseen_1 6 rfl rfl)
theorem dX5_foreseen_31 : decode cX5_foreseen 31 = .ok (.invokevirtual 71, 3) := dk_182 0 71 (dk_at dksX5_foreseen_1 7 rfl rfl)
theorem dX5_foreseen_34 : decode cX5_foreseen 34 = .ok (.aload_n 0, 1) := dk_42 (dk_at dksX5_foreseen_1 10 rfl rfl)
theorem dX5_foreseen_35 : decode cX5_foreseen 35 = .ok (.iload_n 1, 1) := dk_27 (dk_at dksX5_foreseen_1 11 rfl rfl)
theorem dX5_foreseen_36 : decode cX5_foreseen 36 = .ok (.invokevirtual 92, 3) := dk_182 0 92 (dk_at dksX5_foreseen_1 12 rfl rfl)
theorem dX5_foreseen_39 : decode cX5_foreseen 39 = .ok (.istore_n 3, 1) := dk_62 (dk_at dksX5_foreseen_1 15 rfl rfl)
theorem dX5_foreseen_40 : decode cX5_foreseen 40 = .ok (.iload_n 3, 1) := dk_29 (dk_at dksX5_foreseen_1 16 rfl rfl)
theorem dX5_foreseen_41 : decode cX5_foreseen 41 = .ok (.aload_n 0, 1) := dk_42 (dk_at dksX5_foreseen_1 17 rfl rfl)
theorem dX5_foreseen_42 : decode cX5_foreseen 42 = .ok (.getfield 19, 3) := dk_180 0 19 (dk_at dksX5_foreseen_1 18 rfl rfl)
theorem dX5_foreseen_45 : decode cX5_foreseen 45 = .ok (.sipush 387, 3) := dk_17 1 131 (dk_at dksX5_foreseen_1 21 rfl rfl)
theorem dX5_foreseen_48 : decode cX5_foreseen 48 = .ok (.iaload, 1) := dk_46 (dk_at dksX5_foreseen_2 0 rfl rfl)
theorem dX5_foreseen_49 : decode cX5_foreseen 49 = .ok (.if_icmp .ge 20, 3) := dk_162 0 20 (dk_at dksX5_foreseen_2 1 rfl rfl)
theorem dX5_foreseen_52 : decode cX5_foreseen 52 = .ok (.aload_n 0, 1) := dk_42 (dk_at dksX5_foreseen_2 4 rfl rfl)
theorem dX5_foreseen_53 : decode cX5_foreseen 53 = .ok (.iload_n 3, 1) := dk_29 (dk_at dksX5_foreseen_2 5 rfl rfl)
theorem dX5_foreseen_54 : decode cX5_foreseen 54 = .ok (.invokevirtual 102, 3) := dk_182 0 102 (dk_at dksX5_foreseen_2 6 rfl rfl)
theorem dX5_foreseen_57 : decode cX5_foreseen 57 = .ok (.aload_n 0, 1) := dk_42 (dk_at dksX5_foreseen_2 9 rfl rfl)
theorem dX5_foreseen_58 : decode cX5_foreseen 58 = .ok (.iload_n 1, 1) := dk_27 (dk_at dksX5_foreseen_2 10 rfl rfl)
theorem dX5_foreseen_59 : decode cX5_foreseen 59 = .ok (.iload_n 3, 1) := dk_29 (dk_at dksX5_foreseen_2 11 rfl rfl)
theorem dX5_foreseen_60 : decode cX5_foreseen 60 = .ok (.invokevirtual 105, 3) := dk_182 0 105 (dk_at dksX5_foreseen_2 12 rfl rfl)
theorem dX5_foreseen_63 : decode cX5_foreseen 63 = .ok (.iinc 3 1, 3) := dk_132 3 1 (dk_at dksX5_foreseen_2 15 rfl rfl)
theorem dX5_foreseen_66 : decode cX5_foreseen 66 = .ok (.goto (-26), 3) := dk_167 255 230 (dk_at dksX5_foreseen_2 18 rfl rfl)
theorem dX5_foreseen_69 : decode cX5_foreseen 69 = .ok (.aload_n 0, 1) := dk_42 (dk_at dksX5_foreseen_2 21 rfl rfl)
theorem dX5_foreseen_70 : decode cX5_foreseen 70 = .ok (.getfield 28, 3) := dk_180 0 28 (dk_at dksX5_foreseen_3 0 rfl rfl)
theorem dX5_foreseen_73 : decode cX5_foreseen 73 = .ok (.iload_n 2, 1) := dk_28 (dk_at dksX5_foreseen_3 3 rfl rfl)
theorem dX5_foreseen_74 : decode cX5_foreseen 74 = .ok (.iaload, 1) := dk_46 (dk_at dksX5_foreseen_3 4 rfl rfl)
theorem dX5_foreseen_75 : decode cX5_foreseen 75 = .ok (.ireturn, 1) := dk_172 (dk_at dksX5_foreseen_3 5 rfl rfl)
def dkwX5_errs_3 : List UInt8 := [132, 3, 1, 167, 255, 185, 177]
abbrev dktX5_errs_3 : List UInt8 := dkwX5_errs_3 ++ []
def dkwX5_errs_2 : List UInt8 := [180, 0, 28, 42, 29, 5, 182, 0, 61, 46, 42, 29, 6, 182, 0, 61, 96, 17, 39, 16, 112, 79]
abbrev dktX5_errs_2 : List UInt8 := dkwX5_errs_2 ++ dktX5_errs_3
def dkwX5_errs_1 : List UInt8 := [42, 29, 4, 182, 0, 61, 28, 159, 0, 6, 167, 0, 36, 42, 180, 0, 28, 42, 29, 5, 182, 0, 61, 42]
abbrev dktX5_errs_1 : List UInt8 := dkwX5_errs_1 ++ dktX5_errs_2
def dkwX5_errs_0 : List UInt8 := [3, 62, 29, 42, 180, 0, 19, 17, 6, 205, 46, 162, 0, 65, 42, 29, 3, 182, 0, 61, 27, 160, 0, 49]
abbrev dktX5_errs_0 : List UInt8 := dkwX5_errs_0 ++ dktX5_errs_1
theorem dksX5_errs_0 : cX5_errs.data.toList.drop 0 = dktX5_errs_0 := by decide +kernel
theorem dksX5_errs_1 : cX5_errs.data.toList.drop 24 = dktX5_errs_1 := dk_seg dksX5_errs_0 24 rfl rfl
theorem dksX5_errs_2 : cX5_errs.data.toList.drop 48 = dktX5_errs_2 := dk_seg dksX5_errs_1 24 rfl rfl
theorem dksX5_errs_3 : cX5_errs.data.toList.drop 70 = dktX5_errs_3 := dk_seg dksX5_errs_2 22 rfl rfl
theorem dX5_errs_0 : decode cX5_errs 0 = .ok (.iconst 0, 1) := dk_3 (dk_at dksX5_errs_0 0 rfl rfl)
theorem dX5_errs_1 : decode cX5_errs 1 = .ok (.istore_n 3, 1) := dk_62 (dk_at dksX5_errs_0 1 rfl rfl)
theorem dX5_errs_2 : decode cX5_errs 2 = .ok (.iload_n 3, 1) := dk_29 (dk_at dksX5_errs_0 2 rfl rfl)
theorem dX5_errs_3 : decode cX5_errs 3 = .ok (.aload_n 0, 1) := dk_42 (dk_at dksX5_errs_0 3 rfl rfl)
theorem dX5_errs_4 : decode cX5_errs 4 = .ok (.getfield 19, 3) := dk_180 0 19 (dk_at dksX5_errs_0 4 rfl rfl)
theorem dX5_errs_7 : decode cX5_errs 7 = .ok (.sipush 1741, 3) := dk_17 6 205 (dk_at dksX5_errs_0 7 rfl rfl)
theorem dX5_errs_10 : decode cX5_errs 10 = .ok (.iaload, 1) := dk_46 (dk_at dksX5_errs_0 10 rfl rfl)
theorem dX5_errs_11 : decode cX5_errs 11 = .ok (.if_icmp .ge 65, 3) := dk_162 0 65 (dk_at dksX5_errs_0 11 rfl rfl)
theorem dX5_errs_14 : decode cX5_errs 14 = .ok (.aload_n 0, 1) := dk_42 (dk_at dksX5_errs_0 14 rfl rfl)
theorem dX5_errs_15 : decode cX5_errs 15 = .ok (.iload_n 3, 1) := dk_29 (dk_at dksX5_errs_0 15 rfl rfl)
theorem dX5_errs_16 : decode cX5_errs 16 = .ok (.iconst 0, 1) := dk_3 (dk_at dksX5_errs_0 16 rfl rfl)
theorem dX5_errs_17 : decode cX5_errs 17 = .ok (.invokevirtual 61, 3) := dk_182 0 61 (dk_at dksX5_errs_0 17 rfl rfl)
theorem dX5_errs_20 : decode cX5_errs 20 = .ok (.iload_n 1, 1) := dk_27 (dk_at dksX5_errs_0 20 rfl rfl)
theorem dX5_errs_21 : decode cX5_errs 21 = .ok (.if_icmp .ne 49, 3) := dk_160 0 49 (dk_at dksX5_errs_0 21 rfl rfl)
theorem dX5_errs_24 : decode cX5_errs 24 = .ok (.aload_n 0, 1) := dk_42 (dk_at dksX5_errs_1 0 rfl rfl)
theorem dX5_errs_25 : decode cX5_errs 25 = .ok (.iload_n 3, 1) := dk_29 (dk_at dksX5_errs_1 1 rfl rfl)
theorem dX5_errs_26 : decode cX5_errs 26 = .ok (.iconst 1, 1) := dk_4 (dk_at dksX5_errs_1 2 rfl rfl)
theorem dX5_errs_27 : decode cX5_errs 27 = .ok (.invokevirtual 61, 3) := dk_182 0 61 (dk_at dksX5_errs_1 3 rfl rfl)
theorem dX5_errs_30 : decode cX5_errs 30 = .ok (.iload_n 2, 1) := dk_28 (dk_at dksX5_errs_1 6 rfl rfl)
theorem dX5_errs_31 : decode cX5_errs 31 = .ok (.if_icmp .eq 6, 3) := dk_159 0 6 (dk_at dksX5_errs_1 7 rfl rfl)
theorem dX5_errs_34 : decode cX5_errs 34 = .ok (.goto 36, 3) := dk_167 0 36 (dk_at dksX5_errs_1 10 rfl rfl)
theorem dX5_errs_37 : decode cX5_errs 37 = .ok (.aload_n 0, 1) := dk_42 (dk_at dksX5_errs_1 13 rfl rfl)
theorem dX5_errs_38 : decode cX5_errs 38 = .ok (.getfield 28, 3) := dk_180 0 28 (dk_at dksX5_errs_1 14 rfl rfl)
theorem dX5_errs_41 : decode cX5_errs 41 = .ok (.aload_n 0, 1) := dk_42 (dk_at dksX5_errs_1 17 rfl rfl)
theorem dX5_errs_42 : decode cX5_errs 42 = .ok (.iload_n 3, 1) := dk_29 (dk_at dksX5_errs_1 18 rfl rfl)
theorem dX5_errs_43 : decode cX5_errs 43 = .ok (.iconst 2, 1) := dk_5 (dk_at dksX5_errs_1 19 rfl rfl)
theorem dX5_errs_44 : decode cX5_errs 44 = .ok (.invokevirtual 61, 3) := dk_182 0 61 (dk_at dksX5_errs_1 20 rfl rfl)
theorem dX5_errs_47 : decode cX5_errs 47 = .ok (.aload_n 0, 1) := dk_42 (dk_at dksX5_errs_1 23 rfl rfl)
theorem dX5_errs_48 : decode cX5_errs 48 = .ok (.getfield 28, 3) := dk_180 0 28 (dk_at dksX5_errs_2 0 rfl rfl)
theorem dX5_errs_51 : decode cX5_errs 51 = .ok (.aload_n 0, 1) := dk_42 (dk_at dksX5_errs_2 3 rfl rfl)
theorem dX5_errs_52 : decode cX5_errs 52 = .ok (.iload_n 3, 1) := dk_29 (dk_at dksX5_errs_2 4 rfl rfl)
theorem dX5_errs_53 : decode cX5_errs 53 = .ok (.iconst 2, 1) := dk_5 (dk_at dksX5_errs_2 5 rfl rfl)
theorem dX5_errs_54 : decode cX5_errs 54 = .ok (.invokevirtual 61, 3) := dk_182 0 61 (dk_at dksX5_errs_2 6 rfl rfl)
theorem dX5_errs_57 : decode cX5_errs 57 = .ok (.iaload, 1) := dk_46 (dk_at dksX5_errs_2 9 rfl rfl)
theorem dX5_errs_58 : decode cX5_errs 58 = .ok (.aload_n 0, 1) := dk_42 (dk_at dksX5_errs_2 10 rfl rfl)
theorem dX5_errs_59 : decode cX5_errs 59 = .ok (.iload_n 3, 1) := dk_29 (dk_at dksX5_errs_2 11 rfl rfl)
theorem dX5_errs_60 : decode cX5_errs 60 = .ok (.iconst 3, 1) := dk_6 (dk_at dksX5_errs_2 12 rfl rfl)
theorem dX5_errs_61 : decode cX5_errs 61 = .ok (.invokevirtual 61, 3) := dk_182 0 61 (dk_at dksX5_errs_2 13 rfl rfl)
theorem dX5_errs_64 : decode cX5_errs 64 = .ok (.iadd, 1) := dk_96 (dk_at dksX5_errs_2 16 rfl rfl)
theorem dX5_errs_65 : decode cX5_errs 65 = .ok (.sipush 10000, 3) := dk_17 39 16 (dk_at dksX5_errs_2 17 rfl rfl)
theorem dX5_errs_68 : decode cX5_errs 68 = .ok (.irem, 1) := dk_112 (dk_at dksX5_errs_2 20 rfl rfl)
theorem dX5_errs_69 : decode cX5_errs 69 = .ok (.iastore, 1) := dk_79 (dk_at dksX5_errs_2 21 rfl rfl)
theorem dX5_errs_70 : decode cX5_errs 70 = .ok (.iinc 3 1, 3) := dk_132 3 1 (dk_at dksX5_errs_3 0 rfl rfl)
theorem dX5_errs_73 : decode cX5_errs 73 = .ok (.goto (-71), 3) := dk_167 255 185 (dk_at dksX5_errs_3 3 rfl rfl)
theorem dX5_errs_76 : decode cX5_errs 76 = .ok (.return_, 1) := dk_177 (dk_at dksX5_errs_3 6 rfl rfl)
def dkwX5_lastWrite_2 : List UInt8 := [154, 0, 9, 132, 3, 255, 167, 255, 240, 29, 172]
abbrev dktX5_lastWrite_2 : List UInt8 := dkwX5_lastWrite_2 ++ []
def dkwX5_lastWrite_1 : List UInt8 := [154, 0, 5, 3, 172, 42, 27, 182, 0, 92, 4, 100, 62, 29, 155, 0, 18, 42, 29, 28, 182, 1, 81]
abbrev dktX5_lastWrite_1 : List UInt8 := dkwX5_lastWrite_1 ++ dktX5_lastWrite_2
def dkwX5_lastWrite_0 : List UInt8 := [42, 42, 27, 182, 1, 33, 153, 0, 14, 28, 184, 1, 43, 153, 0, 7, 4, 167, 0, 4, 3, 182, 1, 36]
abbrev dktX5_lastWrite_0 : List UInt8 := dkwX5_lastWrite_0 ++ dktX5_lastWrite_1
theorem dksX5_lastWrite_0 : cX5_lastWrite.data.toList.drop 0 = dktX5_lastWrite_0 := by decide +kernel
theorem dksX5_lastWrite_1 : cX5_lastWrite.data.toList.drop 24 = dktX5_lastWrite_1 := dk_seg dksX5_lastWrite_0 24 rfl rfl
theorem dksX5_lastWrite_2 : cX5_lastWrite.data.toList.drop 47 = dktX5_lastWrite_2 := dk_seg dksX5_lastWrite_1 23 rfl rfl
theorem dX5_lastWrite_0 : decode cX5_lastWrite 0 = .ok (.aload_n 0, 1) := dk_42 (dk_at dksX5_lastWrite_0 0 rfl rfl)
theorem dX5_lastWrite_1 : decode cX5_lastWrite 1 = .ok (.aload_n 0, 1) := dk_42 (dk_at dksX5_lastWrite_0 1 rfl rfl)
theorem dX5_lastWrite_2 : decode cX5_lastWrite 2 = .ok (.iload_n 1, 1) := dk_27 (dk_at dksX5_lastWrite_0 2 rfl rfl)
theorem dX5_lastWrite_3 : decode cX5_lastWrite 3 = .ok (.invokevirtual 289, 3) := dk_182 1 33 (dk_at dksX5_lastWrite_0 3 rfl rfl)
theorem dX5_lastWrite_6 : decode cX5_lastWrite 6 = .ok (.ifCond .eq 14, 3) := dk_153 0 14 (dk_at dksX5_lastWrite_0 6 rfl rfl)
theorem dX5_lastWrite_9 : decode cX5_lastWrite 9 = .ok (.iload_n 2, 1) := dk_28 (dk_at dksX5_lastWrite_0 9 rfl rfl)
theorem dX5_lastWrite_10 : decode cX5_lastWrite 10 = .ok (.invokestatic 299, 3) := dk_184 1 43 (dk_at dksX5_lastWrite_0 10 rfl rfl)
theorem dX5_lastWrite_13 : decode cX5_lastWrite 13 = .ok (.ifCond .eq 7, 3) := dk_153 0 7 (dk_at dksX5_lastWrite_0 13 rfl rfl)
theorem dX5_lastWrite_16 : decode cX5_lastWrite 16 = .ok (.iconst 1, 1) := dk_4 (dk_at dksX5_lastWrite_0 16 rfl rfl)
theorem dX5_lastWrite_17 : decode cX5_lastWrite 17 = .ok (.goto 4, 3) := dk_167 0 4 (dk_at dksX5_lastWrite_0 17 rfl rfl)
theorem dX5_lastWrite_20 : decode cX5_lastWrite 20 = .ok (.iconst 0, 1) := dk_3 (dk_at dksX5_lastWrite_0 20 rfl rfl)
theorem dX5_lastWrite_21 : decode cX5_lastWrite 21 = .ok (.invokevirtual 292, 3) := dk_182 1 36 (dk_at dksX5_lastWrite_0 21 rfl rfl)
theorem dX5_lastWrite_24 : decode cX5_lastWrite 24 = .ok (.ifCond .ne 5, 3) := dk_154 0 5 (dk_at dksX5_lastWrite_1 0 rfl rfl)
theorem dX5_lastWrite_27 : decode cX5_lastWrite 27 = .ok (.iconst 0, 1) := dk_3 (dk_at dksX5_lastWrite_1 3 rfl rfl)
theorem dX5_lastWrite_28 : decode cX5_lastWrite 28 = .ok (.ireturn, 1) := dk_172 (dk_at dksX5_lastWrite_1 4 rfl rfl)
theorem dX5_lastWrite_29 : decode cX5_lastWrite 29 = .ok (.aload_n 0, 1) := dk_42 (dk_at dksX5_lastWrite_1 5 rfl rfl)
theorem dX5_lastWrite_30 : decode cX5_lastWrite 30 = .ok (.iload_n 1, 1) := dk_27 (dk_at dksX5_lastWrite_1 6 rfl rfl)
theorem dX5_lastWrite_31 : decode cX5_lastWrite 31 = .ok (.invokevirtual 92, 3) := dk_182 0 92 (dk_at dksX5_lastWrite_1 7 rfl rfl)
theorem dX5_lastWrite_34 : decode cX5_lastWrite 34 = .ok (.iconst 1, 1) := dk_4 (dk_at dksX5_lastWrite_1 10 rfl rfl)
theorem dX5_lastWrite_35 : decode cX5_lastWrite 35 = .ok (.isub, 1) := dk_100 (dk_at dksX5_lastWrite_1 11 rfl rfl)
theorem dX5_lastWrite_36 : decode cX5_lastWrite 36 = .ok (.istore_n 3, 1) := dk_62 (dk_at dksX5_lastWrite_1 12 rfl rfl)
theorem dX5_lastWrite_37 : decode cX5_lastWrite 37 = .ok (.iload_n 3, 1) := dk_29 (dk_at dksX5_lastWrite_1 13 rfl rfl)
theorem dX5_lastWrite_38 : decode cX5_lastWrite 38 = .ok (.ifCond .lt 18, 3) := dk_155 0 18 (dk_at dksX5_lastWrite_1 14 rfl rfl)
theorem dX5_lastWrite_41 : decode cX5_lastWrite 41 = .ok (.aload_n 0, 1) := dk_42 (dk_at dksX5_lastWrite_1 17 rfl rfl)
theorem dX5_lastWrite_42 : decode cX5_lastWrite 42 = .ok (.iload_n 3, 1) := dk_29 (dk_at dksX5_lastWrite_1 18 rfl rfl)
theorem dX5_lastWrite_43 : decode cX5_lastWrite 43 = .ok (.iload_n 2, 1) := dk_28 (dk_at dksX5_lastWrite_1 19 rfl rfl)
theorem dX5_lastWrite_44 : decode cX5_lastWrite 44 = .ok (.invokevirtual 337, 3) := dk_182 1 81 (dk_at dksX5_lastWrite_1 20 rfl rfl)
theorem dX5_lastWrite_47 : decode cX5_lastWrite 47 = .ok (.ifCond .ne 9, 3) := dk_154 0 9 (dk_at dksX5_lastWrite_2 0 rfl rfl)
theorem dX5_lastWrite_50 : decode cX5_lastWrite 50 = .ok (.iinc 3 (-1), 3) := dk_132 3 255 (dk_at dksX5_lastWrite_2 3 rfl rfl)
theorem dX5_lastWrite_53 : decode cX5_lastWrite 53 = .ok (.goto (-16), 3) := dk_167 255 240 (dk_at dksX5_lastWrite_2 6 rfl rfl)
theorem dX5_lastWrite_56 : decode cX5_lastWrite 56 = .ok (.iload_n 3, 1) := dk_29 (dk_at dksX5_lastWrite_2 9 rfl rfl)
theorem dX5_lastWrite_57 : decode cX5_lastWrite 57 = .ok (.ireturn, 1) := dk_172 (dk_at dksX5_lastWrite_2 10 rfl rfl)
def dkwX5_changes_3 : List UInt8 := [160, 0, 5, 4, 172, 132, 4, 1, 167, 255, 191, 3, 172]
abbrev dktX5_changes_3 : List UInt8 := dkwX5_changes_3 ++ []
def dkwX5_changes_2 : List UInt8 := [180, 0, 19, 21, 5, 4, 96, 46, 7, 160, 0, 18, 42, 180, 0, 19, 21, 5, 6, 96, 46, 28]
abbrev dktX5_changes_2 : List UInt8 := dkwX5_changes_2 ++ dktX5_changes_3
def dkwX5_changes_1 : List UInt8 := [4, 96, 7, 21, 4, 104, 96, 54, 5, 42, 180, 0, 19, 21, 5, 5, 96, 46, 28, 159, 0, 29, 42]
abbrev dktX5_changes_1 : List UInt8 := dkwX5_changes_1 ++ dktX5_changes_2
def dkwX5_changes_0 : List UInt8 := [17, 1, 132, 16, 33, 27, 104, 96, 62, 3, 54, 4, 21, 4, 42, 180, 0, 19, 29, 46, 162, 0, 60, 29]
abbrev dktX5_changes_0 : List UInt8 := dkwX5_changes_0 ++ dktX5_changes_1
theorem dksX5_changes_0 : cX5_changes.data.toList.drop 0 = dktX5_changes_0 := by decide +kernel
theorem dksX5_changes_1 : cX5_changes.data.toList.drop 24 = dktX5_changes_1 := dk_seg dksX5_changes_0 24 rfl rfl
theorem dksX5_changes_2 : cX5_changes.data.toList.drop 47 = dktX5_changes_2 := dk_seg dksX5_changes_1 23 rfl rfl
theorem dksX5_changes_3 : cX5_changes.data.toList.drop 69 = dktX5_changes_3 := dk_seg dksX5_changes_2 22 rfl rfl
theorem dX5_changes_0 : decode cX5_changes 0 = .ok (.sipush 388, 3) := dk_17 1 132 (dk_at dksX5_changes_0 0 rfl rfl)
theorem dX5_changes_3 : decode cX5_changes 3 = .ok (.bipush 33, 2) := dk_16 33 (dk_at dksX5_changes_0 3 rfl rfl)
theorem dX5_changes_5 : decode cX5_changes 5 = .ok (.iload_n 1, 1) := dk_27 (dk_at dksX5_changes_0 5 rfl rfl)
theorem dX5_changes_6 : decode cX5_changes 6 = .ok (.imul, 1) := dk_104 (dk_at dksX5_changes_0 6 rfl rfl)
theorem dX5_changes_7 : decode cX5_changes 7 = .ok (.iadd, 1) := dk_96 (dk_at dksX5_changes_0 7 rfl rfl)
theorem dX5_changes_8 : decode cX5_changes 8 = .ok (.istore_n 3, 1) := dk_62 (dk_at dksX5_changes_0 8 rfl rfl)
theorem dX5_changes_9 : decode cX5_changes 9 = .ok (.iconst 0, 1) := dk_3 (dk_at dksX5_changes_0 9 rfl rfl)
theorem dX5_changes_10 : decode cX5_changes 10 = .ok (.istore 4, 2) := dk_54 4 (dk_at dksX5_changes_0 10 rfl rfl)
theorem dX5_changes_12 : decode cX5_changes 12 = .ok (.iload 4, 2) := dk_21 4 (dk_at dksX5_changes_0 12 rfl rfl)
theorem dX5_changes_14 : decode cX5_changes 14 = .ok (.aload_n 0, 1) := dk_42 (dk_at dksX5_changes_0 14 rfl rfl)
theorem dX5_changes_15 : decode cX5_changes 15 = .ok (.getfield 19, 3) := dk_180 0 19 (dk_at dksX5_changes_0 15 rfl rfl)
theorem dX5_changes_18 : decode cX5_changes 18 = .ok (.iload_n 3, 1) := dk_29 (dk_at dksX5_changes_0 18 rfl rfl)
theorem dX5_changes_19 : decode cX5_changes 19 = .ok (.iaload, 1) := dk_46 (dk_at dksX5_changes_0 19 rfl rfl)
theorem dX5_changes_20 : decode cX5_changes 20 = .ok (.if_icmp .ge 60, 3) := dk_162 0 60 (dk_at dksX5_changes_0 20 rfl rfl)
theorem dX5_changes_23 : decode cX5_changes 23 = .ok (.iload_n 3, 1) := dk_29 (dk_at dksX5_changes_0 23 rfl rfl)
theorem dX5_changes_24 : decode cX5_changes 24 = .ok (.iconst 1, 1) := dk_4 (dk_at dksX5_changes_1 0 rfl rfl)
theorem dX5_changes_25 : decode cX5_changes 25 = .ok (.iadd, 1) := dk_96 (dk_at dksX5_changes_1 1 rfl rfl)
theorem dX5_changes_26 : decode cX5_changes 26 = .ok (.iconst 4, 1) := dk_7 (dk_at dksX5_changes_1 2 rfl rfl)
theorem dX5_changes_27 : decode cX5_changes 27 = .ok (.iload 4, 2) := dk_21 4 (dk_at dksX5_changes_1 3 rfl rfl)
theorem dX5_changes_29 : decode cX5_changes 29 = .ok (.imul, 1) := dk_104 (dk_at dksX5_changes_1 5 rfl rfl)
theorem dX5_changes_30 : decode cX5_changes 30 = .ok (.iadd, 1) := dk_96 (dk_at dksX5_changes_1 6 rfl rfl)
theorem dX5_changes_31 : decode cX5_changes 31 = .ok (.istore 5, 2) := dk_54 5 (dk_at dksX5_changes_1 7 rfl rfl)
theorem dX5_changes_33 : decode cX5_changes 33 = .ok (.aload_n 0, 1) := dk_42 (dk_at dksX5_changes_1 9 rfl rfl)
theorem dX5_changes_34 : decode cX5_changes 34 = .ok (.getfield 19, 3) := dk_180 0 19 (dk_at dksX5_changes_1 10 rfl rfl)
theorem dX5_changes_37 : decode cX5_changes 37 = .ok (.iload 5, 2) := dk_21 5 (dk_at dksX5_changes_1 13 rfl rfl)
theorem dX5_changes_39 : decode cX5_changes 39 = .ok (.iconst 2, 1) := dk_5 (dk_at dksX5_changes_1 15 rfl rfl)
theorem dX5_changes_40 : decode cX5_changes 40 = .ok (.iadd, 1) := dk_96 (dk_at dksX5_changes_1 16 rfl rfl)
theorem dX5_changes_41 : decode cX5_changes 41 = .ok (.iaload, 1) := dk_46 (dk_at dksX5_changes_1 17 rfl rfl)
theorem dX5_changes_42 : decode cX5_changes 42 = .ok (.iload_n 2, 1) := dk_28 (dk_at dksX5_changes_1 18 rfl rfl)
theorem dX5_changes_43 : decode cX5_changes 43 = .ok (.if_icmp .eq 29, 3) := dk_159 0 29 (dk_at dksX5_changes_1 19 rfl rfl)
theorem dX5_changes_46 : decode cX5_changes 46 = .ok (.aload_n 0, 1) := dk_42 (dk_at dksX5_changes_1 22 rfl rfl)
theorem dX5_changes_47 : decode cX5_changes 47 = .ok (.getfield 19, 3) := dk_180 0 19 (dk_at dksX5_changes_2 0 rfl rfl)
theorem dX5_changes_50 : decode cX5_changes 50 = .ok (.iload 5, 2) := dk_21 5 (dk_at dksX5_changes_2 3 rfl rfl)
theorem dX5_changes_52 : decode cX5_changes 52 = .ok (.iconst 1, 1) := dk_4 (dk_at dksX5_changes_2 5 rfl rfl)
theorem dX5_changes_53 : decode cX5_changes 53 = .ok (.iadd, 1) := dk_96 (dk_at dksX5_changes_2 6 rfl rfl)
theorem dX5_changes_54 : decode cX5_changes 54 = .ok (.iaload, 1) := dk_46 (dk_at dksX5_changes_2 7 rfl rfl)
theorem dX5_changes_55 : decode cX5_changes 55 = .ok (.iconst 4, 1) := dk_7 (dk_at dksX5_changes_2 8 rfl rfl)
theorem dX5_changes_56 : decode cX5_changes 56 = .ok (.if_icmp .ne 18, 3) := dk_160 0 18 (dk_at dksX5_changes_2 9 rfl rfl)
theorem dX5_changes_59 : decode cX5_changes 59 = .ok (.aload_n 0, 1) := dk_42 (dk_at dksX5_changes_2 12 rfl rfl)
theorem dX5_changes_60 : decode cX5_changes 60 = .ok (.getfield 19, 3) := dk_180 0 19 (dk_at dksX5_changes_2 13 rfl rfl)
theorem dX5_changes_63 : decode cX5_changes 63 = .ok (.iload 5, 2) := dk_21 5 (dk_at dksX5_changes_2 16 rfl rfl)
theorem dX5_changes_65 : decode cX5_changes 65 = .ok (.iconst 3, 1) := dk_6 (dk_at dksX5_changes_2 18 rfl rfl)
theorem dX5_changes_66 : decode cX5_changes 66 = .ok (.iadd, 1) := dk_96 (dk_at dksX5_changes_2 19 rfl rfl)
theorem dX5_changes_67 : decode cX5_changes 67 = .ok (.iaload, 1) := dk_46 (dk_at dksX5_changes_2 20 rfl rfl)
theorem dX5_changes_68 : decode cX5_changes 68 = .ok (.iload_n 2, 1) := dk_28 (dk_at dksX5_changes_2 21 rfl rfl)
theorem dX5_changes_69 : decode cX5_changes 69 = .ok (.if_icmp .ne 5, 3) := dk_160 0 5 (dk_at dksX5_changes_3 0 rfl rfl)
theorem dX5_changes_72 : decode cX5_changes 72 = .ok (.iconst 1, 1) := dk_4 (dk_at dksX5_changes_3 3 rfl rfl)
theorem dX5_changes_73 : decode cX5_changes 73 = .ok (.ireturn, 1) := dk_172 (dk_at dksX5_changes_3 4 rfl rfl)
theorem dX5_changes_74 : decode cX5_changes 74 = .ok (.iinc 4 1, 3) := dk_132 4 1 (dk_at dksX5_changes_3 5 rfl rfl)
theorem dX5_changes_77 : decode cX5_changes 77 = .ok (.goto (-65), 3) := dk_167 255 191 (dk_at dksX5_changes_3 8 rfl rfl)
theorem dX5_changes_80 : decode cX5_changes 80 = .ok (.iconst 0, 1) := dk_3 (dk_at dksX5_changes_3 11 rfl rfl)
theorem dX5_changes_81 : decode cX5_changes 81 = .ok (.ireturn, 1) := dk_172 (dk_at dksX5_changes_3 12 rfl rfl)
def dkwX5_undo_2 : List UInt8 := [180, 1, 30, 104, 27, 96, 46, 79, 132, 1, 1, 167, 255, 225, 42, 180, 1, 30, 172]
abbrev dktX5_undo_2 : List UInt8 := dkwX5_undo_2 ++ []
def dkwX5_undo_1 : List UInt8 := [3, 60, 27, 17, 6, 246, 162, 0, 30, 42, 180, 0, 19, 27, 42, 180, 0, 25, 17, 6, 246, 42]
abbrev dktX5_undo_1 : List UInt8 := dkwX5_undo_1 ++ dktX5_undo_2
def dkwX5_undo_0 : List UInt8 := [42, 3, 181, 0, 47, 42, 180, 1, 30, 154, 0, 5, 2, 172, 42, 89, 180, 1, 30, 4, 100, 181, 1, 30]
abbrev dktX5_undo_0 : List UInt8 := dkwX5_undo_0 ++ dktX5_undo_1
theorem dksX5_undo_0 : cX5_undo.data.toList.drop 0 = dktX5_undo_0 := by decide +kernel
theorem dksX5_undo_1 : cX5_undo.data.toList.drop 24 = dktX5_undo_1 := dk_seg dksX5_undo_0 24 rfl rfl
theorem dksX5_undo_2 : cX5_undo.data.toList.drop 46 = dktX5_undo_2 := dk_seg dksX5_undo_1 22 rfl rfl
theorem dX5_undo_0 : decode cX5_undo 0 = .ok (.aload_n 0, 1) := dk_42 (dk_at dksX5_undo_0 0 rfl rfl)
theorem dX5_undo_1 : decode cX5_undo 1 = .ok (.iconst 0, 1) := dk_3 (dk_at dksX5_undo_0 1 rfl rfl)
theorem dX5_undo_2 : decode cX5_undo 2 = .ok (.putfield 47, 3) := dk_181 0 47 (dk_at dksX5_undo_0 2 rfl rfl)
theorem dX5_undo_5 : decode cX5_undo 5 = .ok (.aload_n 0, 1) := dk_42 (dk_at dksX5_undo_0 5 rfl rfl)
theorem dX5_undo_6 : decode cX5_undo 6 = .ok (.getfield 286, 3) := dk_180 1 30 (dk_at dksX5_undo_0 6 rfl rfl)
theorem dX5_undo_9 : decode cX5_undo 9 = .ok (.ifCond .ne 5, 3) := dk_154 0 5 (dk_at dksX5_undo_0 9 rfl rfl)
theorem dX5_undo_12 : decode cX5_undo 12 = .ok (.iconst (-1), 1) := dk_2 (dk_at dksX5_undo_0 12 rfl rfl)
theorem dX5_undo_13 : decode cX5_undo 13 = .ok (.ireturn, 1) := dk_172 (dk_at dksX5_undo_0 13 rfl rfl)
theorem dX5_undo_14 : decode cX5_undo 14 = .ok (.aload_n 0, 1) := dk_42 (dk_at dksX5_undo_0 14 rfl rfl)
theorem dX5_undo_15 : decode cX5_undo 15 = .ok (.dup, 1) := dk_89 (dk_at dksX5_undo_0 15 rfl rfl)
theorem dX5_undo_16 : decode cX5_undo 16 = .ok (.getfield 286, 3) := dk_180 1 30 (dk_at dksX5_undo_0 16 rfl rfl)
theorem dX5_undo_19 : decode cX5_undo 19 = .ok (.iconst 1, 1) := dk_4 (dk_at dksX5_undo_0 19 rfl rfl)
theorem dX5_undo_20 : decode cX5_undo 20 = .ok (.isub, 1) := dk_100 (dk_at dksX5_undo_0 20 rfl rfl)
theorem dX5_undo_21 : decode cX5_undo 21 = .ok (.putfield 286, 3) := dk_181 1 30 (dk_at dksX5_undo_0 21 rfl rfl)
theorem dX5_undo_24 : decode cX5_undo 24 = .ok (.iconst 0, 1) := dk_3 (dk_at dksX5_undo_1 0 rfl rfl)
theorem dX5_undo_25 : decode cX5_undo 25 = .ok (.istore_n 1, 1) := dk_60 (dk_at dksX5_undo_1 1 rfl rfl)
theorem dX5_undo_26 : decode cX5_undo 26 = .ok (.iload_n 1, 1) := dk_27 (dk_at dksX5_undo_1 2 rfl rfl)
theorem dX5_undo_27 : decode cX5_undo 27 = .ok (.sipush 1782, 3) := dk_17 6 246 (dk_at dksX5_undo_1 3 rfl rfl)
theorem dX5_undo_30 : decode cX5_undo 30 = .ok (.if_icmp .ge 30, 3) := dk_162 0 30 (dk_at dksX5_undo_1 6 rfl rfl)
theorem dX5_undo_33 : decode cX5_undo 33 = .ok (.aload_n 0, 1) := dk_42 (dk_at dksX5_undo_1 9 rfl rfl)
theorem dX5_undo_34 : decode cX5_undo 34 = .ok (.getfield 19, 3) := dk_180 0 19 (dk_at dksX5_undo_1 10 rfl rfl)
theorem dX5_undo_37 : decode cX5_undo 37 = .ok (.iload_n 1, 1) := dk_27 (dk_at dksX5_undo_1 13 rfl rfl)
theorem dX5_undo_38 : decode cX5_undo 38 = .ok (.aload_n 0, 1) := dk_42 (dk_at dksX5_undo_1 14 rfl rfl)
theorem dX5_undo_39 : decode cX5_undo 39 = .ok (.getfield 25, 3) := dk_180 0 25 (dk_at dksX5_undo_1 15 rfl rfl)
theorem dX5_undo_42 : decode cX5_undo 42 = .ok (.sipush 1782, 3) := dk_17 6 246 (dk_at dksX5_undo_1 18 rfl rfl)
theorem dX5_undo_45 : decode cX5_undo 45 = .ok (.aload_n 0, 1) := dk_42 (dk_at dksX5_undo_1 21 rfl rfl)
theorem dX5_undo_46 : decode cX5_undo 46 = .ok (.getfield 286, 3) := dk_180 1 30 (dk_at dksX5_undo_2 0 rfl rfl)
theorem dX5_undo_49 : decode cX5_undo 49 = .ok (.imul, 1) := dk_104 (dk_at dksX5_undo_2 3 rfl rfl)
theorem dX5_undo_50 : decode cX5_undo 50 = .ok (.iload_n 1, 1) := dk_27 (dk_at dksX5_undo_2 4 rfl rfl)
theorem dX5_undo_51 : decode cX5_undo 51 = .ok (.iadd, 1) := dk_96 (dk_at dksX5_undo_2 5 rfl rfl)
theorem dX5_undo_52 : decode cX5_undo 52 = .ok (.iaload, 1) := dk_46 (dk_at dksX5_undo_2 6 rfl rfl)
theorem dX5_undo_53 : decode cX5_undo 53 = .ok (.iastore, 1) := dk_79 (dk_at dksX5_undo_2 7 rfl rfl)
theorem dX5_undo_54 : decode cX5_undo 54 = .ok (.iinc 1 1, 3) := dk_132 1 1 (dk_at dksX5_undo_2 8 rfl rfl)
theorem dX5_undo_57 : decode cX5_undo 57 = .ok (.goto (-31), 3) := dk_167 255 225 (dk_at dksX5_undo_2 11 rfl rfl)
theorem dX5_undo_60 : decode cX5_undo 60 = .ok (.aload_n 0, 1) := dk_42 (dk_at dksX5_undo_2 14 rfl rfl)
theorem dX5_undo_61 : decode cX5_undo 61 = .ok (.getfield 286, 3) := dk_180 1 30 (dk_at dksX5_undo_2 15 rfl rfl)
theorem dX5_undo_64 : decode cX5_undo 64 = .ok (.ireturn, 1) := dk_172 (dk_at dksX5_undo_2 18 rfl rfl)
def dkwX5_give_3 : List UInt8 := [182, 1, 87, 42, 27, 28, 29, 21, 4, 182, 0, 235, 42, 180, 0, 19, 17, 6, 172, 46, 172]
abbrev dktX5_give_3 : List UInt8 := dkwX5_give_3 ++ []
def dkwX5_give_2 : List UInt8 := [154, 0, 6, 16, 252, 172, 42, 180, 0, 19, 17, 6, 172, 46, 16, 8, 160, 0, 6, 16, 253, 172, 42]
abbrev dktX5_give_2 : List UInt8 := dkwX5_give_2 ++ dktX5_give_3
def dkwX5_give_1 : List UInt8 := [29, 184, 1, 43, 153, 0, 12, 28, 21, 4, 184, 1, 84, 154, 0, 6, 16, 254, 172, 42, 27, 182, 0, 118]
abbrev dktX5_give_1 : List UInt8 := dkwX5_give_1 ++ dktX5_give_2
def dkwX5_give_0 : List UInt8 := [42, 3, 181, 0, 47, 42, 27, 182, 1, 33, 154, 0, 5, 2, 172, 28, 155, 0, 24, 28, 8, 163, 0, 19]
abbrev dktX5_give_0 : List UInt8 := dkwX5_give_0 ++ dktX5_give_1
theorem dksX5_give_0 : cX5_give.data.toList.drop 0 = dktX5_give_0 := by decide +kernel
theorem dksX5_give_1 : cX5_give.data.toList.drop 24 = dktX5_give_1 := dk_seg dksX5_give_0 24 rfl rfl
theorem dksX5_give_2 : cX5_give.data.toList.drop 48 = dktX5_give_2 := dk_seg dksX5_give_1 24 rfl rfl
theorem dksX5_give_3 : cX5_give.data.toList.drop 71 = dktX5_give_3 := dk_seg dksX5_give_2 23 rfl rfl
theorem dX5_give_0 : decode cX5_give 0 = .ok (.aload_n 0, 1) := dk_42 (dk_at dksX5_give_0 0 rfl rfl)
theorem dX5_give_1 : decode cX5_give 1 = .ok (.iconst 0, 1) := dk_3 (dk_at dksX5_give_0 1 rfl rfl)
theorem dX5_give_2 : decode cX5_give 2 = .ok (.putfield 47, 3) := dk_181 0 47 (dk_at dksX5_give_0 2 rfl rfl)
theorem dX5_give_5 : decode cX5_give 5 = .ok (.aload_n 0, 1) := dk_42 (dk_at dksX5_give_0 5 rfl rfl)
theorem dX5_give_6 : decode cX5_give 6 = .ok (.iload_n 1, 1) := dk_27 (dk_at dksX5_give_0 6 rfl rfl)
theorem dX5_give_7 : decode cX5_give 7 = .ok (.invokevirtual 289, 3) := dk_182 1 33 (dk_at dksX5_give_0 7 rfl rfl)
theorem dX5_give_10 : decode cX5_give 10 = .ok (.ifCond .ne 5, 3) := dk_154 0 5 (dk_at dksX5_give_0 10 rfl rfl)
theorem dX5_give_13 : decode cX5_give 13 = .ok (.iconst (-1), 1) := dk_2 (dk_at dksX5_give_0 13 rfl rfl)
theorem dX5_give_14 : decode cX5_give 14 = .ok (.ireturn, 1) := dk_172 (dk_at dksX5_give_0 14 rfl rfl)
theorem dX5_give_15 : decode cX5_give 15 = .ok (.iload_n 2, 1) := dk_28 (dk_at dksX5_give_0 15 rfl rfl)
theorem dX5_give_16 : decode cX5_give 16 = .ok (.ifCond .lt 24, 3) := dk_155 0 24 (dk_at dksX5_give_0 16 rfl rfl)
theorem dX5_give_19 : decode cX5_give 19 = .ok (.iload_n 2, 1) := dk_28 (dk_at dksX5_give_0 19 rfl rfl)
theorem dX5_give_20 : decode cX5_give 20 = .ok (.iconst 5, 1) := dk_8 (dk_at dksX5_give_0 20 rfl rfl)
theorem dX5_give_21 : decode cX5_give 21 = .ok (.if_icmp .gt 19, 3) := dk_163 0 19 (dk_at dksX5_give_0 21 rfl rfl)
theorem dX5_give_24 : decode cX5_give 24 = .ok (.iload_n 3, 1) := dk_29 (dk_at dksX5_give_1 0 rfl rfl)
theorem dX5_give_25 : decode cX5_give 25 = .ok (.invokestatic 299, 3) := dk_184 1 43 (dk_at dksX5_give_1 1 rfl rfl)
theorem dX5_give_28 : decode cX5_give 28 = .ok (.ifCond .eq 12, 3) := dk_153 0 12 (dk_at dksX5_give_1 4 rfl rfl)
theorem dX5_give_31 : decode cX5_give 31 = .ok (.iload_n 2, 1) := dk_28 (dk_at dksX5_give_1 7 rfl rfl)
theorem dX5_give_32 : decode cX5_give 32 = .ok (.iload 4, 2) := dk_21 4 (dk_at dksX5_give_1 8 rfl rfl)
theorem dX5_give_34 : decode cX5_give 34 = .ok (.invokestatic 340, 3) := dk_184 1 84 (dk_at dksX5_give_1 10 rfl rfl)
theorem dX5_give_37 : decode cX5_give 37 = .ok (.ifCond .ne 6, 3) := dk_154 0 6 (dk_at dksX5_give_1 13 rfl rfl)
theorem dX5_give_40 : decode cX5_give 40 = .ok (.bipush (-2), 2) := dk_16 254 (dk_at dksX5_give_1 16 rfl rfl)
theorem dX5_give_42 : decode cX5_give 42 = .ok (.ireturn, 1) := dk_172 (dk_at dksX5_give_1 18 rfl rfl)
theorem dX5_give_43 : decode cX5_give 43 = .ok (.aload_n 0, 1) := dk_42 (dk_at dksX5_give_1 19 rfl rfl)
theorem dX5_give_44 : decode cX5_give 44 = .ok (.iload_n 1, 1) := dk_27 (dk_at dksX5_give_1 20 rfl rfl)
theorem dX5_give_45 : decode cX5_give 45 = .ok (.invokevirtual 118, 3) := dk_182 0 118 (dk_at dksX5_give_1 21 rfl rfl)
theorem dX5_give_48 : decode cX5_give 48 = .ok (.ifCond .ne 6, 3) := dk_154 0 6 (dk_at dksX5_give_2 0 rfl rfl)
theorem dX5_give_51 : decode cX5_give 51 = .ok (.bipush (-4), 2) := dk_16 252 (dk_at dksX5_give_2 3 rfl rfl)
theorem dX5_give_53 : decode cX5_give 53 = .ok (.ireturn, 1) := dk_172 (dk_at dksX5_give_2 5 rfl rfl)
theorem dX5_give_54 : decode cX5_give 54 = .ok (.aload_n 0, 1) := dk_42 (dk_at dksX5_give_2 6 rfl rfl)
theorem dX5_give_55 : decode cX5_give 55 = .ok (.getfield 19, 3) := dk_180 0 19 (dk_at dksX5_give_2 7 rfl rfl)
theorem dX5_give_58 : decode cX5_give 58 = .ok (.sipush 1708, 3) := dk_17 6 172 (dk_at dksX5_give_2 10 rfl rfl)
theorem dX5_give_61 : decode cX5_give 61 = .ok (.iaload, 1) := dk_46 (dk_at dksX5_give_2 13 rfl rfl)
theorem dX5_give_62 : decode cX5_give 62 = .ok (.bipush 8, 2) := dk_16 8 (dk_at dksX5_give_2 14 rfl rfl)
theorem dX5_give_64 : decode cX5_give 64 = .ok (.if_icmp .ne 6, 3) := dk_160 0 6 (dk_at dksX5_give_2 16 rfl rfl)
theorem dX5_give_67 : decode cX5_give 67 = .ok (.bipush (-3), 2) := dk_16 253 (dk_at dksX5_give_2 19 rfl rfl)
theorem dX5_give_69 : decode cX5_give 69 = .ok (.ireturn, 1) := dk_172 (dk_at dksX5_give_2 21 rfl rfl)
theorem dX5_give_70 : decode cX5_give 70 = .ok (.aload_n 0, 1) := dk_42 (dk_at dksX5_give_2 22 rfl rfl)
theorem dX5_give_71 : decode cX5_give 71 = .ok (.invokevirtual 343, 3) := dk_182 1 87 (dk_at dksX5_give_3 0 rfl rfl)
theorem dX5_give_74 : decode cX5_give 74 = .ok (.aload_n 0, 1) := dk_42 (dk_at dksX5_give_3 3 rfl rfl)
theorem dX5_give_75 : decode cX5_give 75 = .ok (.iload_n 1, 1) := dk_27 (dk_at dksX5_give_3 4 rfl rfl)
theorem dX5_give_76 : decode cX5_give 76 = .ok (.iload_n 2, 1) := dk_28 (dk_at dksX5_give_3 5 rfl rfl)
theorem dX5_give_77 : decode cX5_give 77 = .ok (.iload_n 3, 1) := dk_29 (dk_at dksX5_give_3 6 rfl rfl)
theorem dX5_give_78 : decode cX5_give 78 = .ok (.iload 4, 2) := dk_21 4 (dk_at dksX5_give_3 7 rfl rfl)
theorem dX5_give_80 : decode cX5_give 80 = .ok (.invokevirtual 235, 3) := dk_182 0 235 (dk_at dksX5_give_3 9 rfl rfl)
theorem dX5_give_83 : decode cX5_give 83 = .ok (.aload_n 0, 1) := dk_42 (dk_at dksX5_give_3 12 rfl rfl)
theorem dX5_give_84 : decode cX5_give 84 = .ok (.getfield 19, 3) := dk_180 0 19 (dk_at dksX5_give_3 13 rfl rfl)
theorem dX5_give_87 : decode cX5_give 87 = .ok (.sipush 1708, 3) := dk_17 6 172 (dk_at dksX5_give_3 16 rfl rfl)
theorem dX5_give_90 : decode cX5_give 90 = .ok (.iaload, 1) := dk_46 (dk_at dksX5_give_3 19 rfl rfl)
theorem dX5_give_91 : decode cX5_give 91 = .ok (.ireturn, 1) := dk_172 (dk_at dksX5_give_3 20 rfl rfl)
def dkwX5_isOperand_1 : List UInt8 := [167, 0, 4, 3, 172]
abbrev dktX5_isOperand_1 : List UInt8 := dkwX5_isOperand_1 ++ []
def dkwX5_isOperand_0 : List UInt8 := [27, 155, 0, 24, 27, 26, 4, 163, 0, 9, 17, 39, 16, 167, 0, 5, 16, 16, 162, 0, 7, 4]
abbrev dktX5_isOperand_0 : List UInt8 := dkwX5_isOperand_0 ++ dktX5_isOperand_1
theorem dksX5_isOperand_0 : cX5_isOperand.data.toList.drop 0 = dktX5_isOperand_0 := by decide +kernel
theorem dksX5_isOperand_1 : cX5_isOperand.data.toList.drop 22 = dktX5_isOperand_1 := dk_seg dksX5_isOperand_0 22 rfl rfl
theorem dX5_isOperand_0 : decode cX5_isOperand 0 = .ok (.iload_n 1, 1) := dk_27 (dk_at dksX5_isOperand_0 0 rfl rfl)
theorem dX5_isOperand_1 : decode cX5_isOperand 1 = .ok (.ifCond .lt 24, 3) := dk_155 0 24 (dk_at dksX5_isOperand_0 1 rfl rfl)
theorem dX5_isOperand_4 : decode cX5_isOperand 4 = .ok (.iload_n 1, 1) := dk_27 (dk_at dksX5_isOperand_0 4 rfl rfl)
theorem dX5_isOperand_5 : decode cX5_isOperand 5 = .ok (.iload_n 0, 1) := dk_26 (dk_at dksX5_isOperand_0 5 rfl rfl)
theorem dX5_isOperand_6 : decode cX5_isOperand 6 = .ok (.iconst 1, 1) := dk_4 (dk_at dksX5_isOperand_0 6 rfl rfl)
theorem dX5_isOperand_7 : decode cX5_isOperand 7 = .ok (.if_icmp .gt 9, 3) := dk_163 0 9 (dk_at dksX5_isOperand_0 7 rfl rfl)
theorem dX5_isOperand_10 : decode cX5_isOperand 10 = .ok (.sipush 10000, 3) := dk_17 39 16 (dk_at dksX5_isOperand_0 10 rfl rfl)
theorem dX5_isOperand_13 : decode cX5_isOperand 13 = .ok (.goto 5, 3) := dk_167 0 5 (dk_at dksX5_isOperand_0 13 rfl rfl)
theorem dX5_isOperand_16 : decode cX5_isOperand 16 = .ok (.bipush 16, 2) := dk_16 16 (dk_at dksX5_isOperand_0 16 rfl rfl)
theorem dX5_isOperand_18 : decode cX5_isOperand 18 = .ok (.if_icmp .ge 7, 3) := dk_162 0 7 (dk_at dksX5_isOperand_0 18 rfl rfl)
theorem dX5_isOperand_21 : decode cX5_isOperand 21 = .ok (.iconst 1, 1) := dk_4 (dk_at dksX5_isOperand_0 21 rfl rfl)
theorem dX5_isOperand_22 : decode cX5_isOperand 22 = .ok (.goto 4, 3) := dk_167 0 4 (dk_at dksX5_isOperand_1 0 rfl rfl)
theorem dX5_isOperand_25 : decode cX5_isOperand 25 = .ok (.iconst 0, 1) := dk_3 (dk_at dksX5_isOperand_1 3 rfl rfl)
theorem dX5_isOperand_26 : decode cX5_isOperand 26 = .ok (.ireturn, 1) := dk_172 (dk_at dksX5_isOperand_1 4 rfl rfl)
def dkwX5_keeps_4 : List UInt8 := [181, 1, 30, 177]
abbrev dktX5_keeps_4 : List UInt8 := dkwX5_keeps_4 ++ []
def dkwX5_keeps_3 : List UInt8 := [104, 27, 96, 42, 180, 0, 19, 27, 46, 79, 132, 1, 1, 167, 255, 225, 42, 89, 180, 1, 30, 4, 96]
abbrev dktX5_keeps_3 : List UInt8 := dkwX5_keeps_3 ++ dktX5_keeps_4
def dkwX5_keeps_2 : List UInt8 := [100, 181, 1, 30, 3, 60, 27, 17, 6, 246, 162, 0, 30, 42, 180, 0, 25, 17, 6, 246, 42, 180, 1, 30]
abbrev dktX5_keeps_2 : List UInt8 := dkwX5_keeps_2 ++ dktX5_keeps_3
def dkwX5_keeps_1 : List UInt8 := [27, 17, 6, 246, 100, 42, 180, 0, 25, 27, 46, 79, 132, 1, 1, 167, 255, 230, 42, 89, 180, 1, 30, 4]
abbrev dktX5_keeps_1 : List UInt8 := dkwX5_keeps_1 ++ dktX5_keeps_2
def dkwX5_keeps_0 : List UInt8 := [42, 180, 1, 30, 16, 10, 160, 0, 46, 17, 6, 246, 60, 27, 17, 69, 156, 162, 0, 25, 42, 180, 0, 25]
abbrev dktX5_keeps_0 : List UInt8 := dkwX5_keeps_0 ++ dktX5_keeps_1
theorem dksX5_keeps_0 : cX5_keeps.data.toList.drop 0 = dktX5_keeps_0 := by decide +kernel
theorem dksX5_keeps_1 : cX5_keeps.data.toList.drop 24 = dktX5_keeps_1 := dk_seg dksX5_keeps_0 24 rfl rfl
theorem dksX5_keeps_2 : cX5_keeps.data.toList.drop 48 = dktX5_keeps_2 := dk_seg dksX5_keeps_1 24 rfl rfl
theorem dksX5_keeps_3 : cX5_keeps.data.toList.drop 72 = dktX5_keeps_3 := dk_seg dksX5_keeps_2 24 rfl rfl
theorem dksX5_keeps_4 : cX5_keeps.data.toList.drop 95 = dktX5_keeps_4 := dk_seg dksX5_keeps_3 23 rfl rfl
theorem dX5_keeps_0 : decode cX5_keeps 0 = .ok (.aload_n 0, 1) := dk_42 (dk_at dksX5_keeps_0 0 rfl rfl)
theorem dX5_keeps_1 : decode cX5_keeps 1 = .ok (.getfield 286, 3) := dk_180 1 30 (dk_at dksX5_keeps_0 1 rfl rfl)
theorem dX5_keeps_4 : decode cX5_keeps 4 = .ok (.bipush 10, 2) := dk_16 10 (dk_at dksX5_keeps_0 4 rfl rfl)
theorem dX5_keeps_6 : decode cX5_keeps 6 = .ok (.if_icmp .ne 46, 3) := dk_160 0 46 (dk_at dksX5_keeps_0 6 rfl rfl)
theorem dX5_keeps_9 : decode cX5_keeps 9 = .ok (.sipush 1782, 3) := dk_17 6 246 (dk_at dksX5_keeps_0 9 rfl rfl)
theorem dX5_keeps_12 : decode cX5_keeps 12 = .ok (.istore_n 1, 1) := dk_60 (dk_at dksX5_keeps_0 12 rfl rfl)
theorem dX5_keeps_13 : decode cX5_keeps 13 = .ok (.iload_n 1, 1) := dk_27 (dk_at dksX5_keeps_0 13 rfl rfl)
theorem dX5_keeps_14 : decode cX5_keeps 14 = .ok (.sipush 17820, 3) := dk_17 69 156 (dk_at dksX5_keeps_0 14 rfl rfl)
theorem dX5_keeps_17 : decode cX5_keeps 17 = .ok (.if_icmp .ge 25, 3) := dk_162 0 25 (dk_at dksX5_keeps_0 17 rfl rfl)
theorem dX5_keeps_20 : decode cX5_keeps 20 = .ok (.aload_n 0, 1) := dk_42 (dk_at dksX5_keeps_0 20 rfl rfl)
theorem dX5_keeps_21 : decode cX5_keeps 21 = .ok (.getfield 25, 3) := dk_180 0 25 (dk_at dksX5_keeps_0 21 rfl rfl)
theorem dX5_keeps_24 : decode cX5_keeps 24 = .ok (.iload_n 1, 1) := dk_27 (dk_at dksX5_keeps_1 0 rfl rfl)
theorem dX5_keeps_25 : decode cX5_keeps 25 = .ok (.sipush 1782, 3) := dk_17 6 246 (dk_at dksX5_keeps_1 1 rfl rfl)
theorem dX5_keeps_28 : decode cX5_keeps 28 = .ok (.isub, 1) := dk_100 (dk_at dksX5_keeps_1 4 rfl rfl)
theorem dX5_keeps_29 : decode cX5_keeps 29 = .ok (.aload_n 0, 1) := dk_42 (dk_at dksX5_keeps_1 5 rfl rfl)
theorem dX5_keeps_30 : decode cX5_keeps 30 = .ok (.getfield 25, 3) := dk_180 0 25 (dk_at dksX5_keeps_1 6 rfl rfl)
theorem dX5_keeps_33 : decode cX5_keeps 33 = .ok (.iload_n 1, 1) := dk_27 (dk_at dksX5_keeps_1 9 rfl rfl)
theorem dX5_keeps_34 : decode cX5_keeps 34 = .ok (.iaload, 1) := dk_46 (dk_at dksX5_keeps_1 10 rfl rfl)
theorem dX5_keeps_35 : decode cX5_keeps 35 = .ok (.iastore, 1) := dk_79 (dk_at dksX5_keeps_1 11 rfl rfl)
theorem dX5_keeps_36 : decode cX5_keeps 36 = .ok (.iinc 1 1, 3) := dk_132 1 1 (dk_at dksX5_keeps_1 12 rfl rfl)
theorem dX5_keeps_39 : decode cX5_keeps 39 = .ok (.goto (-26), 3) := dk_167 255 230 (dk_at dksX5_keeps_1 15 rfl rfl)
theorem dX5_keeps_42 : decode cX5_keeps 42 = .ok (.aload_n 0, 1) := dk_42 (dk_at dksX5_keeps_1 18 rfl rfl)
theorem dX5_keeps_43 : decode cX5_keeps 43 = .ok (.dup, 1) := dk_89 (dk_at dksX5_keeps_1 19 rfl rfl)
theorem dX5_keeps_44 : decode cX5_keeps 44 = .ok (.getfield 286, 3) := dk_180 1 30 (dk_at dksX5_keeps_1 20 rfl rfl)
theorem dX5_keeps_47 : decode cX5_keeps 47 = .ok (.iconst 1, 1) := dk_4 (dk_at dksX5_keeps_1 23 rfl rfl)
theorem dX5_keeps_48 : decode cX5_keeps 48 = .ok (.isub, 1) := dk_100 (dk_at dksX5_keeps_2 0 rfl rfl)
theorem dX5_keeps_49 : decode cX5_keeps 49 = .ok (.putfield 286, 3) := dk_181 1 30 (dk_at dksX5_keeps_2 1 rfl rfl)
theorem dX5_keeps_52 : decode cX5_keeps 52 = .ok (.iconst 0, 1) := dk_3 (dk_at dksX5_keeps_2 4 rfl rfl)
theorem dX5_keeps_53 : decode cX5_keeps 53 = .ok (.istore_n 1, 1) := dk_60 (dk_at dksX5_keeps_2 5 rfl rfl)
theorem dX5_keeps_54 : decode cX5_keeps 54 = .ok (.iload_n 1, 1) := dk_27 (dk_at dksX5_keeps_2 6 rfl rfl)
theorem dX5_keeps_55 : decode cX5_keeps 55 = .ok (.sipush 1782, 3) := dk_17 6 246 (dk_at dksX5_keeps_2 7 rfl rfl)
theorem dX5_keeps_58 : decode cX5_keeps 58 = .ok (.if_icmp .ge 30, 3) := dk_162 0 30 (dk_at dksX5_keeps_2 10 rfl rfl)
theorem dX5_keeps_61 : decode cX5_keeps 61 = .ok (.aload_n 0, 1) := dk_42 (dk_at dksX5_keeps_2 13 rfl rfl)
theorem dX5_keeps_62 : decode cX5_keeps 62 = .ok (.getfield 25, 3) := dk_180 0 25 (dk_at dksX5_keeps_2 14 rfl rfl)
theorem dX5_keeps_65 : decode cX5_keeps 65 = .ok (.sipush 1782, 3) := dk_17 6 246 (dk_at dksX5_keeps_2 17 rfl rfl)
theorem dX5_keeps_68 : decode cX5_keeps 68 = .ok (.aload_n 0, 1) := dk_42 (dk_at dksX5_keeps_2 20 rfl rfl)
theorem dX5_keeps_69 : decode cX5_keeps 69 = .ok (.getfield 286, 3) := dk_180 1 30 (dk_at dksX5_keeps_2 21 rfl rfl)
theorem dX5_keeps_72 : decode cX5_keeps 72 = .ok (.imul, 1) := dk_104 (dk_at dksX5_keeps_3 0 rfl rfl)
theorem dX5_keeps_73 : decode cX5_keeps 73 = .ok (.iload_n 1, 1) := dk_27 (dk_at dksX5_keeps_3 1 rfl rfl)
theorem dX5_keeps_74 : decode cX5_keeps 74 = .ok (.iadd, 1) := dk_96 (dk_at dksX5_keeps_3 2 rfl rfl)
theorem dX5_keeps_75 : decode cX5_keeps 75 = .ok (.aload_n 0, 1) := dk_42 (dk_at dksX5_keeps_3 3 rfl rfl)
theorem dX5_keeps_76 : decode cX5_keeps 76 = .ok (.getfield 19, 3) := dk_180 0 19 (dk_at dksX5_keeps_3 4 rfl rfl)
theorem dX5_keeps_79 : decode cX5_keeps 79 = .ok (.iload_n 1, 1) := dk_27 (dk_at dksX5_keeps_3 7 rfl rfl)
theorem dX5_keeps_80 : decode cX5_keeps 80 = .ok (.iaload, 1) := dk_46 (dk_at dksX5_keeps_3 8 rfl rfl)
theorem dX5_keeps_81 : decode cX5_keeps 81 = .ok (.iastore, 1) := dk_79 (dk_at dksX5_keeps_3 9 rfl rfl)
theorem dX5_keeps_82 : decode cX5_keeps 82 = .ok (.iinc 1 1, 3) := dk_132 1 1 (dk_at dksX5_keeps_3 10 rfl rfl)
theorem dX5_keeps_85 : decode cX5_keeps 85 = .ok (.goto (-31), 3) := dk_167 255 225 (dk_at dksX5_keeps_3 13 rfl rfl)
theorem dX5_keeps_88 : decode cX5_keeps 88 = .ok (.aload_n 0, 1) := dk_42 (dk_at dksX5_keeps_3 16 rfl rfl)
theorem dX5_keeps_89 : decode cX5_keeps 89 = .ok (.dup, 1) := dk_89 (dk_at dksX5_keeps_3 17 rfl rfl)
theorem dX5_keeps_90 : decode cX5_keeps 90 = .ok (.getfield 286, 3) := dk_180 1 30 (dk_at dksX5_keeps_3 18 rfl rfl)
theorem dX5_keeps_93 : decode cX5_keeps 93 = .ok (.iconst 1, 1) := dk_4 (dk_at dksX5_keeps_3 21 rfl rfl)
theorem dX5_keeps_94 : decode cX5_keeps 94 = .ok (.iadd, 1) := dk_96 (dk_at dksX5_keeps_3 22 rfl rfl)
theorem dX5_keeps_95 : decode cX5_keeps 95 = .ok (.putfield 286, 3) := dk_181 1 30 (dk_at dksX5_keeps_4 0 rfl rfl)
theorem dX5_keeps_98 : decode cX5_keeps 98 = .ok (.return_, 1) := dk_177 (dk_at dksX5_keeps_4 3 rfl rfl)
def dkwX5_seal_1 : List UInt8 := [182, 1, 87, 42, 182, 0, 239, 42, 180, 0, 19, 17, 1, 131, 46, 172]
abbrev dktX5_seal_1 : List UInt8 := dkwX5_seal_1 ++ []
def dkwX5_seal_0 : List UInt8 := [42, 3, 181, 0, 47, 42, 180, 0, 19, 17, 1, 131, 46, 16, 40, 160, 0, 6, 16, 253, 172, 42]
abbrev dktX5_seal_0 : List UInt8 := dkwX5_seal_0 ++ dktX5_seal_1
theorem dksX5_seal_0 : cX5_seal.data.toList.drop 0 = dktX5_seal_0 := by decide +kernel
theorem dksX5_seal_1 : cX5_seal.data.toList.drop 22 = dktX5_seal_1 := dk_seg dksX5_seal_0 22 rfl rfl
theorem dX5_seal_0 : decode cX5_seal 0 = .ok (.aload_n 0, 1) := dk_42 (dk_at dksX5_seal_0 0 rfl rfl)
theorem dX5_seal_1 : decode cX5_seal 1 = .ok (.iconst 0, 1) := dk_3 (dk_at dksX5_seal_0 1 rfl rfl)
theorem dX5_seal_2 : decode cX5_seal 2 = .ok (.putfield 47, 3) := dk_181 0 47 (dk_at dksX5_seal_0 2 rfl rfl)
theorem dX5_seal_5 : decode cX5_seal 5 = .ok (.aload_n 0, 1) := dk_42 (dk_at dksX5_seal_0 5 rfl rfl)
theorem dX5_seal_6 : decode cX5_seal 6 = .ok (.getfield 19, 3) := dk_180 0 19 (dk_at dksX5_seal_0 6 rfl rfl)
theorem dX5_seal_9 : decode cX5_seal 9 = .ok (.sipush 387, 3) := dk_17 1 131 (dk_at dksX5_seal_0 9 rfl rfl)
theorem dX5_seal_12 : decode cX5_seal 12 = .ok (.iaload, 1) := dk_46 (dk_at dksX5_seal_0 12 rfl rfl)
theorem dX5_seal_13 : decode cX5_seal 13 = .ok (.bipush 40, 2) := dk_16 40 (dk_at dksX5_seal_0 13 rfl rfl)
theorem dX5_seal_15 : decode cX5_seal 15 = .ok (.if_icmp .ne 6, 3) := dk_160 0 6 (dk_at dksX5_seal_0 15 rfl rfl)
theorem dX5_seal_18 : decode cX5_seal 18 = .ok (.bipush (-3), 2) := dk_16 253 (dk_at dksX5_seal_0 18 rfl rfl)
theorem dX5_seal_20 : decode cX5_seal 20 = .ok (.ireturn, 1) := dk_172 (dk_at dksX5_seal_0 20 rfl rfl)
theorem dX5_seal_21 : decode cX5_seal 21 = .ok (.aload_n 0, 1) := dk_42 (dk_at dksX5_seal_0 21 rfl rfl)
theorem dX5_seal_22 : decode cX5_seal 22 = .ok (.invokevirtual 343, 3) := dk_182 1 87 (dk_at dksX5_seal_1 0 rfl rfl)
theorem dX5_seal_25 : decode cX5_seal 25 = .ok (.aload_n 0, 1) := dk_42 (dk_at dksX5_seal_1 3 rfl rfl)
theorem dX5_seal_26 : decode cX5_seal 26 = .ok (.invokevirtual 239, 3) := dk_182 0 239 (dk_at dksX5_seal_1 4 rfl rfl)
theorem dX5_seal_29 : decode cX5_seal 29 = .ok (.aload_n 0, 1) := dk_42 (dk_at dksX5_seal_1 7 rfl rfl)
theorem dX5_seal_30 : decode cX5_seal 30 = .ok (.getfield 19, 3) := dk_180 0 19 (dk_at dksX5_seal_1 8 rfl rfl)
theorem dX5_seal_33 : decode cX5_seal 33 = .ok (.sipush 387, 3) := dk_17 1 131 (dk_at dksX5_seal_1 11 rfl rfl)
theorem dX5_seal_36 : decode cX5_seal 36 = .ok (.iaload, 1) := dk_46 (dk_at dksX5_seal_1 14 rfl rfl)
theorem dX5_seal_37 : decode cX5_seal 37 = .ok (.ireturn, 1) := dk_172 (dk_at dksX5_seal_1 15 rfl rfl)
def dkwX5_run_2 : List UInt8 := [42, 3, 182, 1, 71, 182, 1, 90, 172]
abbrev dktX5_run_2 : List UInt8 := dkwX5_run_2 ++ []
def dkwX5_run_1 : List UInt8 := [164, 0, 6, 16, 254, 172, 42, 27, 182, 0, 118, 154, 0, 6, 16, 252, 172, 42, 182, 1, 87, 42, 27, 28]
abbrev dktX5_run_1 : List UInt8 := dkwX5_run_1 ++ dktX5_run_2
def dkwX5_run_0 : List UInt8 := [42, 3, 181, 0, 47, 42, 27, 182, 1, 33, 154, 0, 5, 2, 172, 28, 4, 161, 0, 9, 28, 16, 40]
abbrev dktX5_run_0 : List UInt8 := dkwX5_run_0 ++ dktX5_run_1
theorem dksX5_run_0 : cX5_run.data.toList.drop 0 = dktX5_run_0 := by decide +kernel
theorem dksX5_run_1 : cX5_run.data.toList.drop 23 = dktX5_run_1 := dk_seg dksX5_run_0 23 rfl rfl
theorem dksX5_run_2 : cX5_run.data.toList.drop 47 = dktX5_run_2 := dk_seg dksX5_run_1 24 rfl rfl
theorem dX5_run_0 : decode cX5_run 0 = .ok (.aload_n 0, 1) := dk_42 (dk_at dksX5_run_0 0 rfl rfl)
theorem dX5_run_1 : decode cX5_run 1 = .ok (.iconst 0, 1) := dk_3 (dk_at dksX5_run_0 1 rfl rfl)
theorem dX5_run_2 : decode cX5_run 2 = .ok (.putfield 47, 3) := dk_181 0 47 (dk_at dksX5_run_0 2 rfl rfl)
theorem dX5_run_5 : decode cX5_run 5 = .ok (.aload_n 0, 1) := dk_42 (dk_at dksX5_run_0 5 rfl rfl)
theorem dX5_run_6 : decode cX5_run 6 = .ok (.iload_n 1, 1) := dk_27 (dk_at dksX5_run_0 6 rfl rfl)
theorem dX5_run_7 : decode cX5_run 7 = .ok (.invokevirtual 289, 3) := dk_182 1 33 (dk_at dksX5_run_0 7 rfl rfl)
theorem dX5_run_10 : decode cX5_run 10 = .ok (.ifCond .ne 5, 3) := dk_154 0 5 (dk_at dksX5_run_0 10 rfl rfl)
theorem dX5_run_13 : decode cX5_run 13 = .ok (.iconst (-1), 1) := dk_2 (dk_at dksX5_run_0 13 rfl rfl)
theorem dX5_run_14 : decode cX5_run 14 = .ok (.ireturn, 1) := dk_172 (dk_at dksX5_run_0 14 rfl rfl)
theorem dX5_run_15 : decode cX5_run 15 = .ok (.iload_n 2, 1) := dk_28 (dk_at dksX5_run_0 15 rfl rfl)
theorem dX5_run_16 : decode cX5_run 16 = .ok (.iconst 1, 1) := dk_4 (dk_at dksX5_run_0 16 rfl rfl)
theorem dX5_run_17 : decode cX5_run 17 = .ok (.if_icmp .lt 9, 3) := dk_161 0 9 (dk_at dksX5_run_0 17 rfl rfl)
theorem dX5_run_20 : decode cX5_run 20 = .ok (.iload_n 2, 1) := dk_28 (dk_at dksX5_run_0 20 rfl rfl)
theorem dX5_run_21 : decode cX5_run 21 = .ok (.bipush 40, 2) := dk_16 40 (dk_at dksX5_run_0 21 rfl rfl)
theorem dX5_run_23 : decode cX5_run 23 = .ok (.if_icmp .le 6, 3) := dk_164 0 6 (dk_at dksX5_run_1 0 rfl rfl)
theorem dX5_run_26 : decode cX5_run 26 = .ok (.bipush (-2), 2) := dk_16 254 (dk_at dksX5_run_1 3 rfl rfl)
theorem dX5_run_28 : decode cX5_run 28 = .ok (.ireturn, 1) := dk_172 (dk_at dksX5_run_1 5 rfl rfl)
theorem dX5_run_29 : decode cX5_run 29 = .ok (.aload_n 0, 1) := dk_42 (dk_at dksX5_run_1 6 rfl rfl)
theorem dX5_run_30 : decode cX5_run 30 = .ok (.iload_n 1, 1) := dk_27 (dk_at dksX5_run_1 7 rfl rfl)
theorem dX5_run_31 : decode cX5_run 31 = .ok (.invokevirtual 118, 3) := dk_182 0 118 (dk_at dksX5_run_1 8 rfl rfl)
theorem dX5_run_34 : decode cX5_run 34 = .ok (.ifCond .ne 6, 3) := dk_154 0 6 (dk_at dksX5_run_1 11 rfl rfl)
theorem dX5_run_37 : decode cX5_run 37 = .ok (.bipush (-4), 2) := dk_16 252 (dk_at dksX5_run_1 14 rfl rfl)
theorem dX5_run_39 : decode cX5_run 39 = .ok (.ireturn, 1) := dk_172 (dk_at dksX5_run_1 16 rfl rfl)
theorem dX5_run_40 : decode cX5_run 40 = .ok (.aload_n 0, 1) := dk_42 (dk_at dksX5_run_1 17 rfl rfl)
theorem dX5_run_41 : decode cX5_run 41 = .ok (.invokevirtual 343, 3) := dk_182 1 87 (dk_at dksX5_run_1 18 rfl rfl)
theorem dX5_run_44 : decode cX5_run 44 = .ok (.aload_n 0, 1) := dk_42 (dk_at dksX5_run_1 21 rfl rfl)
theorem dX5_run_45 : decode cX5_run 45 = .ok (.iload_n 1, 1) := dk_27 (dk_at dksX5_run_1 22 rfl rfl)
theorem dX5_run_46 : decode cX5_run 46 = .ok (.iload_n 2, 1) := dk_28 (dk_at dksX5_run_1 23 rfl rfl)
theorem dX5_run_47 : decode cX5_run 47 = .ok (.aload_n 0, 1) := dk_42 (dk_at dksX5_run_2 0 rfl rfl)
theorem dX5_run_48 : decode cX5_run 48 = .ok (.iconst 0, 1) := dk_3 (dk_at dksX5_run_2 1 rfl rfl)
theorem dX5_run_49 : decode cX5_run 49 = .ok (.invokevirtual 327, 3) := dk_182 1 71 (dk_at dksX5_run_2 2 rfl rfl)
theorem dX5_run_52 : decode cX5_run 52 = .ok (.invokevirtual 346, 3) := dk_182 1 90 (dk_at dksX5_run_2 5 rfl rfl)
theorem dX5_run_55 : decode cX5_run 55 = .ok (.ireturn, 1) := dk_172 (dk_at dksX5_run_2 8 rfl rfl)
def dkwX5_runs_1 : List UInt8 := [182, 0, 133, 132, 5, 1, 167, 255, 241, 21, 4, 172]
abbrev dktX5_runs_1 : List UInt8 := dkwX5_runs_1 ++ []
def dkwX5_runs_0 : List UInt8 := [28, 42, 27, 29, 182, 0, 130, 184, 0, 127, 54, 4, 3, 54, 5, 21, 5, 21, 4, 162, 0, 14, 42, 27]
abbrev dktX5_runs_0 : List UInt8 := dkwX5_runs_0 ++ dktX5_runs_1
theorem dksX5_runs_0 : cX5_runs.data.toList.drop 0 = dktX5_runs_0 := by decide +kernel
theorem dksX5_runs_1 : cX5_runs.data.toList.drop 24 = dktX5_runs_1 := dk_seg dksX5_runs_0 24 rfl rfl
theorem dX5_runs_0 : decode cX5_runs 0 = .ok (.iload_n 2, 1) := dk_28 (dk_at dksX5_runs_0 0 rfl rfl)
theorem dX5_runs_1 : decode cX5_runs 1 = .ok (.aload_n 0, 1) := dk_42 (dk_at dksX5_runs_0 1 rfl rfl)
theorem dX5_runs_2 : decode cX5_runs 2 = .ok (.iload_n 1, 1) := dk_27 (dk_at dksX5_runs_0 2 rfl rfl)
theorem dX5_runs_3 : decode cX5_runs 3 = .ok (.iload_n 3, 1) := dk_29 (dk_at dksX5_runs_0 3 rfl rfl)
theorem dX5_runs_4 : decode cX5_runs 4 = .ok (.invokevirtual 130, 3) := dk_182 0 130 (dk_at dksX5_runs_0 4 rfl rfl)
theorem dX5_runs_7 : decode cX5_runs 7 = .ok (.invokestatic 127, 3) := dk_184 0 127 (dk_at dksX5_runs_0 7 rfl rfl)
theorem dX5_runs_10 : decode cX5_runs 10 = .ok (.istore 4, 2) := dk_54 4 (dk_at dksX5_runs_0 10 rfl rfl)
theorem dX5_runs_12 : decode cX5_runs 12 = .ok (.iconst 0, 1) := dk_3 (dk_at dksX5_runs_0 12 rfl rfl)
theorem dX5_runs_13 : decode cX5_runs 13 = .ok (.istore 5, 2) := dk_54 5 (dk_at dksX5_runs_0 13 rfl rfl)
theorem dX5_runs_15 : decode cX5_runs 15 = .ok (.iload 5, 2) := dk_21 5 (dk_at dksX5_runs_0 15 rfl rfl)
theorem dX5_runs_17 : decode cX5_runs 17 = .ok (.iload 4, 2) := dk_21 4 (dk_at dksX5_runs_0 17 rfl rfl)
theorem dX5_runs_19 : decode cX5_runs 19 = .ok (.if_icmp .ge 14, 3) := dk_162 0 14 (dk_at dksX5_runs_0 19 rfl rfl)
theorem dX5_runs_22 : decode cX5_runs 22 = .ok (.aload_n 0, 1) := dk_42 (dk_at dksX5_runs_0 22 rfl rfl)
theorem dX5_runs_23 : decode cX5_runs 23 = .ok (.iload_n 1, 1) := dk_27 (dk_at dksX5_runs_0 23 rfl rfl)
theorem dX5_runs_24 : decode cX5_runs 24 = .ok (.invokevirtual 133, 3) := dk_182 0 133 (dk_at dksX5_runs_1 0 rfl rfl)
theorem dX5_runs_27 : decode cX5_runs 27 = .ok (.iinc 5 1, 3) := dk_132 5 1 (dk_at dksX5_runs_1 3 rfl rfl)
theorem dX5_runs_30 : decode cX5_runs 30 = .ok (.goto (-15), 3) := dk_167 255 241 (dk_at dksX5_runs_1 6 rfl rfl)
theorem dX5_runs_33 : decode cX5_runs 33 = .ok (.iload 4, 2) := dk_21 4 (dk_at dksX5_runs_1 9 rfl rfl)
theorem dX5_runs_35 : decode cX5_runs 35 = .ok (.ireturn, 1) := dk_172 (dk_at dksX5_runs_1 11 rfl rfl)
def dkwX5_executes_2 : List UInt8 := [167, 255, 232, 42, 27, 28, 182, 0, 108, 42, 27, 4, 28, 4, 96, 182, 0, 99, 42, 27, 182, 0, 111, 177]
abbrev dktX5_executes_2 : List UInt8 := dkwX5_executes_2 ++ []
def dkwX5_executes_1 : List UInt8 := [29, 16, 16, 162, 0, 24, 42, 27, 16, 7, 29, 96, 42, 180, 0, 28, 29, 46, 182, 0, 99, 132, 3, 1]
abbrev dktX5_executes_1 : List UInt8 := dkwX5_executes_1 ++ dktX5_executes_2
def dkwX5_executes_0 : List UInt8 := [42, 27, 182, 0, 92, 61, 42, 27, 182, 0, 71, 42, 28, 182, 0, 102, 42, 27, 28, 182, 0, 105, 3, 62]
abbrev dktX5_executes_0 : List UInt8 := dkwX5_executes_0 ++ dktX5_executes_1
theorem dksX5_executes_0 : cX5_executes.data.toList.drop 0 = dktX5_executes_0 := by decide +kernel
theorem dksX5_executes_1 : cX5_executes.data.toList.drop 24 = dktX5_executes_1 := dk_seg dksX5_executes_0 24 rfl rfl
theorem dksX5_executes_2 : cX5_executes.data.toList.drop 48 = dktX5_executes_2 := dk_seg dksX5_executes_1 24 rfl rfl
theorem dX5_executes_0 : decode cX5_executes 0 = .ok (.aload_n 0, 1) := dk_42 (dk_at dksX5_executes_0 0 rfl rfl)
theorem dX5_executes_1 : decode cX5_executes 1 = .ok (.iload_n 1, 1) := dk_27 (dk_at dksX5_executes_0 1 rfl rfl)
theorem dX5_executes_2 : decode cX5_executes 2 = .ok (.invokevirtual 92, 3) := dk_182 0 92 (dk_at dksX5_executes_0 2 rfl rfl)
theorem dX5_executes_5 : decode cX5_executes 5 = .ok (.istore_n 2, 1) := dk_61 (dk_at dksX5_executes_0 5 rfl rfl)
theorem dX5_executes_6 : decode cX5_executes 6 = .ok (.aload_n 0, 1) := dk_42 (dk_at dksX5_executes_0 6 rfl rfl)
theorem dX5_executes_7 : decode cX5_executes 7 = .ok (.iload_n 1, 1) := dk_27 (dk_at dksX5_executes_0 7 rfl rfl)
theorem dX5_executes_8 : decode cX5_executes 8 = .ok (.invokevirtual 71, 3) := dk_182 0 71 (dk_at dksX5_executes_0 8 rfl rfl)
theorem dX5_executes_11 : decode cX5_executes 11 = .ok (.aload_n 0, 1) := dk_42 (dk_at dksX5_executes_0 11 rfl rfl)
theorem dX5_executes_12 : decode cX5_executes 12 = .ok (.iload_n 2, 1) := dk_28 (dk_at dksX5_executes_0 12 rfl rfl)
theorem dX5_executes_13 : decode cX5_executes 13 = .ok (.invokevirtual 102, 3) := dk_182 0 102 (dk_at dksX5_executes_0 13 rfl rfl)
theorem dX5_executes_16 : decode cX5_executes 16 = .ok (.aload_n 0, 1) := dk_42 (dk_at dksX5_executes_0 16 rfl rfl)
theorem dX5_executes_17 : decode cX5_executes 17 = .ok (.iload_n 1, 1) := dk_27 (dk_at dksX5_executes_0 17 rfl rfl)
theorem dX5_executes_18 : decode cX5_executes 18 = .ok (.iload_n 2, 1) := dk_28 (dk_at dksX5_executes_0 18 rfl rfl)
theorem dX5_executes_19 : decode cX5_executes 19 = .ok (.invokevirtual 105, 3) := dk_182 0 105 (dk_at dksX5_executes_0 19 rfl rfl)
theorem dX5_executes_22 : decode cX5_executes 22 = .ok (.iconst 0, 1) := dk_3 (dk_at dksX5_executes_0 22 rfl rfl)
theorem dX5_executes_23 : decode cX5_executes 23 = .ok (.istore_n 3, 1) := dk_62 (dk_at dksX5_executes_0 23 rfl rfl)
theorem dX5_executes_24 : decode cX5_executes 24 = .ok (.iload_n 3, 1) := dk_29 (dk_at dksX5_executes_1 0 rfl rfl)
theorem dX5_executes_25 : decode cX5_executes 25 = .ok (.bipush 16, 2) := dk_16 16 (dk_at dksX5_executes_1 1 rfl rfl)
theorem dX5_executes_27 : decode cX5_executes 27 = .ok (.if_icmp .ge 24, 3) := dk_162 0 24 (dk_at dksX5_executes_1 3 rfl rfl)
theorem dX5_executes_30 : decode cX5_executes 30 = .ok (.aload_n 0, 1) := dk_42 (dk_at dksX5_executes_1 6 rfl rfl)
theorem dX5_executes_31 : decode cX5_executes 31 = .ok (.iload_n 1, 1) := dk_27 (dk_at dksX5_executes_1 7 rfl rfl)
theorem dX5_executes_32 : decode cX5_executes 32 = .ok (.bipush 7, 2) := dk_16 7 (dk_at dksX5_executes_1 8 rfl rfl)
theorem dX5_executes_34 : decode cX5_executes 34 = .ok (.iload_n 3, 1) := dk_29 (dk_at dksX5_executes_1 10 rfl rfl)
theorem dX5_executes_35 : decode cX5_executes 35 = .ok (.iadd, 1) := dk_96 (dk_at dksX5_executes_1 11 rfl rfl)
theorem dX5_executes_36 : decode cX5_executes 36 = .ok (.aload_n 0, 1) := dk_42 (dk_at dksX5_executes_1 12 rfl rfl)
theorem dX5_executes_37 : decode cX5_executes 37 = .ok (.getfield 28, 3) := dk_180 0 28 (dk_at dksX5_executes_1 13 rfl rfl)
theorem dX5_executes_40 : decode cX5_executes 40 = .ok (.iload_n 3, 1) := dk_29 (dk_at dksX5_executes_1 16 rfl rfl)
theorem dX5_executes_41 : decode cX5_executes 41 = .ok (.iaload, 1) := dk_46 (dk_at dksX5_executes_1 17 rfl rfl)
theorem dX5_executes_42 : decode cX5_executes 42 = .ok (.invokevirtual 99, 3) := dk_182 0 99 (dk_at dksX5_executes_1 18 rfl rfl)
theorem dX5_executes_45 : decode cX5_executes 45 = .ok (.iinc 3 1, 3) := dk_132 3 1 (dk_at dksX5_executes_1 21 rfl rfl)
theorem dX5_executes_48 : decode cX5_executes 48 = .ok (.goto (-24), 3) := dk_167 255 232 (dk_at dksX5_executes_2 0 rfl rfl)
theorem dX5_executes_51 : decode cX5_executes 51 = .ok (.aload_n 0, 1) := dk_42 (dk_at dksX5_executes_2 3 rfl rfl)
theorem dX5_executes_52 : decode cX5_executes 52 = .ok (.iload_n 1, 1) := dk_27 (dk_at dksX5_executes_2 4 rfl rfl)
theorem dX5_executes_53 : decode cX5_executes 53 = .ok (.iload_n 2, 1) := dk_28 (dk_at dksX5_executes_2 5 rfl rfl)
theorem dX5_executes_54 : decode cX5_executes 54 = .ok (.invokevirtual 108, 3) := dk_182 0 108 (dk_at dksX5_executes_2 6 rfl rfl)
theorem dX5_executes_57 : decode cX5_executes 57 = .ok (.aload_n 0, 1) := dk_42 (dk_at dksX5_executes_2 9 rfl rfl)
theorem dX5_executes_58 : decode cX5_executes 58 = .ok (.iload_n 1, 1) := dk_27 (dk_at dksX5_executes_2 10 rfl rfl)
theorem dX5_executes_59 : decode cX5_executes 59 = .ok (.iconst 1, 1) := dk_4 (dk_at dksX5_executes_2 11 rfl rfl)
theorem dX5_executes_60 : decode cX5_executes 60 = .ok (.iload_n 2, 1) := dk_28 (dk_at dksX5_executes_2 12 rfl rfl)
theorem dX5_executes_61 : decode cX5_executes 61 = .ok (.iconst 1, 1) := dk_4 (dk_at dksX5_executes_2 13 rfl rfl)
theorem dX5_executes_62 : decode cX5_executes 62 = .ok (.iadd, 1) := dk_96 (dk_at dksX5_executes_2 14 rfl rfl)
theorem dX5_executes_63 : decode cX5_executes 63 = .ok (.invokevirtual 99, 3) := dk_182 0 99 (dk_at dksX5_executes_2 15 rfl rfl)
theorem dX5_executes_66 : decode cX5_executes 66 = .ok (.aload_n 0, 1) := dk_42 (dk_at dksX5_executes_2 18 rfl rfl)
theorem dX5_executes_67 : decode cX5_executes 67 = .ok (.iload_n 1, 1) := dk_27 (dk_at dksX5_executes_2 19 rfl rfl)
theorem dX5_executes_68 : decode cX5_executes 68 = .ok (.invokevirtual 111, 3) := dk_182 0 111 (dk_at dksX5_executes_2 20 rfl rfl)
theorem dX5_executes_71 : decode cX5_executes 71 = .ok (.return_, 1) := dk_177 (dk_at dksX5_executes_2 23 rfl rfl)
def dkwX5_forgets_6 : List UInt8 := [180, 0, 19, 17, 6, 205, 29, 79, 177]
abbrev dktX5_forgets_6 : List UInt8 := dkwX5_forgets_6 ++ []
def dkwX5_forgets_5 : List UInt8 := [17, 6, 205, 46, 104, 96, 162, 0, 17, 42, 180, 0, 19, 21, 4, 3, 79, 132, 4, 1, 167, 255, 226, 42]
abbrev dktX5_forgets_5 : List UInt8 := dkwX5_forgets_5 ++ dktX5_forgets_6
def dkwX5_forgets_4 : List UInt8 := [167, 255, 169, 17, 6, 206, 7, 29, 104, 96, 54, 4, 21, 4, 17, 6, 206, 7, 42, 180, 0, 19]
abbrev dktX5_forgets_4 : List UInt8 := dkwX5_forgets_4 ++ dktX5_forgets_5
def dkwX5_forgets_3 : List UInt8 := [21, 5, 96, 42, 21, 4, 21, 5, 182, 0, 61, 79, 132, 5, 1, 167, 255, 224, 132, 3, 1, 132, 4, 1]
abbrev dktX5_forgets_3 : List UInt8 := dkwX5_forgets_3 ++ dktX5_forgets_4
def dkwX5_forgets_2 : List UInt8 := [167, 0, 44, 3, 54, 5, 21, 5, 7, 162, 0, 32, 42, 180, 0, 19, 17, 6, 206, 7, 29, 104, 96]
abbrev dktX5_forgets_2 : List UInt8 := dkwX5_forgets_2 ++ dktX5_forgets_3
def dkwX5_forgets_1 : List UInt8 := [182, 0, 61, 27, 160, 0, 22, 28, 2, 159, 0, 58, 42, 21, 4, 4, 182, 0, 61, 28, 160, 0, 6]
abbrev dktX5_forgets_1 : List UInt8 := dkwX5_forgets_1 ++ dktX5_forgets_2
def dkwX5_forgets_0 : List UInt8 := [3, 62, 3, 54, 4, 21, 4, 42, 180, 0, 19, 17, 6, 205, 46, 162, 0, 80, 42, 21, 4, 3]
abbrev dktX5_forgets_0 : List UInt8 := dkwX5_forgets_0 ++ dktX5_forgets_1
theorem dksX5_forgets_0 : cX5_forgets.data.toList.drop 0 = dktX5_forgets_0 := by decide +kernel
theorem dksX5_forgets_1 : cX5_forgets.data.toList.drop 22 = dktX5_forgets_1 := dk_seg dksX5_forgets_0 22 rfl rfl
theorem dksX5_forgets_2 : cX5_forgets.data.toList.drop 45 = dktX5_forgets_2 := dk_seg dksX5_forgets_1 23 rfl rfl
theorem dksX5_forgets_3 : cX5_forgets.data.toList.drop 68 = dktX5_forgets_3 := dk_seg dksX5_forgets_2 23 rfl rfl
theorem dksX5_forgets_4 : cX5_forgets.data.toList.drop 92 = dktX5_forgets_4 := dk_seg dksX5_forgets_3 24 rfl rfl
theorem dksX5_forgets_5 : cX5_forgets.data.toList.drop 114 = dktX5_forgets_5 := dk_seg dksX5_forgets_4 22 rfl rfl
theorem dksX5_forgets_6 : cX5_forgets.data.toList.drop 138 = dktX5_forgets_6 := dk_seg dksX5_forgets_5 24 rfl rfl
theorem dX5_forgets_0 : decode cX5_forgets 0 = .ok (.iconst 0, 1) := dk_3 (dk_at dksX5_forgets_0 0 rfl rfl)
theorem dX5_forgets_1 : decode cX5_forgets 1 = .ok (.istore_n 3, 1) := dk_62 (dk_at dksX5_forgets_0 1 rfl rfl)
theorem dX5_forgets_2 : decode cX5_forgets 2 = .ok (.iconst 0, 1) := dk_3 (dk_at dksX5_forgets_0 2 rfl rfl)
theorem dX5_forgets_3 : decode cX5_forgets 3 = .ok (.istore 4, 2) := dk_54 4 (dk_at dksX5_forgets_0 3 rfl rfl)
theorem dX5_forgets_5 : decode cX5_forgets 5 = .ok (.iload 4, 2) := dk_21 4 (dk_at dksX5_forgets_0 5 rfl rfl)
theorem dX5_forgets_7 : decode cX5_forgets 7 = .ok (.aload_n 0, 1) := dk_42 (dk_at dksX5_forgets_0 7 rfl rfl)
theorem dX5_forgets_8 : decode cX5_forgets 8 = .ok (.getfield 19, 3) := dk_180 0 19 (dk_at dksX5_forgets_0 8 rfl rfl)
theorem dX5_forgets_11 : decode cX5_forgets 11 = .ok (.sipush 1741, 3) := dk_17 6 205 (dk_at dksX5_forgets_0 11 rfl rfl)
theorem dX5_forgets_14 : decode cX5_forgets 14 = .ok (.iaload, 1) := dk_46 (dk_at dksX5_forgets_0 14 rfl rfl)
theorem dX5_forgets_15 : decode cX5_forgets 15 = .ok (.if_icmp .ge 80, 3) := dk_162 0 80 (dk_at dksX5_forgets_0 15 rfl rfl)
theorem dX5_forgets_18 : decode cX5_forgets 18 = .ok (.aload_n 0, 1) := dk_42 (dk_at dksX5_forgets_0 18 rfl rfl)
theorem dX5_forgets_19 : decode cX5_forgets 19 = .ok (.iload 4, 2) := dk_21 4 (dk_at dksX5_forgets_0 19 rfl rfl)
theorem dX5_forgets_21 : decode cX5_forgets 21 = .ok (.iconst 0, 1) := dk_3 (dk_at dksX5_forgets_0 21 rfl rfl)
theorem dX5_forgets_22 : decode cX5_forgets 22 = .ok (.invokevirtual 61, 3) := dk_182 0 61 (dk_at dksX5_forgets_1 0 rfl rfl)
theorem dX5_forgets_25 : decode cX5_forgets 25 = .ok (.iload_n 1, 1) := dk_27 (dk_at dksX5_forgets_1 3 rfl rfl)
theorem dX5_forgets_26 : decode cX5_forgets 26 = .ok (.if_icmp .ne 22, 3) := dk_160 0 22 (dk_at dksX5_forgets_1 4 rfl rfl)
theorem dX5_forgets_29 : decode cX5_forgets 29 = .ok (.iload_n 2, 1) := dk_28 (dk_at dksX5_forgets_1 7 rfl rfl)
theorem dX5_forgets_30 : decode cX5_forgets 30 = .ok (.iconst (-1), 1) := dk_2 (dk_at dksX5_forgets_1 8 rfl rfl)
theorem dX5_forgets_31 : decode cX5_forgets 31 = .ok (.if_icmp .eq 58, 3) := dk_159 0 58 (dk_at dksX5_forgets_1 9 rfl rfl)
theorem dX5_forgets_34 : decode cX5_forgets 34 = .ok (.aload_n 0, 1) := dk_42 (dk_at dksX5_forgets_1 12 rfl rfl)
theorem dX5_forgets_35 : decode cX5_forgets 35 = .ok (.iload 4, 2) := dk_21 4 (dk_at dksX5_forgets_1 13 rfl rfl)
theorem dX5_forgets_37 : decode cX5_forgets 37 = .ok (.iconst 1, 1) := dk_4 (dk_at dksX5_forgets_1 15 rfl rfl)
theorem dX5_forgets_38 : decode cX5_forgets 38 = .ok (.invokevirtual 61, 3) := dk_182 0 61 (dk_at dksX5_forgets_1 16 rfl rfl)
theorem dX5_forgets_41 : decode cX5_forgets 41 = .ok (.iload_n 2, 1) := dk_28 (dk_at dksX5_forgets_1 19 rfl rfl)
theorem dX5_forgets_42 : decode cX5_forgets 42 = .ok (.if_icmp .ne 6, 3) := dk_160 0 6 (dk_at dksX5_forgets_1 20 rfl rfl)
theorem dX5_forgets_45 : decode cX5_forgets 45 = .ok (.goto 44, 3) := dk_167 0 44 (dk_at dksX5_forgets_2 0 rfl rfl)
theorem dX5_forgets_48 : decode cX5_forgets 48 = .ok (.iconst 0, 1) := dk_3 (dk_at dksX5_forgets_2 3 rfl rfl)
theorem dX5_forgets_49 : decode cX5_forgets 49 = .ok (.istore 5, 2) := dk_54 5 (dk_at dksX5_forgets_2 4 rfl rfl)
theorem dX5_forgets_51 : decode cX5_forgets 51 = .ok (.iload 5, 2) := dk_21 5 (dk_at dksX5_forgets_2 6 rfl rfl)
theorem dX5_forgets_53 : decode cX5_forgets 53 = .ok (.iconst 4, 1) := dk_7 (dk_at dksX5_forgets_2 8 rfl rfl)
theorem dX5_forgets_54 : decode cX5_forgets 54 = .ok (.if_icmp .ge 32, 3) := dk_162 0 32 (dk_at dksX5_forgets_2 9 rfl rfl)
theorem dX5_forgets_57 : decode cX5_forgets 57 = .ok (.aload_n 0, 1) := dk_42 (dk_at dksX5_forgets_2 12 rfl rfl)
theorem dX5_forgets_58 : decode cX5_forgets 58 = .ok (.getfield 19, 3) := dk_180 0 19 (dk_at dksX5_forgets_2 13 rfl rfl)
theorem dX5_forgets_61 : decode cX5_forgets 61 = .ok (.sipush 1742, 3) := dk_17 6 206 (dk_at dksX5_forgets_2 16 rfl rfl)
theorem dX5_forgets_64 : decode cX5_forgets 64 = .ok (.iconst 4, 1) := dk_7 (dk_at dksX5_forgets_2 19 rfl rfl)
theorem dX5_forgets_65 : decode cX5_forgets 65 = .ok (.iload_n 3, 1) := dk_29 (dk_at dksX5_forgets_2 20 rfl rfl)
theorem dX5_forgets_66 : decode cX5_forgets 66 = .ok (.imul, 1) := dk_104 (dk_at dksX5_forgets_2 21 rfl rfl)
theorem dX5_forgets_67 : decode cX5_forgets 67 = .ok (.iadd, 1) := dk_96 (dk_at dksX5_forgets_2 22 rfl rfl)
theorem dX5_forgets_68 : decode cX5_forgets 68 = .ok (.iload 5, 2) := dk_21 5 (dk_at dksX5_forgets_3 0 rfl rfl)
theorem dX5_forgets_70 : decode cX5_forgets 70 = .ok (.iadd, 1) := dk_96 (dk_at dksX5_forgets_3 2 rfl rfl)
theorem dX5_forgets_71 : decode cX5_forgets 71 = .ok (.aload_n 0, 1) := dk_42 (dk_at dksX5_forgets_3 3 rfl rfl)
theorem dX5_forgets_72 : decode cX5_forgets 72 = .ok (.iload 4, 2) := dk_21 4 (dk_at dksX5_forgets_3 4 rfl rfl)
theorem dX5_forgets_74 : decode cX5_forgets 74 = .ok (.iload 5, 2) := dk_21 5 (dk_at dksX5_forgets_3 6 rfl rfl)
theorem dX5_forgets_76 : decode cX5_forgets 76 = .ok (.invokevirtual 61, 3) := dk_182 0 61 (dk_at dksX5_forgets_3 8 rfl rfl)
theorem dX5_forgets_79 : decode cX5_forgets 79 = .ok (.iastore, 1) := dk_79 (dk_at dksX5_forgets_3 11 rfl rfl)
theorem dX5_forgets_80 : decode cX5_forgets 80 = .ok (.iinc 5 1, 3) := dk_132 5 1 (dk_at dksX5_forgets_3 12 rfl rfl)
theorem dX5_forgets_83 : decode cX5_forgets 83 = .ok (.goto (-32), 3) := dk_167 255 224 (dk_at dksX5_forgets_3 15 rfl rfl)
theorem dX5_forgets_86 : decode cX5_forgets 86 = .ok (.iinc 3 1, 3) := dk_132 3 1 (dk_at dksX5_forgets_3 18 rfl rfl)
theorem dX5_forgets_89 : decode cX5_forgets 89 = .ok (.iinc 4 1, 3) := dk_132 4 1 (dk_at dksX5_forgets_3 21 rfl rfl)
theorem dX5_forgets_92 : decode cX5_forgets 92 = .ok (.goto (-87), 3) := dk_167 255 169 (dk_at dksX5_forgets_4 0 rfl rfl)
theorem dX5_forgets_95 : decode cX5_forgets 95 = .ok (.sipush 1742, 3) := dk_17 6 206 (dk_at dksX5_forgets_4 3 rfl rfl)
theorem dX5_forgets_98 : decode cX5_forgets 98 = .ok (.iconst 4, 1) := dk_7 (dk_at dksX5_forgets_4 6 rfl rfl)
theorem dX5_forgets_99 : decode cX5_forgets 99 = .ok (.iload_n 3, 1) := dk_29 (dk_at dksX5_forgets_4 7 rfl rfl)
theorem dX5_forgets_100 : decode cX5_forgets 100 = .ok (.imul, 1) := dk_104 (dk_at dksX5_forgets_4 8 rfl rfl)
theorem dX5_forgets_101 : decode cX5_forgets 101 = .ok (.iadd, 1) := dk_96 (dk_at dksX5_forgets_4 9 rfl rfl)
theorem dX5_forgets_102 : decode cX5_forgets 102 = .ok (.istore 4, 2) := dk_54 4 (dk_at dksX5_forgets_4 10 rfl rfl)
theorem dX5_forgets_104 : decode cX5_forgets 104 = .ok (.iload 4, 2) := dk_21 4 (dk_at dksX5_forgets_4 12 rfl rfl)
theorem dX5_forgets_106 : decode cX5_forgets 106 = .ok (.sipush 1742, 3) := dk_17 6 206 (dk_at dksX5_forgets_4 14 rfl rfl)
theorem dX5_forgets_109 : decode cX5_forgets 109 = .ok (.iconst 4, 1) := dk_7 (dk_at dksX5_forgets_4 17 rfl rfl)
theorem dX5_forgets_110 : decode cX5_forgets 110 = .ok (.aload_n 0, 1) := dk_42 (dk_at dksX5_forgets_4 18 rfl rfl)
theorem dX5_forgets_111 : decode cX5_forgets 111 = .ok (.getfield 19, 3) := dk_180 0 19 (dk_at dksX5_forgets_4 19 rfl rfl)
theorem dX5_forgets_114 : decode cX5_forgets 114 = .ok (.sipush 1741, 3) := dk_17 6 205 (dk_at dksX5_forgets_5 0 rfl rfl)
theorem dX5_forgets_117 : decode cX5_forgets 117 = .ok (.iaload, 1) := dk_46 (dk_at dksX5_forgets_5 3 rfl rfl)
theorem dX5_forgets_118 : decode cX5_forgets 118 = .ok (.imul, 1) := dk_104 (dk_at dksX5_forgets_5 4 rfl rfl)
theorem dX5_forgets_119 : decode cX5_forgets 119 = .ok (.iadd, 1) := dk_96 (dk_at dksX5_forgets_5 5 rfl rfl)
theorem dX5_forgets_120 : decode cX5_forgets 120 = .ok (.if_icmp .ge 17, 3) := dk_162 0 17 (dk_at dksX5_forgets_5 6 rfl rfl)
theorem dX5_forgets_123 : decode cX5_forgets 123 = .ok (.aload_n 0, 1) := dk_42 (dk_at dksX5_forgets_5 9 rfl rfl)
theorem dX5_forgets_124 : decode cX5_forgets 124 = .ok (.getfield 19, 3) := dk_180 0 19 (dk_at dksX5_forgets_5 10 rfl rfl)
theorem dX5_forgets_127 : decode cX5_forgets 127 = .ok (.iload 4, 2) := dk_21 4 (dk_at dksX5_forgets_5 13 rfl rfl)
theorem dX5_forgets_129 : decode cX5_forgets 129 = .ok (.iconst 0, 1) := dk_3 (dk_at dksX5_forgets_5 15 rfl rfl)
theorem dX5_forgets_130 : decode cX5_forgets 130 = .ok (.iastore, 1) := dk_79 (dk_at dksX5_forgets_5 16 rfl rfl)
theorem dX5_forgets_131 : decode cX5_forgets 131 = .ok (.iinc 4 1, 3) := dk_132 4 1 (dk_at dksX5_forgets_5 17 rfl rfl)
theorem dX5_forgets_134 : decode cX5_forgets 134 = .ok (.goto (-30), 3) := dk_167 255 226 (dk_at dksX5_forgets_5 20 rfl rfl)
theorem dX5_forgets_137 : decode cX5_forgets 137 = .ok (.aload_n 0, 1) := dk_42 (dk_at dksX5_forgets_5 23 rfl rfl)
theorem dX5_forgets_138 : decode cX5_forgets 138 = .ok (.getfield 19, 3) := dk_180 0 19 (dk_at dksX5_forgets_6 0 rfl rfl)
theorem dX5_forgets_141 : decode cX5_forgets 141 = .ok (.sipush 1741, 3) := dk_17 6 205 (dk_at dksX5_forgets_6 3 rfl rfl)
theorem dX5_forgets_144 : decode cX5_forgets 144 = .ok (.iload_n 3, 1) := dk_29 (dk_at dksX5_forgets_6 6 rfl rfl)
theorem dX5_forgets_145 : decode cX5_forgets 145 = .ok (.iastore, 1) := dk_79 (dk_at dksX5_forgets_6 7 rfl rfl)
theorem dX5_forgets_146 : decode cX5_forgets 146 = .ok (.return_, 1) := dk_177 (dk_at dksX5_forgets_6 8 rfl rfl)
def dkwX5_tick_2 : List UInt8 := [167, 0, 4, 3, 96, 61, 132, 3, 1, 167, 255, 218, 28, 172]
abbrev dktX5_tick_2 : List UInt8 := dkwX5_tick_2 ++ []
def dkwX5_tick_1 : List UInt8 := [162, 0, 36, 28, 42, 29, 182, 0, 118, 153, 0, 18, 42, 29, 42, 29, 3, 182, 0, 53, 27, 182, 1, 90]
abbrev dktX5_tick_1 : List UInt8 := dkwX5_tick_1 ++ dktX5_tick_2
def dkwX5_tick_0 : List UInt8 := [42, 3, 181, 0, 47, 42, 182, 1, 87, 42, 3, 182, 1, 71, 60, 3, 61, 3, 62, 29, 42, 182, 0, 114]
abbrev dktX5_tick_0 : List UInt8 := dkwX5_tick_0 ++ dktX5_tick_1
theorem dksX5_tick_0 : cX5_tick.data.toList.drop 0 = dktX5_tick_0 := by decide +kernel
theorem dksX5_tick_1 : cX5_tick.data.toList.drop 24 = dktX5_tick_1 := dk_seg dksX5_tick_0 24 rfl rfl
theorem dksX5_tick_2 : cX5_tick.data.toList.drop 48 = dktX5_tick_2 := dk_seg dksX5_tick_1 24 rfl rfl
theorem dX5_tick_0 : decode cX5_tick 0 = .ok (.aload_n 0, 1) := dk_42 (dk_at dksX5_tick_0 0 rfl rfl)
theorem dX5_tick_1 : decode cX5_tick 1 = .ok (.iconst 0, 1) := dk_3 (dk_at dksX5_tick_0 1 rfl rfl)
theorem dX5_tick_2 : decode cX5_tick 2 = .ok (.putfield 47, 3) := dk_181 0 47 (dk_at dksX5_tick_0 2 rfl rfl)
theorem dX5_tick_5 : decode cX5_tick 5 = .ok (.aload_n 0, 1) := dk_42 (dk_at dksX5_tick_0 5 rfl rfl)
theorem dX5_tick_6 : decode cX5_tick 6 = .ok (.invokevirtual 343, 3) := dk_182 1 87 (dk_at dksX5_tick_0 6 rfl rfl)
theorem dX5_tick_9 : decode cX5_tick 9 = .ok (.aload_n 0, 1) := dk_42 (dk_at dksX5_tick_0 9 rfl rfl)
theorem dX5_tick_10 : decode cX5_tick 10 = .ok (.iconst 0, 1) := dk_3 (dk_at dksX5_tick_0 10 rfl rfl)
theorem dX5_tick_11 : decode cX5_tick 11 = .ok (.invokevirtual 327, 3) := dk_182 1 71 (dk_at dksX5_tick_0 11 rfl rfl)
theorem dX5_tick_14 : decode cX5_tick 14 = .ok (.istore_n 1, 1) := dk_60 (dk_at dksX5_tick_0 14 rfl rfl)
theorem dX5_tick_15 : decode cX5_tick 15 = .ok (.iconst 0, 1) := dk_3 (dk_at dksX5_tick_0 15 rfl rfl)
theorem dX5_tick_16 : decode cX5_tick 16 = .ok (.istore_n 2, 1) := dk_61 (dk_at dksX5_tick_0 16 rfl rfl)
theorem dX5_tick_17 : decode cX5_tick 17 = .ok (.iconst 0, 1) := dk_3 (dk_at dksX5_tick_0 17 rfl rfl)
theorem dX5_tick_18 : decode cX5_tick 18 = .ok (.istore_n 3, 1) := dk_62 (dk_at dksX5_tick_0 18 rfl rfl)
theorem dX5_tick_19 : decode cX5_tick 19 = .ok (.iload_n 3, 1) := dk_29 (dk_at dksX5_tick_0 19 rfl rfl)
theorem dX5_tick_20 : decode cX5_tick 20 = .ok (.aload_n 0, 1) := dk_42 (dk_at dksX5_tick_0 20 rfl rfl)
theorem dX5_tick_21 : decode cX5_tick 21 = .ok (.invokevirtual 114, 3) := dk_182 0 114 (dk_at dksX5_tick_0 21 rfl rfl)
theorem dX5_tick_24 : decode cX5_tick 24 = .ok (.if_icmp .ge 36, 3) := dk_162 0 36 (dk_at dksX5_tick_1 0 rfl rfl)
theorem dX5_tick_27 : decode cX5_tick 27 = .ok (.iload_n 2, 1) := dk_28 (dk_at dksX5_tick_1 3 rfl rfl)
theorem dX5_tick_28 : decode cX5_tick 28 = .ok (.aload_n 0, 1) := dk_42 (dk_at dksX5_tick_1 4 rfl rfl)
theorem dX5_tick_29 : decode cX5_tick 29 = .ok (.iload_n 3, 1) := dk_29 (dk_at dksX5_tick_1 5 rfl rfl)
theorem dX5_tick_30 : decode cX5_tick 30 = .ok (.invokevirtual 118, 3) := dk_182 0 118 (dk_at dksX5_tick_1 6 rfl rfl)
theorem dX5_tick_33 : decode cX5_tick 33 = .ok (.ifCond .eq 18, 3) := dk_153 0 18 (dk_at dksX5_tick_1 9 rfl rfl)
theorem dX5_tick_36 : decode cX5_tick 36 = .ok (.aload_n 0, 1) := dk_42 (dk_at dksX5_tick_1 12 rfl rfl)
theorem dX5_tick_37 : decode cX5_tick 37 = .ok (.iload_n 3, 1) := dk_29 (dk_at dksX5_tick_1 13 rfl rfl)
theorem dX5_tick_38 : decode cX5_tick 38 = .ok (.aload_n 0, 1) := dk_42 (dk_at dksX5_tick_1 14 rfl rfl)
theorem dX5_tick_39 : decode cX5_tick 39 = .ok (.iload_n 3, 1) := dk_29 (dk_at dksX5_tick_1 15 rfl rfl)
theorem dX5_tick_40 : decode cX5_tick 40 = .ok (.iconst 0, 1) := dk_3 (dk_at dksX5_tick_1 16 rfl rfl)
theorem dX5_tick_41 : decode cX5_tick 41 = .ok (.invokevirtual 53, 3) := dk_182 0 53 (dk_at dksX5_tick_1 17 rfl rfl)
theorem dX5_tick_44 : decode cX5_tick 44 = .ok (.iload_n 1, 1) := dk_27 (dk_at dksX5_tick_1 20 rfl rfl)
theorem dX5_tick_45 : decode cX5_tick 45 = .ok (.invokevirtual 346, 3) := dk_182 1 90 (dk_at dksX5_tick_1 21 rfl rfl)
theorem dX5_tick_48 : decode cX5_tick 48 = .ok (.goto 4, 3) := dk_167 0 4 (dk_at dksX5_tick_2 0 rfl rfl)
theorem dX5_tick_51 : decode cX5_tick 51 = .ok (.iconst 0, 1) := dk_3 (dk_at dksX5_tick_2 3 rfl rfl)
theorem dX5_tick_52 : decode cX5_tick 52 = .ok (.iadd, 1) := dk_96 (dk_at dksX5_tick_2 4 rfl rfl)
theorem dX5_tick_53 : decode cX5_tick 53 = .ok (.istore_n 2, 1) := dk_61 (dk_at dksX5_tick_2 5 rfl rfl)
theorem dX5_tick_54 : decode cX5_tick 54 = .ok (.iinc 3 1, 3) := dk_132 3 1 (dk_at dksX5_tick_2 6 rfl rfl)
theorem dX5_tick_57 : decode cX5_tick 57 = .ok (.goto (-38), 3) := dk_167 255 218 (dk_at dksX5_tick_2 9 rfl rfl)
theorem dX5_tick_60 : decode cX5_tick 60 = .ok (.iload_n 2, 1) := dk_28 (dk_at dksX5_tick_2 12 rfl rfl)
theorem dX5_tick_61 : decode cX5_tick 61 = .ok (.ireturn, 1) := dk_172 (dk_at dksX5_tick_2 13 rfl rfl)
def dkwX5_fault_2_4 : List UInt8 := [21, 4, 182, 0, 242, 42, 180, 0, 19, 17, 6, 205, 46, 172]
abbrev dktX5_fault_2_4 : List UInt8 := dkwX5_fault_2_4 ++ []
def dkwX5_fault_2_3 : List UInt8 := [180, 0, 19, 17, 6, 205, 46, 16, 10, 160, 0, 6, 16, 253, 172, 42, 182, 1, 87, 42, 27, 28, 29]
abbrev dktX5_fault_2_3 : List UInt8 := dkwX5_fault_2_3 ++ dktX5_fault_2_4
def dkwX5_fault_2_2 : List UInt8 := [16, 254, 172, 42, 27, 182, 0, 118, 153, 0, 12, 42, 27, 182, 0, 92, 28, 164, 0, 6, 16, 252, 172, 42]
abbrev dktX5_fault_2_2 : List UInt8 := dkwX5_fault_2_2 ++ dktX5_fault_2_3
def dkwX5_fault_2_1 : List UInt8 := [162, 0, 24, 29, 184, 1, 43, 153, 0, 17, 21, 4, 4, 161, 0, 11, 21, 4, 17, 39, 16, 161, 0, 6]
abbrev dktX5_fault_2_1 : List UInt8 := dkwX5_fault_2_1 ++ dktX5_fault_2_2
def dkwX5_fault_2_0 : List UInt8 := [42, 3, 181, 0, 47, 42, 27, 182, 1, 33, 154, 0, 5, 2, 172, 28, 155, 0, 30, 28, 16, 40]
abbrev dktX5_fault_2_0 : List UInt8 := dkwX5_fault_2_0 ++ dktX5_fault_2_1
theorem dksX5_fault_2_0 : cX5_fault_2.data.toList.drop 0 = dktX5_fault_2_0 := by decide +kernel
theorem dksX5_fault_2_1 : cX5_fault_2.data.toList.drop 22 = dktX5_fault_2_1 := dk_seg dksX5_fault_2_0 22 rfl rfl
theorem dksX5_fault_2_2 : cX5_fault_2.data.toList.drop 46 = dktX5_fault_2_2 := dk_seg dksX5_fault_2_1 24 rfl rfl
theorem dksX5_fault_2_3 : cX5_fault_2.data.toList.drop 70 = dktX5_fault_2_3 := dk_seg dksX5_fault_2_2 24 rfl rfl
theorem dksX5_fault_2_4 : cX5_fault_2.data.toList.drop 93 = dktX5_fault_2_4 := dk_seg dksX5_fault_2_3 23 rfl rfl
theorem dX5_fault_2_0 : decode cX5_fault_2 0 = .ok (.aload_n 0, 1) := dk_42 (dk_at dksX5_fault_2_0 0 rfl rfl)
theorem dX5_fault_2_1 : decode cX5_fault_2 1 = .ok (.iconst 0, 1) := dk_3 (dk_at dksX5_fault_2_0 1 rfl rfl)
theorem dX5_fault_2_2 : decode cX5_fault_2 2 = .ok (.putfield 47, 3) := dk_181 0 47 (dk_at dksX5_fault_2_0 2 rfl rfl)
theorem dX5_fault_2_5 : decode cX5_fault_2 5 = .ok (.aload_n 0, 1) := dk_42 (dk_at dksX5_fault_2_0 5 rfl rfl)
theorem dX5_fault_2_6 : decode cX5_fault_2 6 = .ok (.iload_n 1, 1) := dk_27 (dk_at dksX5_fault_2_0 6 rfl rfl)
theorem dX5_fault_2_7 : decode cX5_fault_2 7 = .ok (.invokevirtual 289, 3) := dk_182 1 33 (dk_at dksX5_fault_2_0 7 rfl rfl)
theorem dX5_fault_2_10 : decode cX5_fault_2 10 = .ok (.ifCond .ne 5, 3) := dk_154 0 5 (dk_at dksX5_fault_2_0 10 rfl rfl)
theorem dX5_fault_2_13 : decode cX5_fault_2 13 = .ok (.iconst (-1), 1) := dk_2 (dk_at dksX5_fault_2_0 13 rfl rfl)
theorem dX5_fault_2_14 : decode cX5_fault_2 14 = .ok (.ireturn, 1) := dk_172 (dk_at dksX5_fault_2_0 14 rfl rfl)
theorem dX5_fault_2_15 : decode cX5_fault_2 15 = .ok (.iload_n 2, 1) := dk_28 (dk_at dksX5_fault_2_0 15 rfl rfl)
theorem dX5_fault_2_16 : decode cX5_fault_2 16 = .ok (.ifCond .lt 30, 3) := dk_155 0 30 (dk_at dksX5_fault_2_0 16 rfl rfl)
theorem dX5_fault_2_19 : decode cX5_fault_2 19 = .ok (.iload_n 2, 1) := dk_28 (dk_at dksX5_fault_2_0 19 rfl rfl)
theorem dX5_fault_2_20 : decode cX5_fault_2 20 = .ok (.bipush 40, 2) := dk_16 40 (dk_at dksX5_fault_2_0 20 rfl rfl)
theorem dX5_fault_2_22 : decode cX5_fault_2 22 = .ok (.if_icmp .ge 24, 3) := dk_162 0 24 (dk_at dksX5_fault_2_1 0 rfl rfl)
theorem dX5_fault_2_25 : decode cX5_fault_2 25 = .ok (.iload_n 3, 1) := dk_29 (dk_at dksX5_fault_2_1 3 rfl rfl)
theorem dX5_fault_2_26 : decode cX5_fault_2 26 = .ok (.invokestatic 299, 3) := dk_184 1 43 (dk_at dksX5_fault_2_1 4 rfl rfl)
theorem dX5_fault_2_29 : decode cX5_fault_2 29 = .ok (.ifCond .eq 17, 3) := dk_153 0 17 (dk_at dksX5_fault_2_1 7 rfl rfl)
theorem dX5_fault_2_32 : decode cX5_fault_2 32 = .ok (.iload 4, 2) := dk_21 4 (dk_at dksX5_fault_2_1 10 rfl rfl)
theorem dX5_fault_2_34 : decode cX5_fault_2 34 = .ok (.iconst 1, 1) := dk_4 (dk_at dksX5_fault_2_1 12 rfl rfl)
theorem dX5_fault_2_35 : decode cX5_fault_2 35 = .ok (.if_icmp .lt 11, 3) := dk_161 0 11 (dk_at dksX5_fault_2_1 13 rfl rfl)
theorem dX5_fault_2_38 : decode cX5_fault_2 38 = .ok (.iload 4, 2) := dk_21 4 (dk_at dksX5_fault_2_1 16 rfl rfl)
theorem dX5_fault_2_40 : decode cX5_fault_2 40 = .ok (.sipush 10000, 3) := dk_17 39 16 (dk_at dksX5_fault_2_1 18 rfl rfl)
theorem dX5_fault_2_43 : decode cX5_fault_2 43 = .ok (.if_icmp .lt 6, 3) := dk_161 0 6 (dk_at dksX5_fault_2_1 21 rfl rfl)
theorem dX5_fault_2_46 : decode cX5_fault_2 46 = .ok (.bipush (-2), 2) := dk_16 254 (dk_at dksX5_fault_2_2 0 rfl rfl)
theorem dX5_fault_2_48 : decode cX5_fault_2 48 = .ok (.ireturn, 1) := dk_172 (dk_at dksX5_fault_2_2 2 rfl rfl)
theorem dX5_fault_2_49 : decode cX5_fault_2 49 = .ok (.aload_n 0, 1) := dk_42 (dk_at dksX5_fault_2_2 3 rfl rfl)
theorem dX5_fault_2_50 : decode cX5_fault_2 50 = .ok (.iload_n 1, 1) := dk_27 (dk_at dksX5_fault_2_2 4 rfl rfl)
theorem dX5_fault_2_51 : decode cX5_fault_2 51 = .ok (.invokevirtual 118, 3) := dk_182 0 118 (dk_at dksX5_fault_2_2 5 rfl rfl)
theorem dX5_fault_2_54 : decode cX5_fault_2 54 = .ok (.ifCond .eq 12, 3) := dk_153 0 12 (dk_at dksX5_fault_2_2 8 rfl rfl)
theorem dX5_fault_2_57 : decode cX5_fault_2 57 = .ok (.aload_n 0, 1) := dk_42 (dk_at dksX5_fault_2_2 11 rfl rfl)
theorem dX5_fault_2_58 : decode cX5_fault_2 58 = .ok (.iload_n 1, 1) := dk_27 (dk_at dksX5_fault_2_2 12 rfl rfl)
theorem dX5_fault_2_59 : decode cX5_fault_2 59 = .ok (.invokevirtual 92, 3) := dk_182 0 92 (dk_at dksX5_fault_2_2 13 rfl rfl)
theorem dX5_fault_2_62 : decode cX5_fault_2 62 = .ok (.iload_n 2, 1) := dk_28 (dk_at dksX5_fault_2_2 16 rfl rfl)
theorem dX5_fault_2_63 : decode cX5_fault_2 63 = .ok (.if_icmp .le 6, 3) := dk_164 0 6 (dk_at dksX5_fault_2_2 17 rfl rfl)
theorem dX5_fault_2_66 : decode cX5_fault_2 66 = .ok (.bipush (-4), 2) := dk_16 252 (dk_at dksX5_fault_2_2 20 rfl rfl)
theorem dX5_fault_2_68 : decode cX5_fault_2 68 = .ok (.ireturn, 1) := dk_172 (dk_at dksX5_fault_2_2 22 rfl rfl)
theorem dX5_fault_2_69 : decode cX5_fault_2 69 = .ok (.aload_n 0, 1) := dk_42 (dk_at dksX5_fault_2_2 23 rfl rfl)
theorem dX5_fault_2_70 : decode cX5_fault_2 70 = .ok (.getfield 19, 3) := dk_180 0 19 (dk_at dksX5_fault_2_3 0 rfl rfl)
theorem dX5_fault_2_73 : decode cX5_fault_2 73 = .ok (.sipush 1741, 3) := dk_17 6 205 (dk_at dksX5_fault_2_3 3 rfl rfl)
theorem dX5_fault_2_76 : decode cX5_fault_2 76 = .ok (.iaload, 1) := dk_46 (dk_at dksX5_fault_2_3 6 rfl rfl)
theorem dX5_fault_2_77 : decode cX5_fault_2 77 = .ok (.bipush 10, 2) := dk_16 10 (dk_at dksX5_fault_2_3 7 rfl rfl)
theorem dX5_fault_2_79 : decode cX5_fault_2 79 = .ok (.if_icmp .ne 6, 3) := dk_160 0 6 (dk_at dksX5_fault_2_3 9 rfl rfl)
theorem dX5_fault_2_82 : decode cX5_fault_2 82 = .ok (.bipush (-3), 2) := dk_16 253 (dk_at dksX5_fault_2_3 12 rfl rfl)
theorem dX5_fault_2_84 : decode cX5_fault_2 84 = .ok (.ireturn, 1) := dk_172 (dk_at dksX5_fault_2_3 14 rfl rfl)
theorem dX5_fault_2_85 : decode cX5_fault_2 85 = .ok (.aload_n 0, 1) := dk_42 (dk_at dksX5_fault_2_3 15 rfl rfl)
theorem dX5_fault_2_86 : decode cX5_fault_2 86 = .ok (.invokevirtual 343, 3) := dk_182 1 87 (dk_at dksX5_fault_2_3 16 rfl rfl)
theorem dX5_fault_2_89 : decode cX5_fault_2 89 = .ok (.aload_n 0, 1) := dk_42 (dk_at dksX5_fault_2_3 19 rfl rfl)
theorem dX5_fault_2_90 : decode cX5_fault_2 90 = .ok (.iload_n 1, 1) := dk_27 (dk_at dksX5_fault_2_3 20 rfl rfl)
theorem dX5_fault_2_91 : decode cX5_fault_2 91 = .ok (.iload_n 2, 1) := dk_28 (dk_at dksX5_fault_2_3 21 rfl rfl)
theorem dX5_fault_2_92 : decode cX5_fault_2 92 = .ok (.iload_n 3, 1) := dk_29 (dk_at dksX5_fault_2_3 22 rfl rfl)
theorem dX5_fault_2_93 : decode cX5_fault_2 93 = .ok (.iload 4, 2) := dk_21 4 (dk_at dksX5_fault_2_4 0 rfl rfl)
theorem dX5_fault_2_95 : decode cX5_fault_2 95 = .ok (.invokevirtual 242, 3) := dk_182 0 242 (dk_at dksX5_fault_2_4 2 rfl rfl)
theorem dX5_fault_2_98 : decode cX5_fault_2 98 = .ok (.aload_n 0, 1) := dk_42 (dk_at dksX5_fault_2_4 5 rfl rfl)
theorem dX5_fault_2_99 : decode cX5_fault_2 99 = .ok (.getfield 19, 3) := dk_180 0 19 (dk_at dksX5_fault_2_4 6 rfl rfl)
theorem dX5_fault_2_102 : decode cX5_fault_2 102 = .ok (.sipush 1741, 3) := dk_17 6 205 (dk_at dksX5_fault_2_4 9 rfl rfl)
theorem dX5_fault_2_105 : decode cX5_fault_2 105 = .ok (.iaload, 1) := dk_46 (dk_at dksX5_fault_2_4 12 rfl rfl)
theorem dX5_fault_2_106 : decode cX5_fault_2 106 = .ok (.ireturn, 1) := dk_172 (dk_at dksX5_fault_2_4 13 rfl rfl)
def dkwX5_heal_1 : List UInt8 := [16, 252, 172, 42, 182, 1, 87, 42, 27, 182, 1, 94, 172]
abbrev dktX5_heal_1 : List UInt8 := dkwX5_heal_1 ++ []
def dkwX5_heal_0 : List UInt8 := [42, 3, 181, 0, 47, 42, 27, 182, 1, 33, 154, 0, 5, 2, 172, 42, 27, 182, 1, 68, 153, 0, 6]
abbrev dktX5_heal_0 : List UInt8 := dkwX5_heal_0 ++ dktX5_heal_1
theorem dksX5_heal_0 : cX5_heal.data.toList.drop 0 = dktX5_heal_0 := by decide +kernel
theorem dksX5_heal_1 : cX5_heal.data.toList.drop 23 = dktX5_heal_1 := dk_seg dksX5_heal_0 23 rfl rfl
theorem dX5_heal_0 : decode cX5_heal 0 = .ok (.aload_n 0, 1) := dk_42 (dk_at dksX5_heal_0 0 rfl rfl)
theorem dX5_heal_1 : decode cX5_heal 1 = .ok (.iconst 0, 1) := dk_3 (dk_at dksX5_heal_0 1 rfl rfl)
theorem dX5_heal_2 : decode cX5_heal 2 = .ok (.putfield 47, 3) := dk_181 0 47 (dk_at dksX5_heal_0 2 rfl rfl)
theorem dX5_heal_5 : decode cX5_heal 5 = .ok (.aload_n 0, 1) := dk_42 (dk_at dksX5_heal_0 5 rfl rfl)
theorem dX5_heal_6 : decode cX5_heal 6 = .ok (.iload_n 1, 1) := dk_27 (dk_at dksX5_heal_0 6 rfl rfl)
theorem dX5_heal_7 : decode cX5_heal 7 = .ok (.invokevirtual 289, 3) := dk_182 1 33 (dk_at dksX5_heal_0 7 rfl rfl)
theorem dX5_heal_10 : decode cX5_heal 10 = .ok (.ifCond .ne 5, 3) := dk_154 0 5 (dk_at dksX5_heal_0 10 rfl rfl)
theorem dX5_heal_13 : decode cX5_heal 13 = .ok (.iconst (-1), 1) := dk_2 (dk_at dksX5_heal_0 13 rfl rfl)
theorem dX5_heal_14 : decode cX5_heal 14 = .ok (.ireturn, 1) := dk_172 (dk_at dksX5_heal_0 14 rfl rfl)
theorem dX5_heal_15 : decode cX5_heal 15 = .ok (.aload_n 0, 1) := dk_42 (dk_at dksX5_heal_0 15 rfl rfl)
theorem dX5_heal_16 : decode cX5_heal 16 = .ok (.iload_n 1, 1) := dk_27 (dk_at dksX5_heal_0 16 rfl rfl)
theorem dX5_heal_17 : decode cX5_heal 17 = .ok (.invokevirtual 324, 3) := dk_182 1 68 (dk_at dksX5_heal_0 17 rfl rfl)
theorem dX5_heal_20 : decode cX5_heal 20 = .ok (.ifCond .eq 6, 3) := dk_153 0 6 (dk_at dksX5_heal_0 20 rfl rfl)
theorem dX5_heal_23 : decode cX5_heal 23 = .ok (.bipush (-4), 2) := dk_16 252 (dk_at dksX5_heal_1 0 rfl rfl)
theorem dX5_heal_25 : decode cX5_heal 25 = .ok (.ireturn, 1) := dk_172 (dk_at dksX5_heal_1 2 rfl rfl)
theorem dX5_heal_26 : decode cX5_heal 26 = .ok (.aload_n 0, 1) := dk_42 (dk_at dksX5_heal_1 3 rfl rfl)
theorem dX5_heal_27 : decode cX5_heal 27 = .ok (.invokevirtual 343, 3) := dk_182 1 87 (dk_at dksX5_heal_1 4 rfl rfl)
theorem dX5_heal_30 : decode cX5_heal 30 = .ok (.aload_n 0, 1) := dk_42 (dk_at dksX5_heal_1 7 rfl rfl)
theorem dX5_heal_31 : decode cX5_heal 31 = .ok (.iload_n 1, 1) := dk_27 (dk_at dksX5_heal_1 8 rfl rfl)
theorem dX5_heal_32 : decode cX5_heal 32 = .ok (.invokevirtual 350, 3) := dk_182 1 94 (dk_at dksX5_heal_1 9 rfl rfl)
theorem dX5_heal_35 : decode cX5_heal 35 = .ok (.ireturn, 1) := dk_172 (dk_at dksX5_heal_1 12 rfl rfl)
def dkwX5_heals_5 : List UInt8 := [16, 23, 42, 27, 182, 0, 92, 96, 42, 28, 42, 27, 182, 0, 92, 182, 0, 140, 182, 0, 99, 29, 172]
abbrev dktX5_heals_5 : List UInt8 := dkwX5_heals_5 ++ []
def dkwX5_heals_4 : List UInt8 := [182, 0, 53, 29, 96, 182, 0, 99, 42, 27, 8, 42, 27, 8, 182, 0, 53, 4, 96, 182, 0, 99, 42, 27]
abbrev dktX5_heals_4 : List UInt8 := dkwX5_heals_4 ++ dktX5_heals_5
def dkwX5_heals_3 : List UInt8 := [167, 255, 213, 42, 28, 6, 42, 28, 6, 182, 0, 53, 29, 96, 182, 0, 99, 42, 27, 7, 42, 27, 7]
abbrev dktX5_heals_3 : List UInt8 := dkwX5_heals_3 ++ dktX5_heals_4
def dkwX5_heals_2 : List UInt8 := [42, 27, 16, 7, 21, 4, 96, 42, 28, 16, 7, 21, 4, 96, 182, 0, 53, 182, 0, 99, 132, 4, 1]
abbrev dktX5_heals_2 : List UInt8 := dkwX5_heals_2 ++ dktX5_heals_3
def dkwX5_heals_1 : List UInt8 := [62, 3, 54, 4, 21, 4, 16, 16, 162, 0, 42, 42, 180, 0, 82, 21, 4, 122, 4, 126, 4, 160, 0, 23]
abbrev dktX5_heals_1 : List UInt8 := dkwX5_heals_1 ++ dktX5_heals_2
def dkwX5_heals_0 : List UInt8 := [42, 42, 27, 182, 0, 92, 27, 182, 0, 152, 61, 42, 27, 28, 182, 0, 155, 42, 180, 0, 82, 184, 0, 158]
abbrev dktX5_heals_0 : List UInt8 := dkwX5_heals_0 ++ dktX5_heals_1
theorem dksX5_heals_0 : cX5_heals.data.toList.drop 0 = dktX5_heals_0 := by decide +kernel
theorem dksX5_heals_1 : cX5_heals.data.toList.drop 24 = dktX5_heals_1 := dk_seg dksX5_heals_0 24 rfl rfl
theorem dksX5_heals_2 : cX5_heals.data.toList.drop 48 = dktX5_heals_2 := dk_seg dksX5_heals_1 24 rfl rfl
theorem dksX5_heals_3 : cX5_heals.data.toList.drop 71 = dktX5_heals_3 := dk_seg dksX5_heals_2 23 rfl rfl
theorem dksX5_heals_4 : cX5_heals.data.toList.drop 94 = dktX5_heals_4 := dk_seg dksX5_heals_3 23 rfl rfl
theorem dksX5_heals_5 : cX5_heals.data.toList.drop 118 = dktX5_heals_5 := dk_seg dksX5_heals_4 24 rfl rfl
theorem dX5_heals_0 : decode cX5_heals 0 = .ok (.aload_n 0, 1) := dk_42 (dk_at dksX5_heals_0 0 rfl rfl)
theorem dX5_heals_1 : decode cX5_heals 1 = .ok (.aload_n 0, 1) := dk_42 (dk_at dksX5_heals_0 1 rfl rfl)
theorem dX5_heals_2 : decode cX5_heals 2 = .ok (.iload_n 1, 1) := dk_27 (dk_at dksX5_heals_0 2 rfl rfl)
theorem dX5_heals_3 : decode cX5_heals 3 = .ok (.invokevirtual 92, 3) := dk_182 0 92 (dk_at dksX5_heals_0 3 rfl rfl)
theorem dX5_heals_6 : decode cX5_heals 6 = .ok (.iload_n 1, 1) := dk_27 (dk_at dksX5_heals_0 6 rfl rfl)
theorem dX5_heals_7 : decode cX5_heals 7 = .ok (.invokevirtual 152, 3) := dk_182 0 152 (dk_at dksX5_heals_0 7 rfl rfl)
theorem dX5_heals_10 : decode cX5_heals 10 = .ok (.istore_n 2, 1) := dk_61 (dk_at dksX5_heals_0 10 rfl rfl)
theorem dX5_heals_11 : decode cX5_heals 11 = .ok (.aload_n 0, 1) := dk_42 (dk_at dksX5_heals_0 11 rfl rfl)
theorem dX5_heals_12 : decode cX5_heals 12 = .ok (.iload_n 1, 1) := dk_27 (dk_at dksX5_heals_0 12 rfl rfl)
theorem dX5_heals_13 : decode cX5_heals 13 = .ok (.iload_n 2, 1) := dk_28 (dk_at dksX5_heals_0 13 rfl rfl)
theorem dX5_heals_14 : decode cX5_heals 14 = .ok (.invokevirtual 155, 3) := dk_182 0 155 (dk_at dksX5_heals_0 14 rfl rfl)
theorem dX5_heals_17 : decode cX5_heals 17 = .ok (.aload_n 0, 1) := dk_42 (dk_at dksX5_heals_0 17 rfl rfl)
theorem dX5_heals_18 : decode cX5_heals 18 = .ok (.getfield 82, 3) := dk_180 0 82 (dk_at dksX5_heals_0 18 rfl rfl)
theorem dX5_heals_21 : decode cX5_heals 21 = .ok (.invokestatic 158, 3) := dk_184 0 158 (dk_at dksX5_heals_0 21 rfl rfl)
theorem dX5_heals_24 : decode cX5_heals 24 = .ok (.istore_n 3, 1) := dk_62 (dk_at dksX5_heals_1 0 rfl rfl)
theorem dX5_heals_25 : decode cX5_heals 25 = .ok (.iconst 0, 1) := dk_3 (dk_at dksX5_heals_1 1 rfl rfl)
theorem dX5_heals_26 : decode cX5_heals 26 = .ok (.istore 4, 2) := dk_54 4 (dk_at dksX5_heals_1 2 rfl rfl)
theorem dX5_heals_28 : decode cX5_heals 28 = .ok (.iload 4, 2) := dk_21 4 (dk_at dksX5_heals_1 4 rfl rfl)
theorem dX5_heals_30 : decode cX5_heals 30 = .ok (.bipush 16, 2) := dk_16 16 (dk_at dksX5_heals_1 6 rfl rfl)
theorem dX5_heals_32 : decode cX5_heals 32 = .ok (.if_icmp .ge 42, 3) := dk_162 0 42 (dk_at dksX5_heals_1 8 rfl rfl)
theorem dX5_heals_35 : decode cX5_heals 35 = .ok (.aload_n 0, 1) := dk_42 (dk_at dksX5_heals_1 11 rfl rfl)
theorem dX5_heals_36 : decode cX5_heals 36 = .ok (.getfield 82, 3) := dk_180 0 82 (dk_at dksX5_heals_1 12 rfl rfl)
theorem dX5_heals_39 : decode cX5_heals 39 = .ok (.iload 4, 2) := dk_21 4 (dk_at dksX5_heals_1 15 rfl rfl)
theorem dX5_heals_41 : decode cX5_heals 41 = .ok (.ishr, 1) := dk_122 (dk_at dksX5_heals_1 17 rfl rfl)
theorem dX5_heals_42 : decode cX5_heals 42 = .ok (.iconst 1, 1) := dk_4 (dk_at dksX5_heals_1 18 rfl rfl)
theorem dX5_heals_43 : decode cX5_heals 43 = .ok (.iand, 1) := dk_126 (dk_at dksX5_heals_1 19 rfl rfl)
theorem dX5_heals_44 : decode cX5_heals 44 = .ok (.iconst 1, 1) := dk_4 (dk_at dksX5_heals_1 20 rfl rfl)
theorem dX5_heals_45 : decode cX5_heals 45 = .ok (.if_icmp .ne 23, 3) := dk_160 0 23 (dk_at dksX5_heals_1 21 rfl rfl)
theorem dX5_heals_48 : decode cX5_heals 48 = .ok (.aload_n 0, 1) := dk_42 (dk_at dksX5_heals_2 0 rfl rfl)
theorem dX5_heals_49 : decode cX5_heals 49 = .ok (.iload_n 1, 1) := dk_27 (dk_at dksX5_heals_2 1 rfl rfl)
theorem dX5_heals_50 : decode cX5_heals 50 = .ok (.bipush 7, 2) := dk_16 7 (dk_at dksX5_heals_2 2 rfl rfl)
theorem dX5_heals_52 : decode cX5_heals 52 = .ok (.iload 4, 2) := dk_21 4 (dk_at dksX5_heals_2 4 rfl rfl)
theorem dX5_heals_54 : decode cX5_heals 54 = .ok (.iadd, 1) := dk_96 (dk_at dksX5_heals_2 6 rfl rfl)
theorem dX5_heals_55 : decode cX5_heals 55 = .ok (.aload_n 0, 1) := dk_42 (dk_at dksX5_heals_2 7 rfl rfl)
theorem dX5_heals_56 : decode cX5_heals 56 = .ok (.iload_n 2, 1) := dk_28 (dk_at dksX5_heals_2 8 rfl rfl)
theorem dX5_heals_57 : decode cX5_heals 57 = .ok (.bipush 7, 2) := dk_16 7 (dk_at dksX5_heals_2 9 rfl rfl)
theorem dX5_heals_59 : decode cX5_heals 59 = .ok (.iload 4, 2) := dk_21 4 (dk_at dksX5_heals_2 11 rfl rfl)
theorem dX5_heals_61 : decode cX5_heals 61 = .ok (.iadd, 1) := dk_96 (dk_at dksX5_heals_2 13 rfl rfl)
theorem dX5_heals_62 : decode cX5_heals 62 = .ok (.invokevirtual 53, 3) := dk_182 0 53 (dk_at dksX5_heals_2 14 rfl rfl)
theorem dX5_heals_65 : decode cX5_heals 65 = .ok (.invokevirtual 99, 3) := dk_182 0 99 (dk_at dksX5_heals_2 17 rfl rfl)
theorem dX5_heals_68 : decode cX5_heals 68 = .ok (.iinc 4 1, 3) := dk_132 4 1 (dk_at dksX5_heals_2 20 rfl rfl)
theorem dX5_heals_71 : decode cX5_heals 71 = .ok (.goto (-43), 3) := dk_167 255 213 (dk_at dksX5_heals_3 0 rfl rfl)
theorem dX5_heals_74 : decode cX5_heals 74 = .ok (.aload_n 0, 1) := dk_42 (dk_at dksX5_heals_3 3 rfl rfl)
theorem dX5_heals_75 : decode cX5_heals 75 = .ok (.iload_n 2, 1) := dk_28 (dk_at dksX5_heals_3 4 rfl rfl)
theorem dX5_heals_76 : decode cX5_heals 76 = .ok (.iconst 3, 1) := dk_6 (dk_at dksX5_heals_3 5 rfl rfl)
theorem dX5_heals_77 : decode cX5_heals 77 = .ok (.aload_n 0, 1) := dk_42 (dk_at dksX5_heals_3 6 rfl rfl)
theorem dX5_heals_78 : decode cX5_heals 78 = .ok (.iload_n 2, 1) := dk_28 (dk_at dksX5_heals_3 7 rfl rfl)
theorem dX5_heals_79 : decode cX5_heals 79 = .ok (.iconst 3, 1) := dk_6 (dk_at dksX5_heals_3 8 rfl rfl)
theorem dX5_heals_80 : decode cX5_heals 80 = .ok (.invokevirtual 53, 3) := dk_182 0 53 (dk_at dksX5_heals_3 9 rfl rfl)
theorem dX5_heals_83 : decode cX5_heals 83 = .ok (.iload_n 3, 1) := dk_29 (dk_at dksX5_heals_3 12 rfl rfl)
theorem dX5_heals_84 : decode cX5_heals 84 = .ok (.iadd, 1) := dk_96 (dk_at dksX5_heals_3 13 rfl rfl)
theorem dX5_heals_85 : decode cX5_heals 85 = .ok (.invokevirtual 99, 3) := dk_182 0 99 (dk_at dksX5_heals_3 14 rfl rfl)
theorem dX5_heals_88 : decode cX5_heals 88 = .ok (.aload_n 0, 1) := dk_42 (dk_at dksX5_heals_3 17 rfl rfl)
theorem dX5_heals_89 : decode cX5_heals 89 = .ok (.iload_n 1, 1) := dk_27 (dk_at dksX5_heals_3 18 rfl rfl)
theorem dX5_heals_90 : decode cX5_heals 90 = .ok (.iconst 4, 1) := dk_7 (dk_at dksX5_heals_3 19 rfl rfl)
theorem dX5_heals_91 : decode cX5_heals 91 = .ok (.aload_n 0, 1) := dk_42 (dk_at dksX5_heals_3 20 rfl rfl)
theorem dX5_heals_92 : decode cX5_heals 92 = .ok (.iload_n 1, 1) := dk_27 (dk_at dksX5_heals_3 21 rfl rfl)
theorem dX5_heals_93 : decode cX5_heals 93 = .ok (.iconst 4, 1) := dk_7 (dk_at dksX5_heals_3 22 rfl rfl)
theorem dX5_heals_94 : decode cX5_heals 94 = .ok (.invokevirtual 53, 3) := dk_182 0 53 (dk_at dksX5_heals_4 0 rfl rfl)
theorem dX5_heals_97 : decode cX5_heals 97 = .ok (.iload_n 3, 1) := dk_29 (dk_at dksX5_heals_4 3 rfl rfl)
theorem dX5_heals_98 : decode cX5_heals 98 = .ok (.iadd, 1) := dk_96 (dk_at dksX5_heals_4 4 rfl rfl)
theorem dX5_heals_99 : decode cX5_heals 99 = .ok (.invokevirtual 99, 3) := dk_182 0 99 (dk_at dksX5_heals_4 5 rfl rfl)
theorem dX5_heals_102 : decode cX5_heals 102 = .ok (.aload_n 0, 1) := dk_42 (dk_at dksX5_heals_4 8 rfl rfl)
theorem dX5_heals_103 : decode cX5_heals 103 = .ok (.iload_n 1, 1) := dk_27 (dk_at dksX5_heals_4 9 rfl rfl)
theorem dX5_heals_104 : decode cX5_heals 104 = .ok (.iconst 5, 1) := dk_8 (dk_at dksX5_heals_4 10 rfl rfl)
theorem dX5_heals_105 : decode cX5_heals 105 = .ok (.aload_n 0, 1) := dk_42 (dk_at dksX5_heals_4 11 rfl rfl)
theorem dX5_heals_106 : decode cX5_heals 106 = .ok (.iload_n 1, 1) := dk_27 (dk_at dksX5_heals_4 12 rfl rfl)
theorem dX5_heals_107 : decode cX5_heals 107 = .ok (.iconst 5, 1) := dk_8 (dk_at dksX5_heals_4 13 rfl rfl)
theorem dX5_heals_108 : decode cX5_heals 108 = .ok (.invokevirtual 53, 3) := dk_182 0 53 (dk_at dksX5_heals_4 14 rfl rfl)
theorem dX5_heals_111 : decode cX5_heals 111 = .ok (.iconst 1, 1) := dk_4 (dk_at dksX5_heals_4 17 rfl rfl)
theorem dX5_heals_112 : decode cX5_heals 112 = .ok (.iadd, 1) := dk_96 (dk_at dksX5_heals_4 18 rfl rfl)
theorem dX5_heals_113 : decode cX5_heals 113 = .ok (.invokevirtual 99, 3) := dk_182 0 99 (dk_at dksX5_heals_4 19 rfl rfl)
theorem dX5_heals_116 : decode cX5_heals 116 = .ok (.aload_n 0, 1) := dk_42 (dk_at dksX5_heals_4 22 rfl rfl)
theorem dX5_heals_117 : decode cX5_heals 117 = .ok (.iload_n 1, 1) := dk_27 (dk_at dksX5_heals_4 23 rfl rfl)
theorem dX5_heals_118 : decode cX5_heals 118 = .ok (.bipush 23, 2) := dk_16 23 (dk_at dksX5_heals_5 0 rfl rfl)
theorem dX5_heals_120 : decode cX5_heals 120 = .ok (.aload_n 0, 1) := dk_42 (dk_at dksX5_heals_5 2 rfl rfl)
theorem dX5_heals_121 : decode cX5_heals 121 = .ok (.iload_n 1, 1) := dk_27 (dk_at dksX5_heals_5 3 rfl rfl)
theorem dX5_heals_122 : decode cX5_heals 122 = .ok (.invokevirtual 92, 3) := dk_182 0 92 (dk_at dksX5_heals_5 4 rfl rfl)
theorem dX5_heals_125 : decode cX5_heals 125 = .ok (.iadd, 1) := dk_96 (dk_at dksX5_heals_5 7 rfl rfl)
theorem dX5_heals_126 : decode cX5_heals 126 = .ok (.aload_n 0, 1) := dk_42 (dk_at dksX5_heals_5 8 rfl rfl)
theorem dX5_heals_127 : decode cX5_heals 127 = .ok (.iload_n 2, 1) := dk_28 (dk_at dksX5_heals_5 9 rfl rfl)
theorem dX5_heals_128 : decode cX5_heals 128 = .ok (.aload_n 0, 1) := dk_42 (dk_at dksX5_heals_5 10 rfl rfl)
theorem dX5_heals_129 : decode cX5_heals 129 = .ok (.iload_n 1, 1) := dk_27 (dk_at dksX5_heals_5 11 rfl rfl)
theorem dX5_heals_130 : decode cX5_heals 130 = .ok (.invokevirtual 92, 3) := dk_182 0 92 (dk_at dksX5_heals_5 12 rfl rfl)
theorem dX5_heals_133 : decode cX5_heals 133 = .ok (.invokevirtual 140, 3) := dk_182 0 140 (dk_at dksX5_heals_5 15 rfl rfl)
theorem dX5_heals_136 : decode cX5_heals 136 = .ok (.invokevirtual 99, 3) := dk_182 0 99 (dk_at dksX5_heals_5 18 rfl rfl)
theorem dX5_heals_139 : decode cX5_heals 139 = .ok (.iload_n 3, 1) := dk_29 (dk_at dksX5_heals_5 21 rfl rfl)
theorem dX5_heals_140 : decode cX5_heals 140 = .ok (.ireturn, 1) := dk_172 (dk_at dksX5_heals_5 22 rfl rfl)
def dkwX5_bits_0 : List UInt8 := [3, 60, 26, 61, 28, 153, 0, 15, 132, 1, 1, 28, 28, 4, 100, 126, 61, 167, 255, 243, 27, 172]
abbrev dktX5_bits_0 : List UInt8 := dkwX5_bits_0 ++ []
theorem dksX5_bits_0 : cX5_bits.data.toList.drop 0 = dktX5_bits_0 := by decide +kernel
theorem dX5_bits_0 : decode cX5_bits 0 = .ok (.iconst 0, 1) := dk_3 (dk_at dksX5_bits_0 0 rfl rfl)
theorem dX5_bits_1 : decode cX5_bits 1 = .ok (.istore_n 1, 1) := dk_60 (dk_at dksX5_bits_0 1 rfl rfl)
theorem dX5_bits_2 : decode cX5_bits 2 = .ok (.iload_n 0, 1) := dk_26 (dk_at dksX5_bits_0 2 rfl rfl)
theorem dX5_bits_3 : decode cX5_bits 3 = .ok (.istore_n 2, 1) := dk_61 (dk_at dksX5_bits_0 3 rfl rfl)
theorem dX5_bits_4 : decode cX5_bits 4 = .ok (.iload_n 2, 1) := dk_28 (dk_at dksX5_bits_0 4 rfl rfl)
theorem dX5_bits_5 : decode cX5_bits 5 = .ok (.ifCond .eq 15, 3) := dk_153 0 15 (dk_at dksX5_bits_0 5 rfl rfl)
theorem dX5_bits_8 : decode cX5_bits 8 = .ok (.iinc 1 1, 3) := dk_132 1 1 (dk_at dksX5_bits_0 8 rfl rfl)
theorem dX5_bits_11 : decode cX5_bits 11 = .ok (.iload_n 2, 1) := dk_28 (dk_at dksX5_bits_0 11 rfl rfl)
theorem dX5_bits_12 : decode cX5_bits 12 = .ok (.iload_n 2, 1) := dk_28 (dk_at dksX5_bits_0 12 rfl rfl)
theorem dX5_bits_13 : decode cX5_bits 13 = .ok (.iconst 1, 1) := dk_4 (dk_at dksX5_bits_0 13 rfl rfl)
theorem dX5_bits_14 : decode cX5_bits 14 = .ok (.isub, 1) := dk_100 (dk_at dksX5_bits_0 14 rfl rfl)
theorem dX5_bits_15 : decode cX5_bits 15 = .ok (.iand, 1) := dk_126 (dk_at dksX5_bits_0 15 rfl rfl)
theorem dX5_bits_16 : decode cX5_bits 16 = .ok (.istore_n 2, 1) := dk_61 (dk_at dksX5_bits_0 16 rfl rfl)
theorem dX5_bits_17 : decode cX5_bits 17 = .ok (.goto (-13), 3) := dk_167 255 243 (dk_at dksX5_bits_0 17 rfl rfl)
theorem dX5_bits_20 : decode cX5_bits 20 = .ok (.iload_n 1, 1) := dk_27 (dk_at dksX5_bits_0 20 rfl rfl)
theorem dX5_bits_21 : decode cX5_bits 21 = .ok (.ireturn, 1) := dk_172 (dk_at dksX5_bits_0 21 rfl rfl)
def dkwX5_healAll_2 : List UInt8 := [132, 2, 1, 167, 255, 217, 27, 154, 0, 7, 2, 167, 0, 4, 27, 172]
abbrev dktX5_healAll_2 : List UInt8 := dkwX5_healAll_2 ++ []
def dkwX5_healAll_1 : List UInt8 := [153, 0, 6, 167, 0, 20, 27, 154, 0, 7, 42, 182, 1, 87, 42, 28, 182, 1, 94, 62, 132, 1, 1]
abbrev dktX5_healAll_1 : List UInt8 := dkwX5_healAll_1 ++ dktX5_healAll_2
def dkwX5_healAll_0 : List UInt8 := [42, 3, 181, 0, 47, 3, 60, 3, 61, 28, 42, 182, 0, 114, 162, 0, 37, 42, 28, 182, 1, 68]
abbrev dktX5_healAll_0 : List UInt8 := dkwX5_healAll_0 ++ dktX5_healAll_1
theorem dksX5_healAll_0 : cX5_healAll.data.toList.drop 0 = dktX5_healAll_0 := by decide +kernel
theorem dksX5_healAll_1 : cX5_healAll.data.toList.drop 22 = dktX5_healAll_1 := dk_seg dksX5_healAll_0 22 rfl rfl
theorem dksX5_healAll_2 : cX5_healAll.data.toList.drop 45 = dktX5_healAll_2 := dk_seg dksX5_healAll_1 23 rfl rfl
theorem dX5_healAll_0 : decode cX5_healAll 0 = .ok (.aload_n 0, 1) := dk_42 (dk_at dksX5_healAll_0 0 rfl rfl)
theorem dX5_healAll_1 : decode cX5_healAll 1 = .ok (.iconst 0, 1) := dk_3 (dk_at dksX5_healAll_0 1 rfl rfl)
theorem dX5_healAll_2 : decode cX5_healAll 2 = .ok (.putfield 47, 3) := dk_181 0 47 (dk_at dksX5_healAll_0 2 rfl rfl)
theorem dX5_healAll_5 : decode cX5_healAll 5 = .ok (.iconst 0, 1) := dk_3 (dk_at dksX5_healAll_0 5 rfl rfl)
theorem dX5_healAll_6 : decode cX5_healAll 6 = .ok (.istore_n 1, 1) := dk_60 (dk_at dksX5_healAll_0 6 rfl rfl)
theorem dX5_healAll_7 : decode cX5_healAll 7 = .ok (.iconst 0, 1) := dk_3 (dk_at dksX5_healAll_0 7 rfl rfl)
theorem dX5_healAll_8 : decode cX5_healAll 8 = .ok (.istore_n 2, 1) := dk_61 (dk_at dksX5_healAll_0 8 rfl rfl)
theorem dX5_healAll_9 : decode cX5_healAll 9 = .ok (.iload_n 2, 1) := dk_28 (dk_at dksX5_healAll_0 9 rfl rfl)
theorem dX5_healAll_10 : decode cX5_healAll 10 = .ok (.aload_n 0, 1) := dk_42 (dk_at dksX5_healAll_0 10 rfl rfl)
theorem dX5_healAll_11 : decode cX5_healAll 11 = .ok (.invokevirtual 114, 3) := dk_182 0 114 (dk_at dksX5_healAll_0 11 rfl rfl)
theorem dX5_healAll_14 : decode cX5_healAll 14 = .ok (.if_icmp .ge 37, 3) := dk_162 0 37 (dk_at dksX5_healAll_0 14 rfl rfl)
theorem dX5_healAll_17 : decode cX5_healAll 17 = .ok (.aload_n 0, 1) := dk_42 (dk_at dksX5_healAll_0 17 rfl rfl)
theorem dX5_healAll_18 : decode cX5_healAll 18 = .ok (.iload_n 2, 1) := dk_28 (dk_at dksX5_healAll_0 18 rfl rfl)
theorem dX5_healAll_19 : decode cX5_healAll 19 = .ok (.invokevirtual 324, 3) := dk_182 1 68 (dk_at dksX5_healAll_0 19 rfl rfl)
theorem dX5_healAll_22 : decode cX5_healAll 22 = .ok (.ifCond .eq 6, 3) := dk_153 0 6 (dk_at dksX5_healAll_1 0 rfl rfl)
theorem dX5_healAll_25 : decode cX5_healAll 25 = .ok (.goto 20, 3) := dk_167 0 20 (dk_at dksX5_healAll_1 3 rfl rfl)
theorem dX5_healAll_28 : decode cX5_healAll 28 = .ok (.iload_n 1, 1) := dk_27 (dk_at dksX5_healAll_1 6 rfl rfl)
theorem dX5_healAll_29 : decode cX5_healAll 29 = .ok (.ifCond .ne 7, 3) := dk_154 0 7 (dk_at dksX5_healAll_1 7 rfl rfl)
theorem dX5_healAll_32 : decode cX5_healAll 32 = .ok (.aload_n 0, 1) := dk_42 (dk_at dksX5_healAll_1 10 rfl rfl)
theorem dX5_healAll_33 : decode cX5_healAll 33 = .ok (.invokevirtual 343, 3) := dk_182 1 87 (dk_at dksX5_healAll_1 11 rfl rfl)
theorem dX5_healAll_36 : decode cX5_healAll 36 = .ok (.aload_n 0, 1) := dk_42 (dk_at dksX5_healAll_1 14 rfl rfl)
theorem dX5_healAll_37 : decode cX5_healAll 37 = .ok (.iload_n 2, 1) := dk_28 (dk_at dksX5_healAll_1 15 rfl rfl)
theorem dX5_healAll_38 : decode cX5_healAll 38 = .ok (.invokevirtual 350, 3) := dk_182 1 94 (dk_at dksX5_healAll_1 16 rfl rfl)
theorem dX5_healAll_41 : decode cX5_healAll 41 = .ok (.istore_n 3, 1) := dk_62 (dk_at dksX5_healAll_1 19 rfl rfl)
theorem dX5_healAll_42 : decode cX5_healAll 42 = .ok (.iinc 1 1, 3) := dk_132 1 1 (dk_at dksX5_healAll_1 20 rfl rfl)
theorem dX5_healAll_45 : decode cX5_healAll 45 = .ok (.iinc 2 1, 3) := dk_132 2 1 (dk_at dksX5_healAll_2 0 rfl rfl)
theorem dX5_healAll_48 : decode cX5_healAll 48 = .ok (.goto (-39), 3) := dk_167 255 217 (dk_at dksX5_healAll_2 3 rfl rfl)
theorem dX5_healAll_51 : decode cX5_healAll 51 = .ok (.iload_n 1, 1) := dk_27 (dk_at dksX5_healAll_2 6 rfl rfl)
theorem dX5_healAll_52 : decode cX5_healAll 52 = .ok (.ifCond .ne 7, 3) := dk_154 0 7 (dk_at dksX5_healAll_2 7 rfl rfl)
theorem dX5_healAll_55 : decode cX5_healAll 55 = .ok (.iconst (-1), 1) := dk_2 (dk_at dksX5_healAll_2 10 rfl rfl)
theorem dX5_healAll_56 : decode cX5_healAll 56 = .ok (.goto 4, 3) := dk_167 0 4 (dk_at dksX5_healAll_2 11 rfl rfl)
theorem dX5_healAll_59 : decode cX5_healAll 59 = .ok (.iload_n 1, 1) := dk_27 (dk_at dksX5_healAll_2 14 rfl rfl)
theorem dX5_healAll_60 : decode cX5_healAll 60 = .ok (.ireturn, 1) := dk_172 (dk_at dksX5_healAll_2 15 rfl rfl)
def dkwX5_join_6 : List UInt8 := [21, 4, 172]
abbrev dktX5_join_6 : List UInt8 := dkwX5_join_6 ++ []
def dkwX5_join_5 : List UInt8 := [182, 0, 53, 16, 16, 96, 182, 0, 99, 42, 21, 4, 7, 16, 16, 182, 0, 99, 42, 21, 4, 182, 0, 111]
abbrev dktX5_join_5 : List UInt8 := dkwX5_join_5 ++ dktX5_join_6
def dkwX5_join_4 : List UInt8 := [16, 7, 21, 5, 96, 182, 0, 53, 182, 0, 99, 132, 5, 1, 167, 255, 225, 42, 29, 6, 42, 29, 6]
abbrev dktX5_join_4 : List UInt8 := dkwX5_join_4 ++ dktX5_join_5
def dkwX5_join_3 : List UInt8 := [28, 182, 0, 223, 3, 54, 5, 21, 5, 16, 16, 162, 0, 30, 42, 21, 4, 16, 7, 21, 5, 96, 42, 29]
abbrev dktX5_join_3 : List UInt8 := dkwX5_join_3 ++ dktX5_join_4
def dkwX5_join_2 : List UInt8 := [182, 0, 152, 62, 29, 2, 160, 0, 6, 16, 252, 172, 42, 182, 1, 87, 42, 182, 0, 114, 54, 4, 42, 27]
abbrev dktX5_join_2 : List UInt8 := dkwX5_join_2 ++ dktX5_join_3
def dkwX5_join_1 : List UInt8 := [160, 0, 6, 16, 253, 172, 42, 3, 182, 1, 71, 61, 28, 2, 160, 0, 7, 2, 167, 0, 9, 42, 28, 2]
abbrev dktX5_join_1 : List UInt8 := dkwX5_join_1 ++ dktX5_join_2
def dkwX5_join_0 : List UInt8 := [42, 3, 181, 0, 47, 27, 4, 161, 0, 8, 27, 7, 164, 0, 6, 16, 254, 172, 42, 182, 0, 114, 16, 6]
abbrev dktX5_join_0 : List UInt8 := dkwX5_join_0 ++ dktX5_join_1
theorem dksX5_join_0 : cX5_join.data.toList.drop 0 = dktX5_join_0 := by decide +kernel
theorem dksX5_join_1 : cX5_join.data.toList.drop 24 = dktX5_join_1 := dk_seg dksX5_join_0 24 rfl rfl
theorem dksX5_join_2 : cX5_join.data.toList.drop 48 = dktX5_join_2 := dk_seg dksX5_join_1 24 rfl rfl
theorem dksX5_join_3 : cX5_join.data.toList.drop 72 = dktX5_join_3 := dk_seg dksX5_join_2 24 rfl rfl
theorem dksX5_join_4 : cX5_join.data.toList.drop 96 = dktX5_join_4 := dk_seg dksX5_join_3 24 rfl rfl
theorem dksX5_join_5 : cX5_join.data.toList.drop 119 = dktX5_join_5 := dk_seg dksX5_join_4 23 rfl rfl
theorem dksX5_join_6 : cX5_join.data.toList.drop 143 = dktX5_join_6 := dk_seg dksX5_join_5 24 rfl rfl
theorem dX5_join_0 : decode cX5_join 0 = .ok (.aload_n 0, 1) := dk_42 (dk_at dksX5_join_0 0 rfl rfl)
theorem dX5_join_1 : decode cX5_join 1 = .ok (.iconst 0, 1) := dk_3 (dk_at dksX5_join_0 1 rfl rfl)
theorem dX5_join_2 : decode cX5_join 2 = .ok (.putfield 47, 3) := dk_181 0 47 (dk_at dksX5_join_0 2 rfl rfl)
theorem dX5_join_5 : decode cX5_join 5 = .ok (.iload_n 1, 1) := dk_27 (dk_at dksX5_join_0 5 rfl rfl)
theorem dX5_join_6 : decode cX5_join 6 = .ok (.iconst 1, 1) := dk_4 (dk_at dksX5_join_0 6 rfl rfl)
theorem dX5_join_7 : decode cX5_join 7 = .ok (.if_icmp .lt 8, 3) := dk_161 0 8 (dk_at dksX5_join_0 7 rfl rfl)
theorem dX5_join_10 : decode cX5_join 10 = .ok (.iload_n 1, 1) := dk_27 (dk_at dksX5_join_0 10 rfl rfl)
theorem dX5_join_11 : decode cX5_join 11 = .ok (.iconst 4, 1) := dk_7 (dk_at dksX5_join_0 11 rfl rfl)
theorem dX5_join_12 : decode cX5_join 12 = .ok (.if_icmp .le 6, 3) := dk_164 0 6 (dk_at dksX5_join_0 12 rfl rfl)
theorem dX5_join_15 : decode cX5_join 15 = .ok (.bipush (-2), 2) := dk_16 254 (dk_at dksX5_join_0 15 rfl rfl)
theorem dX5_join_17 : decode cX5_join 17 = .ok (.ireturn, 1) := dk_172 (dk_at dksX5_join_0 17 rfl rfl)
theorem dX5_join_18 : decode cX5_join 18 = .ok (.aload_n 0, 1) := dk_42 (dk_at dksX5_join_0 18 rfl rfl)
theorem dX5_join_19 : decode cX5_join 19 = .ok (.invokevirtual 114, 3) := dk_182 0 114 (dk_at dksX5_join_0 19 rfl rfl)
theorem dX5_join_22 : decode cX5_join 22 = .ok (.bipush 6, 2) := dk_16 6 (dk_at dksX5_join_0 22 rfl rfl)
theorem dX5_join_24 : decode cX5_join 24 = .ok (.if_icmp .ne 6, 3) := dk_160 0 6 (dk_at dksX5_join_1 0 rfl rfl)
theorem dX5_join_27 : decode cX5_join 27 = .ok (.bipush (-3), 2) := dk_16 253 (dk_at dksX5_join_1 3 rfl rfl)
theorem dX5_join_29 : decode cX5_join 29 = .ok (.ireturn, 1) := dk_172 (dk_at dksX5_join_1 5 rfl rfl)
theorem dX5_join_30 : decode cX5_join 30 = .ok (.aload_n 0, 1) := dk_42 (dk_at dksX5_join_1 6 rfl rfl)
theorem dX5_join_31 : decode cX5_join 31 = .ok (.iconst 0, 1) := dk_3 (dk_at dksX5_join_1 7 rfl rfl)
theorem dX5_join_32 : decode cX5_join 32 = .ok (.invokevirtual 327, 3) := dk_182 1 71 (dk_at dksX5_join_1 8 rfl rfl)
theorem dX5_join_35 : decode cX5_join 35 = .ok (.istore_n 2, 1) := dk_61 (dk_at dksX5_join_1 11 rfl rfl)
theorem dX5_join_36 : decode cX5_join 36 = .ok (.iload_n 2, 1) := dk_28 (dk_at dksX5_join_1 12 rfl rfl)
theorem dX5_join_37 : decode cX5_join 37 = .ok (.iconst (-1), 1) := dk_2 (dk_at dksX5_join_1 13 rfl rfl)
theorem dX5_join_38 : decode cX5_join 38 = .ok (.if_icmp .ne 7, 3) := dk_160 0 7 (dk_at dksX5_join_1 14 rfl rfl)
theorem dX5_join_41 : decode cX5_join 41 = .ok (.iconst (-1), 1) := dk_2 (dk_at dksX5_join_1 17 rfl rfl)
theorem dX5_join_42 : decode cX5_join 42 = .ok (.goto 9, 3) := dk_167 0 9 (dk_at dksX5_join_1 18 rfl rfl)
theorem dX5_join_45 : decode cX5_join 45 = .ok (.aload_n 0, 1) := dk_42 (dk_at dksX5_join_1 21 rfl rfl)
theorem dX5_join_46 : decode cX5_join 46 = .ok (.iload_n 2, 1) := dk_28 (dk_at dksX5_join_1 22 rfl rfl)
theorem dX5_join_47 : decode cX5_join 47 = .ok (.iconst (-1), 1) := dk_2 (dk_at dksX5_join_1 23 rfl rfl)
theorem dX5_join_48 : decode cX5_join 48 = .ok (.invokevirtual 152, 3) := dk_182 0 152 (dk_at dksX5_join_2 0 rfl rfl)
theorem dX5_join_51 : decode cX5_join 51 = .ok (.istore_n 3, 1) := dk_62 (dk_at dksX5_join_2 3 rfl rfl)
theorem dX5_join_52 : decode cX5_join 52 = .ok (.iload_n 3, 1) := dk_29 (dk_at dksX5_join_2 4 rfl rfl)
theorem dX5_join_53 : decode cX5_join 53 = .ok (.iconst (-1), 1) := dk_2 (dk_at dksX5_join_2 5 rfl rfl)
theorem dX5_join_54 : decode cX5_join 54 = .ok (.if_icmp .ne 6, 3) := dk_160 0 6 (dk_at dksX5_join_2 6 rfl rfl)
theorem dX5_join_57 : decode cX5_join 57 = .ok (.bipush (-4), 2) := dk_16 252 (dk_at dksX5_join_2 9 rfl rfl)
theorem dX5_join_59 : decode cX5_join 59 = .ok (.ireturn, 1) := dk_172 (dk_at dksX5_join_2 11 rfl rfl)
theorem dX5_join_60 : decode cX5_join 60 = .ok (.aload_n 0, 1) := dk_42 (dk_at dksX5_join_2 12 rfl rfl)
theorem dX5_join_61 : decode cX5_join 61 = .ok (.invokevirtual 343, 3) := dk_182 1 87 (dk_at dksX5_join_2 13 rfl rfl)
theorem dX5_join_64 : decode cX5_join 64 = .ok (.aload_n 0, 1) := dk_42 (dk_at dksX5_join_2 16 rfl rfl)
theorem dX5_join_65 : decode cX5_join 65 = .ok (.invokevirtual 114, 3) := dk_182 0 114 (dk_at dksX5_join_2 17 rfl rfl)
theorem dX5_join_68 : decode cX5_join 68 = .ok (.istore 4, 2) := dk_54 4 (dk_at dksX5_join_2 20 rfl rfl)
theorem dX5_join_70 : decode cX5_join 70 = .ok (.aload_n 0, 1) := dk_42 (dk_at dksX5_join_2 22 rfl rfl)
theorem dX5_join_71 : decode cX5_join 71 = .ok (.iload_n 1, 1) := dk_27 (dk_at dksX5_join_2 23 rfl rfl)
theorem dX5_join_72 : decode cX5_join 72 = .ok (.iload_n 2, 1) := dk_28 (dk_at dksX5_join_3 0 rfl rfl)
theorem dX5_join_73 : decode cX5_join 73 = .ok (.invokevirtual 223, 3) := dk_182 0 223 (dk_at dksX5_join_3 1 rfl rfl)
theorem dX5_join_76 : decode cX5_join 76 = .ok (.iconst 0, 1) := dk_3 (dk_at dksX5_join_3 4 rfl rfl)
theorem dX5_join_77 : decode cX5_join 77 = .ok (.istore 5, 2) := dk_54 5 (dk_at dksX5_join_3 5 rfl rfl)
theorem dX5_join_79 : decode cX5_join 79 = .ok (.iload 5, 2) := dk_21 5 (dk_at dksX5_join_3 7 rfl rfl)
theorem dX5_join_81 : decode cX5_join 81 = .ok (.bipush 16, 2) := dk_16 16 (dk_at dksX5_join_3 9 rfl rfl)
theorem dX5_join_83 : decode cX5_join 83 = .ok (.if_icmp .ge 30, 3) := dk_162 0 30 (dk_at dksX5_join_3 11 rfl rfl)
theorem dX5_join_86 : decode cX5_join 86 = .ok (.aload_n 0, 1) := dk_42 (dk_at dksX5_join_3 14 rfl rfl)
theorem dX5_join_87 : decode cX5_join 87 = .ok (.iload 4, 2) := dk_21 4 (dk_at dksX5_join_3 15 rfl rfl)
theorem dX5_join_89 : decode cX5_join 89 = .ok (.bipush 7, 2) := dk_16 7 (dk_at dksX5_join_3 17 rfl rfl)
theorem dX5_join_91 : decode cX5_join 91 = .ok (.iload 5, 2) := dk_21 5 (dk_at dksX5_join_3 19 rfl rfl)
theorem dX5_join_93 : decode cX5_join 93 = .ok (.iadd, 1) := dk_96 (dk_at dksX5_join_3 21 rfl rfl)
theorem dX5_join_94 : decode cX5_join 94 = .ok (.aload_n 0, 1) := dk_42 (dk_at dksX5_join_3 22 rfl rfl)
theorem dX5_join_95 : decode cX5_join 95 = .ok (.iload_n 3, 1) := dk_29 (dk_at dksX5_join_3 23 rfl rfl)
theorem dX5_join_96 : decode cX5_join 96 = .ok (.bipush 7, 2) := dk_16 7 (dk_at dksX5_join_4 0 rfl rfl)
theorem dX5_join_98 : decode cX5_join 98 = .ok (.iload 5, 2) := dk_21 5 (dk_at dksX5_join_4 2 rfl rfl)
theorem dX5_join_100 : decode cX5_join 100 = .ok (.iadd, 1) := dk_96 (dk_at dksX5_join_4 4 rfl rfl)
theorem dX5_join_101 : decode cX5_join 101 = .ok (.invokevirtual 53, 3) := dk_182 0 53 (dk_at dksX5_join_4 5 rfl rfl)
theorem dX5_join_104 : decode cX5_join 104 = .ok (.invokevirtual 99, 3) := dk_182 0 99 (dk_at dksX5_join_4 8 rfl rfl)
theorem dX5_join_107 : decode cX5_join 107 = .ok (.iinc 5 1, 3) := dk_132 5 1 (dk_at dksX5_join_4 11 rfl rfl)
theorem dX5_join_110 : decode cX5_join 110 = .ok (.goto (-31), 3) := dk_167 255 225 (dk_at dksX5_join_4 14 rfl rfl)
theorem dX5_join_113 : decode cX5_join 113 = .ok (.aload_n 0, 1) := dk_42 (dk_at dksX5_join_4 17 rfl rfl)
theorem dX5_join_114 : decode cX5_join 114 = .ok (.iload_n 3, 1) := dk_29 (dk_at dksX5_join_4 18 rfl rfl)
theorem dX5_join_115 : decode cX5_join 115 = .ok (.iconst 3, 1) := dk_6 (dk_at dksX5_join_4 19 rfl rfl)
theorem dX5_join_116 : decode cX5_join 116 = .ok (.aload_n 0, 1) := dk_42 (dk_at dksX5_join_4 20 rfl rfl)
theorem dX5_join_117 : decode cX5_join 117 = .ok (.iload_n 3, 1) := dk_29 (dk_at dksX5_join_4 21 rfl rfl)
theorem dX5_join_118 : decode cX5_join 118 = .ok (.iconst 3, 1) := dk_6 (dk_at dksX5_join_4 22 rfl rfl)
theorem dX5_join_119 : decode cX5_join 119 = .ok (.invokevirtual 53, 3) := dk_182 0 53 (dk_at dksX5_join_5 0 rfl rfl)
theorem dX5_join_122 : decode cX5_join 122 = .ok (.bipush 16, 2) := dk_16 16 (dk_at dksX5_join_5 3 rfl rfl)
theorem dX5_join_124 : decode cX5_join 124 = .ok (.iadd, 1) := dk_96 (dk_at dksX5_join_5 5 rfl rfl)
theorem dX5_join_125 : decode cX5_join 125 = .ok (.invokevirtual 99, 3) := dk_182 0 99 (dk_at dksX5_join_5 6 rfl rfl)
theorem dX5_join_128 : decode cX5_join 128 = .ok (.aload_n 0, 1) := dk_42 (dk_at dksX5_join_5 9 rfl rfl)
theorem dX5_join_129 : decode cX5_join 129 = .ok (.iload 4, 2) := dk_21 4 (dk_at dksX5_join_5 10 rfl rfl)
theorem dX5_join_131 : decode cX5_join 131 = .ok (.iconst 4, 1) := dk_7 (dk_at dksX5_join_5 12 rfl rfl)
theorem dX5_join_132 : decode cX5_join 132 = .ok (.bipush 16, 2) := dk_16 16 (dk_at dksX5_join_5 13 rfl rfl)
theorem dX5_join_134 : decode cX5_join 134 = .ok (.invokevirtual 99, 3) := dk_182 0 99 (dk_at dksX5_join_5 15 rfl rfl)
theorem dX5_join_137 : decode cX5_join 137 = .ok (.aload_n 0, 1) := dk_42 (dk_at dksX5_join_5 18 rfl rfl)
theorem dX5_join_138 : decode cX5_join 138 = .ok (.iload 4, 2) := dk_21 4 (dk_at dksX5_join_5 19 rfl rfl)
theorem dX5_join_140 : decode cX5_join 140 = .ok (.invokevirtual 111, 3) := dk_182 0 111 (dk_at dksX5_join_5 21 rfl rfl)
theorem dX5_join_143 : decode cX5_join 143 = .ok (.iload 4, 2) := dk_21 4 (dk_at dksX5_join_6 0 rfl rfl)
theorem dX5_join_145 : decode cX5_join 145 = .ok (.ireturn, 1) := dk_172 (dk_at dksX5_join_6 2 rfl rfl)
def dkwX5_leave_3 : List UInt8 := [132, 3, 1, 167, 255, 229, 28, 172]
abbrev dktX5_leave_3 : List UInt8 := dkwX5_leave_3 ++ []
def dkwX5_leave_2 : List UInt8 := [29, 42, 182, 0, 114, 162, 0, 25, 28, 42, 29, 182, 0, 118, 153, 0, 7, 4, 167, 0, 4, 3, 96, 61]
abbrev dktX5_leave_2 : List UInt8 := dkwX5_leave_2 ++ dktX5_leave_3
def dkwX5_leave_1 : List UInt8 := [16, 252, 172, 42, 182, 1, 87, 42, 27, 5, 3, 182, 0, 99, 42, 27, 2, 182, 0, 108, 3, 61, 3, 62]
abbrev dktX5_leave_1 : List UInt8 := dkwX5_leave_1 ++ dktX5_leave_2
def dkwX5_leave_0 : List UInt8 := [42, 3, 181, 0, 47, 42, 27, 182, 1, 33, 154, 0, 5, 2, 172, 42, 27, 182, 0, 118, 154, 0, 6]
abbrev dktX5_leave_0 : List UInt8 := dkwX5_leave_0 ++ dktX5_leave_1
theorem dksX5_leave_0 : cX5_leave.data.toList.drop 0 = dktX5_leave_0 := by decide +kernel
theorem dksX5_leave_1 : cX5_leave.data.toList.drop 23 = dktX5_leave_1 := dk_seg dksX5_leave_0 23 rfl rfl
theorem dksX5_leave_2 : cX5_leave.data.toList.drop 47 = dktX5_leave_2 := dk_seg dksX5_leave_1 24 rfl rfl
theorem dksX5_leave_3 : cX5_leave.data.toList.drop 71 = dktX5_leave_3 := dk_seg dksX5_leave_2 24 rfl rfl
theorem dX5_leave_0 : decode cX5_leave 0 = .ok (.aload_n 0, 1) := dk_42 (dk_at dksX5_leave_0 0 rfl rfl)
theorem dX5_leave_1 : decode cX5_leave 1 = .ok (.iconst 0, 1) := dk_3 (dk_at dksX5_leave_0 1 rfl rfl)
theorem dX5_leave_2 : decode cX5_leave 2 = .ok (.putfield 47, 3) := dk_181 0 47 (dk_at dksX5_leave_0 2 rfl rfl)
theorem dX5_leave_5 : decode cX5_leave 5 = .ok (.aload_n 0, 1) := dk_42 (dk_at dksX5_leave_0 5 rfl rfl)
theorem dX5_leave_6 : decode cX5_leave 6 = .ok (.iload_n 1, 1) := dk_27 (dk_at dksX5_leave_0 6 rfl rfl)
theorem dX5_leave_7 : decode cX5_leave 7 = .ok (.invokevirtual 289, 3) := dk_182 1 33 (dk_at dksX5_leave_0 7 rfl rfl)
theorem dX5_leave_10 : decode cX5_leave 10 = .ok (.ifCond .ne 5, 3) := dk_154 0 5 (dk_at dksX5_leave_0 10 rfl rfl)
theorem dX5_leave_13 : decode cX5_leave 13 = .ok (.iconst (-1), 1) := dk_2 (dk_at dksX5_leave_0 13 rfl rfl)
theorem dX5_leave_14 : decode cX5_leave 14 = .ok (.ireturn, 1) := dk_172 (dk_at dksX5_leave_0 14 rfl rfl)
theorem dX5_leave_15 : decode cX5_leave 15 = .ok (.aload_n 0, 1) := dk_42 (dk_at dksX5_leave_0 15 rfl rfl)
theorem dX5_leave_16 : decode cX5_leave 16 = .ok (.iload_n 1, 1) := dk_27 (dk_at dksX5_leave_0 16 rfl rfl)
theorem dX5_leave_17 : decode cX5_leave 17 = .ok (.invokevirtual 118, 3) := dk_182 0 118 (dk_at dksX5_leave_0 17 rfl rfl)
theorem dX5_leave_20 : decode cX5_leave 20 = .ok (.ifCond .ne 6, 3) := dk_154 0 6 (dk_at dksX5_leave_0 20 rfl rfl)
theorem dX5_leave_23 : decode cX5_leave 23 = .ok (.bipush (-4), 2) := dk_16 252 (dk_at dksX5_leave_1 0 rfl rfl)
theorem dX5_leave_25 : decode cX5_leave 25 = .ok (.ireturn, 1) := dk_172 (dk_at dksX5_leave_1 2 rfl rfl)
theorem dX5_leave_26 : decode cX5_leave 26 = .ok (.aload_n 0, 1) := dk_42 (dk_at dksX5_leave_1 3 rfl rfl)
theorem dX5_leave_27 : decode cX5_leave 27 = .ok (.invokevirtual 343, 3) := dk_182 1 87 (dk_at dksX5_leave_1 4 rfl rfl)
theorem dX5_leave_30 : decode cX5_leave 30 = .ok (.aload_n 0, 1) := dk_42 (dk_at dksX5_leave_1 7 rfl rfl)
theorem dX5_leave_31 : decode cX5_leave 31 = .ok (.iload_n 1, 1) := dk_27 (dk_at dksX5_leave_1 8 rfl rfl)
theorem dX5_leave_32 : decode cX5_leave 32 = .ok (.iconst 2, 1) := dk_5 (dk_at dksX5_leave_1 9 rfl rfl)
theorem dX5_leave_33 : decode cX5_leave 33 = .ok (.iconst 0, 1) := dk_3 (dk_at dksX5_leave_1 10 rfl rfl)
theorem dX5_leave_34 : decode cX5_leave 34 = .ok (.invokevirtual 99, 3) := dk_182 0 99 (dk_at dksX5_leave_1 11 rfl rfl)
theorem dX5_leave_37 : decode cX5_leave 37 = .ok (.aload_n 0, 1) := dk_42 (dk_at dksX5_leave_1 14 rfl rfl)
theorem dX5_leave_38 : decode cX5_leave 38 = .ok (.iload_n 1, 1) := dk_27 (dk_at dksX5_leave_1 15 rfl rfl)
theorem dX5_leave_39 : decode cX5_leave 39 = .ok (.iconst (-1), 1) := dk_2 (dk_at dksX5_leave_1 16 rfl rfl)
theorem dX5_leave_40 : decode cX5_leave 40 = .ok (.invokevirtual 108, 3) := dk_182 0 108 (dk_at dksX5_leave_1 17 rfl rfl)
theorem dX5_leave_43 : decode cX5_leave 43 = .ok (.iconst 0, 1) := dk_3 (dk_at dksX5_leave_1 20 rfl rfl)
theorem dX5_leave_44 : decode cX5_leave 44 = .ok (.istore_n 2, 1) := dk_61 (dk_at dksX5_leave_1 21 rfl rfl)
theorem dX5_leave_45 : decode cX5_leave 45 = .ok (.iconst 0, 1) := dk_3 (dk_at dksX5_leave_1 22 rfl rfl)
theorem dX5_leave_46 : decode cX5_leave 46 = .ok (.istore_n 3, 1) := dk_62 (dk_at dksX5_leave_1 23 rfl rfl)
theorem dX5_leave_47 : decode cX5_leave 47 = .ok (.iload_n 3, 1) := dk_29 (dk_at dksX5_leave_2 0 rfl rfl)
theorem dX5_leave_48 : decode cX5_leave 48 = .ok (.aload_n 0, 1) := dk_42 (dk_at dksX5_leave_2 1 rfl rfl)
theorem dX5_leave_49 : decode cX5_leave 49 = .ok (.invokevirtual 114, 3) := dk_182 0 114 (dk_at dksX5_leave_2 2 rfl rfl)
theorem dX5_leave_52 : decode cX5_leave 52 = .ok (.if_icmp .ge 25, 3) := dk_162 0 25 (dk_at dksX5_leave_2 5 rfl rfl)
theorem dX5_leave_55 : decode cX5_leave 55 = .ok (.iload_n 2, 1) := dk_28 (dk_at dksX5_leave_2 8 rfl rfl)
theorem dX5_leave_56 : decode cX5_leave 56 = .ok (.aload_n 0, 1) := dk_42 (dk_at dksX5_leave_2 9 rfl rfl)
theorem dX5_leave_57 : decode cX5_leave 57 = .ok (.iload_n 3, 1) := dk_29 (dk_at dksX5_leave_2 10 rfl rfl)
theorem dX5_leave_58 : decode cX5_leave 58 = .ok (.invokevirtual 118, 3) := dk_182 0 118 (dk_at dksX5_leave_2 11 rfl rfl)
theorem dX5_leave_61 : decode cX5_leave 61 = .ok (.ifCond .eq 7, 3) := dk_153 0 7 (dk_at dksX5_leave_2 14 rfl rfl)
theorem dX5_leave_64 : decode cX5_leave 64 = .ok (.iconst 1, 1) := dk_4 (dk_at dksX5_leave_2 17 rfl rfl)
theorem dX5_leave_65 : decode cX5_leave 65 = .ok (.goto 4, 3) := dk_167 0 4 (dk_at dksX5_leave_2 18 rfl rfl)
theorem dX5_leave_68 : decode cX5_leave 68 = .ok (.iconst 0, 1) := dk_3 (dk_at dksX5_leave_2 21 rfl rfl)
theorem dX5_leave_69 : decode cX5_leave 69 = .ok (.iadd, 1) := dk_96 (dk_at dksX5_leave_2 22 rfl rfl)
theorem dX5_leave_70 : decode cX5_leave 70 = .ok (.istore_n 2, 1) := dk_61 (dk_at dksX5_leave_2 23 rfl rfl)
theorem dX5_leave_71 : decode cX5_leave 71 = .ok (.iinc 3 1, 3) := dk_132 3 1 (dk_at dksX5_leave_3 0 rfl rfl)
theorem dX5_leave_74 : decode cX5_leave 74 = .ok (.goto (-27), 3) := dk_167 255 229 (dk_at dksX5_leave_3 3 rfl rfl)
theorem dX5_leave_77 : decode cX5_leave 77 = .ok (.iload_n 2, 1) := dk_28 (dk_at dksX5_leave_3 6 rfl rfl)
theorem dX5_leave_78 : decode cX5_leave 78 = .ok (.ireturn, 1) := dk_172 (dk_at dksX5_leave_3 7 rfl rfl)
def dkwX5_setSetting_2 : List UInt8 := [180, 0, 19, 3, 27, 96, 28, 79, 29, 172]
abbrev dktX5_setSetting_2 : List UInt8 := dkwX5_setSetting_2 ++ []
def dkwX5_setSetting_1 : List UInt8 := [184, 0, 253, 164, 0, 6, 16, 254, 172, 42, 182, 1, 87, 42, 180, 0, 19, 3, 27, 96, 46, 62, 42]
abbrev dktX5_setSetting_1 : List UInt8 := dkwX5_setSetting_1 ++ dktX5_setSetting_2
def dkwX5_setSetting_0 : List UInt8 := [42, 3, 181, 0, 47, 27, 184, 1, 40, 153, 0, 19, 28, 27, 184, 0, 250, 161, 0, 11, 28, 27]
abbrev dktX5_setSetting_0 : List UInt8 := dkwX5_setSetting_0 ++ dktX5_setSetting_1
theorem dksX5_setSetting_0 : cX5_setSetting.data.toList.drop 0 = dktX5_setSetting_0 := by decide +kernel
theorem dksX5_setSetting_1 : cX5_setSetting.data.toList.drop 22 = dktX5_setSetting_1 := dk_seg dksX5_setSetting_0 22 rfl rfl
theorem dksX5_setSetting_2 : cX5_setSetting.data.toList.drop 45 = dktX5_setSetting_2 := dk_seg dksX5_setSetting_1 23 rfl rfl
theorem dX5_setSetting_0 : decode cX5_setSetting 0 = .ok (.aload_n 0, 1) := dk_42 (dk_at dksX5_setSetting_0 0 rfl rfl)
theorem dX5_setSetting_1 : decode cX5_setSetting 1 = .ok (.iconst 0, 1) := dk_3 (dk_at dksX5_setSetting_0 1 rfl rfl)
theorem dX5_setSetting_2 : decode cX5_setSetting 2 = .ok (.putfield 47, 3) := dk_181 0 47 (dk_at dksX5_setSetting_0 2 rfl rfl)
theorem dX5_setSetting_5 : decode cX5_setSetting 5 = .ok (.iload_n 1, 1) := dk_27 (dk_at dksX5_setSetting_0 5 rfl rfl)
theorem dX5_setSetting_6 : decode cX5_setSetting 6 = .ok (.invokestatic 296, 3) := dk_184 1 40 (dk_at dksX5_setSetting_0 6 rfl rfl)
theorem dX5_setSetting_9 : decode cX5_setSetting 9 = .ok (.ifCond .eq 19, 3) := dk_153 0 19 (dk_at dksX5_setSetting_0 9 rfl rfl)
theorem dX5_setSetting_12 : decode cX5_setSetting 12 = .ok (.iload_n 2, 1) := dk_28 (dk_at dksX5_setSetting_0 12 rfl rfl)
theorem dX5_setSetting_13 : decode cX5_setSetting 13 = .ok (.iload_n 1, 1) := dk_27 (dk_at dksX5_setSetting_0 13 rfl rfl)
theorem dX5_setSetting_14 : decode cX5_setSetting 14 = .ok (.invokestatic 250, 3) := dk_184 0 250 (dk_at dksX5_setSetting_0 14 rfl rfl)
theorem dX5_setSetting_17 : decode cX5_setSetting 17 = .ok (.if_icmp .lt 11, 3) := dk_161 0 11 (dk_at dksX5_setSetting_0 17 rfl rfl)
theorem dX5_setSetting_20 : decode cX5_setSetting 20 = .ok (.iload_n 2, 1) := dk_28 (dk_at dksX5_setSetting_0 20 rfl rfl)
theorem dX5_setSetting_21 : decode cX5_setSetting 21 = .ok (.iload_n 1, 1) := dk_27 (dk_at dksX5_setSetting_0 21 rfl rfl)
theorem dX5_setSetting_22 : decode cX5_setSetting 22 = .ok (.invokestatic 253, 3) := dk_184 0 253 (dk_at dksX5_setSetting_1 0 rfl rfl)
theorem dX5_setSetting_25 : decode cX5_setSetting 25 = .ok (.if_icmp .le 6, 3) := dk_164 0 6 (dk_at dksX5_setSetting_1 3 rfl rfl)
theorem dX5_setSetting_28 : decode cX5_setSetting 28 = .ok (.bipush (-2), 2) := dk_16 254 (dk_at dksX5_setSetting_1 6 rfl rfl)
theorem dX5_setSetting_30 : decode cX5_setSetting 30 = .ok (.ireturn, 1) := dk_172 (dk_at dksX5_setSetting_1 8 rfl rfl)
theorem dX5_setSetting_31 : decode cX5_setSetting 31 = .ok (.aload_n 0, 1) := dk_42 (dk_at dksX5_setSetting_1 9 rfl rfl)
theorem dX5_setSetting_32 : decode cX5_setSetting 32 = .ok (.invokevirtual 343, 3) := dk_182 1 87 (dk_at dksX5_setSetting_1 10 rfl rfl)
theorem dX5_setSetting_35 : decode cX5_setSetting 35 = .ok (.aload_n 0, 1) := dk_42 (dk_at dksX5_setSetting_1 13 rfl rfl)
theorem dX5_setSetting_36 : decode cX5_setSetting 36 = .ok (.getfield 19, 3) := dk_180 0 19 (dk_at dksX5_setSetting_1 14 rfl rfl)
theorem dX5_setSetting_39 : decode cX5_setSetting 39 = .ok (.iconst 0, 1) := dk_3 (dk_at dksX5_setSetting_1 17 rfl rfl)
theorem dX5_setSetting_40 : decode cX5_setSetting 40 = .ok (.iload_n 1, 1) := dk_27 (dk_at dksX5_setSetting_1 18 rfl rfl)
theorem dX5_setSetting_41 : decode cX5_setSetting 41 = .ok (.iadd, 1) := dk_96 (dk_at dksX5_setSetting_1 19 rfl rfl)
theorem dX5_setSetting_42 : decode cX5_setSetting 42 = .ok (.iaload, 1) := dk_46 (dk_at dksX5_setSetting_1 20 rfl rfl)
theorem dX5_setSetting_43 : decode cX5_setSetting 43 = .ok (.istore_n 3, 1) := dk_62 (dk_at dksX5_setSetting_1 21 rfl rfl)
theorem dX5_setSetting_44 : decode cX5_setSetting 44 = .ok (.aload_n 0, 1) := dk_42 (dk_at dksX5_setSetting_1 22 rfl rfl)
theorem dX5_setSetting_45 : decode cX5_setSetting 45 = .ok (.getfield 19, 3) := dk_180 0 19 (dk_at dksX5_setSetting_2 0 rfl rfl)
theorem dX5_setSetting_48 : decode cX5_setSetting 48 = .ok (.iconst 0, 1) := dk_3 (dk_at dksX5_setSetting_2 3 rfl rfl)
theorem dX5_setSetting_49 : decode cX5_setSetting 49 = .ok (.iload_n 1, 1) := dk_27 (dk_at dksX5_setSetting_2 4 rfl rfl)
theorem dX5_setSetting_50 : decode cX5_setSetting 50 = .ok (.iadd, 1) := dk_96 (dk_at dksX5_setSetting_2 5 rfl rfl)
theorem dX5_setSetting_51 : decode cX5_setSetting 51 = .ok (.iload_n 2, 1) := dk_28 (dk_at dksX5_setSetting_2 6 rfl rfl)
theorem dX5_setSetting_52 : decode cX5_setSetting 52 = .ok (.iastore, 1) := dk_79 (dk_at dksX5_setSetting_2 7 rfl rfl)
theorem dX5_setSetting_53 : decode cX5_setSetting 53 = .ok (.iload_n 3, 1) := dk_29 (dk_at dksX5_setSetting_2 8 rfl rfl)
theorem dX5_setSetting_54 : decode cX5_setSetting 54 = .ok (.ireturn, 1) := dk_172 (dk_at dksX5_setSetting_2 9 rfl rfl)
def dkwX5_write_5 : List UInt8 := [42, 180, 1, 97, 172]
abbrev dktX5_write_5 : List UInt8 := dkwX5_write_5 ++ []
def dkwX5_write_4 : List UInt8 := [16, 32, 182, 1, 100, 42, 42, 27, 16, 7, 28, 96, 182, 0, 53, 182, 1, 103, 132, 2, 1, 167, 255, 228]
abbrev dktX5_write_4 : List UInt8 := dkwX5_write_4 ++ dktX5_write_5
def dkwX5_write_3 : List UInt8 := [182, 1, 100, 132, 2, 255, 167, 255, 220, 42, 16, 58, 182, 1, 100, 3, 61, 28, 16, 16, 162, 0, 28, 42]
abbrev dktX5_write_3 : List UInt8 := dkwX5_write_3 ++ dktX5_write_4
def dkwX5_write_2 : List UInt8 := [16, 16, 27, 96, 46, 8, 28, 104, 122, 16, 31, 126, 62, 29, 158, 0, 11, 42, 16, 96, 29, 96]
abbrev dktX5_write_2 : List UInt8 := dkwX5_write_2 ++ dktX5_write_3
def dkwX5_write_1 : List UInt8 := [16, 16, 27, 96, 46, 154, 0, 9, 42, 16, 42, 182, 1, 100, 8, 61, 28, 155, 0, 38, 42, 180, 0, 13]
abbrev dktX5_write_1 : List UInt8 := dkwX5_write_1 ++ dktX5_write_2
def dkwX5_write_0 : List UInt8 := [42, 42, 27, 182, 1, 33, 182, 1, 36, 154, 0, 5, 3, 172, 42, 3, 181, 1, 97, 42, 180, 0, 13]
abbrev dktX5_write_0 : List UInt8 := dkwX5_write_0 ++ dktX5_write_1
theorem dksX5_write_0 : cX5_write.data.toList.drop 0 = dktX5_write_0 := by decide +kernel
theorem dksX5_write_1 : cX5_write.data.toList.drop 23 = dktX5_write_1 := dk_seg dksX5_write_0 23 rfl rfl
theorem dksX5_write_2 : cX5_write.data.toList.drop 47 = dktX5_write_2 := dk_seg dksX5_write_1 24 rfl rfl
theorem dksX5_write_3 : cX5_write.data.toList.drop 69 = dktX5_write_3 := dk_seg dksX5_write_2 22 rfl rfl
theorem dksX5_write_4 : cX5_write.data.toList.drop 93 = dktX5_write_4 := dk_seg dksX5_write_3 24 rfl rfl
theorem dksX5_write_5 : cX5_write.data.toList.drop 117 = dktX5_write_5 := dk_seg dksX5_write_4 24 rfl rfl
theorem dX5_write_0 : decode cX5_write 0 = .ok (.aload_n 0, 1) := dk_42 (dk_at dksX5_write_0 0 rfl rfl)
theorem dX5_write_1 : decode cX5_write 1 = .ok (.aload_n 0, 1) := dk_42 (dk_at dksX5_write_0 1 rfl rfl)
theorem dX5_write_2 : decode cX5_write 2 = .ok (.iload_n 1, 1) := dk_27 (dk_at dksX5_write_0 2 rfl rfl)
theorem dX5_write_3 : decode cX5_write 3 = .ok (.invokevirtual 289, 3) := dk_182 1 33 (dk_at dksX5_write_0 3 rfl rfl)
theorem dX5_write_6 : decode cX5_write 6 = .ok (.invokevirtual 292, 3) := dk_182 1 36 (dk_at dksX5_write_0 6 rfl rfl)
theorem dX5_write_9 : decode cX5_write 9 = .ok (.ifCond .ne 5, 3) := dk_154 0 5 (dk_at dksX5_write_0 9 rfl rfl)
theorem dX5_write_12 : decode cX5_write 12 = .ok (.iconst 0, 1) := dk_3 (dk_at dksX5_write_0 12 rfl rfl)
theorem dX5_write_13 : decode cX5_write 13 = .ok (.ireturn, 1) := dk_172 (dk_at dksX5_write_0 13 rfl rfl)
theorem dX5_write_14 : decode cX5_write 14 = .ok (.aload_n 0, 1) := dk_42 (dk_at dksX5_write_0 14 rfl rfl)
theorem dX5_write_15 : decode cX5_write 15 = .ok (.iconst 0, 1) := dk_3 (dk_at dksX5_write_0 15 rfl rfl)
theorem dX5_write_16 : decode cX5_write 16 = .ok (.putfield 353, 3) := dk_181 1 97 (dk_at dksX5_write_0 16 rfl rfl)
theorem dX5_write_19 : decode cX5_write 19 = .ok (.aload_n 0, 1) := dk_42 (dk_at dksX5_write_0 19 rfl rfl)
theorem dX5_write_20 : decode cX5_write 20 = .ok (.getfield 13, 3) := dk_180 0 13 (dk_at dksX5_write_0 20 rfl rfl)
theorem dX5_write_23 : decode cX5_write 23 = .ok (.bipush 16, 2) := dk_16 16 (dk_at dksX5_write_1 0 rfl rfl)
theorem dX5_write_25 : decode cX5_write 25 = .ok (.iload_n 1, 1) := dk_27 (dk_at dksX5_write_1 2 rfl rfl)
theorem dX5_write_26 : decode cX5_write 26 = .ok (.iadd, 1) := dk_96 (dk_at dksX5_write_1 3 rfl rfl)
theorem dX5_write_27 : decode cX5_write 27 = .ok (.iaload, 1) := dk_46 (dk_at dksX5_write_1 4 rfl rfl)
theorem dX5_write_28 : decode cX5_write 28 = .ok (.ifCond .ne 9, 3) := dk_154 0 9 (dk_at dksX5_write_1 5 rfl rfl)
theorem dX5_write_31 : decode cX5_write 31 = .ok (.aload_n 0, 1) := dk_42 (dk_at dksX5_write_1 8 rfl rfl)
theorem dX5_write_32 : decode cX5_write 32 = .ok (.bipush 42, 2) := dk_16 42 (dk_at dksX5_write_1 9 rfl rfl)
theorem dX5_write_34 : decode cX5_write 34 = .ok (.invokevirtual 356, 3) := dk_182 1 100 (dk_at dksX5_write_1 11 rfl rfl)
theorem dX5_write_37 : decode cX5_write 37 = .ok (.iconst 5, 1) := dk_8 (dk_at dksX5_write_1 14 rfl rfl)
theorem dX5_write_38 : decode cX5_write 38 = .ok (.istore_n 2, 1) := dk_61 (dk_at dksX5_write_1 15 rfl rfl)
theorem dX5_write_39 : decode cX5_write 39 = .ok (.iload_n 2, 1) := dk_28 (dk_at dksX5_write_1 16 rfl rfl)
theorem dX5_write_40 : decode cX5_write 40 = .ok (.ifCond .lt 38, 3) := dk_155 0 38 (dk_at dksX5_write_1 17 rfl rfl)
theorem dX5_write_43 : decode cX5_write 43 = .ok (.aload_n 0, 1) := dk_42 (dk_at dksX5_write_1 20 rfl rfl)
theorem dX5_write_44 : decode cX5_write 44 = .ok (.getfield 13, 3) := dk_180 0 13 (dk_at dksX5_write_1 21 rfl rfl)
theorem dX5_write_47 : decode cX5_write 47 = .ok (.bipush 16, 2) := dk_16 16 (dk_at dksX5_write_2 0 rfl rfl)
theorem dX5_write_49 : decode cX5_write 49 = .ok (.iload_n 1, 1) := dk_27 (dk_at dksX5_write_2 2 rfl rfl)
theorem dX5_write_50 : decode cX5_write 50 = .ok (.iadd, 1) := dk_96 (dk_at dksX5_write_2 3 rfl rfl)
theorem dX5_write_51 : decode cX5_write 51 = .ok (.iaload, 1) := dk_46 (dk_at dksX5_write_2 4 rfl rfl)
theorem dX5_write_52 : decode cX5_write 52 = .ok (.iconst 5, 1) := dk_8 (dk_at dksX5_write_2 5 rfl rfl)
theorem dX5_write_53 : decode cX5_write 53 = .ok (.iload_n 2, 1) := dk_28 (dk_at dksX5_write_2 6 rfl rfl)
theorem dX5_write_54 : decode cX5_write 54 = .ok (.imul, 1) := dk_104 (dk_at dksX5_write_2 7 rfl rfl)
theorem dX5_write_55 : decode cX5_write 55 = .ok (.ishr, 1) := dk_122 (dk_at dksX5_write_2 8 rfl rfl)
theorem dX5_write_56 : decode cX5_write 56 = .ok (.bipush 31, 2) := dk_16 31 (dk_at dksX5_write_2 9 rfl rfl)
theorem dX5_write_58 : decode cX5_write 58 = .ok (.iand, 1) := dk_126 (dk_at dksX5_write_2 11 rfl rfl)
theorem dX5_write_59 : decode cX5_write 59 = .ok (.istore_n 3, 1) := dk_62 (dk_at dksX5_write_2 12 rfl rfl)
theorem dX5_write_60 : decode cX5_write 60 = .ok (.iload_n 3, 1) := dk_29 (dk_at dksX5_write_2 13 rfl rfl)
theorem dX5_write_61 : decode cX5_write 61 = .ok (.ifCond .le 11, 3) := dk_158 0 11 (dk_at dksX5_write_2 14 rfl rfl)
theorem dX5_write_64 : decode cX5_write 64 = .ok (.aload_n 0, 1) := dk_42 (dk_at dksX5_write_2 17 rfl rfl)
theorem dX5_write_65 : decode cX5_write 65 = .ok (.bipush 96, 2) := dk_16 96 (dk_at dksX5_write_2 18 rfl rfl)
theorem dX5_write_67 : decode cX5_write 67 = .ok (.iload_n 3, 1) := dk_29 (dk_at dksX5_write_2 20 rfl rfl)
theorem dX5_write_68 : decode cX5_write 68 = .ok (.iadd, 1) := dk_96 (dk_at dksX5_write_2 21 rfl rfl)
theorem dX5_write_69 : decode cX5_write 69 = .ok (.invokevirtual 356, 3) := dk_182 1 100 (dk_at dksX5_write_3 0 rfl rfl)
theorem dX5_write_72 : decode cX5_write 72 = .ok (.iinc 2 (-1), 3) := dk_132 2 255 (dk_at dksX5_write_3 3 rfl rfl)
theorem dX5_write_75 : decode cX5_write 75 = .ok (.goto (-36), 3) := dk_167 255 220 (dk_at dksX5_write_3 6 rfl rfl)
theorem dX5_write_78 : decode cX5_write 78 = .ok (.aload_n 0, 1) := dk_42 (dk_at dksX5_write_3 9 rfl rfl)
theorem dX5_write_79 : decode cX5_write 79 = .ok (.bipush 58, 2) := dk_16 58 (dk_at dksX5_write_3 10 rfl rfl)
theorem dX5_write_81 : decode cX5_write 81 = .ok (.invokevirtual 356, 3) := dk_182 1 100 (dk_at dksX5_write_3 12 rfl rfl)
theorem dX5_write_84 : decode cX5_write 84 = .ok (.iconst 0, 1) := dk_3 (dk_at dksX5_write_3 15 rfl rfl)
theorem dX5_write_85 : decode cX5_write 85 = .ok (.istore_n 2, 1) := dk_61 (dk_at dksX5_write_3 16 rfl rfl)
theorem dX5_write_86 : decode cX5_write 86 = .ok (.iload_n 2, 1) := dk_28 (dk_at dksX5_write_3 17 rfl rfl)
theorem dX5_write_87 : decode cX5_write 87 = .ok (.bipush 16, 2) := dk_16 16 (dk_at dksX5_write_3 18 rfl rfl)
theorem dX5_write_89 : decode cX5_write 89 = .ok (.if_icmp .ge 28, 3) := dk_162 0 28 (dk_at dksX5_write_3 20 rfl rfl)
theorem dX5_write_92 : decode cX5_write 92 = .ok (.aload_n 0, 1) := dk_42 (dk_at dksX5_write_3 23 rfl rfl)
theorem dX5_write_93 : decode cX5_write 93 = .ok (.bipush 32, 2) := dk_16 32 (dk_at dksX5_write_4 0 rfl rfl)
theorem dX5_write_95 : decode cX5_write 95 = .ok (.invokevirtual 356, 3) := dk_182 1 100 (dk_at dksX5_write_4 2 rfl rfl)
theorem dX5_write_98 : decode cX5_write 98 = .ok (.aload_n 0, 1) := dk_42 (dk_at dksX5_write_4 5 rfl rfl)
theorem dX5_write_99 : decode cX5_write 99 = .ok (.aload_n 0, 1) := dk_42 (dk_at dksX5_write_4 6 rfl rfl)
theorem dX5_write_100 : decode cX5_write 100 = .ok (.iload_n 1, 1) := dk_27 (dk_at dksX5_write_4 7 rfl rfl)
theorem dX5_write_101 : decode cX5_write 101 = .ok (.bipush 7, 2) := dk_16 7 (dk_at dksX5_write_4 8 rfl rfl)
theorem dX5_write_103 : decode cX5_write 103 = .ok (.iload_n 2, 1) := dk_28 (dk_at dksX5_write_4 10 rfl rfl)
theorem dX5_write_104 : decode cX5_write 104 = .ok (.iadd, 1) := dk_96 (dk_at dksX5_write_4 11 rfl rfl)
theorem dX5_write_105 : decode cX5_write 105 = .ok (.invokevirtual 53, 3) := dk_182 0 53 (dk_at dksX5_write_4 12 rfl rfl)
theorem dX5_write_108 : decode cX5_write 108 = .ok (.invokevirtual 359, 3) := dk_182 1 103 (dk_at dksX5_write_4 15 rfl rfl)
theorem dX5_write_111 : decode cX5_write 111 = .ok (.iinc 2 1, 3) := dk_132 2 1 (dk_at dksX5_write_4 18 rfl rfl)
theorem dX5_write_114 : decode cX5_write 114 = .ok (.goto (-28), 3) := dk_167 255 228 (dk_at dksX5_write_4 21 rfl rfl)
theorem dX5_write_117 : decode cX5_write 117 = .ok (.aload_n 0, 1) := dk_42 (dk_at dksX5_write_5 0 rfl rfl)
theorem dX5_write_118 : decode cX5_write 118 = .ok (.getfield 353, 3) := dk_180 1 97 (dk_at dksX5_write_5 1 rfl rfl)
theorem dX5_write_121 : decode cX5_write 121 = .ok (.ireturn, 1) := dk_172 (dk_at dksX5_write_5 4 rfl rfl)
def dkwX5_writes_0 : List UInt8 := [42, 180, 0, 41, 42, 180, 1, 97, 27, 79, 42, 89, 180, 1, 97, 4, 96, 181, 1, 97, 177]
abbrev dktX5_writes_0 : List UInt8 := dkwX5_writes_0 ++ []
theorem dksX5_writes_0 : cX5_writes.data.toList.drop 0 = dktX5_writes_0 := by decide +kernel
theorem dX5_writes_0 : decode cX5_writes 0 = .ok (.aload_n 0, 1) := dk_42 (dk_at dksX5_writes_0 0 rfl rfl)
theorem dX5_writes_1 : decode cX5_writes 1 = .ok (.getfield 41, 3) := dk_180 0 41 (dk_at dksX5_writes_0 1 rfl rfl)
theorem dX5_writes_4 : decode cX5_writes 4 = .ok (.aload_n 0, 1) := dk_42 (dk_at dksX5_writes_0 4 rfl rfl)
theorem dX5_writes_5 : decode cX5_writes 5 = .ok (.getfield 353, 3) := dk_180 1 97 (dk_at dksX5_writes_0 5 rfl rfl)
theorem dX5_writes_8 : decode cX5_writes 8 = .ok (.iload_n 1, 1) := dk_27 (dk_at dksX5_writes_0 8 rfl rfl)
theorem dX5_writes_9 : decode cX5_writes 9 = .ok (.iastore, 1) := dk_79 (dk_at dksX5_writes_0 9 rfl rfl)
theorem dX5_writes_10 : decode cX5_writes 10 = .ok (.aload_n 0, 1) := dk_42 (dk_at dksX5_writes_0 10 rfl rfl)
theorem dX5_writes_11 : decode cX5_writes 11 = .ok (.dup, 1) := dk_89 (dk_at dksX5_writes_0 11 rfl rfl)
theorem dX5_writes_12 : decode cX5_writes 12 = .ok (.getfield 353, 3) := dk_180 1 97 (dk_at dksX5_writes_0 12 rfl rfl)
theorem dX5_writes_15 : decode cX5_writes 15 = .ok (.iconst 1, 1) := dk_4 (dk_at dksX5_writes_0 15 rfl rfl)
theorem dX5_writes_16 : decode cX5_writes 16 = .ok (.iadd, 1) := dk_96 (dk_at dksX5_writes_0 16 rfl rfl)
theorem dX5_writes_17 : decode cX5_writes 17 = .ok (.putfield 353, 3) := dk_181 1 97 (dk_at dksX5_writes_0 17 rfl rfl)
theorem dX5_writes_20 : decode cX5_writes 20 = .ok (.return_, 1) := dk_177 (dk_at dksX5_writes_0 20 rfl rfl)
def dkwX5_writesNumber_1 : List UInt8 := [16, 48, 27, 28, 108, 16, 10, 112, 96, 182, 1, 100, 28, 16, 10, 108, 61, 167, 255, 234, 177]
abbrev dktX5_writesNumber_1 : List UInt8 := dkwX5_writesNumber_1 ++ []
def dkwX5_writesNumber_0 : List UInt8 := [4, 61, 27, 28, 108, 16, 9, 164, 0, 11, 28, 16, 10, 104, 61, 167, 255, 243, 28, 158, 0, 24, 42]
abbrev dktX5_writesNumber_0 : List UInt8 := dkwX5_writesNumber_0 ++ dktX5_writesNumber_1
theorem dksX5_writesNumber_0 : cX5_writesNumber.data.toList.drop 0 = dktX5_writesNumber_0 := by decide +kernel
theorem dksX5_writesNumber_1 : cX5_writesNumber.data.toList.drop 23 = dktX5_writesNumber_1 := dk_seg dksX5_writesNumber_0 23 rfl rfl
theorem dX5_writesNumber_0 : decode cX5_writesNumber 0 = .ok (.iconst 1, 1) := dk_4 (dk_at dksX5_writesNumber_0 0 rfl rfl)
theorem dX5_writesNumber_1 : decode cX5_writesNumber 1 = .ok (.istore_n 2, 1) := dk_61 (dk_at dksX5_writesNumber_0 1 rfl rfl)
theorem dX5_writesNumber_2 : decode cX5_writesNumber 2 = .ok (.iload_n 1, 1) := dk_27 (dk_at dksX5_writesNumber_0 2 rfl rfl)
theorem dX5_writesNumber_3 : decode cX5_writesNumber 3 = .ok (.iload_n 2, 1) := dk_28 (dk_at dksX5_writesNumber_0 3 rfl rfl)
theorem dX5_writesNumber_4 : decode cX5_writesNumber 4 = .ok (.idiv, 1) := dk_108 (dk_at dksX5_writesNumber_0 4 rfl rfl)
theorem dX5_writesNumber_5 : decode cX5_writesNumber 5 = .ok (.bipush 9, 2) := dk_16 9 (dk_at dksX5_writesNumber_0 5 rfl rfl)
theorem dX5_writesNumber_7 : decode cX5_writesNumber 7 = .ok (.if_icmp .le 11, 3) := dk_164 0 11 (dk_at dksX5_writesNumber_0 7 rfl rfl)
theorem dX5_writesNumber_10 : decode cX5_writesNumber 10 = .ok (.iload_n 2, 1) := dk_28 (dk_at dksX5_writesNumber_0 10 rfl rfl)
theorem dX5_writesNumber_11 : decode cX5_writesNumber 11 = .ok (.bipush 10, 2) := dk_16 10 (dk_at dksX5_writesNumber_0 11 rfl rfl)
theorem dX5_writesNumber_13 : decode cX5_writesNumber 13 = .ok (.imul, 1) := dk_104 (dk_at dksX5_writesNumber_0 13 rfl rfl)
theorem dX5_writesNumber_14 : decode cX5_writesNumber 14 = .ok (.istore_n 2, 1) := dk_61 (dk_at dksX5_writesNumber_0 14 rfl rfl)
theorem dX5_writesNumber_15 : decode cX5_writesNumber 15 = .ok (.goto (-13), 3) := dk_167 255 243 (dk_at dksX5_writesNumber_0 15 rfl rfl)
theorem dX5_writesNumber_18 : decode cX5_writesNumber 18 = .ok (.iload_n 2, 1) := dk_28 (dk_at dksX5_writesNumber_0 18 rfl rfl)
theorem dX5_writesNumber_19 : decode cX5_writesNumber 19 = .ok (.ifCond .le 24, 3) := dk_158 0 24 (dk_at dksX5_writesNumber_0 19 rfl rfl)
theorem dX5_writesNumber_22 : decode cX5_writesNumber 22 = .ok (.aload_n 0, 1) := dk_42 (dk_at dksX5_writesNumber_0 22 rfl rfl)
theorem dX5_writesNumber_23 : decode cX5_writesNumber 23 = .ok (.bipush 48, 2) := dk_16 48 (dk_at dksX5_writesNumber_1 0 rfl rfl)
theorem dX5_writesNumber_25 : decode cX5_writesNumber 25 = .ok (.iload_n 1, 1) := dk_27 (dk_at dksX5_writesNumber_1 2 rfl rfl)
theorem dX5_writesNumber_26 : decode cX5_writesNumber 26 = .ok (.iload_n 2, 1) := dk_28 (dk_at dksX5_writesNumber_1 3 rfl rfl)
theorem dX5_writesNumber_27 : decode cX5_writesNumber 27 = .ok (.idiv, 1) := dk_108 (dk_at dksX5_writesNumber_1 4 rfl rfl)
theorem dX5_writesNumber_28 : decode cX5_writesNumber 28 = .ok (.bipush 10, 2) := dk_16 10 (dk_at dksX5_writesNumber_1 5 rfl rfl)
theorem dX5_writesNumber_30 : decode cX5_writesNumber 30 = .ok (.irem, 1) := dk_112 (dk_at dksX5_writesNumber_1 7 rfl rfl)
theorem dX5_writesNumber_31 : decode cX5_writesNumber 31 = .ok (.iadd, 1) := dk_96 (dk_at dksX5_writesNumber_1 8 rfl rfl)
theorem dX5_writesNumber_32 : decode cX5_writesNumber 32 = .ok (.invokevirtual 356, 3) := dk_182 1 100 (dk_at dksX5_writesNumber_1 9 rfl rfl)
theorem dX5_writesNumber_35 : decode cX5_writesNumber 35 = .ok (.iload_n 2, 1) := dk_28 (dk_at dksX5_writesNumber_1 12 rfl rfl)
theorem dX5_writesNumber_36 : decode cX5_writesNumber 36 = .ok (.bipush 10, 2) := dk_16 10 (dk_at dksX5_writesNumber_1 13 rfl rfl)
theorem dX5_writesNumber_38 : decode cX5_writesNumber 38 = .ok (.idiv, 1) := dk_108 (dk_at dksX5_writesNumber_1 15 rfl rfl)
theorem dX5_writesNumber_39 : decode cX5_writesNumber 39 = .ok (.istore_n 2, 1) := dk_61 (dk_at dksX5_writesNumber_1 16 rfl rfl)
theorem dX5_writesNumber_40 : decode cX5_writesNumber 40 = .ok (.goto (-22), 3) := dk_167 255 234 (dk_at dksX5_writesNumber_1 17 rfl rfl)
theorem dX5_writesNumber_43 : decode cX5_writesNumber 43 = .ok (.return_, 1) := dk_177 (dk_at dksX5_writesNumber_1 20 rfl rfl)
def dkwX5_outputAt_1 : List UInt8 := [180, 0, 41, 27, 46, 172]
abbrev dktX5_outputAt_1 : List UInt8 := dkwX5_outputAt_1 ++ []
def dkwX5_outputAt_0 : List UInt8 := [42, 3, 181, 0, 47, 27, 155, 0, 11, 27, 42, 180, 1, 97, 161, 0, 7, 2, 167, 0, 9, 42]
abbrev dktX5_outputAt_0 : List UInt8 := dkwX5_outputAt_0 ++ dktX5_outputAt_1
theorem dksX5_outputAt_0 : cX5_outputAt.data.toList.drop 0 = dktX5_outputAt_0 := by decide +kernel
theorem dksX5_outputAt_1 : cX5_outputAt.data.toList.drop 22 = dktX5_outputAt_1 := dk_seg dksX5_outputAt_0 22 rfl rfl
theorem dX5_outputAt_0 : decode cX5_outputAt 0 = .ok (.aload_n 0, 1) := dk_42 (dk_at dksX5_outputAt_0 0 rfl rfl)
theorem dX5_outputAt_1 : decode cX5_outputAt 1 = .ok (.iconst 0, 1) := dk_3 (dk_at dksX5_outputAt_0 1 rfl rfl)
theorem dX5_outputAt_2 : decode cX5_outputAt 2 = .ok (.putfield 47, 3) := dk_181 0 47 (dk_at dksX5_outputAt_0 2 rfl rfl)
theorem dX5_outputAt_5 : decode cX5_outputAt 5 = .ok (.iload_n 1, 1) := dk_27 (dk_at dksX5_outputAt_0 5 rfl rfl)
theorem dX5_outputAt_6 : decode cX5_outputAt 6 = .ok (.ifCond .lt 11, 3) := dk_155 0 11 (dk_at dksX5_outputAt_0 6 rfl rfl)
theorem dX5_outputAt_9 : decode cX5_outputAt 9 = .ok (.iload_n 1, 1) := dk_27 (dk_at dksX5_outputAt_0 9 rfl rfl)
theorem dX5_outputAt_10 : decode cX5_outputAt 10 = .ok (.aload_n 0, 1) := dk_42 (dk_at dksX5_outputAt_0 10 rfl rfl)
theorem dX5_outputAt_11 : decode cX5_outputAt 11 = .ok (.getfield 353, 3) := dk_180 1 97 (dk_at dksX5_outputAt_0 11 rfl rfl)
theorem dX5_outputAt_14 : decode cX5_outputAt 14 = .ok (.if_icmp .lt 7, 3) := dk_161 0 7 (dk_at dksX5_outputAt_0 14 rfl rfl)
theorem dX5_outputAt_17 : decode cX5_outputAt 17 = .ok (.iconst (-1), 1) := dk_2 (dk_at dksX5_outputAt_0 17 rfl rfl)
theorem dX5_outputAt_18 : decode cX5_outputAt 18 = .ok (.goto 9, 3) := dk_167 0 9 (dk_at dksX5_outputAt_0 18 rfl rfl)
theorem dX5_outputAt_21 : decode cX5_outputAt 21 = .ok (.aload_n 0, 1) := dk_42 (dk_at dksX5_outputAt_0 21 rfl rfl)
theorem dX5_outputAt_22 : decode cX5_outputAt 22 = .ok (.getfield 41, 3) := dk_180 0 41 (dk_at dksX5_outputAt_1 0 rfl rfl)
theorem dX5_outputAt_25 : decode cX5_outputAt 25 = .ok (.iload_n 1, 1) := dk_27 (dk_at dksX5_outputAt_1 3 rfl rfl)
theorem dX5_outputAt_26 : decode cX5_outputAt 26 = .ok (.iaload, 1) := dk_46 (dk_at dksX5_outputAt_1 4 rfl rfl)
theorem dX5_outputAt_27 : decode cX5_outputAt 27 = .ok (.ireturn, 1) := dk_172 (dk_at dksX5_outputAt_1 5 rfl rfl)
